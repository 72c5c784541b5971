set_option maxRecDepth 100000
/-! WORDS OF THE COMPONENT: what they spell -/
def wb (h : om_H) (w : Nat) (L : List Int) : Prop := kd h w = 17 ∧ kd h (fR h 1186 w) = 50 ∧ fI h 1192 w = (L.length : Int) ∧ an h (fR h 1186 w) ≤ 100000 ∧ ∃ p : Nat, fI h 1188 w = (p : Int) ∧ p + L.length ≤ an h (fR h 1186 w) ∧ ∀ k : Nat, k < L.length → L[k]? = some (aI h (fR h 1186 w) (p + k))
theorem wb_keep {h h' : om_H} {w : Nat} {L : List Int} (H : wb h w L) (k1 : kd h' w = kd h w) (k2 : kd h' (fR h 1186 w) = kd h (fR h 1186 w)) (k3 : ∀ f, fI h' f w = fI h f w) (k4 : ∀ f, fR h' f w = fR h f w) (k5 : an h' (fR h 1186 w) = an h (fR h 1186 w)) (k6 : ∀ i, aI h' (fR h 1186 w) i = aI h (fR h 1186 w) i) : wb h' w L := by
  obtain ⟨a1, a2, a3, a4, p, a5, a6, a7⟩ := H
  refine ⟨by rw [k1]; exact a1, by rw [k4, k2]; exact a2, by rw [k3]; exact a3, by rw [k4, k5]; exact a4, p, by rw [k3]; exact a5, by rw [k4, k5]; exact a6, fun k hk => by rw [k4, k6]; exact a7 k hk⟩
theorem wb_fun {h : om_H} {w : Nat} {L L' : List Int} (H : wb h w L) (H' : wb h w L') : L = L' := by
  obtain ⟨a1, a2, a3, a4, p, a5, a6, a7⟩ := H
  obtain ⟨b1, b2, b3, b4, q, b5, b6, b7⟩ := H'
  have e1 : L.length = L'.length := by omega
  have e2 : p = q := by omega
  refine List.ext_getElem? (fun k => ?_)
  by_cases c : k < L.length
  · rw [a7 k c, b7 k (by omega), e2]
  · rw [List.getElem?_eq_none (by omega), List.getElem?_eq_none (by omega)]
theorem drop_at {L : List Int} {k : Nat} {x : Int} (e : L[k]? = some x) : L.drop k = x :: L.drop (k + 1) := by
  obtain ⟨hk, e2⟩ := List.getElem?_eq_some_iff.mp e
  rw [List.drop_eq_getElem_cons hk, e2]
section LWB
variable {G : om_G} {h : om_H} {w v : Nat} {L M : List Int}
theorem c_wis_loop (H : wb h w L) (H' : wb h v M) (e : L.length = M.length) : ∀ d k : Nat, k + d = L.length → om_loop (C_16_is_2_15s G w v h) (k : Int) = some (if L.drop k = M.drop k then .inr () else .inl ()) := by
  obtain ⟨a1, a2, a3, a4, p, a5, a6, a7⟩ := H
  obtain ⟨b1, b2, b3, b4, q, b5, b6, b7⟩ := H'
  intro d
  induction d with
  | zero =>
    intro k hk
    refine om_loop_out ?_
    unfold C_16_is_2_15s
    rw [gd_pos a1, a3, if_pos (by omega), List.drop_eq_nil_of_le (by omega), List.drop_eq_nil_of_le (by omega), if_pos rfl]
  | succ d ih =>
    intro k hk
    have e1 : w32 ((p : Int) + (k : Int)) = ((p + k : Nat) : Int) := by rw [w32_s (by omega) (by omega)]; rfl
    have e2 : w32 ((q : Int) + (k : Int)) = ((q + k : Nat) : Int) := by rw [w32_s (by omega) (by omega)]; rfl
    have e3 : w32 ((k : Int) + 1) = ((k + 1 : Nat) : Int) := by rw [w32_s (by omega) (by omega)]; rfl
    have l1 := drop_at (a7 k (by omega))
    have l2 := drop_at (b7 k (by omega))
    by_cases c : aI h (fR h 1186 w) (p + k) = aI h (fR h 1186 v) (q + k)
    · have st : C_16_is_2_15s G w v h (k : Int) = some (.inl ((k + 1 : Nat) : Int)) := by
        unfold C_16_is_2_15s
        rw [gd_pos a1, a3, if_neg (by omega), a5, b5, e1, e2, e3, gd_pos ⟨a1, a2, by omega, by omega, b1, b2, by omega, by omega⟩]
        exact if_pos c
      rw [om_loop_in st, ih (k + 1) (by omega), l1, l2, c]
      by_cases z : L.drop (k + 1) = M.drop (k + 1)
      · rw [if_pos z, if_pos (by rw [z])]
      · rw [if_neg z, if_neg (fun y => z (List.cons.inj y).2)]
    · refine om_loop_out ?_
      unfold C_16_is_2_15s
      rw [gd_pos a1, a3, if_neg (by omega), a5, b5, e1, e2, gd_pos ⟨a1, a2, by omega, by omega, b1, b2, by omega, by omega⟩, l1, l2, if_neg (fun y => c (List.cons.inj y).1)]
      exact if_neg c
/-- two words: whether they are alike -/
theorem c_is2 (H : wb h w L) (H' : wb h v M) : C_16_is_2 G w v h = some (if L = M then 1 else 0) := by
  have a3 := H.2.2.1
  have b3 := H'.2.2.1
  unfold C_16_is_2
  rw [gd_pos ⟨H'.1, H.1⟩, a3, b3]
  by_cases e : L.length = M.length
  · rw [if_pos (by omega)]
    have lo := c_wis_loop (G := G) H H' e L.length 0 (by omega)
    rw [show ((0 : Nat) : Int) = 0 from rfl, List.drop_zero, List.drop_zero] at lo
    rw [lo]
    by_cases z : L = M
    · rw [if_pos z, if_pos z]; rfl
    · rw [if_neg z, if_neg z]; rfl
  · rw [if_neg (by omega), if_neg (fun z => e (by rw [z]))]
theorem c_wisS_loop {j : Nat} (H : wb h w L) (hj : om_sb[j]? = some M) (e : L.length = M.length) : ∀ d k : Nat, k + d = L.length → om_loop (C_16_is_15s G w j h) (k : Int) = some (if L.drop k = M.drop k then .inr () else .inl ()) := by
  obtain ⟨a1, a2, a3, a4, p, a5, a6, a7⟩ := H
  intro d
  induction d with
  | zero =>
    intro k hk
    refine om_loop_out ?_
    unfold C_16_is_15s
    rw [gd_pos a1, a3, if_pos (by omega), List.drop_eq_nil_of_le (by omega), List.drop_eq_nil_of_le (by omega), if_pos rfl]
  | succ d ih =>
    intro k hk
    have e1 : w32 ((p : Int) + (k : Int)) = ((p + k : Nat) : Int) := by rw [w32_s (by omega) (by omega)]; rfl
    have e3 : w32 ((k : Int) + 1) = ((k + 1 : Nat) : Int) := by rw [w32_s (by omega) (by omega)]; rfl
    have l1 := drop_at (a7 k (by omega))
    obtain ⟨y, hy⟩ : ∃ y, M[k]? = some y := ⟨M[k]'(by omega), List.getElem?_eq_getElem (by omega)⟩
    have l2 := drop_at hy
    have ch : P_J4_charAt G j (k : Int) h = some y := by
      unfold P_J4_charAt
      rw [hj]
      show (if 0 ≤ (k : Int) then M[((k : Int)).toNat]? else none) = some y
      rw [if_pos (by omega), show ((k : Int)).toNat = k by omega, hy]
    by_cases c : aI h (fR h 1186 w) (p + k) = y
    · have st : C_16_is_15s G w j h (k : Int) = some (.inl ((k + 1 : Nat) : Int)) := by
        unfold C_16_is_15s
        rw [gd_pos a1, a3, if_neg (by omega), a5, e1, e3, gd_pos ⟨a1, a2, by omega, by omega⟩, ch]
        exact if_pos c
      rw [om_loop_in st, ih (k + 1) (by omega), l1, l2, c]
      by_cases z : L.drop (k + 1) = M.drop (k + 1)
      · rw [if_pos z, if_pos (by rw [z])]
      · rw [if_neg z, if_neg (fun y => z (List.cons.inj y).2)]
    · refine om_loop_out ?_
      unfold C_16_is_15s
      rw [gd_pos a1, a3, if_neg (by omega), a5, e1, gd_pos ⟨a1, a2, by omega, by omega⟩, ch, l1, l2, if_neg (fun y => c (List.cons.inj y).1)]
      exact if_neg c
/-- a word and a String -/
theorem c_wisS {j : Nat} (H : wb h w L) (hj : om_sb[j]? = some M) : C_16_is G w j h = some (if L = M then 1 else 0) := by
  have a3 := H.2.2.1
  have ln : P_J4_length G j h = some (M.length : Int) := by
    unfold P_J4_length
    rw [hj]; rfl
  unfold C_16_is
  rw [ln]
  show gd (kd h w = 17) _ = _
  rw [gd_pos H.1, a3]
  by_cases e : L.length = M.length
  · rw [if_pos (by omega)]
    have lo := c_wisS_loop (G := G) H hj e L.length 0 (by omega)
    rw [show ((0 : Nat) : Int) = 0 from rfl, List.drop_zero, List.drop_zero] at lo
    rw [lo]
    by_cases z : L = M
    · rw [if_pos z, if_pos z]; rfl
    · rw [if_neg z, if_neg z]; rfl
  · rw [if_neg (by omega), if_neg (fun z => e (by rw [z]))]
/-- a word's sum -/
def sumW (L : List Int) : Int := L.foldl (fun a x => w32 (w32 (31 * a) + x)) (L.length : Int)
theorem c_sum_loop (H : wb h w L) : ∀ (d k : Nat) (a : Int), k + d = L.length → om_loop (C_16_sum_7s G w h) (a, (k : Int)) = some ((L.drop k).foldl (fun a x => w32 (w32 (31 * a) + x)) a) := by
  obtain ⟨a1, a2, a3, a4, p, a5, a6, a7⟩ := H
  intro d
  induction d with
  | zero =>
    intro k a hk
    refine om_loop_out ?_
    unfold C_16_sum_7s
    rw [gd_pos a1, a3, if_pos (show (L.length : Int) ≤ ((a, (k : Int)) : Int × Int).2 by show (L.length : Int) ≤ (k : Int); omega), List.drop_eq_nil_of_le (by omega)]
    rfl
  | succ d ih =>
    intro k a hk
    have e1 : w32 ((p : Int) + (k : Int)) = ((p + k : Nat) : Int) := by rw [w32_s (by omega) (by omega)]; rfl
    have e3 : w32 ((k : Int) + 1) = ((k + 1 : Nat) : Int) := by rw [w32_s (by omega) (by omega)]; rfl
    have l1 := drop_at (a7 k (by omega))
    have st : C_16_sum_7s G w h (a, (k : Int)) = some (.inl (w32 (w32 (31 * a) + aI h (fR h 1186 w) (p + k)), ((k + 1 : Nat) : Int))) := by
      unfold C_16_sum_7s
      show gd (kd h w = 17) (if (fI h 1192 w) ≤ (k : Int) then _ else gd (_ ∧ _ ∧ 0 ≤ w32 (fI h 1188 w + (k : Int)) ∧ w32 (fI h 1188 w + (k : Int)) < _) (some (Sum.inl (w32 (w32 (31 * a) + aI h (fR h 1186 w) (w32 (fI h 1188 w + (k : Int))).toNat), w32 ((k : Int) + 1))))) = _
      rw [gd_pos a1, a3, if_neg (by omega), a5, e1, e3, gd_pos ⟨a1, a2, by omega, by omega⟩]
      rfl
    rw [om_loop_in st, ih (k + 1) _ (by omega), l1]
    rfl
theorem c_sum (H : wb h w L) : C_16_sum G w h = some (sumW L) := by
  unfold C_16_sum
  rw [gd_pos H.1, H.2.2.1]
  have lo := c_sum_loop (G := G) H L.length 0 (L.length : Int) (by omega)
  rw [show ((0 : Nat) : Int) = 0 from rfl, List.drop_zero] at lo
  rw [lo]
  rfl
end LWB
