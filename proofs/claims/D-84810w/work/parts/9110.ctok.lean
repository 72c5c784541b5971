set_option maxRecDepth 100000
/-! THE COMPONENT's TOKENS -/
/-- an array of bytes that begins with a text -/
def txC (h : om_H) (a : Nat) (S : List Int) : Prop := kd h a = 50 ∧ an h a = 2000 ∧ S.length ≤ 2000 ∧ (∀ (i : Nat) (x : Int), S[i]? = some x → aI h a i = x) ∧ ∀ x ∈ S, -128 ≤ x ∧ x ≤ 127
/-- a Tokens object over a text -/
def tkT (h : om_H) (t : Nat) (S : List Int) : Prop := kd h t = 15 ∧ txC h (fR h 1122 t) S ∧ fI h 1124 t = (S.length : Int)
section LC1
variable {G : om_G} {h : om_H} {t : Nat} {S : List Int}
theorem tkT_sI (T : tkT h t S) {f : Nat} {x : Int} (hf : f ≠ 1124) : tkT (sI h f t x) t S := ⟨T.1, T.2.1, by rw [fI_sI, if_neg (fun q => hf q.1.symm)]; exact T.2.2⟩
theorem tkT_sR (T : tkT h t S) {f : Nat} {x : Nat} (hf : f ≠ 1122) : tkT (sR h f t x) t S := by
  refine ⟨T.1, ?_, T.2.2⟩
  rw [fR_sR, if_neg (fun q => hf q.1.symm)]
  exact T.2.1
theorem c_at (T : tkT h t S) (p : Nat) (hp : p < 1000000) : C_14_at G t (p : Int) h = some ((((S.map u8))[p]?).getD (-1)) := by
  obtain ⟨k, ⟨x1, x2, x3, x4, x5⟩, n⟩ := T
  unfold C_14_at
  rw [gd_pos k, n]
  by_cases c : p < S.length
  · rw [if_neg (by omega), gd_pos ⟨k, x1, by omega, by rw [x2]; omega⟩]
    have e : S[p]? = some S[p] := List.getElem?_eq_getElem c
    have m := x5 S[p] (List.getElem_mem c)
    have e2 : aI h (fR h 1122 t) ((p : Int)).toNat = S[p] := by rw [show ((p : Int)).toNat = p by omega]; exact x4 p _ e
    rw [e2, u8_eq m.1 m.2]
    simp [c]
  · rw [if_pos (by omega)]
    simp [c]
theorem c_isSmall (c : Int) : C_14_isSmall G c h = some (if cSm c then 1 else 0) := by
  unfold C_14_isSmall C_14_isSmall_17 cSm
  by_cases c1 : c < 97
  · rw [if_pos c1, gd_pos (.inl rfl)]; simp; omega
  · by_cases c2 : 122 < c
    · rw [if_neg c1, if_pos c2, gd_pos (.inl rfl)]; simp; omega
    · rw [if_neg c1, if_neg c2, gd_pos (.inr rfl)]; simp; omega
theorem c_isGreat (c : Int) : C_14_isGreat G c h = some (if cGr c then 1 else 0) := by
  unfold C_14_isGreat C_14_isGreat_17 cGr
  by_cases c1 : c < 65
  · rw [if_pos c1, gd_pos (.inl rfl)]; simp; omega
  · by_cases c2 : 90 < c
    · rw [if_neg c1, if_pos c2, gd_pos (.inl rfl)]; simp; omega
    · rw [if_neg c1, if_neg c2, gd_pos (.inr rfl)]; simp; omega
theorem c_isDigit (c : Int) : C_14_isDigit G c h = some (if cDg c then 1 else 0) := by
  unfold C_14_isDigit C_14_isDigit_17 cDg
  by_cases c1 : c < 48
  · rw [if_pos c1, gd_pos (.inl rfl)]; simp; omega
  · by_cases c2 : 57 < c
    · rw [if_neg c1, if_pos c2, gd_pos (.inl rfl)]; simp; omega
    · rw [if_neg c1, if_neg c2, gd_pos (.inr rfl)]; simp; omega
/-- spaces are passed -/
theorem c_skip : ∀ (L : List Int) (p : Nat) (h : om_H), tkT h t S → fI h 1128 t = (p : Int) → (S.map u8).drop p = L → p ≤ 2000 → om_loop (C_14_advances G t) h = some (sI h 1128 t ((p + (L.takeWhile cSp).length : Nat) : Int))
  | [], p, h, T, hp, e, b => by
    have e1 := drop_nil e
    refine om_loop_out ?_
    unfold C_14_advances
    rw [gd_pos T.1, hp, c_at T p (by omega), e1.1]
    simp only [Option.bind_some, Option.getD_none]
    rw [if_neg (by decide), gd_pos T.1]
    simp only [List.takeWhile_nil, List.length_nil, Nat.add_zero]
    rw [sI_id hp]
    rfl
  | c :: r, p, h, T, hp, e, b => by
    obtain ⟨e1, e2, e3⟩ := drop_cons e
    simp only [List.length_map] at e3
    have hS := T.2.1.2.2.1
    by_cases cs : cSp c = true
    · have hstep : C_14_advances G t h = some (.inl (sI h 1128 t ((p + 1 : Nat) : Int))) := by
        unfold C_14_advances C_14_advance_26
        rw [gd_pos T.1, hp, c_at T p (by omega), e1]
        simp only [Option.bind_some, Option.getD_some]
        rw [w32_s (by omega) (by omega), gd_pos T.1, gd_pos T.1]
        simp only [cSp, Bool.or_eq_true, beq_iff_eq] at cs
        by_cases c1 : c = 32
        · rw [if_pos c1]; rfl
        · rw [if_neg c1, if_neg (by omega)]; rfl
      rw [om_loop_in hstep, c_skip r (p + 1) _ (tkT_sI T (by decide)) (by simp [fI_sI]) e2 (by omega), sI_sI]
      rw [List.takeWhile_cons_of_pos cs, List.length_cons]
      congr 2
      omega
    · have cs' := cs
      refine om_loop_out ?_
      simp only [cSp, Bool.or_eq_true, beq_iff_eq] at cs
      unfold C_14_advances
      rw [gd_pos T.1, hp, c_at T p (by omega), e1]
      simp only [Option.bind_some, Option.getD_some]
      rw [if_neg (by omega), gd_pos T.1, if_pos (by omega), List.takeWhile_cons_of_neg cs']
      simp only [List.length_nil, Nat.add_zero]
      rw [sI_id hp]
/-- only a Tokens object has changed -/
def onlyT (t : Nat) (h h' : om_H) : Prop := kd h' = kd h ∧ (∀ f a, a ≠ t → fI h' f a = fI h f a) ∧ (∀ f a, a ≠ t → fR h' f a = fR h f a) ∧ an h' = an h ∧ aI h' = aI h ∧ aR h' = aR h ∧ ll h' = ll h ∧ lc h' = lc h ∧ hz h' = hz h ∧ hu h' = hu h ∧ fI h' 1148 t = fI h 1148 t ∧ fI h' 1124 t = fI h 1124 t ∧ fR h' 1122 t = fR h 1122 t
theorem onlyT_refl (t : Nat) (h : om_H) : onlyT t h h := ⟨rfl, fun _ _ _ => rfl, fun _ _ _ => rfl, rfl, rfl, rfl, rfl, rfl, rfl, rfl, rfl, rfl, rfl⟩
theorem onlyT_trans {t : Nat} {h h1 h2 : om_H} (A : onlyT t h h1) (B : onlyT t h1 h2) : onlyT t h h2 := by
  obtain ⟨a1, a2, a3, a4, a5, a6, a7, a8, a9, a10, a11, a12, a13⟩ := A
  obtain ⟨b1, b2, b3, b4, b5, b6, b7, b8, b9, b10, b11, b12, b13⟩ := B
  exact ⟨b1.trans a1, fun f a c => (b2 f a c).trans (a2 f a c), fun f a c => (b3 f a c).trans (a3 f a c), b4.trans a4, b5.trans a5, b6.trans a6, b7.trans a7, b8.trans a8, b9.trans a9, b10.trans a10, b11.trans a11, b12.trans a12, b13.trans a13⟩
theorem onlyT_sI {h0 : om_H} (A : onlyT t h0 h) {f : Nat} {x : Int} (h1 : f ≠ 1148) (h2 : f ≠ 1124) : onlyT t h0 (sI h f t x) := by
  refine onlyT_trans A ⟨rfl, fun g a c => ?_, fun _ _ _ => rfl, rfl, rfl, rfl, rfl, rfl, rfl, rfl, ?_, ?_, rfl⟩
  · rw [fI_sI, if_neg (fun q => c q.2)]
  · rw [fI_sI, if_neg (fun q => h1 q.1.symm)]
  · rw [fI_sI, if_neg (fun q => h2 q.1.symm)]
theorem onlyT_sR {h0 : om_H} (A : onlyT t h0 h) {f : Nat} {x : Nat} (h1 : f ≠ 1122) : onlyT t h0 (sR h f t x) := by
  refine onlyT_trans A ⟨rfl, fun _ _ _ => rfl, fun g a c => ?_, rfl, rfl, rfl, rfl, rfl, rfl, rfl, rfl, rfl, ?_⟩
  · rw [fR_sR, if_neg (fun q => c q.2)]
  · rw [fR_sR, if_neg (fun q => h1 q.1.symm)]
theorem onlyT_tkT {h' : om_H} (A : onlyT t h h') (T : tkT h t S) : tkT h' t S := by
  obtain ⟨a1, a2, a3, a4, a5, a6, a7, a8, a9, a10, a11, a12, a13⟩ := A
  obtain ⟨k, ⟨x1, x2, x3, x4, x5⟩, n⟩ := T
  refine ⟨by rw [a1]; exact k, ⟨?_, ?_, x3, ?_, x5⟩, by rw [a12]; exact n⟩
  · rw [a1, a13]; exact x1
  · rw [a4, a13]; exact x2
  · rw [a5, a13]; exact x4
/-- a word that a Tokens object stands at is this String -/
theorem c_is_loop {j : Nat} {b : List Int} (T : tkT h t S) {q m : Nat} (hq : fI h 1136 t = (q : Int)) (hm : fI h 1140 t = (m : Int)) (hb : om_sb[j]? = some b) (hl : b.length = m) (hqm : q + m ≤ S.length) (hr : ∀ x ∈ b, 0 ≤ x ∧ x ≤ 127) : ∀ (b' : List Int) (k : Nat), b.drop k = b' → k ≤ m → om_loop (C_14_is_15s G t j h) (k : Int) = some (if ((S.map u8).drop (q + k)).take (m - k) = b' then .inr () else .inl ())
  | [], k, e, hk => by
    have e1 := drop_nil e
    have : k = m := by omega
    subst this
    refine om_loop_out ?_
    unfold C_14_is_15s
    rw [gd_pos T.1, hm, if_pos (by omega)]
    simp
  | d :: s, k, e, hk => by
    obtain ⟨e1, e2, e3⟩ := drop_cons e
    have hlen := T.2.1.2.2.1
    obtain ⟨k0, ⟨x1, x2, x3, x4, x5⟩, n⟩ := T
    have hki : q + k < S.length := by omega
    have es : S[q + k]? = some S[q + k] := List.getElem?_eq_getElem hki
    have hx := x5 _ (List.getElem_mem hki)
    have hd := hr d (List.mem_of_getElem? e1)
    have ed : (S.map u8).drop (q + k) = u8 S[q + k] :: (S.map u8).drop (q + (k + 1)) := by
      rw [List.drop_eq_getElem_cons (by simpa using hki)]
      simp [Nat.add_assoc]
    have ea : aI h (fR h 1122 t) (w32 ((q : Int) + (k : Int))).toNat = S[q + k] := by
      rw [w32_s (by omega) (by omega), show ((q : Int) + (k : Int)).toNat = q + k by omega]
      exact x4 _ _ es
    have hu : (S[q + k] = d) ↔ (u8 S[q + k] = d) := by unfold u8; omega
    have hch : P_J4_charAt G j (k : Int) h = some d := by
      unfold P_J4_charAt
      rw [hb]
      simp [e1]
    have hms : m - k = (m - (k + 1)) + 1 := by omega
    by_cases c : u8 S[q + k] = d
    · have st : C_14_is_15s G t j h (k : Int) = some (.inl ((k + 1 : Nat) : Int)) := by
        unfold C_14_is_15s
        rw [gd_pos k0, hm, if_neg (by omega), gd_pos ⟨k0, x1, by rw [hq, w32_s (by omega) (by omega)]; omega, by rw [hq, w32_s (by omega) (by omega), x2]; omega⟩, hch, hq]
        simp only [Option.bind_some]
        rw [ea, if_pos (hu.mpr c), w32_s (by omega) (by omega)]
        rfl
      rw [om_loop_in st, c_is_loop ⟨k0, ⟨x1, x2, x3, x4, x5⟩, n⟩ hq hm hb hl hqm hr s (k + 1) e2 (by omega), ed, hms, List.take_succ_cons, c]
      simp
    · refine om_loop_out ?_
      unfold C_14_is_15s
      rw [gd_pos k0, hm, if_neg (by omega), gd_pos ⟨k0, x1, by rw [hq, w32_s (by omega) (by omega)]; omega, by rw [hq, w32_s (by omega) (by omega), x2]; omega⟩, hch, hq]
      simp only [Option.bind_some]
      rw [ea, if_neg (fun z => c (hu.mp z)), ed, hms, List.take_succ_cons]
      simp [c]
theorem om_sb_r : ∀ b ∈ om_sb, ∀ x ∈ b, 0 ≤ x ∧ x ≤ 127 := by decide
theorem c_is {j : Nat} {b : List Int} (T : tkT h t S) {q m : Nat} (hq : fI h 1136 t = (q : Int)) (hm : fI h 1140 t = (m : Int)) (hb : om_sb[j]? = some b) (hqm : q + m ≤ S.length) : C_14_is G t j h = some (if ((S.map u8).drop q).take m = b then 1 else 0) := by
  unfold C_14_is P_J4_length
  rw [hb]
  simp only [Option.bind_some]
  rw [gd_pos T.1, hm]
  by_cases c : b.length = m
  · rw [if_pos (by omega), show (0 : Int) = ((0 : Nat) : Int) from rfl, c_is_loop T hq hm hb c hqm (om_sb_r b (List.mem_of_getElem? hb)) b 0 (by simp) (by omega)]
    simp only [Nat.add_zero, Nat.sub_zero]
    by_cases c2 : ((S.map u8).drop q).take m = b
    · rw [if_pos c2, if_pos c2]; rfl
    · rw [if_neg c2, if_neg c2]; rfl
  · rw [if_neg (by omega)]
    have : ((S.map u8).drop q).take m ≠ b := by
      intro z
      have := congrArg List.length z
      simp only [List.length_take, List.length_drop, List.length_map] at this
      omega
    rw [if_neg this]
end LC1
