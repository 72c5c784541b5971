set_option maxRecDepth 100000
/-! THE TWIN'S MACHINE: cells, names bound, things, frames -/
/-- how many there are -/
def mCt (σ : tS) (c : Nat) : Prop := (0 ≤ gs σ 924 ∧ 0 ≤ gs σ 952 ∧ 0 ≤ gs σ 964) ∧ gs σ 924 + gs σ 952 + gs σ 964 ≤ (c : Int) ∧ gs σ 1008 = (c : Int) ∧ c ≤ 4000
section LTO
variable {M : MPg} {cd : Nat → Et → Int → Prop} {σ τ : tS} {c : Nat}
theorem mCt_fr {fs as : List Nat} (F : fr fs as σ τ) (h : ∀ f ∈ [924, 952, 964, 1008], f ∉ fs) (I : mCt σ c) : mCt τ c := by
  unfold mCt
  rw [F.1 924 (h _ (by decide)), F.1 952 (h _ (by decide)), F.1 964 (h _ (by decide)), F.1 1008 (h _ (by decide))]
  exact I
theorem t_cell0 (I : mCt σ c) (hc : c < 4000) : T_cell σ = some (1, us σ 1008 ((c + 1 : Nat) : Int)) := by
  unfold T_cell
  rw [I.2.2.1, if_pos (by omega), w32_s (by omega) (by omega)]
  rfl
theorem t_cell1 (I : mCt σ c) (hc : ¬ c < 4000) : T_cell σ = some (0, us σ 1000 4) := by
  unfold T_cell
  rw [I.2.2.1, if_neg (by have := I.2.2.2; omega)]
/-- A NAME IS BOUND -/
theorem t_bindM {x : Int} {en v : Vt} (I : mCt σ c) (hc : c < 4000) (he : vTw M cd σ en false (gs σ 1024)) (hv : vTw M cd σ v true x) : ∃ σ', T_bind x σ = some (1, σ') ∧ fr [924, 1008, 1024] [914, 918, 922] σ σ' ∧ mGr σ σ' ∧ mCt σ' (c + 1) ∧ vTw M cd σ' (xvE v en) false (gs σ' 1024) := by
  obtain ⟨⟨i1, i2, i3⟩, i4, i5, i6⟩ := I
  have I' : mCt σ c := ⟨⟨i1, i2, i3⟩, i4, i5, i6⟩
  obtain ⟨k, ek⟩ : ∃ k : Nat, gs σ 924 = (k : Int) := ⟨(gs σ 924).toNat, by omega⟩
  have el := env_len he
  have xl' : gs σ 1024 < (k : Int) := by
    cases en with
    | leaf => have : gs σ 1024 = -1 := he; omega
    | inner t a u l r => obtain ⟨_, k', h2, h3, _⟩ := he; omega
  obtain ⟨σ', e'⟩ : ∃ σ', σ' = us (us (ua (ua (ua (us σ 1008 ((c + 1 : Nat) : Int)) 914 k (gs σ 1024)) 918 k ((xls en).length : Int)) 922 k x) 1024 (k : Int)) 924 ((k + 1 : Nat) : Int) := ⟨_, rfl⟩
  have F : fr [924, 1008, 1024] [914, 918, 922] σ σ' := by
    rw [e']
    exact fr_us (fr_us (fr_ua (fr_ua (fr_ua (fr_us (fr_refl _ _ _) (by decide)) (by decide)) (by decide)) (by decide)) (by decide)) (by decide)
  have g24 : gs σ' 1024 = (k : Int) := by rw [e']; rfl
  have g92 : gs σ' 924 = ((k + 1 : Nat) : Int) := by rw [e']; rfl
  have g08 : gs σ' 1008 = ((c + 1 : Nat) : Int) := by rw [e']; rfl
  have a14 : ∀ j, ga σ' 914 j = if j = k then gs σ 1024 else ga σ 914 j := fun j => by
    rw [e']
    simp only [ga_us, ga_ua]
    by_cases q : j = k
    · simp [q]
    · simp [q]
  have a18 : ∀ j, ga σ' 918 j = if j = k then ((xls en).length : Int) else ga σ 918 j := fun j => by
    rw [e']
    simp only [ga_us, ga_ua]
    by_cases q : j = k
    · simp [q]
    · simp [q]
  have a22 : ∀ j, ga σ' 922 j = if j = k then x else ga σ 922 j := fun j => by
    rw [e']
    simp only [ga_us, ga_ua]
    by_cases q : j = k
    · simp [q]
    · simp [q]
  have Gr : mGr σ σ' := by
    refine ⟨⟨by rw [F.1 952 (by decide)]; exact Int.le_refl _, fun f hf j _ => F.2 f (fun z => by simp only [List.mem_cons, List.not_mem_nil, or_false] at hf z; omega) j⟩, ⟨by omega, fun f hf j hj => ?_⟩, by rw [F.1 964 (by decide)]; exact Int.le_refl _, fun f hf j _ => F.2 f (fun z => by simp only [List.mem_cons, List.not_mem_nil, or_false] at hf z; omega) j⟩
    simp only [List.mem_cons, List.not_mem_nil, or_false] at hf
    rcases hf with e | e | e
    · rw [e, a14, if_neg (by omega)]
    · rw [e, a18, if_neg (by omega)]
    · rw [e, a22, if_neg (by omega)]
  refine ⟨σ', ?_, F, Gr, ⟨⟨by omega, by rw [F.1 952 (by decide)]; exact i2, by rw [F.1 964 (by decide)]; exact i3⟩, by rw [g92, F.1 952 (by decide), F.1 964 (by decide)]; omega, g08, by omega⟩, ?_⟩
  · unfold T_bind
    rw [t_cell0 I' hc, Option.bind_some]
    show (if (1 : Int) ≠ 0 then if 0 ≤ gs σ 924 ∧ gs σ 924 < 4100 then (if gs σ 1024 ≠ -1 then T_bind_42 x (gs σ 924) (ua (us σ 1008 ((c + 1 : Nat) : Int)) 914 (gs σ 924).toNat (gs σ 1024)) else T_bind_53 x (gs σ 924) 0 (ua (us σ 1008 ((c + 1 : Nat) : Int)) 914 (gs σ 924).toNat (gs σ 1024))) else none else _) = _
    rw [if_pos (by decide), if_pos (by omega), ek, show ((k : Int)).toNat = k by omega]
    have fin : T_bind_53 x (k : Int) ((xls en).length : Int) (ua (us σ 1008 ((c + 1 : Nat) : Int)) 914 k (gs σ 1024)) = some (1, σ') := by
      unfold T_bind_53
      have eg : gs (ua (us σ 1008 ((c + 1 : Nat) : Int)) 914 k (gs σ 1024)) 924 = (k : Int) := ek
      rw [eg, if_pos ⟨by omega, by omega, by omega, by omega⟩, show ((k : Int)).toNat = k by omega, w32_s (by omega) (by omega), e']
      rfl
    by_cases q : gs σ 1024 = -1
    · rw [if_neg (fun z => z q)]
      have el0 : ((xls en).length : Int) = 0 := by
        cases en with
        | leaf => rfl
        | inner t a u l r => obtain ⟨_, k', h2, _⟩ := he; omega
      rw [el0] at fin
      exact fin
    · rw [if_pos q]
      unfold T_bind_42
      have eg : gs (ua (us σ 1008 ((c + 1 : Nat) : Int)) 914 k (gs σ 1024)) 1024 = gs σ 1024 := rfl
      cases en with
      | leaf => exact absurd he q
      | inner t a u l r =>
        obtain ⟨_, k', h2, h3, h0, h4, h5, h6⟩ := he
        have e18 : ga (ua (us σ 1008 ((c + 1 : Nat) : Int)) 914 k (gs σ 1024)) 918 k' = ((xls r).length : Int) := h5
        have e20 : ((xls (.inner t a u l r)).length : Int) = ((xls r).length : Int) + 1 := by
          show ((xls r ++ [l]).length : Int) = _
          rw [List.length_append, List.length_singleton]
          rfl
        rw [eg, if_pos (by omega), h2, show ((k' : Int)).toNat = k' by omega]
        rw [h2] at e18 fin
        rw [e18, w32_s (by omega) (by omega), ← e20]
        exact fin
  · rw [g24]
    refine ⟨rfl, k, rfl, by omega, ?_, ?_, ?_, ?_⟩
    · rw [a14, if_pos rfl]; exact xl'
    · rw [a14, if_pos rfl]; exact vTw_gr Gr he
    · rw [a18, if_pos rfl]
    · rw [a22, if_pos rfl]; exact vTw_gr Gr hv
theorem t_bindF {x : Int} (I : mCt σ c) (hc : ¬ c < 4000) : T_bind x σ = some (0, us σ 1000 4) := by
  unfold T_bind
  rw [t_cell1 I hc, Option.bind_some]
  exact if_neg (fun z => z rfl)
/-- a thing, by kind and number -/
theorem t_thing {k v : Int} (h0 : 0 ≤ k) (h7 : k < 8) (h1 : -2147483648 ≤ v) (h2 : v ≤ 2147483647) : T_thing k v = some (8 * v + k) := by
  unfold T_thing
  rw [shl_3 (by unfold lR; omega) (by unfold lR; omega), or_3 (by unfold lR; omega) (by omega) h0 h7]
theorem th_and {k v : Int} (h0 : 0 ≤ k) (h7 : k < 8) (h1 : -2147483648 ≤ v) (h2 : v ≤ 2147483647) : and64 (8 * v + k) 7 = k := by
  rw [and_3 (by unfold lR; omega)]
  omega
theorem th_shr {k v : Int} (h0 : 0 ≤ k) (h7 : k < 8) (h1 : -2147483648 ≤ v) (h2 : v ≤ 2147483647) : shr64 (8 * v + k) 3 = v := by
  rw [shr_3 (by unfold lR; omega)]
  omega
theorem th_num {k v : Int} (h0 : 0 ≤ k) (h7 : k < 8) (h1 : -2147483648 ≤ v) (h2 : v ≤ 2147483647) : l2i (shr64 (8 * v + k) 3) = v := by
  rw [th_shr h0 h7 h1 h2, l2i_w, w32_s h1 h2]
/-- A THING OF TWO -/
theorem t_twoM {kk : Int} {x y : Int} (h0 : 0 ≤ kk) (h7 : kk < 8) (I : mCt σ c) (hc : c < 4000) : ∃ (k : Nat) (σ' : tS), T_two kk x y σ = some (8 * (k : Int) + kk, σ') ∧ fr [952, 1008] [930, 934] σ σ' ∧ mGr σ σ' ∧ mCt σ' (c + 1) ∧ (k : Int) < gs σ' 952 ∧ ga σ' 930 k = x ∧ ga σ' 934 k = y := by
  obtain ⟨⟨i1, i2, i3⟩, i4, i5, i6⟩ := I
  have I' : mCt σ c := ⟨⟨i1, i2, i3⟩, i4, i5, i6⟩
  obtain ⟨k, ek⟩ : ∃ k : Nat, gs σ 952 = (k : Int) := ⟨(gs σ 952).toNat, by omega⟩
  obtain ⟨σ', e'⟩ : ∃ σ', σ' = us (ua (ua (us σ 1008 ((c + 1 : Nat) : Int)) 930 k x) 934 k y) 952 ((k + 1 : Nat) : Int) := ⟨_, rfl⟩
  have F : fr [952, 1008] [930, 934] σ σ' := by
    rw [e']
    exact fr_us (fr_ua (fr_ua (fr_us (fr_refl _ _ _) (by decide)) (by decide)) (by decide)) (by decide)
  have g95 : gs σ' 952 = ((k + 1 : Nat) : Int) := by rw [e']; rfl
  have g08 : gs σ' 1008 = ((c + 1 : Nat) : Int) := by rw [e']; rfl
  have a30 : ∀ j, ga σ' 930 j = if j = k then x else ga σ 930 j := fun j => by
    rw [e']
    simp only [ga_us, ga_ua]
    by_cases q : j = k
    · simp [q]
    · simp [q]
  have a34 : ∀ j, ga σ' 934 j = if j = k then y else ga σ 934 j := fun j => by
    rw [e']
    simp only [ga_us, ga_ua]
    by_cases q : j = k
    · simp [q]
    · simp [q]
  refine ⟨k, σ', ?_, F, ⟨⟨by omega, fun f hf j hj => ?_⟩, ⟨by rw [F.1 924 (by decide)]; exact Int.le_refl _, fun f hf j _ => F.2 f (fun z => by simp only [List.mem_cons, List.not_mem_nil, or_false] at hf z; omega) j⟩, by rw [F.1 964 (by decide)]; exact Int.le_refl _, fun f hf j _ => F.2 f (fun z => by simp only [List.mem_cons, List.not_mem_nil, or_false] at hf z; omega) j⟩, ⟨⟨by rw [F.1 924 (by decide)]; exact i1, by omega, by rw [F.1 964 (by decide)]; exact i3⟩, by rw [g95, F.1 924 (by decide), F.1 964 (by decide)]; omega, g08, by omega⟩, by omega, by rw [a30, if_pos rfl], by rw [a34, if_pos rfl]⟩
  · unfold T_two
    rw [t_cell0 I' hc, Option.bind_some]
    have eg : gs (us σ 1008 ((c + 1 : Nat) : Int)) 952 = (k : Int) := ek
    show (if (1 : Int) ≠ 0 then _ else _) = _
    rw [if_pos (by decide)]
    simp only
    rw [eg, if_pos (by omega), w32_s (x := (k : Int) + 1) (by omega) (by omega), w32_s (x := (k : Int) + 1 - 1) (by omega) (by omega), show (k : Int) + 1 - 1 = (k : Int) by omega, t_thing h0 h7 (by omega) (by omega), Option.bind_some, show ((k : Int)).toNat = k by omega, e']
    rfl
  · by_cases h3 : f = 930
    · rw [h3, a30, if_neg (by omega)]
    · by_cases h4 : f = 934
      · rw [h4, a34, if_neg (by omega)]
      · exact F.2 f (fun z => by simp only [List.mem_cons, List.not_mem_nil, or_false] at z; omega) j
theorem t_twoF {kk : Int} {x y : Int} (I : mCt σ c) (hc : ¬ c < 4000) : T_two kk x y σ = some (0, us σ 1000 4) := by
  unfold T_two
  rw [t_cell1 I hc, Option.bind_some]
  exact if_neg (fun z => z rfl)
/-- A FUNCTION -/
theorem t_funM {x : Int} {o : Ow} {e : Et} {en : Vt} (I : mCt σ c) (hc : c < 4000) (hcd : cd o.1 e x) (he : vTw M cd σ en false (gs σ 1024)) (ho : gs σ 1028 = owT o.1) (hr : rTw M.2.2.2 σ (gvW M o.1) o.2 (gs σ 1037)) : ∃ (y : Int) (σ' : tS), T_function x σ = some (y, σ') ∧ fr [952, 1008] [938, 942, 946, 950] σ σ' ∧ mGr σ σ' ∧ mCt σ' (c + 1) ∧ vTw M cd σ' (xvF o e en) true y := by
  obtain ⟨⟨i1, i2, i3⟩, i4, i5, i6⟩ := I
  have I' : mCt σ c := ⟨⟨i1, i2, i3⟩, i4, i5, i6⟩
  obtain ⟨k, ek⟩ : ∃ k : Nat, gs σ 952 = (k : Int) := ⟨(gs σ 952).toNat, by omega⟩
  obtain ⟨σ', e'⟩ : ∃ σ', σ' = us (ua (ua (ua (ua (us σ 1008 ((c + 1 : Nat) : Int)) 938 k x) 942 k (gs σ 1024)) 946 k (gs σ 1028)) 950 k (gs σ 1037)) 952 ((k + 1 : Nat) : Int) := ⟨_, rfl⟩
  have F : fr [952, 1008] [938, 942, 946, 950] σ σ' := by
    rw [e']
    exact fr_us (fr_ua (fr_ua (fr_ua (fr_ua (fr_us (fr_refl _ _ _) (by decide)) (by decide)) (by decide)) (by decide)) (by decide)) (by decide)
  have g95 : gs σ' 952 = ((k + 1 : Nat) : Int) := by rw [e']; rfl
  have g08 : gs σ' 1008 = ((c + 1 : Nat) : Int) := by rw [e']; rfl
  have a38 : ∀ j, ga σ' 938 j = if j = k then x else ga σ 938 j := fun j => by
    rw [e']
    simp only [ga_us, ga_ua]
    by_cases q : j = k
    · simp [q]
    · simp [q]
  have a42 : ∀ j, ga σ' 942 j = if j = k then gs σ 1024 else ga σ 942 j := fun j => by
    rw [e']
    simp only [ga_us, ga_ua]
    by_cases q : j = k
    · simp [q]
    · simp [q]
  have a46 : ∀ j, ga σ' 946 j = if j = k then gs σ 1028 else ga σ 946 j := fun j => by
    rw [e']
    simp only [ga_us, ga_ua]
    by_cases q : j = k
    · simp [q]
    · simp [q]
  have a50 : ∀ j, ga σ' 950 j = if j = k then gs σ 1037 else ga σ 950 j := fun j => by
    rw [e']
    simp only [ga_us, ga_ua]
    by_cases q : j = k
    · simp [q]
    · simp [q]
  have Gr : mGr σ σ' := by
    refine ⟨⟨by omega, fun f hf j hj => ?_⟩, ⟨by rw [F.1 924 (by decide)]; exact Int.le_refl _, fun f hf j _ => F.2 f (fun z => by simp only [List.mem_cons, List.not_mem_nil, or_false] at hf z; omega) j⟩, by rw [F.1 964 (by decide)]; exact Int.le_refl _, fun f hf j _ => F.2 f (fun z => by simp only [List.mem_cons, List.not_mem_nil, or_false] at hf z; omega) j⟩
    simp only [List.mem_cons, List.not_mem_nil, or_false] at hf
    rcases hf with h | h | h | h | h | h
    · exact F.2 f (fun z => by simp only [List.mem_cons, List.not_mem_nil, or_false] at z; omega) j
    · exact F.2 f (fun z => by simp only [List.mem_cons, List.not_mem_nil, or_false] at z; omega) j
    · rw [h, a38, if_neg (by omega)]
    · rw [h, a42, if_neg (by omega)]
    · rw [h, a46, if_neg (by omega)]
    · rw [h, a50, if_neg (by omega)]
  refine ⟨8 * (k : Int) + 5, σ', ?_, F, Gr, ⟨⟨by rw [F.1 924 (by decide)]; exact i1, by omega, by rw [F.1 964 (by decide)]; exact i3⟩, by rw [g95, F.1 924 (by decide), F.1 964 (by decide)]; omega, g08, by omega⟩, ?_⟩
  · unfold T_function
    rw [t_cell0 I' hc, Option.bind_some]
    have eg : gs (us σ 1008 ((c + 1 : Nat) : Int)) 952 = (k : Int) := ek
    show (if (1 : Int) ≠ 0 then _ else _) = _
    rw [if_pos (by decide)]
    simp only
    rw [eg, if_pos (by omega), w32_s (x := (k : Int) + 1) (by omega) (by omega), w32_s (x := (k : Int) + 1 - 1) (by omega) (by omega), show (k : Int) + 1 - 1 = (k : Int) by omega, t_thing (by decide) (by decide) (by omega) (by omega), Option.bind_some, show ((k : Int)).toNat = k by omega, e']
    rfl
  · refine .inr (.inr (.inr (.inr ⟨k, by omega, .inr (.inr (.inr ⟨rfl, rfl, ?_, ?_, ?_, ?_⟩))⟩)))
    · rw [a38, if_pos rfl]; exact hcd
    · rw [a42, if_pos rfl]; exact vTw_gr Gr he
    · rw [a46, if_pos rfl]; exact ho
    · rw [a50, if_pos rfl]; exact rTw_gr Gr hr
theorem t_funF {x : Int} (I : mCt σ c) (hc : ¬ c < 4000) : T_function x σ = some (0, us σ 1000 4) := by
  unfold T_function
  rw [t_cell1 I hc, Option.bind_some]
  exact if_neg (fun z => z rfl)
end LTO
