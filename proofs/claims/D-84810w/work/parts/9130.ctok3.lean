set_option maxRecDepth 100000
/-! THE COMPONENT's TOKENS by their numbers -/
theorem tk_r (L : List Int) : 0 ≤ (tk L).1 ∧ ((tk L).1 ≤ 17 ∨ (40 ≤ (tk L).1 ∧ (tk L).1 ≤ 126)) := by
  cases L with
  | nil => decide
  | cons c r =>
    by_cases cl : (cSm c || cGr c) = true
    · have hw := wordK_r ((c :: r).take ((c :: r).takeWhile cAl).length)
      rw [tk_al cl]
      simp only
      split
      · decide
      · split
        · decide
        · omega
    · by_cases cd : cDg c = true
      · rw [tk_dg cl cd]
        simp only
        split <;> decide
      · have hc : cSm c = false ∧ cGr c = false ∧ cDg c = false := by
          simp only [Bool.or_eq_true, not_or, Bool.not_eq_true] at cl cd
          exact ⟨cl.1, cl.2, cd⟩
        rw [tk_sg hc]
        by_cases a1 : c = 45 ∧ r.head? = some 62
        · rw [if_pos a1]; decide
        · by_cases a2 : c = 61 ∧ r.head? = some 61
          · rw [if_neg a1, if_pos a2]; decide
          · rw [if_neg a1, if_neg a2]
            cases hs : cSg c
            · simp
            · have := cSg_r hs
              have := cSg_r2 hs
              simp
              omega
theorem tokk_r (S : List Int) (i : Nat) : 0 ≤ tokk S i ∧ (tokk S i ≤ 17 ∨ (40 ≤ tokk S i ∧ tokk S i ≤ 126)) := tk_r _
theorem kE_5 {k : Int} (h : 0 ≤ k) : kE k = 5 ↔ 16 ≤ k := by
  unfold kE
  by_cases c : k ≤ 4
  · rw [if_pos c]; omega
  · rw [if_neg c]
    by_cases c2 : k ≤ 15
    · rw [if_pos c2]; omega
    · rw [if_neg c2]; omega
theorem kE_6 {k : Int} (h : 0 ≤ k) : kE k = 6 ↔ 5 ≤ k ∧ k ≤ 15 := by
  unfold kE
  by_cases c : k ≤ 4
  · rw [if_pos c]; omega
  · rw [if_neg c]
    by_cases c2 : k ≤ 15
    · rw [if_pos c2]; omega
    · rw [if_neg c2]; omega
theorem kE_s {k : Int} (h : 0 ≤ k) {e : Nat} (he : e ≤ 4) : kE k = e ↔ k = (e : Int) := by
  unfold kE
  by_cases c : k ≤ 4
  · rw [if_pos c]; omega
  · rw [if_neg c]
    by_cases c2 : k ≤ 15
    · rw [if_pos c2]; omega
    · rw [if_neg c2]; omega
theorem kE_lt {k : Int} (h : 0 ≤ k) : kE k < 26 := by
  unfold kE
  by_cases c : k ≤ 4
  · rw [if_pos c]; omega
  · rw [if_neg c]
    split <;> omega
/-- a Tokens object stands at the token of a number, so many things being begun -/
def Cst (G : om_G) (h : om_H) (t : Nat) (S : List Int) (i : Nat) (n : Int) : Prop := tkA G h t S (tokp (S.map u8) i) ∧ fI h 1148 t = n ∧ t < hz h ∧ fR h 1122 t < hz h
/-- a sign's value as a kind -/
def sc (v : Int) : Int := if v = 256 then 17 else if v = 257 then 16 else v
theorem sc_val {k v x : Int} (hk : 16 ≤ k) (hr : k ≤ 17 ∨ (40 ≤ k ∧ k ≤ 126)) (a1 : k = 16 → x = 257) (a2 : k = 17 → x = 256) (a3 : 18 ≤ k → x = k) (hv : v = 256 ∨ v = 257 ∨ (40 ≤ v ∧ v ≤ 255)) : x = v ↔ k = sc v := by
  unfold sc
  by_cases v1 : v = 256
  · rw [if_pos v1]; omega
  · rw [if_neg v1]
    by_cases v2 : v = 257
    · rw [if_pos v2]; omega
    · rw [if_neg v2]; omega
section LC5
variable {G : om_G} {h : om_H} {t : Nat} {S : List Int} {i : Nat} {n : Int}
theorem Cst_kd (H : Cst G h t S i n) : kd h t = 15 := H.1.1.1
theorem Cst_q (H : Cst G h t S i n) : fI h 1136 t = (tokq S i : Int) := H.1.2.1
theorem Cst_k (H : Cst G h t S i n) : fR h 1134 t = om_cA G (kE (tokk S i)) := H.1.2.2.1
theorem Cst_n (H : Cst G h t S i n) (hk : tokk S i ≠ 0) : fI h 1140 t = (tokn S i : Int) := by
  have := H.1.2.2.2.1
  rw [if_neg (show ¬ (tK (S.map u8) (tokp (S.map u8) i)).1 = 0 from hk)] at this
  exact this
theorem Cst_S (H : Cst G h t S i n) : S.length ≤ 2000 := H.1.1.2.1.2.2.1
theorem tok_le (S : List Int) (i : Nat) : tokq S i + tokn S i ≤ S.length := by
  have := tn_le (U := S.map u8) (p := tokp (S.map u8) i) (tokp_le _ _)
  simp only [List.length_map] at this
  exact this
theorem Cst_kind (hG : om_okG G) (H : Cst G h t S i n) {e : Nat} (he : e < 26) : fR h 1134 t = om_cA G e ↔ kE (tokk S i) = e := by
  rw [Cst_k H]
  exact om_cA_eq hG (kE_lt (tokk_r S i).1) he
theorem c_isSign (hG : om_okG G) (H : Cst G h t S i n) {v : Int} (hv : v = 256 ∨ v = 257 ∨ (40 ≤ v ∧ v ≤ 255)) : C_14_isSign G t v h = some (if tokk S i = sc v then 1 else 0) := by
  have hr := tokk_r S i
  have h5 := kE_5 hr.1
  have hk := Cst_kind hG H (e := 5) (by decide)
  have a1 : tokk S i = 16 → fI h 1144 t = 257 := H.1.2.2.2.2.2.1
  have a2 : tokk S i = 17 → fI h 1144 t = 256 := H.1.2.2.2.2.2.2.1
  have a3 : 18 ≤ tokk S i → fI h 1144 t = tokk S i := H.1.2.2.2.2.2.2.2.1
  unfold C_14_isSign C_14_isSign_23
  rw [gd_pos (Cst_kd H), gd_pos (Cst_kd H)]
  by_cases c : 16 ≤ tokk S i
  · rw [if_neg (fun z => z (hk.mpr (h5.mpr c)))]
    have hvv := sc_val c hr.2 a1 a2 a3 hv
    by_cases c2 : fI h 1144 t = v
    · rw [if_neg (fun z => z c2), gd_pos (.inr rfl), if_pos (hvv.mp c2)]
    · rw [if_pos c2, gd_pos (.inl rfl), if_neg (fun z => c2 (hvv.mpr z))]
  · rw [if_pos (fun z => c (h5.mp (hk.mp z))), gd_pos (.inl rfl), if_neg]
    unfold sc
    split
    · omega
    · split <;> omega
theorem c_next (H : Cst G h t S i n) (hk : tokk S i ≠ 0) : ∃ h', C_14_advance G t h = some h' ∧ Cst G h' t S (i + 1) n ∧ onlyT t h h' := by
  have hp : fI h 1128 t = ((tokp (S.map u8) (i + 1) : Nat) : Int) := by
    have := H.1.2.2.2.2.1
    rw [if_neg (show ¬ (tK (S.map u8) (tokp (S.map u8) i)).1 = 0 from hk)] at this
    exact this
  have hle := tokp_le (S.map u8) (i + 1)
  simp only [List.length_map] at hle
  obtain ⟨h', e1, e2, e3⟩ := c_adv (G := G) H.1.1 hp hle
  obtain ⟨a1, a2, a3, a4, a5, a6, a7, a8, a9, a10, a11, a12, a13⟩ := e3
  exact ⟨h', e1, ⟨e2, by rw [a11]; exact H.2.1, by rw [a9]; exact H.2.2.1, by rw [a9, a13]; exact H.2.2.2⟩, a1, a2, a3, a4, a5, a6, a7, a8, a9, a10, a11, a12, a13⟩
/-- a sign is passed if it is there -/
theorem c_passes2 (hG : om_okG G) (H : Cst G h t S i n) {v : Int} (hv : v = 256 ∨ v = 257 ∨ (40 ≤ v ∧ v ≤ 255)) :
    (tokk S i = sc v → ∃ h', C_14_passes_2 G t v h = some (1, h') ∧ Cst G h' t S (i + 1) n ∧ onlyT t h h') ∧ (tokk S i ≠ sc v → C_14_passes_2 G t v h = some (0, h)) := by
  unfold C_14_passes_2 C_14_passes_2_14
  rw [gd_pos (Cst_kd H), c_isSign hG H hv]
  simp only [Option.bind_some]
  refine ⟨fun c => ?_, fun c => ?_⟩
  · have h0 : tokk S i ≠ 0 := by rw [c]; unfold sc; split; · decide
                                 split <;> omega
    obtain ⟨h', e1, e2, e3⟩ := c_next H h0
    refine ⟨h', ?_, e2, e3⟩
    rw [if_pos c, if_neg (by decide), gd_pos (Cst_kd H), e1]
    simp only [Option.bind_some]
    exact gd_pos (by simp)
  · rw [if_neg c, if_pos rfl, gd_pos (.inl rfl)]
end LC5
