set_option maxRecDepth 100000
theorem mem_tw {p : Int → Bool} {x : Int} : ∀ {L : List Int}, x ∈ L.takeWhile p → p x = true
  | [], h => by simp at h
  | c :: r, h => by
    by_cases q : p c = true
    · rw [List.takeWhile_cons_of_pos q, List.mem_cons] at h
      rcases h with rfl | h
      · exact q
      · exact mem_tw h
    · rw [List.takeWhile_cons_of_neg q] at h
      simp at h
theorem tk_facts (c : Int) (r : List Int) : 1 ≤ (tk (c :: r)).2 ∧ (tk (c :: r)).1 ≠ 0 ∧ ((tk (c :: r)).1 = 2 ∨ (tk (c :: r)).1 = 3 → (tk (c :: r)).2 ≤ 10) ∧ ((tk (c :: r)).1 = 4 → (tk (c :: r)).2 ≤ 6 ∧ ∀ x ∈ (c :: r).take (tk (c :: r)).2, 48 ≤ x ∧ x ≤ 57) := by
  by_cases cl : (cSm c || cGr c) = true
  · have ca : cAl c = true := by unfold cAl; rw [cl]; rfl
    have hw := wordK_r ((c :: r).take ((c :: r).takeWhile cAl).length)
    rw [tk_al cl]
    simp only
    have h1 : 1 ≤ ((c :: r).takeWhile cAl).length := by rw [List.takeWhile_cons_of_pos ca]; simp
    refine ⟨h1, ?_, ?_, ?_⟩
    · split
      · decide
      · split
        · decide
        · omega
    · intro z
      split at z
      · omega
      · omega
    · intro z
      split at z
      · omega
      · split at z
        · omega
        · omega
  · by_cases cd : cDg c = true
    · have h1 : 1 ≤ ((c :: r).takeWhile cDg).length := by rw [List.takeWhile_cons_of_pos cd]; simp
      rw [tk_dg cl cd]
      simp only
      refine ⟨h1, by split <;> decide, ?_, ?_⟩
      · intro z; split at z <;> omega
      · intro z
        have hb : (decide (6 < ((c :: r).takeWhile cDg).length) || (decide (1 < ((c :: r).takeWhile cDg).length) && c == 48)) = false := by
          cases hb : (decide (6 < ((c :: r).takeWhile cDg).length) || (decide (1 < ((c :: r).takeWhile cDg).length) && c == 48))
          · rfl
          · rw [hb] at z; simp at z
        have h6 : ¬ 6 < ((c :: r).takeWhile cDg).length := by intro y; simp [y] at hb
        refine ⟨by omega, fun x hx => ?_⟩
        rw [show (c :: r).take ((c :: r).takeWhile cDg).length = (c :: r).takeWhile cDg from (List.prefix_iff_eq_take.mp (List.takeWhile_prefix cDg)).symm] at hx
        have := mem_tw hx
        simpa [cDg] using this
    · have hc : cSm c = false ∧ cGr c = false ∧ cDg c = false := by
        simp only [Bool.or_eq_true, not_or, Bool.not_eq_true] at cl cd
        exact ⟨cl.1, cl.2, cd⟩
      have hk := tk_sg (r := r) hc
      have h2 : 1 ≤ (tk (c :: r)).2 := by
        unfold tk
        simp only [hc.1, hc.2.1, hc.2.2, Bool.or_self, Bool.false_eq_true, if_false]
        split
        · simp
        · split <;> simp
      rw [hk]
      refine ⟨h2, ?_, ?_, ?_⟩
      all_goals
        by_cases a1 : c = 45 ∧ r.head? = some 62
        · simp [a1]
        · by_cases a2 : c = 61 ∧ r.head? = some 61
          · simp [a2]
          · rw [if_neg a1, if_neg a2]
            cases hs : cSg c
            · simp
            · have := cSg_r hs
              simp
              try omega
section LT4
variable {σ : tS} {S : List Int} {N : List (List Int)}
theorem scan_tok (T : txT σ S) {p : Nat} {c : Int} {r : List Int} (e : (S.map u8).drop p = c :: r) (hc : cSp c = false) : T_scan_2s ((p : Int), σ) = (T_token (tk (c :: r)).1 (p : Int) ((tk (c :: r)).2 : Int) σ).bind fun τ => some (.inl (((p + (tk (c :: r)).2 : Nat) : Int), τ)) := by
  obtain ⟨e1, e2, e3⟩ := drop_cons e
  simp only [List.length_map] at e3
  have hS := T.2.1
  have hlen : (c :: r).length = S.length - p := by rw [← e]; simp
  have hcs : c ≠ 32 ∧ c ≠ 10 := by simpa [cSp] using hc
  have hb1 : T_b (w32 ((p : Int) + 1)) σ = some ((r.head?).getD 0) := by
    rw [w32_s (by omega) (by omega), show (p : Int) + 1 = ((p + 1 : Nat) : Int) by omega, t_b T, ← e2, List.head?_drop]
  have hw1 : w32 ((p : Int) + 1) = ((p + 1 : Nat) : Int) := by rw [w32_s (by omega) (by omega)]; rfl
  unfold T_scan_2s
  simp only
  rw [T.1, if_neg (by omega), t_b T, e1]
  simp only [Option.getD_some, Option.bind_some]
  rw [if_neg hcs.1, if_pos hcs.2]
  simp only [t_isSmall, t_isBig, t_isDigit, Option.bind_some]
  by_cases cl : (cSm c || cGr c) = true
  · have hl := tw_len (p := cAl) (c :: r)
    have ca : cAl c = true := by unfold cAl; rw [cl]; rfl
    have h1 : 1 ≤ ((c :: r).takeWhile cAl).length := by rw [List.takeWhile_cons_of_pos ca]; simp
    have hloop : om_loop (T_scan_52s (p : Int) c σ) (w32 ((p : Int) + 1)) = some ((p + ((c :: r).takeWhile cAl).length : Nat) : Int) := by
      rw [hw1, t_alpha T _ _ r (p + 1) e2 (by omega), List.takeWhile_cons_of_pos ca, List.length_cons]
      congr 2
      omega
    have hsub : w32 (((p + ((c :: r).takeWhile cAl).length : Nat) : Int) - (p : Int)) = (((c :: r).takeWhile cAl).length : Int) := by rw [w32_s (by omega) (by omega)]; omega
    have hwk : T_wordKind (p : Int) (((c :: r).takeWhile cAl).length : Int) σ = some (wordK ((c :: r).take ((c :: r).takeWhile cAl).length)) := by
      refine t_wordKind T (by omega) (by rw [e]) ?_
      rw [show (c :: r).take ((c :: r).takeWhile cAl).length = (c :: r).takeWhile cAl from (List.prefix_iff_eq_take.mp (List.takeWhile_prefix cAl)).symm]
      intro x hx
      have := mem_tw hx
      simp only [cAl, cSm, cGr, cDg, Bool.or_eq_true, Bool.and_eq_true, decide_eq_true_eq] at this
      omega
    rw [tk_al cl, hloop]
    simp only [Option.bind_some]
    rw [hsub, hwk]
    simp only [Option.bind_some]
    unfold T_scan_126
    generalize ((c :: r).takeWhile cAl).length = m
    generalize wordK ((c :: r).take m) = k
    by_cases c10 : 10 < m
    · rw [if_neg (show ¬ (m : Int) ≤ 10 by omega), if_pos c10]
      cases hs : cSm c
      · have hg : cGr c = true := by rw [hs] at cl; simpa using cl
        simp [hg]
      · simp
    · rw [if_pos (show (m : Int) ≤ 10 by omega), if_neg c10]
      cases hg : cGr c
      · have hs : cSm c = true := by rw [hg] at cl; simpa using cl
        simp [hs]
      · cases hs : cSm c <;> simp
  · have hc2 : cSm c = false ∧ cGr c = false := by
      simp only [Bool.or_eq_true, not_or, Bool.not_eq_true] at cl
      exact cl
    rw [hc2.1, hc2.2]
    simp only [Bool.false_eq_true, if_false, ne_eq, not_true_eq_false, if_true]
    cases cd : cDg c
    · simp only [Bool.false_eq_true, if_false, if_true]
      have hk := tk_sg (r := r) ⟨hc2.1, hc2.2, cd⟩
      have hk2 : (tk (c :: r)).2 = if (c = 45 ∧ r.head? = some 62) ∨ (c = 61 ∧ r.head? = some 61) then 2 else 1 := by
        unfold tk
        simp only [hc2.1, hc2.2, cd, Bool.or_self, Bool.false_eq_true, if_false]
        by_cases c1 : c = 45 ∧ r.head? = some 62
        · simp [c1]
        · by_cases c2 : c = 61 ∧ r.head? = some 61
          · simp [c2]
          · simp [c1, c2]
      have h61 : (r.head? = some 61) ↔ ((r.head?).getD 0 = 61) := by cases r <;> simp
      have h62 : (r.head? = some 62) ↔ ((r.head?).getD 0 = 62) := by cases r <;> simp
      have e256 : T_scan_256 (p : Int) c ((p + 1 : Nat) : Int) σ = (T_token (if cSg c then c else 1) (p : Int) 1 σ).bind fun τ => some (.inl (((p + 1 : Nat) : Int), τ)) := by
        unfold T_scan_256 T_scan_357 T_scan_370 cSg
        by_cases c40 : c = 40
        · subst c40; simp
        by_cases c41 : c = 41
        · subst c41; simp
        by_cases c123 : c = 123
        · subst c123; simp
        by_cases c125 : c = 125
        · subst c125; simp
        by_cases c59 : c = 59
        · subst c59; simp
        by_cases c58 : c = 58
        · subst c58; simp
        by_cases c61 : c = 61
        · subst c61; simp
        by_cases c46 : c = 46
        · subst c46; simp
        by_cases c44 : c = 44
        · subst c44; simp
        by_cases c92 : c = 92
        · subst c92; simp
        by_cases c64 : c = 64
        · subst c64; simp
        by_cases c126 : c = 126
        · subst c126; simp
        by_cases c43 : c = 43
        · subst c43; simp
        by_cases c45 : c = 45
        · subst c45; simp
        by_cases c42 : c = 42
        · subst c42; simp
        by_cases c60 : c = 60
        · subst c60; simp
        simp [c40, c41, c123, c125, c59, c58, c61, c46, c44, c92, c64, c126, c43, c45, c42, c60]
      have hw2 : w32 (((p + 1 : Nat) : Int) + 1) = ((p + 2 : Nat) : Int) := by rw [w32_s (by omega) (by omega)]; omega
      unfold T_scan_226
      rw [hb1, hw1]
      simp only [Option.bind_some]
      rw [e256, hk, hk2, hw2]
      simp only [h61, h62]
      generalize (r.head?).getD 0 = d
      by_cases c45 : c = 45
      · subst c45
        by_cases hd : d = 62
        · subst hd; simp
        · simp [hd]
      · by_cases c61 : c = 61
        · subst c61
          by_cases hd : d = 61
          · subst hd; simp
          · simp [hd]
        · simp [c45, c61]
    · simp only [if_true, Int.one_ne_zero, if_false]
      have hl := tw_len (p := cDg) (c :: r)
      have h1 : 1 ≤ ((c :: r).takeWhile cDg).length := by rw [List.takeWhile_cons_of_pos cd]; simp
      have hloop : om_loop (T_scan_142s (p : Int) c σ) (w32 ((p : Int) + 1)) = some ((p + ((c :: r).takeWhile cDg).length : Nat) : Int) := by
        rw [hw1, t_digits T _ _ r (p + 1) e2 (by omega), List.takeWhile_cons_of_pos cd, List.length_cons]
        congr 2
        omega
      have hsub : w32 (((p + ((c :: r).takeWhile cDg).length : Nat) : Int) - (p : Int)) = (((c :: r).takeWhile cDg).length : Int) := by rw [w32_s (by omega) (by omega)]; omega
      rw [tk_dg cl cd, hloop]
      simp only [Option.bind_some]
      unfold T_scan_186
      rw [hsub]
      generalize ((c :: r).takeWhile cDg).length = m
      by_cases c6 : 6 < m
      · rw [if_pos (show (6 : Int) < (m : Int) by omega)]
        simp [c6]
      · rw [if_neg (show ¬ (6 : Int) < (m : Int) by omega)]
        by_cases c48 : c = 48
        · rw [if_neg (by simp [c48])]
          by_cases cm : 1 < m
          · rw [if_neg (show ¬ (m : Int) ≤ 1 by omega)]
            simp [c6, cm, c48]
          · rw [if_pos (show (m : Int) ≤ 1 by omega)]
            simp [c6, cm]
        · rw [if_pos c48]
          simp [c6, c48]
end LT4
