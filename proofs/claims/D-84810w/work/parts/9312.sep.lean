set_option maxRecDepth 100000
/-! NAMES in a row stand apart -/
theorem tk_2 {c : Int} {r : List Int} (h : (tk (c :: r)).1 = 2) : (cSm c || cGr c) = true := by
  refine Decidable.byContradiction (fun z => ?_)
  have z' : (cSm c || cGr c) = false := by simpa using z
  have z2 : cSm c = false ∧ cGr c = false := by simpa using z'
  by_cases d : cDg c = true
  · rw [tk_dg z d] at h
    have h : (if 6 < ((c :: r).takeWhile cDg).length || (1 < ((c :: r).takeWhile cDg).length && c == 48) then (1 : Int) else 4) = 2 := h
    split at h
    · exact absurd h (by decide)
    · exact absurd h (by decide)
  · have d' : cDg c = false := by simpa using d
    rw [tk_sg ⟨z2.1, z2.2, d'⟩] at h
    split at h
    · exact absurd h (by decide)
    · split at h
      · exact absurd h (by decide)
      · split at h
        · rename_i s
          rw [h] at s
          exact absurd s (by decide)
        · exact absurd h (by decide)
theorem tk_al2 {c : Int} {r : List Int} (cl : (cSm c || cGr c) = true) : (tk (c :: r)).2 = ((c :: r).takeWhile cAl).length := by
  rw [tk_al cl]
theorem name_sep {S : List Int} {j : Nat} (h1 : tokk S j = 2) (h2 : tokk S (j + 1) = 2) : tokq S j + tokn S j < tokq S (j + 1) := by
  have st := tokq_step S j
  refine Nat.lt_of_le_of_ne st (fun e => ?_)
  have e1 : tokp (S.map u8) (j + 1) = tokq S j + tokn S j := rfl
  have eq2 : tokq S (j + 1) = tq (S.map u8) (tokp (S.map u8) (j + 1)) := rfl
  have k1 : (tk ((S.map u8).drop (tokq S j))).1 = 2 := h1
  have n1 : tokn S j = (tk ((S.map u8).drop (tokq S j))).2 := rfl
  have k2 : (tk ((S.map u8).drop (tokq S (j + 1)))).1 = 2 := h2
  rw [← e] at k2
  cases L1 : (S.map u8).drop (tokq S j) with
  | nil => rw [L1] at k1; exact absurd k1 (by decide)
  | cons c r =>
    rw [L1] at k1 n1
    have c1 := tk_2 k1
    rw [tk_al2 c1] at n1
    have d2 : (S.map u8).drop (tokq S j + tokn S j) = (c :: r).drop ((c :: r).takeWhile cAl).length := by rw [← List.drop_drop, L1, n1]
    rw [d2] at k2
    cases L2 : (c :: r).drop ((c :: r).takeWhile cAl).length with
    | nil => rw [L2] at k2; exact absurd k2 (by decide)
    | cons c' r' =>
      rw [L2] at k2
      have c2 := tk_2 k2
      have al : cAl c' = true := by unfold cAl; rw [c2]; rfl
      have tw : ∀ (M : List Int) (x : Int) (t : List Int), M.drop (M.takeWhile cAl).length = x :: t → cAl x = false := by
        intro M
        induction M with
        | nil => intro x t e; cases e
        | cons y M ih =>
          intro x t e
          by_cases p : cAl y = true
          · rw [List.takeWhile_cons_of_pos p, List.length_cons, List.drop_succ_cons] at e
            exact ih x t e
          · rw [List.takeWhile_cons_of_neg p] at e
            have e' : y = x := (List.cons.inj e).1
            rw [← e']
            simpa using p
      rw [tw _ _ _ L2] at al
      cases al
theorem names_len {S : List Int} {j : Nat} : ∀ {len : Nat}, (∀ i, i < len → tokk S (j + i) = 2) → len ≠ 0 → tokq S j + 2 * (len - 1) ≤ tokq S (j + (len - 1))
  | 0, _, h => absurd rfl h
  | 1, _, _ => by simp
  | len + 2, tk, _ => by
    have ih := names_len (len := len + 1) (fun i hi => tk i (by omega)) (by omega)
    have a := name_sep (S := S) (j := j + len) (tk len (by omega)) (by have := tk (len + 1) (by omega); rwa [← Nat.add_assoc] at this)
    have b := tokn_pos (S := S) (j := j + len) (by rw [tk len (by omega)]; decide)
    rw [show len + 1 - 1 = len by omega] at ih
    rw [show len + 2 - 1 = len + 1 by omega, ← Nat.add_assoc]
    omega
theorem names_1000 {S : List Int} {j len : Nat} (hS : S.length ≤ 2000) (tk : ∀ i, i < len → tokk S (j + i) = 2) : len < 1099 := by
  by_cases c : len = 0
  · omega
  · have := names_len tk c
    have := tok_le S (j + (len - 1))
    omega
