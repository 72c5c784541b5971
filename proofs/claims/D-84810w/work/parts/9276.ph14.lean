set_option maxRecDepth 100000
/-! PHASE ONE in the twin: all declarations -/
section LPK
variable {S : List Int} {N : List (List Int)} {b m d : Nat} {σ τ : tS} {s s' : PS} {q : PD} {qs : List PD}
theorem mthF_cnt {st : Prop} [Decidable st] : ∀ {js : List Nat} {tn : List (List Int)} {k : Nat}, ((mthF S st tn k js).filter Option.isSome).length ≤ 4 - k
  | [], _, _ => Nat.zero_le _
  | j :: js, tn, k => by
    have i := mthF_cnt (st := st) (js := js) (tn := tn ++ [tokw S j]) (k := k + 1)
    show ((_ :: mthF S st (tn ++ [tokw S j]) (k + 1) js).filter Option.isSome).length ≤ 4 - k
    by_cases c : st ∧ btI (tokw S j) = none ∧ tokw S j ∉ tn ∧ k < 4
    · rw [if_pos c, List.filter_cons_of_pos (by rfl), List.length_cons]
      have := c.2.2.2
      omega
    · rw [if_neg c, List.filter_cons_of_neg (by simp)]
      omega
theorem pss_more (h : qs[d]? = some q) : pss S (qs.take (d + 1)) = pst S (pss S (qs.take d)) q := by
  unfold pss
  rw [List.take_add_one, h, List.foldl_append]
  rfl
theorem pss_grow : ∀ {e : Nat}, d ≤ e → (pss S (qs.take d)).1.length ≤ (pss S (qs.take e)).1.length ∧ (pss S (qs.take d)).2.2.2.2.2 ≤ (pss S (qs.take e)).2.2.2.2.2 ∧ cntS (pss S (qs.take d)).2.1 (pss S (qs.take d)).2.1.length ≤ cntS (pss S (qs.take e)).2.1 (pss S (qs.take e)).2.1.length
  | 0, h => by rw [show d = 0 by omega]; exact ⟨Nat.le_refl _, Nat.le_refl _, Nat.le_refl _⟩
  | e + 1, h => by
    by_cases z : d = e + 1
    · rw [z]; exact ⟨Nat.le_refl _, Nat.le_refl _, Nat.le_refl _⟩
    · have i := pss_grow (e := e) (by omega)
      cases y : qs[e]? with
      | none =>
        have le : qs.length ≤ e := by
          rcases Nat.lt_or_ge e qs.length with u | u
          · rw [List.getElem?_eq_getElem u] at y; cases y
          · exact u
        rw [List.take_of_length_le (Nat.le_succ_of_le le)]
        rw [List.take_of_length_le le] at i
        exact i
      | some q =>
        rw [pss_more y]
        have g := pst_grow (S := S) (s := pss S (qs.take e)) (q := q)
        omega
/-- rows stay -/
theorem rowT_keep {d' : Nat} {q' : PD} (h5 : q'.1 = 5 → s'.1.length < s.1.length) (h6 : q'.1 = 6 → s'.2.2.2.2.2 < s.2.2.2.2.2) (h2 : q'.1 = 2 → nwF S s'.2.2.2.2.1 s'.2.1.length q'.2.1 → cntS s'.2.1 s'.2.1.length < cntS s.2.1 s.2.1.length) (R : rowT S N σ d' q' s') (A : stp S N b m σ s d q τ) : rowT S N τ d' q' s' := by
  obtain ⟨A1, A2, A3, A4, A5, A6, A7, A8⟩ := A
  refine ⟨fun e k => ?_, fun e k => ?_, fun e k => ?_⟩
  · obtain ⟨r1, r2, r3, r4, r5, r6, r7⟩ := R.1 e k
    have lt := h5 e
    refine ⟨by rw [A5 658 (by decide) _ lt]; exact r1, by rw [A5 662 (by decide) _ lt]; exact r2, by rw [A5 666 (by decide) _ lt]; exact r3, by rw [A5 670 (by decide) _ lt]; exact r4, by rw [A5 674 (by decide) _ lt]; exact r5, by rw [A5 678 (by decide) _ lt]; exact r6, fun i L z => ?_⟩
    have il : i < 4 := by
      have c := mthF_cnt (S := S) (st := nwG S s'.2.2.2.1 (q'.2.1 + 1)) (js := q'.2.2.2.2) (tn := s'.2.2.2.2.1) (k := 0)
      rcases Nat.lt_or_ge i ((mthF S (nwG S s'.2.2.2.1 (q'.2.1 + 1)) s'.2.2.2.2.1 0 q'.2.2.2.2).filter Option.isSome).length with u | u
      · omega
      · rw [List.getElem?_eq_none u] at z; cases z
    rw [A6 _ (by omega)]
    exact r7 i L z
  · rw [A7 _ (h6 e)]; exact R.2.1 e k
  · rw [(A8 _ (h2 e k)).1, (A8 _ (h2 e k)).2]; exact R.2.2 e k
end LPK
