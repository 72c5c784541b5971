set_option maxRecDepth 100000
/-! WHAT IS GIVEN IN A FUNCTION (the twin) -/
section LBF
variable {σ τ : tS} {n f w : Nat} {x : List Nat × List GVs × Ty}
theorem t_gvl (hf : f < 24) (P : FnT σ n f w x) : ∀ (k j : Nat) (σ1 : tS), j + k = x.2.1.length → fr [792] [798, 802, 806] σ σ1 → gs σ1 792 = (x.2.1.length : Int) → (∀ (i : Nat) (g : GVs), i < j → x.2.1[i]? = some g → ga σ1 798 i = (g.1 : Int) ∧ ga σ1 802 i = (g.2.1 : Int) ∧ tyT σ n g.2.2 (ga σ1 806 i)) → ∃ τ, om_loop (T_byFunction_12s (f : Int)) ((j : Int), σ1) = some τ ∧ fr [792] [798, 802, 806] σ τ ∧ gs τ 792 = (x.2.1.length : Int) ∧ (∀ (i : Nat) (g : GVs), x.2.1[i]? = some g → ga τ 798 i = (g.1 : Int) ∧ ga τ 802 i = (g.2.1 : Int) ∧ tyT σ n g.2.2 (ga τ 806 i))
  | 0, j, σ1, e, F, g, H => by
    refine ⟨σ1, om_loop_out ?_, F, g, fun i g' e' => H i g' ?_ e'⟩
    · unfold T_byFunction_12s
      simp only
      rw [g, if_pos (by omega)]
    · have := (List.getElem?_eq_some_iff.mp e').1
      omega
  | k + 1, j, σ1, e, F, g, H => by
    obtain ⟨_, ⟨p1, p2, p3⟩, ⟨p4, p5, p6⟩, _⟩ := id P
    have ej : x.2.1[j]? = some (x.2.1[j]'(by omega)) := List.getElem?_eq_getElem (by omega)
    generalize x.2.1[j]'(by omega) = c at ej
    obtain ⟨c1, c2, ⟨k', c3, c4⟩, c5⟩ := p6 j c ej
    obtain ⟨w', x1, x2⟩ := ixF_some c4
    have ew : w' = c.2.1 := by simpa using x2
    rw [ew] at x1
    have kl := ixF_lt c4
    have e42 := p3 k' c.2.1 x1
    have w1 : w32 (4 * (f : Int)) = ((4 * f : Nat) : Int) := by rw [w32_s (by omega) (by omega)]; omega
    have w2 : w32 (((4 * f : Nat) : Int) + (j : Int)) = ((4 * f + j : Nat) : Int) := by rw [w32_s (by omega) (by omega)]; omega
    have w4 : w32 (((4 * f : Nat) : Int) + (k' : Int)) = ((4 * f + k' : Nat) : Int) := by rw [w32_s (by omega) (by omega)]; omega
    have n1 : (((4 * f + j : Nat) : Int)).toNat = 4 * f + j := by omega
    have n2 : (((4 * f + k' : Nat) : Int)).toNat = 4 * f + k' := by omega
    have jN : ((j : Int)).toNat = j := by omega
    have st : T_byFunction_12s (f : Int) ((j : Int), σ1) = some (.inl (((j + 1 : Nat) : Int), ua (ua (ua σ1 798 j (c.1 : Int)) 802 j (c.2.1 : Int)) 806 j (ga σ 758 (4 * f + j)))) := by
      unfold T_byFunction_12s
      simp only
      rw [g, if_neg (by omega), w1, w2, n1, F.2 754 (by simp), c3, w4, if_pos (by omega), n2, jN, F.2 750 (by simp), c1, F.2 742 (by simp), e42, F.2 758 (by simp), w32_s (by omega) (by omega)]
      rfl
    obtain ⟨τ, r1, r2, r3, r4⟩ := t_gvl hf P k (j + 1) (ua (ua (ua σ1 798 j (c.1 : Int)) 802 j (c.2.1 : Int)) 806 j (ga σ 758 (4 * f + j))) (by omega) (fr_ua (fr_ua (fr_ua F (by simp)) (by simp)) (by simp)) g (fun i g' hi e' => by
      by_cases z : i = j
      · subst z
        rw [ej] at e'
        rw [← Option.some.inj e']
        refine ⟨?_, ?_, ?_⟩
        · rw [ga_ua, if_neg (by simp), ga_ua, if_neg (by simp), ga_ua, if_pos ⟨rfl, rfl⟩]
        · rw [ga_ua, if_neg (by simp), ga_ua, if_pos ⟨rfl, rfl⟩]
        · rw [ga_ua, if_pos ⟨rfl, rfl⟩]; exact c5
      · obtain ⟨a1, a2, a3⟩ := H i g' (by omega) e'
        refine ⟨?_, ?_, ?_⟩
        · rw [ga_ua, if_neg (fun w => z w.2), ga_ua, if_neg (fun w => z w.2), ga_ua, if_neg (fun w => z w.2)]; exact a1
        · rw [ga_ua, if_neg (fun w => z w.2), ga_ua, if_neg (fun w => z w.2), ga_ua, if_neg (fun w => z w.2)]; exact a2
        · rw [ga_ua, if_neg (fun w => z w.2), ga_ua, if_neg (fun w => z w.2), ga_ua, if_neg (fun w => z w.2)]; exact a3)
    exact ⟨τ, by rw [om_loop_in st]; exact r1, r2, r3, r4⟩
/-- WHAT IS GIVEN IN A FUNCTION, in the twin -/
theorem t_byF (hf : f < 24) (P : FnT σ n f w x) : ∃ τ, T_byFunction (f : Int) σ = some τ ∧ fr [792] [798, 802, 806] σ τ ∧ GVT τ n x.2.1 := by
  obtain ⟨_, _, ⟨p4, p5, p6⟩, _⟩ := id P
  have fN : ((f : Int)).toNat = f := by omega
  obtain ⟨τ, c1, c2, c3, c4⟩ := t_gvl (σ := σ) hf P x.2.1.length 0 (us σ 792 (ga σ 746 f)) (by omega) (fr_us (fr_refl _ _ _) (by simp)) (by rw [gs_us, if_pos rfl]; exact p4) (fun i g hi => by omega)
  rw [show ((0 : Nat) : Int) = 0 from rfl] at c1
  have X : tx σ n τ n := tx_same (fun g hg i => c2.2 g ((by decide : ∀ g ∈ TYA, g ∉ [798, 802, 806]) g hg) i)
  refine ⟨τ, ?_, c2, c3, p5, fun i g e => ?_⟩
  · unfold T_byFunction
    rw [if_pos (by omega), fN, c1, Option.bind_some]
  · obtain ⟨u1, u2, u3⟩ := c4 i g e
    exact ⟨u1, u2, tyT_mono X u3, (p6 i g e).2.1⟩
end LBF
