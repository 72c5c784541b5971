set_option maxRecDepth 100000
/-! PHASE ONE in the twin: the loop -/
section LPL
variable {S : List Int} {N : List (List Int)} {b m : Nat} {qs : List PD}
theorem dTw_keep {σ τ : tS} {d : Nat} {q : PD} (A : fr ZF ZA σ τ) (D : dTw S b m σ d q) : dTw S b m τ d q := by
  obtain ⟨D1, D3, D4, D5⟩ := D
  refine ⟨D1, by rw [A.2 570 (by decide)]; exact D3, by rw [A.2 574 (by decide)]; exact D4, ?_⟩
  rw [A.2 578 (by decide), A.2 582 (by decide), A.2 586 (by decide), A.2 610 (by decide), A.2 602 (by decide)]
  rcases D5 with ⟨h5, n, v, a, f, ns, c1, c2⟩ | h
  · exact .inl ⟨h5, n, v, a, f, ns, chain_keep c1 (fun x _ => A.2 562 (by decide) x), mT_keep (fun x => A.2 542 (by decide) x) c2⟩
  · exact .inr h
/-- ALL DECLARATIONS HAVE COME -/
theorem t_phase1 (nd : ndN N) (hS : S.length ≤ 2000) (hq : qs.length ≤ 700) : ∀ (k d : Nat) (σ : tS), d + k = qs.length → PT1 S N b m σ (pss S (qs.take d)) → (∀ d' q', d' < d → qs[d']? = some q' → rowT S N σ d' q' (pss S (qs.take d'))) → (∀ d' q', qs[d']? = some q' → dTw S b m σ d' q') → gs σ 624 = (qs.length : Int) → ∃ τ, om_loop T_isProgram_159s ((d : Int), σ) = some τ ∧ fr ZF ZA σ τ ∧ PT1 S N b m τ (pss S qs) ∧ bp τ = mnl (bp σ) (psA S (pss S (qs.take d)) (qs.drop d)) ∧ ∀ d' q', qs[d']? = some q' → rowT S N τ d' q' (pss S (qs.take d'))
  | 0, d, σ, hk, P, R, D, g => by
    have e : qs.take d = qs := List.take_of_length_le (by omega)
    refine ⟨σ, om_loop_out ?_, fr_refl _ _ _, by rw [e] at P; exact P, by rw [List.drop_eq_nil_of_le (by omega)]; rfl, fun d' q' h => R d' q' ?_ h⟩
    · unfold T_isProgram_159s
      simp only
      rw [if_pos (by rw [g]; omega)]
    · rcases Nat.lt_or_ge d' d with z | z
      · exact z
      · rw [List.getElem?_eq_none (by omega)] at h; cases h
  | k + 1, d, σ, hk, P, R, D, g => by
    have dl : d < qs.length := by omega
    have hqd : qs[d]? = some qs[d] := List.getElem?_eq_getElem dl
    obtain ⟨τ, t1, A⟩ := t_stand1 nd hS P (D d _ hqd)
    have em := pss_more (S := S) hqd
    have P' := A.2.1
    rw [← em] at P'
    have R' : ∀ d' q', d' < d + 1 → qs[d']? = some q' → rowT S N τ d' q' (pss S (qs.take d')) := by
      intro d' q' hl h
      by_cases z : d' = d
      · have ez : q' = qs[d] := by rw [z, hqd] at h; exact (Option.some.inj h).symm
        rw [z, ez]
        exact A.2.2.2.1
      · have lt : d' < d := by omega
        have gr := pss_grow (S := S) (qs := qs) (d := d' + 1) (e := d) (by omega)
        rw [pss_more h] at gr
        refine rowT_keep (fun e => ?_) (fun e => ?_) (fun e y => ?_) (R d' q' lt h) A
        · have := gr.1
          rw [pst_5 e] at this
          simp only [List.length_append, List.length_cons, List.length_nil] at this
          omega
        · have := gr.2.1
          rw [pst_6 e] at this
          exact this
        · have := gr.2.2
          rw [pst_2 e, if_pos y, List.length_append] at this
          have c := cntS_more (F := (pss S (qs.take d')).2.1) (x := some (tokw S q'.2.1))
          simp only [List.length_cons, List.length_nil, Nat.zero_add] at this
          rw [c] at this
          simp at this
          omega
    obtain ⟨υ, u1, u2, u3, u4, u5⟩ := t_phase1 nd hS hq k (d + 1) τ (by omega) P' R' (fun d' q' h => dTw_keep A.1 (D d' q' h)) (by rw [A.1.1 624 (by decide)]; exact g)
    refine ⟨υ, ?_, fr_trans A.1 u2, u3, ?_, u5⟩
    · have e1 : T_isProgram_159s ((d : Int), σ) = some (.inl (((d + 1 : Nat) : Int), τ)) := by
        unfold T_isProgram_159s
        simp only
        rw [if_neg (by rw [g]; omega), t1]
        simp only [Option.bind_some]
        rw [w32_s (by omega) (by omega)]
        rfl
      rw [om_loop_in e1]; exact u1
    · rw [u4, A.2.2.1, em, ← mnl_app, List.drop_eq_getElem_cons dl]
      rfl
end LPL
