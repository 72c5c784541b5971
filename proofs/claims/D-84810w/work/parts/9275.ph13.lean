set_option maxRecDepth 100000
/-! PHASE ONE in the twin: one declaration -/
section LPJ
variable {S : List Int} {N : List (List Int)} {b m d : Nat} {σ τ : tS} {s : PS} {q : PD}
/-- what one declaration's coming does: s what stood ahead of it -/
def stp (S : List Int) (N : List (List Int)) (b m : Nat) (σ : tS) (s : PS) (d : Nat) (q : PD) (τ : tS) : Prop :=
  fr ZF ZA σ τ ∧ PT1 S N b m τ (pst S s q) ∧ bp τ = mnl (bp σ) (psB S s q) ∧ rowT S N τ d q s ∧ (∀ f ∈ HA, ∀ i, i < s.1.length → ga τ f i = ga σ f i) ∧ (∀ i, i < 4 * s.1.length → ga τ 682 i = ga σ 682 i) ∧ (∀ i, i < s.2.2.2.2.2 → ga τ 690 i = ga σ 690 i) ∧ ∀ i, i < cntS s.2.1 s.2.1.length → ga τ 730 i = ga σ 730 i ∧ ga τ 734 i = ga σ 734 i
theorem psB_5 (h : q.1 = 5) : psB S s q = (if s.1.length < 8 then abB S s.1 q.2.2.1 ++ clbB S s.2.2.2.1 s.2.2.2.2.1 (q.2.1 + 1) q.2.2.2.1 q.2.2.2.2 else [(tokq S q.2.1 : Int)]) := if_pos h
set_option maxHeartbeats 1000000 in
theorem t_stand1 (nd : ndN N) (hS : S.length ≤ 2000) (P : PT1 S N b m σ s) (D : dTw S b m σ d q) : ∃ τ, T_stand (d : Int) σ = some τ ∧ stp S N b m σ s d q τ := by
  obtain ⟨P1, P2, P3, P4, P5, P6, P7, P8, P9⟩ := P
  obtain ⟨⟨D1, D2⟩, D3, D4, D5⟩ := D
  have T' : ∀ {fs as : List Nat} {τ : tS}, fr fs as σ τ → (∀ f ∈ [470, 474, 478, 482], f ∉ as) → TT τ N S b m := fun a h => TT_fr2 a h P1
  rcases D5 with ⟨h5, ⟨n1, n2⟩, ⟨v1, v2⟩, ⟨a1, a2⟩, ⟨f1, f2⟩, ns, c1, c2⟩ | h6 | ⟨h2, n1, n2⟩
  · have e0 : ga σ 570 d = 5 := by rw [D3, h5]; rfl
    by_cases k8 : s.1.length < 8
    · obtain ⟨τ, t1, t2, t3, t4, t5, t6, t7, t8⟩ := t_standC (d := d) (jn := q.2.1 + 1) (jv := q.2.1 + 2) nd hS P2 (by omega) D1 P1 e0 (by rw [P3]; omega) n1 n2 v1 v2 a1 a2 f1 f2 c1 c2 P7 P8 P9
      have g : fr ZF ZA σ τ := fr_wide t2.1 (by decide) (by decide)
      refine ⟨τ, t1, g, ?_, ?_, ⟨fun _ _ => ?_, fun z => absurd h5 (by omega), fun z => absurd h5 (by omega)⟩, fun f hf i hi => t2.2.1 f hf i (by omega), fun i hi => t2.2.2 i (by omega), fun i _ => t2.1.2 690 (by decide) i, fun i _ => ⟨t2.1.2 730 (by decide) i, t2.1.2 734 (by decide) i⟩⟩
      · rw [pst_5 h5]
        simp only [if_pos k8]
        refine ⟨T' g (by decide), by simp [P2], ?_, ?_, ?_, ?_, t6, t7, t4⟩
        · rw [t3, List.length_append]; simp; omega
        · rw [t2.1.1 648 (by decide)]; exact P4
        · rw [t2.1.1 764 (by decide)]; exact P5
        · rw [t2.1.1 652 (by decide)]; exact P6
      · rw [psB_5 h5, if_pos k8]; exact t5
      · rw [P2]; exact t8
    · obtain ⟨τ, t1, t2, t3, t4, t5, t6⟩ := t_standC8 (d := d) (jn := q.2.1 + 1) nd hS D2 D1 P1 e0 D4 (by rw [P3]; omega) n1 n2 f1 f2 c1 c2 P7 P8
      have g : fr ZF ZA σ τ := fr_wide t2 (by decide) (by decide)
      refine ⟨τ, t1, g, ?_, ?_, ⟨fun _ z => absurd z k8, fun z => absurd h5 (by omega), fun z => absurd h5 (by omega)⟩, fun f hf i hi => t2.2 f (fun z => by simp only [List.mem_cons, List.not_mem_nil, or_false] at z hf; omega) i, fun i hi => t2.2 682 (by decide) i, fun i _ => t2.2 690 (by decide) i, fun i _ => ⟨t2.2 730 (by decide) i, t2.2 734 (by decide) i⟩⟩
      · rw [pst_5 h5]
        simp only [if_neg k8]
        refine ⟨T' g (by decide), by simp [P2], ?_, ?_, ?_, ?_, t5, t6, .inr t3⟩
        · rw [t2.1 644 (by decide), P3, List.length_append]; simp; omega
        · rw [t2.1 648 (by decide)]; exact P4
        · rw [t2.1 764 (by decide)]; exact P5
        · rw [t2.1 652 (by decide)]; exact P6
      · rw [psB_5 h5, if_neg k8]; exact t4
  · have e0 : ga σ 570 d = 6 := by rw [D3, h6]; rfl
    obtain ⟨τ, t1, t2, t3, t4, t5, t6, t7⟩ := t_standI hS D2 D1 P1 e0 D4 P4 P9
    have g : fr ZF ZA σ τ := fr_wide t2 (by decide) (by decide)
    refine ⟨τ, t1, g, ?_, ?_, ⟨fun z => absurd h6 (by omega), fun _ z => t7 z, fun z => absurd h6 (by omega)⟩, fun f hf i hi => t2.2 f (fun z => by rw [List.mem_singleton.mp z] at hf; exact absurd hf (by decide)) i, fun i hi => t2.2 682 (by decide) i, fun i hi => t6 i (by omega), fun i _ => ⟨t2.2 730 (by decide) i, t2.2 734 (by decide) i⟩⟩
    · rw [pst_6 h6]
      refine ⟨T' g (by decide), P2, ?_, t4, ?_, ?_, GT_same (fun f hf i => t2.2 f (fun z => by rw [List.mem_singleton.mp z] at hf; exact absurd hf (by decide)) i) P7, XM_same (fun f hf i => t2.2 f (fun z => by rw [List.mem_singleton.mp z] at hf; exact absurd hf (by decide)) i) P8, t3⟩
      · rw [t2.1 644 (by decide)]; exact P3
      · rw [t2.1 764 (by decide)]; exact P5
      · rw [t2.1 652 (by decide)]; exact P6
    · unfold psB
      rw [if_neg (by omega), if_pos h6]; exact t5
  · have e0 : ga σ 570 d = 2 := by rw [D3, h2]; rfl
    obtain ⟨τ, t1, t2, t3, t4, t5, t6, t7, t8, t9⟩ := t_standF nd hS D1 P1 e0 D4 n1 n2 P5 P6 P8 P9
    have g : fr ZF ZA σ τ := fr_wide t2 (by decide) (by decide)
    refine ⟨τ, t1, g, ?_, ?_, ⟨fun z => absurd h2 (by omega), fun z => absurd h2 (by omega), fun _ z => t9 z⟩, fun f hf i hi => t2.2 f (fun z => by simp only [List.mem_cons, List.not_mem_nil, or_false] at z hf; omega) i, fun i hi => t2.2 682 (by decide) i, fun i hi => t2.2 690 (by decide) i, fun i hi => t8 i (by omega)⟩
    · rw [pst_2 h2]
      refine ⟨T' g (by decide), P2, ?_, ?_, ?_, ?_, GT_same (fun f hf i => t2.2 f (fun z => by simp only [List.mem_cons, List.not_mem_nil, or_false] at z hf; omega) i) P7, t7, t3⟩
      · rw [t2.1 644 (by decide)]; exact P3
      · rw [t2.1 648 (by decide)]; exact P4
      · rw [t4, List.length_append]; rfl
      · rw [t5, List.length_append]
        show _ = (cntS (s.2.1 ++ [_]) (s.2.1.length + 1) : Int)
        rw [cntS_more]
        by_cases z : nwF S s.2.2.2.2.1 s.2.1.length q.2.1
        · rw [if_pos z, if_pos z]; rfl
        · rw [if_neg z, if_neg z]; rfl
    · unfold psB
      rw [if_neg (by omega), if_neg (by omega)]; exact t6
end LPJ
