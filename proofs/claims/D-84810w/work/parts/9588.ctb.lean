set_option maxRecDepth 100000
/-! FEW @s IN A PROGRAM; what reading and resolve leave as it was -/
theorem q_prog (σ : tS) : QO 0 σ (TP σ) id := by
  have c122 : ∀ x, QO 0 x (T_isProgram_122 x) (Sum.elim id id) := fun x => by
    unfold T_isProgram_122
    exact QO_b (q_decl x) (fun p => QO_some Qv_refl)
  have c90 : ∀ x : tS, QO 0 (id x) (T_isProgram_90s x) (Sum.elim id id) := fun x => by
    unfold T_isProgram_90s
    exact QO_i (fun _ => QO_some Qv_refl) (fun _ => QO_l (fun p1 _ => QO_i (fun _ => c122 x) (fun _ => QO_l (fun p2 _ => QO_i (fun _ => c122 x) (fun _ => QO_l (fun p3 _ => QO_i (fun _ => QO_some Qv_refl) (fun _ => c122 x)))))))
  unfold TP
  refine QO_b (QO_lp (st := id) (sb := id) c90) (fun y => ?_)
  unfold TPe
  exact QO_i (fun _ => QO_some Qv_refl) (fun _ => QO_l (fun p1 _ => QO_i (fun _ => QO_some Qv_refl) (fun _ => QO_b QO_wr (fun p2 => QO_some Qv_refl))))
theorem ct_433 {σ0 σr τ : tS} {b j M : Nat} (e : TP σ0 = some σr) (e564 : gs σ0 564 = 0) (e432 : gs σ0 432 = (b : Int)) (f0 : gs σr 452 = 0) (r432 : gs σr 432 = ((b + j : Nat) : Int)) (r564 : gs σr 564 = (M : Int)) (hj : j ≤ 1300) (pa : ∀ g ∈ PA, g ≠ 550 → ∀ i, ga τ g i = ga σr g i) : ctP τ M ≤ 433 := by
  have q : Qv 0 σ0 σr := q_prog σ0 σr e
  obtain ⟨_, q2⟩ := q (by rw [e564]; decide)
  obtain ⟨_, q3⟩ := q2 f0
  have c0 : ctS σ0 = 0 := by unfold ctS; rw [e564]; rfl
  have cr : ctS σr = ctP σr M := by unfold ctS; rw [show (gs σr 564).toNat = M by rw [r564]; omega]
  have eq : ∀ k, ctP τ k = ctP σr k := fun k => by
    induction k with
    | zero => rfl
    | succ k ih =>
      unfold ctP
      rw [ih, pa 538 (by decide) (by decide), pa 546 (by decide) (by decide)]
  rw [eq]
  rw [cr, c0, e432] at q3
  have q3' : 3 * (ctP σr M : Int) + (b : Int) + 0 ≤ 3 * ((0 : Nat) : Int) + ((b + j : Nat) : Int) := by rw [← r432]; exact q3
  omega
section LPK
variable {G : om_G} {h h' : om_H} {tb : Nat} {Sl Sl' Dk : Nat → Prop} {ds : List Nat} {dm : Nat}
/-- the pool of dictionaries stays when none of its things is written; more lists stand -/
theorem PoolC_keep (P : PoolC G h tb Sl Dk ds dm) (hz' : hz h ≤ hz h') (kk : ∀ a, a < hz h → kd h' a = kd h a) (ht : tb < hz h) (eT : fI h' 140 tb = fI h 140 tb ∧ fR h' 138 tb = fR h 138 tb ∧ fR h' 122 tb = fR h 122 tb) (eq : ∀ a, a < hz h → (kd h a = 36 ∨ (kd h a = 42 ∧ ¬ Sl a ∧ a ≠ fR h 122 tb)) → eqA a h h') (hS : ∀ a, a < hz h → Sl' a → Sl a ∨ a = fR h 122 tb) (hn : ¬ Sl' (fR h 138 tb)) : PoolC G h' tb Sl' Dk ds dm := by
  obtain ⟨⟨o1, o2, o3⟩, p2, ⟨p3, p4, p5⟩, p6, p7, p8, p9⟩ := P
  have e138 := eq _ o1.1 (.inr ⟨o1.2.1, o2, o3⟩)
  have ed : ∀ d, Dk d → eqA d h h' := fun d hd => eq d (p8 d hd).1.2.1 (.inl (p8 d hd).1.2.2)
  have eL : ∀ L cap, lsD h tb Sl L cap → lsD h' tb Sl' L cap := fun L cap w => by
    obtain ⟨⟨w1, w2⟩, ⟨w3, w4⟩, w5, w6, w7⟩ := w
    have e := eq L w1 (.inr ⟨w2, w5, w7⟩)
    refine ⟨⟨by omega, by rw [e.1]; exact w2⟩, ⟨by rw [e.2.2.2.2.2.2.2]; exact w3, by rw [e.2.2.2.2.2.2.1]; exact w4⟩, fun z => ?_, by rw [eT.2.1]; exact w6, by rw [eT.2.2]; exact w7⟩
    rcases hS L w1 z with v | v
    · exact w5 v
    · exact w7 v
  refine ⟨⟨?_, by rw [eT.2.1]; exact hn, by rw [eT.2.1, eT.2.2]; exact o3⟩, by rw [eT.2.1, e138.2.2.2.2.2.2.1]; exact p2, ⟨by rw [eT.1]; exact p3, p4, p5⟩, p6, p7, fun d hd => ?_, fun d d' f f' hd hd' w w' z e => ?_⟩
  · rw [eT.2.1]
    refine ⟨by have := o1.1; omega, by rw [e138.1]; exact o1.2.1, by rw [e138.2.2.2.2.2.2.1, e138.2.2.2.2.2.2.2]; exact o1.2.2.1, by rw [e138.2.2.2.2.2.2.1, e138.2.2.2.2.2.2.2]; exact o1.2.2.2.1, fun y hy => ?_⟩
    rw [e138.2.2.2.2.2.2.1] at hy
    exact objY_mono hz' kk (o1.2.2.2.2 y hy)
  · obtain ⟨⟨a1, a2, a3⟩, b1, b2⟩ := p8 d hd
    have e := ed d hd
    refine ⟨⟨a1, by omega, by rw [e.1]; exact a3⟩, ?_, ?_⟩
    · rw [e.2.2.1]
      exact b1.elim .inl (fun w => .inr (eL _ _ w))
    · rw [e.2.2.1]
      exact b2.elim .inl (fun w => .inr (eL _ _ w))
  · rw [(ed d hd).2.2.1] at z e
    rw [(ed d' hd').2.2.1] at e
    exact p9 d d' f f' hd hd' w w' z e
end LPK
