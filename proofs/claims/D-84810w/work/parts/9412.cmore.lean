set_option maxRecDepth 100000
/-! MORE LISTS THAT STAND -/
section LCS
variable {G : om_G} {N : List (List Int)} {cl : Nat → Nat} {tb l0 sc : Nat} {rest : List (Nat × List Nat)} {Sl Sl' Gx U : Nat → Prop} {io : Nat → Nat} {ab : List (Option Nat)} {ins : List INs} {gv : List GVs} {tot : Nat} {h : om_H} {us fs : List Nat} {Dk : Nat → Prop} {ds : List Nat} {dm : Nat}
theorem InC_more (m : ∀ a, Sl a → Sl' a) {d : INs} {i a : Nat} (H : InC h N cl U Sl d i a) : InC h N cl U Sl' d i a := by
  obtain ⟨h1, h2, ⟨h3, h4⟩, h5, ⟨h6, h7⟩, h8, h9⟩ := H
  exact ⟨h1, h2, ⟨m _ h3, h4⟩, h5, ⟨m _ h6, h7⟩, h8, h9⟩
theorem PGC_more (m : ∀ a, Sl a → Sl' a) (H : PGC h N cl U Sl io ab ins) : PGC h N cl U Sl' io ab ins := by
  obtain ⟨h1, h2, h3⟩ := H
  exact ⟨h1, h2, fun i d e => ⟨(h3 i d e).1, InC_more m (h3 i d e).2⟩⟩
theorem GVC_more (m : ∀ a, Sl a → Sl' a) (H : GVC h N cl U Sl sc gv) : GVC h N cl U Sl' sc gv := by
  obtain ⟨h1, ⟨h2, h2'⟩, h3, h4⟩ := H
  exact ⟨h1, ⟨m _ h2, h2'⟩, h3, h4⟩
/-- one more list stands -/
theorem HvQ_more (H : HvQ G h N cl tb l0 sc us fs rest Sl Gx io ab ins gv Dk ds dm tot) {Lx : Nat} (hL : Lx < hz h ∧ kd h Lx = 42) (n1 : Lx ≠ fR h 122 tb) (n2 : Lx ≠ fR h 138 tb) (n3 : ∀ d, Dk d → Lx ≠ fR h 1630 d ∧ Lx ≠ fR h 1634 d) : HvQ G h N cl tb l0 sc us fs rest (fun a => Sl a ∨ a = Lx) Gx io ab ins gv Dk ds dm tot := by
  obtain ⟨⟨T, f, ⟨g1, g2, g3, hcl⟩, PG, V, k⟩, ⟨⟨p1, p2, p3⟩, p4, p5, p8, p9, p10, p11⟩, R, Hg⟩ := H
  have m : ∀ a, Sl a → (Sl a ∨ a = Lx) := fun a w => .inl w
  have ls : ∀ {M cap : Nat}, M ≠ Lx → lsD h tb Sl M cap → lsD h tb (fun a => Sl a ∨ a = Lx) M cap := fun {M cap} nM w => ⟨w.1, w.2.1, fun v => v.elim w.2.2.1 nM, w.2.2.2⟩
  refine ⟨⟨T, f, ⟨g1, fun w => w.elim g2 (fun e => n1 e.symm), fun a ha => ?_, hcl⟩, PGC_more m PG, GVC_more m V, k⟩, ⟨⟨p1, fun w => w.elim p2 (fun e => n2 e.symm), p3⟩, p4, p5, p8, p9, fun d hd => ⟨(p10 d hd).1, (p10 d hd).2.1.imp id (ls (fun e => (n3 d hd).1 e.symm)), (p10 d hd).2.2.imp id (ls (fun e => (n3 d hd).2 e.symm))⟩, p11⟩, R, Hg⟩
  rcases ha with w | w
  · exact g3 a w
  · rw [w]; exact hL
theorem PoolC_less (m : ∀ a, Sl a → Sl' a) (P : PoolC G h tb Sl' Dk ds dm) : PoolC G h tb Sl Dk ds dm := by
  obtain ⟨⟨p1, p2, p3⟩, p4, p5, p8, p9, p10, p11⟩ := P
  have ls : ∀ {M cap : Nat}, lsD h tb Sl' M cap → lsD h tb Sl M cap := fun {M cap} w => ⟨w.1, w.2.1, fun v => w.2.2.1 (m _ v), w.2.2.2⟩
  exact ⟨⟨p1, fun w => p2 (m _ w), p3⟩, p4, p5, p8, p9, fun d hd => ⟨(p10 d hd).1, (p10 d hd).2.1.imp id ls, (p10 d hd).2.2.imp id ls⟩, p11⟩
theorem hS_less {h' : om_H} (m : ∀ a, Sl a → Sl' a) (X : hS Sl' h h') : hS Sl h h' := ⟨X.1, X.2.1, X.2.2.1, X.2.2.2.1, fun a ha w => X.2.2.2.2 a ha (m a w)⟩
/-- a step with more lists that stand is one with fewer -/
theorem KH_less {h' : om_H} {us' fs' : List Nat} {Dk' : Nat → Prop} {ds' : List Nat} {dm' q z u : Nat} (m : ∀ a, Sl a → Sl' a) (K : KH N cl tb l0 sc rest Sl' Gx h us fs Dk ds dm h' us' fs' Dk' ds' dm' q z u) : KH N cl tb l0 sc rest Sl Gx h us fs Dk ds dm h' us' fs' Dk' ds' dm' q z u := by
  obtain ⟨⟨z1, u1, ⟨k1, k2⟩, k3, k4⟩, k5, k6⟩ := K
  exact ⟨⟨z1, u1, ⟨hS_less m k1, k2⟩, k3, k4⟩, ⟨k5.1, fun a ha w => k5.2 a ha (w.imp id (m a))⟩, k6⟩
end LCS
