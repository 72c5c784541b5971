set_option maxRecDepth 100000
/-! WHAT IS GIVEN IN AN INST, in the component -/
theorem gvc_in {h : om_H} {N : List (List Int)} {cl : Nat → Nat} {U Sl : Nat → Prop} {d : INs} {i a : Nat} (H : InC h N cl U Sl d i a) (h4 : d.2.2.2.1.length ≤ 4) (hc : ∀ c ∈ d.2.2.2.1, c.1 < 100) : GVC h N cl U Sl (fR h 1286 a) (gvI d) := by
  obtain ⟨_, ⟨b1, b2⟩, _, _, ⟨e1, e2, e3⟩, f1, f2⟩ := H
  have lg : (gvI d).length = d.2.2.2.1.length := by unfold gvI; rw [List.length_map]
  refine ⟨⟨b1, b2⟩, ⟨e1, e2, e3⟩, ⟨by rw [f1, lg], by omega⟩, fun k x g q1 q2 => ?_⟩
  obtain ⟨c, ec, eg⟩ : ∃ c, d.2.2.2.1[k]? = some c ∧ g = (c.1, d.2.2.1.getD c.2 0, .leaf) := by
    unfold gvI at q2
    rw [List.getElem?_map] at q2
    cases q : d.2.2.2.1[k]? with
    | none => rw [q] at q2; cases q2
    | some c => rw [q] at q2; exact ⟨c, rfl, (Option.some.inj q2).symm⟩
  obtain ⟨⟨x1, x2, x3⟩, ⟨x4, x5⟩, w, x6, x7⟩ := f2 k x c q1 ec
  rw [eg]
  refine ⟨⟨x1, x2⟩, ?_, .inr ⟨hc c (List.mem_of_getElem? ec), x3, x4, x5⟩⟩
  show wN h N (d.2.2.1.getD c.2 0) (fR h 1342 x)
  rw [List.getD_eq_getElem?_getD, x6]
  exact x7
