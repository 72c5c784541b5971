set_option maxRecDepth 100000
/-! A STEP WITH DICTIONARIES -/
/-- more dictionaries -/
def dkG (h : om_H) (Dk : Nat → Prop) (ds : List Nat) (dm : Nat) (Dk' : Nat → Prop) (ds' : List Nat) (dm' : Nat) : Prop := (∀ y, Dk y → Dk' y) ∧ (∀ y, Dk' y → Dk y ∨ hz h ≤ y) ∧ dm ≤ dm' ∧ ∃ e, ds' = ds ++ e ∧ ∀ y ∈ e, hz h ≤ y
section LKG
variable {h h1 h2 : om_H} {Dk Dk1 Dk2 : Nat → Prop} {ds ds1 ds2 : List Nat} {dm dm1 dm2 : Nat}
theorem dkG_refl : dkG h Dk ds dm Dk ds dm := ⟨fun _ q => q, fun _ q => .inl q, Nat.le_refl _, [], by rw [List.append_nil], fun _ q => absurd q List.not_mem_nil⟩
theorem dkG_trans (hl : hz h ≤ hz h1) (A : dkG h Dk ds dm Dk1 ds1 dm1) (B : dkG h1 Dk1 ds1 dm1 Dk2 ds2 dm2) : dkG h Dk ds dm Dk2 ds2 dm2 := by
  obtain ⟨a1, a2, a3, e, a4, a5⟩ := A
  obtain ⟨b1, b2, b3, e', b4, b5⟩ := B
  refine ⟨fun y q => b1 y (a1 y q), fun y q => ?_, by omega, e ++ e', by rw [b4, a4, List.append_assoc], fun y q => ?_⟩
  · rcases b2 y q with q | q
    · exact a2 y q
    · exact .inr (by omega)
  · rcases List.mem_append.mp q with q | q
    · exact a5 y q
    · have := b5 y q; omega
/-- what was live is live -/
theorem Dlv_next (A : dkG h Dk ds dm Dk1 ds1 dm1) (E : ∀ a, Dlv h Dk ds dm a → a < hz h ∧ eqA a h h1) {a : Nat} (L : Dlv h Dk ds dm a) : Dlv h1 Dk1 ds1 dm1 a := by
  obtain ⟨a1, a2, a3, e, a4, a5⟩ := A
  obtain ⟨d, d1, d2, d3⟩ := L
  obtain ⟨lt, eq⟩ := E d ⟨d, d1, d2, .inl rfl⟩
  refine ⟨d, a1 d d1, fun m => ?_, ?_⟩
  · rw [a4, List.drop_append] at m
    rcases List.mem_append.mp m with m | m
    · refine d2 ?_
      rw [show dm1 = dm + (dm1 - dm) by omega, ← List.drop_drop] at m
      exact List.mem_of_mem_drop m
    · have := a5 d (List.mem_of_mem_drop m)
      omega
  · rw [eq.2.2.1, eq.2.2.1]
    exact d3
end LKG
