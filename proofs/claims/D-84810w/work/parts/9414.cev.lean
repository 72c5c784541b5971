set_option maxRecDepth 100000
/-! THE COMPONENT's judge: a new reason -/
section LCE2
variable {G : om_G} {N : List (List Int)} {cl : Nat → Nat} {tb l0 sc : Nat} {rest : List (Nat × List Nat)} {Sl Gx : Nat → Prop} {io : Nat → Nat} {ab : List (Option Nat)} {ins : List INs} {gv : List GVs} {tot : Nat} {h : om_H} {us fs : List Nat} {Dk : Nat → Prop} {ds : List Nat} {dm : Nat}
/-- A REASON IS MADE -/
theorem c_evid (nd : ndN N) (H : HvQ G h N cl tb l0 sc us fs rest Sl Gx io ab ins gv Dk ds dm tot) (d x y : Nat) : ∃ h', C_38_init G (hz h) d x y (nO h 38 3) = some h' ∧ kd (nO h 38 3) (hz h) = 38 ∧ HvQ G h' N cl tb l0 sc us fs rest Sl Gx io ab ins gv Dk ds dm tot ∧ KG N cl tb l0 rest Sl h us fs Dk ds dm h' us fs Dk ds dm 0 1 3 ∧ (hz h' = hz h + 1 ∧ kd h' (hz h) = 38 ∧ fR h' 1658 (hz h) = d ∧ fR h' 1662 (hz h) = x ∧ fR h' 1666 (hz h) = y) ∧ (∀ a, a < hz h → eqA a h h') ∧ (nlN h ds ≤ nlN h' ds ∧ rwS h sc ≤ rwS h' sc) ∧ ∀ T a, tyC h N cl (UU us rest) T a → tyC h' N cl (UU us rest) T a := by
  have k2 : kd (nO h 38 3) (hz h) = 38 := by rw [kd_nO, if_pos rfl]
  have all : ∀ a, a < hz h → eqA a h (sR (sR (sR (nO h 38 3) 1658 (hz h) d) 1662 (hz h) x) 1666 (hz h) y) := fun a ha => by
    refine ⟨?_, fun f => ?_, fun f => ?_, rfl, fun i => rfl, fun i => rfl, rfl, rfl⟩
    · show kd (nO h 38 3) a = _
      rw [kd_nO, if_neg (by omega)]
    · show fI (nO h 38 3) f a = _
      rw [fI_nO, if_neg (by omega)]
    · rw [fR_na (by omega), fR_na (by omega), fR_na (by omega), fR_nO, if_neg (by omega)]
  have X : hT (fun _ => False) h (sR (sR (sR (nO h 38 3) 1658 (hz h) d) 1662 (hz h) x) 1666 (hz h) y) := ⟨by show hz h ≤ hz h + 1; omega, by show hu h ≤ hu h + 3; omega, fun a ha => (all a ha).1, fun a ha _ => all a ha⟩
  obtain ⟨w1, w2, w3, w4, w5, w6⟩ := HvQ_w (z := 1) (u := 3) nd H X (fun _ w => w.elim) (fun _ w => w.elim) ⟨by show hz h + 1 ≤ _; omega, by show hu h + 3 ≤ _; omega⟩
  refine ⟨_, ?_, k2, w1, w2, ⟨rfl, k2, ?_, ?_, fR_eq⟩, all, ⟨w3, w4⟩, w6⟩
  · unfold C_38_init
    rw [gd_pos k2]
  · rw [fR_ne (by decide), fR_ne (by decide), fR_eq]
  · rw [fR_ne (by decide), fR_eq]
end LCE2
