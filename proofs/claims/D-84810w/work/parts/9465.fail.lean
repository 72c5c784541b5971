set_option maxRecDepth 100000
/-! A FAULT OF THE PROGRAM IS THROWN -/
section LFL
variable {G : om_G} {h : om_H} {pr : Nat}
theorem c_fail_yes {k p : Int} (kp : kd h pr = 2 ∧ pr < hz h) (e : fI h 112 pr = p) (hp : p < 2147483647) : ∃ h', C_1_fail G pr k h = some (.inl (hz h), h') ∧ flt h' (hz h) k p ∧ hT (fun _ => False) h h' ∧ (hz h' = hz h + 1 ∧ hu h' = hu h + 8) := by
  have k2 : kd (nO h 16 8) (hz h) = 16 := by rw [kd_nO, if_pos rfl]
  have zr : ∀ f, fR (nO h 16 8) f (hz h) = 0 := fun f => by rw [fR_nO, if_pos rfl]
  have nz : hz h ≠ 0 := by omega
  have all : ∀ a, a < hz h → eqA a h (sI (sI (nO h 16 8) 1176 (hz h) k) 1180 (hz h) p) := fun a ha => by
    refine ⟨?_, fun f => ?_, fun f => ?_, ?_, fun i => ?_, fun i => ?_, ?_, ?_⟩
    · show kd (nO h 16 8) a = _
      rw [kd_nO, if_neg (by omega)]
    · rw [fI_na (by omega), fI_na (by omega), fI_nO, if_neg (by omega)]
    · show fR (nO h 16 8) f a = _
      rw [fR_nO, if_neg (by omega)]
    · rfl
    · rfl
    · rfl
    · rfl
    · rfl
  have kp' : kd (nO h 16 8) pr = 2 := by rw [kd_nO, if_neg (by omega)]; exact kp.1
  have e' : fI (nO h 16 8) 112 pr = p := by rw [fI_nO, if_neg (by omega)]; exact e
  refine ⟨sI (sI (nO h 16 8) 1176 (hz h) k) 1180 (hz h) p, ?_, ⟨k2, ?_, ?_, nz⟩, ⟨by show hz h ≤ hz h + 1; omega, by show hu h ≤ hu h + 8; omega, fun a ha => (all a ha).1, fun a ha _ => all a ha⟩, rfl, rfl⟩
  · unfold C_1_fail
    rw [gd_pos kp.1, e, if_neg (by omega), gd_pos ⟨kp', k2⟩, e']
    unfold C_15_init P_J10_init
    rw [gd_pos k2, gd_pos ⟨k2, rfl, rfl, rfl, rfl, zr _, zr _, zr _, zr _⟩, Option.bind_some, gd_pos k2, Option.bind_some, gd_pos nz]
  · rw [fI_ne (by decide), fI_eq]
  · rw [fI_eq]
end LFL
