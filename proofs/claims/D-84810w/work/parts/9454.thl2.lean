set_option maxRecDepth 100000
/-! THE THIRD RULE: all insts, in both -/
section LTL2
variable {G : om_G} {A : Nat} {S : List Int} {b m : Nat} {N : List (List Int)} {pr tb z0 : Nat} {cs fo : List Nat} {mo : List (List Nat)} {K : KT} {F : FT} {Ms : List FT} {hr : om_H} {σr : tS} {M : Nat} {qs : List dcl} {ps : List PD} {rs : List (Nat × Nat × Nat × Nat)} {h : om_H} {ul fl : List Nat} {τ : tS} {n : Nat} {Sl : Nat → Prop} {cl : List Cp} {il : List IX}
theorem RA_86 (R : RA G A S b m N pr tb z0 cs fo mo K F Ms hr σr M qs ps rs h ul fl τ n) : (prgL hr qs (fun _ => []) 86).length = (pss S ps).2.2.2.2.2 := (LS_fold R.1.1 R.1.2.1 (Nat.le_refl _) qs ps (fun _ => []) z0 ([], [], [], [], [], 0) R.2.1.2.1 LS_nil).2.2.1.2.2.2
theorem th_loop (R : RA G A S b m N pr tb z0 cs fo mo K F Ms hr σr M qs ps rs h ul fl τ n) (X : AX G A S b m N pr tb z0 cs fo mo K F Ms hr σr M qs ps rs h ul fl τ n Sl cl il) : ∀ (d f : Nat) (h1 : om_H) (σ1 : tS), f + d = il.length → ThS K cs pr cl il h τ f h1 σ1 → ∃ h2 σ2, om_loop (C_1_judgeInstances_9s G pr) ((f : Int), h1) = some h2 ∧ om_loop T_third_2s ((f : Int), σ1) = some σ2 ∧ ThS K cs pr cl il h τ il.length h2 σ2
  | 0, f, h1, σ1, e, T => by
    have ef : f = il.length := by omega
    subst ef
    refine ⟨h1, σ1, om_loop_out ?_, om_loop_out ?_, T⟩
    · have CL := R.2.2.2.1.1.2.2.1
      have iLs := R.1.2.2.2.2.2.2.2.1 86 (by simp)
      obtain ⟨p1, p2, p3, _⟩ := T.1.2 pr CL.1.2
      obtain ⟨l1, l2, l3, l4, l5, l6, l7, l8⟩ := T.1.2 _ iLs.2.1
      have e86 := RA_86 R
      have i1 := X.2.1
      unfold C_1_judgeInstances_9s P_J2_size
      simp only
      rw [p3 86 (nn (by decide)), p1, l1, l7, iLs.2.2, gd_pos ⟨CL.1.1, iLs.1⟩, gd_pos iLs.1, Option.bind_some, if_pos (by omega)]
    · have g648 := R.1.2.2.2.2.2.2.2.2.2.1
      have i1 := X.2.1
      unfold T_third_2s
      simp only
      rw [T.2.2.1.1 648 (by simp), g648, if_pos (by omega)]
  | d + 1, f, h1, σ1, e, T => by
    obtain ⟨h2, σ2, a1, a2, a3⟩ := th_step R X (by omega) T
    obtain ⟨h3, σ3, b1, b2, b3⟩ := th_loop R X d (f + 1) h2 σ2 (by omega) a3
    exact ⟨h3, σ3, by rw [om_loop_in a1]; exact b1, by rw [om_loop_in a2]; exact b2, b3⟩
/-- ALL INSTS: the third rule from the start -/
theorem th_all (R : RA G A S b m N pr tb z0 cs fo mo K F Ms hr σr M qs ps rs h ul fl τ n) (X : AX G A S b m N pr tb z0 cs fo mo K F Ms hr σr M qs ps rs h ul fl τ n Sl cl il) : ∃ h2 σ2, om_loop (C_1_judgeInstances_9s G pr) (0, sI h 112 pr 2147483647) = some h2 ∧ om_loop T_third_2s (0, τ) = some σ2 ∧ ThS K cs pr cl il h τ il.length h2 σ2 := by
  have b0 := R.1.2.2.2.2.2.1
  have T0 : ThS K cs pr cl il h τ 0 (sI h 112 pr 2147483647) τ := by
    have T1 : ∀ {I W : Nat → Prop}, tF pr I W h (sI h 112 pr 2147483647) := fun {I W} => ⟨⟨Nat.le_refl _, Nat.le_refl _⟩, fun y _ => ⟨rfl, fun g hg => by rw [fI_sI, if_neg hg], fun _ _ => rfl, rfl, fun _ => rfl, fun _ _ => rfl, rfl, rfl⟩⟩
    refine ⟨T1, ⟨rfl, Nat.le_refl _, T1⟩, fr_refl _ _ _, ⟨by rw [fI_sI, if_pos ⟨rfl, rfl⟩]; exact b0.symm, .inl b0, .inl (bp_0 b0)⟩, fun c k hc hk => ?_, fun j x y hj => by omega⟩
    obtain ⟨_, _, _, _, z, _⟩ := X.1.2 c _ (List.getElem?_eq_getElem (by rw [X.1.1]; exact hc))
    show aR h _ k = _
    rw [z k]
    rfl
  exact th_loop R X il.length 0 _ τ (by omega) T0
end LTL2
