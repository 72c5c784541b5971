set_option maxRecDepth 100000
/-! CLASSES AND INSTS IN THE COMPONENT behind the third rule -/
section LPG
variable {G : om_G} {A : Nat} {S : List Int} {b m : Nat} {N : List (List Int)} {pr tb z0 : Nat} {cs fo : List Nat} {mo : List (List Nat)} {K : KT} {F : FT} {Ms : List FT} {hr : om_H} {σr : tS} {M : Nat} {qs : List dcl} {ps : List PD} {rs : List (Nat × Nat × Nat × Nat)} {h h3 : om_H} {ul fl : List Nat} {τ : tS} {n : Nat} {Sl : Nat → Prop} {cl : List Cp} {il : List IX}
theorem pgc_of (R : RA G A S b m N pr tb z0 cs fo mo K F Ms hr σr M qs ps rs h ul fl τ n) (X : AX G A S b m N pr tb z0 cs fo mo K F Ms hr σr M qs ps rs h ul fl τ n Sl cl il) (O : TOk cl il) (T : tF pr (fun y => kd h y = 21) (fun y => kd h y = 58) h h3) (ar : ∀ c k, c < K.length → k < 4 → aR h3 (fR h 1238 (clF cs c)) k = (iOf (inS il) c k).elim 0 (ioF il)) : PGC h3 N (clF cs) (UU ul []) Sl (ioF il) (abS cl) (inS il) := by
  have X3 : hSg False Sl h h3 := tF_hS T (fun y z => by have z' : kd h y = 21 := z; omega) (fun y z => by have z' : kd h y = 58 := z; omega)
  have ty := RA_ty R T (fun _ z => z) (fun _ z => z)
  obtain ⟨_, o2, o3, _⟩ := ok_ins R X O
  have CL := R.2.2.2.1.1.2.2.1
  have zz := T.1.1
  refine ⟨fun c hc => ?_, o2, fun i d e => ?_⟩
  · have cK : c < K.length := by
      refine Classical.byContradiction (fun w => hc.1 ?_)
      unfold clF
      rw [List.getD_eq_getElem?_getD, List.getElem?_eq_none (by have := CL.2.2.1; omega)]
      rfl
    have ey : cl[c]? = some (cl[c]'(by rw [X.1.1]; exact cK)) := List.getElem?_eq_getElem _
    generalize cl[c]'(by rw [X.1.1]; exact cK) = y at ey
    obtain ⟨cT, cC, _⟩ := X.1.2 c y ey
    obtain ⟨q1, _, _, q4, _, _, ⟨q10a, q10b, q10c⟩, _⟩ := cC
    obtain ⟨u1, u2, u3, u4, _⟩ := T.2 _ q1.2.1
    obtain ⟨v1, v2, v3, v4, _⟩ := T.2 _ q10a
    have e38 : fR h3 1238 (clF cs c) = fR h 1238 (clF cs c) := u3 1238 (nn (by decide))
    refine ⟨⟨y.2.2.1, by unfold abS; rw [List.getElem?_map, ey]; rfl, by rw [u3 1226 (nn (by decide))]; exact q4, fun a ha => ?_⟩, ?_, fun k hk => ?_⟩
    · have ac := cT.2.2.1.2 a ha
      exact ⟨ac, clO_hS X3 (RA_clO R (by omega))⟩
    · rw [e38]
      exact ⟨by omega, by rw [v1]; exact q10b, by rw [v4]; exact q10c⟩
    · rw [e38]
      exact ar c k cK hk
  · obtain ⟨x, ex, exd⟩ := inS_get e
    obtain ⟨_, _, _, Tw, Ic, _⟩ := X.2.2 i x ex
    have eio : ioF il i = x.2.1.2.1 := by unfold ioF; rw [ex]; rfl
    rw [exd] at Tw Ic
    rw [eio]
    exact ⟨Tw.2.2.1.2.1, InC_hS X3 ty Ic⟩
end LPG
