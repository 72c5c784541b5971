set_option maxRecDepth 100000
/-! JOBS, out of what resolve left -/
theorem lnB_mIx {ms : List (Nat × Ty)} : ∀ {ls : List (Nat × Nat)} {k : Nat} {acc : List (Nat × Nat)}, lnB ms k acc ls = [] → ∀ l ∈ ls, ∃ m, mIx ms l.1 = some m
  | [], _, _, _, l, hl => absurd hl List.not_mem_nil
  | l0 :: ls, k, acc, e, l, hl => by
    unfold lnB at e
    obtain ⟨e1, e2⟩ := List.append_eq_nil_iff.mp e
    rcases List.mem_cons.mp hl with w | w
    · rw [w]
      cases g : lnG ms acc l0.1 with
      | none => rw [g] at e1; cases e1
      | some m =>
        unfold lnG at g
        cases q : mIx ms l0.1 with
        | none => rw [q] at g; cases g
        | some m' => exact ⟨m', rfl⟩
    · exact lnB_mIx e2 l w
section LJB
variable {G : om_G} {A : Nat} {S : List Int} {b m : Nat} {N : List (List Int)} {pr tb z0 : Nat} {cs fo : List Nat} {mo : List (List Nat)} {K : KT} {F : FT} {Ms : List FT} {hr : om_H} {σr : tS} {M : Nat} {qs : List dcl} {ps : List PD} {rs : List (Nat × Nat × Nat × Nat)} {h : om_H} {ul fl : List Nat} {τ : tS} {n : Nat} {Sl Sl0 : Nat → Prop} {cl : List Cp} {il : List IX} {fl' : List FX} {H0 : Nat}
/-- a method's number by its name -/
theorem ms_642 (R : RA G A S b m N pr tb z0 cs fo mo K F Ms hr σr M qs ps rs h ul fl τ n) (X : AX G A S b m N pr tb z0 cs fo mo K F Ms hr σr M qs ps rs h ul fl τ n Sl0 cl il) {c k : Nat} {x : Cp} {y : Nat × Ty} (ex : cl[c]? = some x) (ey : x.2.2.2.2[k]? = some y) : ga τ 642 y.1 = ((4 * c + k : Nat) : Int) ∧ k < 4 := by
  obtain ⟨cT, C, _, _, _, nmL⟩ := X.1.2 c x ex
  obtain ⟨⟨L, eL⟩, _⟩ := nmL y (List.mem_of_getElem? ey)
  have cl' := (List.getElem?_eq_some_iff.mp ex).1
  have HF := R.2.2.2.1.2.1
  have CL := R.2.2.2.1.1.2.2.1
  have lK : cs.length = K.length := CL.2.2.1
  have lX := X.1.1
  have lM := HF.2.2.1
  have lm := HF.2.1
  have ec : cs[c]? = some (cs[c]'(by omega)) := List.getElem?_eq_getElem (by omega)
  have em : mo[c]? = some (mo[c]'(by omega)) := List.getElem?_eq_getElem (by omega)
  have eM : Ms[c]? = some (Ms[c]'(by omega)) := List.getElem?_eq_getElem (by omega)
  have SL := HF.2.2.2 c _ _ _ ec em eM
  generalize Ms[c]'(by omega) = Fm at eM SL
  generalize mo[c]'(by omega) = ms at em SL
  have ecl : clF cs c = cs[c]'(by omega) := by unfold clF; rw [List.getD_eq_getElem?_getD, ec]; rfl
  obtain ⟨m1, m2, m3, _⟩ := C.2.2.2.2.2.2.2 k y ey
  rw [ecl, SL.2.2.1] at m1
  have kl := (List.getElem?_eq_some_iff.mp m1).1
  have eF : Fm[k]? = some (Fm[k]'(by have := SL.2.2.2.1; omega)) := List.getElem?_eq_getElem _
  generalize Fm[k]'(by have := SL.2.2.2.1; omega) = o at eF
  have so := RA_Ms R eM o (List.mem_of_getElem? eF)
  have cw := (SL.2.2.2.2.2 k _ o m1 eF).2
  cases o with
  | none => cases so
  | some L' =>
    obtain ⟨_, L2, l1, l2⟩ := m3
    have e1 : L2 = L := Option.some.inj (l1.symm.trans eL)
    have e2 : L' = L2 := wb_fun cw.2.2.2 l2
    rw [e2, e1] at eF
    have mi := RA_mi R eM eF
    have all := RA_Ms R eM
    have k4 : k < 4 := by
      have := cT.2.2.2.2.1.2
      have := (List.getElem?_eq_some_iff.mp ey).1
      omega
    have TMm := R.2.2.2.2.2.1.2.2.1 y.1 L eL
    rcases TMm.2 with w | ⟨_, w⟩ | ⟨_, w⟩ | ⟨p, q, w1, w2, _, _, _, w3⟩
    · rw [mi] at w; cases w.2.2.2
    · rw [mi] at w; cases w.2.2.2.2
    · rw [mi] at w; cases w.2.2.2.2
    · rw [mi] at w3
      injection Option.some.inj w3 with v1 v2
      rw [← v1, ← v2] at w2
      have eg : Ms.getD c [] = Fm := by rw [List.getD_eq_getElem?_getD, eM]; rfl
      rw [eg, cntS_id all (Nat.le_of_lt (List.getElem?_eq_some_iff.mp eF).1)] at w2
      exact ⟨w2, k4⟩
set_option maxHeartbeats 1000000 in
/-- a function's job -/
theorem fj_at (hI : intO G) (R : RA G A S b m N pr tb z0 cs fo mo K F Ms hr σr M qs ps rs h ul fl τ n) (X : AX G A S b m N pr tb z0 cs fo mo K F Ms hr σr M qs ps rs h ul fl τ n Sl0 cl il) (Xf : FXs G A S b m N pr tb z0 cs fo mo K F Ms hr σr M qs ps rs h ul fl τ n Sl0 fl') (O : TOk cl il) (Og : ∀ (f : Nat) (x : FX), fl'[f]? = some x → gvOk x.2.2.2.2.2.1.2.1) (hSl : ∀ y, z0 ≤ y → y < hz h → kd h y = 42 → ll h y ≠ [] → Sl0 y) (hH : hz hr ≤ H0) {f : Nat} {x : FX} (e : fl'[f]? = some x) : ∃ j : JB, j.1 = 2 ∧ j.2.1 = tokq S x.2.2.1.2.1 ∧ j.2.2.1 = (x.2.2.2.1.2.2.1, x.2.2.2.1.2.2.2) ∧ FjC G N (clF cs) [] (ssA h il fl') (clF fo) (moF mo) (fnS fl', mtS cl, abS cl, inS il, j.2.2.2.1.1) H0 Sl0 h ul j f ∧ FjT τ n (fnS fl', mtS cl, abS cl, inS il, j.2.2.2.1.1) j x.1 f ∧ (∀ y ∈ j.2.2.2.2.2.2, x.2.2.2.1.1 ≤ y.2.2.2.1 ∧ y.2.2.2.2.1 ≤ x.2.2.2.1.2.1) ∧ (xnN j.2.2.2.1.2.2.1 ≤ 2 * (x.2.2.2.1.2.1 - x.2.2.2.1.1) ∧ xU j.2.2.2.1.2.2.1 + ctP τ x.2.2.2.1.1 ≤ ctP τ x.2.2.2.1.2.1) := by
  have I := (Xf.2 f x e).2
  have f24 := (Xf.2 f x e).1
  obtain ⟨i1, i2, i3, i4, i5, i6⟩ := I.1
  have FT' := I.2.1
  have C := I.2.2.1
  have c730 := I.2.2.2.2.1
  have ext := I.2.2.2.2.2.1
  have XX := I.2.2.2.2.2.2
  have hzz := R.2.2.2.2.1.2.1
  have M27 := R.1.2.2.2.1
  obtain ⟨ok1, gf, gl⟩ := env_fn R X Xf O e
  obtain ⟨jo, jo2⟩ := env_ok R X Xf O gf (Og f x e).1
  obtain ⟨t, XT, XC, xk, ⟨s1, s2⟩, ⟨s3, s4⟩, s5⟩ := xs_tree (env_xh hI R X Xf O (Sl0 := Sl0) hSl (z1 := x.2.2.2.2.2.2.2.2.2.2) (by have := ext.2.2.2.2.2.2.1; have := ext.2.2.1; have := ext.2.2.2.2.2.1; have := ext.2.2.2.1; have := ext.2.2.2.2.1; have := XS_in _ _ _ _ _ _ _ _ XX; omega) (gv := x.2.2.2.2.2.1.2.1)) 100 0 _ _ _ _ _ _ XX (by have := ext.2.1; omega) (by have := ext.2.2.2.2.1; have := ext.2.2.2.2.2.1; omega) (by have := ext.2.2.1; have := ext.2.2.2.1; omega)
  have xin := XS_in _ _ _ _ _ _ _ _ XX
  have wn := C.2.1
  have k17 : kd h (fR h 1530 (clF fo f)) = 17 := by obtain ⟨_, L, _, w⟩ := wn; exact w.1
  refine ⟨(2, tokq S x.2.2.1.2.1, (x.2.2.2.1.2.2.1, x.2.2.2.1.2.2.2), (x.2.2.2.2.2.1.2.1, x.2.2.2.2.2.1.2.2, t, 101, x.2.2.2.2.2.2.2.1, x.2.2.2.2.2.2.2.2.1), ((0, 0, [], [], .leaf), 0, [((0, 0, (0, 0, 0, .leaf), .leaf, 0, 0, 0), (0, x.2.2.2.2.2.2.2.2.2.1, x.2.2.2.2.2.2.1, x.2.2.2.1.2.1, 0))])), rfl, rfl, rfl, ⟨⟨?_, C.1.2.2.1, C.1.2.1⟩, ⟨wn.1.1, k17, c730.2.2.1⟩, XC x.2.2.2.2.2.2.2.1 x.2.2.2.2.2.2.2.2.1 (Nat.le_refl _) (Nat.le_refl _) (by have := ext.2.2.2.2.1; have := ext.2.2.2.2.2.1; omega), C.2.2.2.2, ⟨ext.2.2.2.1, ext.2.2.2.2.1, by have := ext.2.2.2.2.2.1; show x.2.2.2.1.2.2.2 ≤ H0; omega⟩, by show (101 : Nat) ≤ 129; omega, xk, by have := ext.2.1; show 2700 + xsz t ≤ 1000000; omega, by show xbd t ≤ 40000; omega, ⟨ok1.1.1, by have := ok1.1.2.1; show tsz x.2.2.2.2.2.1.2.2 ≤ 1000000; omega⟩, jo, jo2⟩, ⟨x.2.2.2.2.1, x.2.2.2.2.2.1, _, rfl, ⟨rfl, rfl, FT'⟩, c730.2.1, XT, f24, xk, by have := ext.2.1; show 2700 + xsz t ≤ 1000000; omega, by show xbd t ≤ 590; omega, by have := ext.2.1; show x.2.2.2.1.2.1 - x.2.2.2.2.2.2.1 ≤ 4200; omega, by show xrd t < 130; omega, ⟨ok1.1.1, by have := ok1.1.2.1; show tsz x.2.2.2.2.2.1.2.2 ≤ 1000000; omega⟩, jo, gl⟩, fun y hy => ?_, ?_⟩
  · unfold ssA
    rw [i6]
    exact List.mem_append_right _ (List.mem_map.mpr ⟨x, List.mem_of_getElem? e, rfl⟩)
  · rw [List.mem_singleton.mp hy]
    exact ⟨ext.1, Nat.le_refl _⟩
  · have m2 : x.2.2.2.1.1 ≤ x.2.2.2.2.2.2.1 := ext.1
    refine ⟨by show xnN t ≤ _; omega, ?_⟩
    have := ctP_mono (σ := τ) m2
    show xU t + _ ≤ _
    omega
end LJB
