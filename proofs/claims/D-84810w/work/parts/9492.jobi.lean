set_option maxRecDepth 100000
/-! JOBS, out of what resolve left: insts -/
section LJC
variable {G : om_G} {A : Nat} {S : List Int} {b m : Nat} {N : List (List Int)} {pr tb z0 : Nat} {cs fo : List Nat} {mo : List (List Nat)} {K : KT} {F : FT} {Ms : List FT} {hr : om_H} {σr : tS} {M : Nat} {qs : List dcl} {ps : List PD} {rs : List (Nat × Nat × Nat × Nat)} {h : om_H} {ul fl : List Nat} {τ : tS} {n : Nat} {Sl Sl0 : Nat → Prop} {cl : List Cp} {il : List IX} {fl' : List FX} {H0 : Nat}
/-- a line, as both have it -/
def LnX2 (G : om_G) (N : List (List Int)) (cs fo : List Nat) (mo : List (List Nat)) (E : JE) (H0 : Nat) (Sl0 : Nat → Prop) (h : om_H) (ul : List Nat) (τ : tS) (n : Nat) (x : IX) (wc k : Nat) (y : LD × TD) : Prop := ((ll h (fR h 1326 x.2.1.2.1))[k]? = some y.1.1 ∧ x.2.2.2.2.2.2.2.2[k]? = some y.2.1) ∧ LnW G N (clF cs) [] (clF fo) (moF mo) E H0 x.2.1.2.1 wc x.2.2.2.2.1 h ul Sl0 y.1 ∧ LnTw τ n E wc x.2.2.2.2.1 y ∧ (x.2.2.2.1.2.2.1 ≤ y.1.1 ∧ y.1.2.2.2.2.2.2 ≤ x.2.2.2.1.2.2.2) ∧ (x.2.2.2.1.1 ≤ y.2.2.2.1 ∧ y.2.2.2.2.1 ≤ y.2.1 ∧ y.2.1 < x.2.2.2.1.2.1) ∧ (∀ i' x2, k < i' → (ll h (fR h 1326 x.2.1.2.1))[i']? = some x2 → y.1.2.2.2.2.2.2 ≤ x2) ∧ (∀ i' o2, i' < k → x.2.2.2.2.2.2.2.2[i']? = some o2 → o2 < y.2.2.2.1) ∧ xnN y.1.2.2.2.1 ≤ 2 * (y.2.2.2.2.1 - y.2.2.2.1) ∧ xU y.1.2.2.2.1 + ctP τ y.2.2.2.1 ≤ ctP τ y.2.2.2.2.1 ∧ ga τ 538 y.2.1 = 22
theorem ln_at (hI : intO G) (R : RA G A S b m N pr tb z0 cs fo mo K F Ms hr σr M qs ps rs h ul fl τ n) (X : AX G A S b m N pr tb z0 cs fo mo K F Ms hr σr M qs ps rs h ul fl τ n Sl0 cl il) (Xf : FXs G A S b m N pr tb z0 cs fo mo K F Ms hr σr M qs ps rs h ul fl τ n Sl0 fl') (O : TOk cl il) (hSl : ∀ y, z0 ≤ y → y < hz h → kd h y = 42 → ll h y ≠ [] → Sl0 y) (hH : hz hr ≤ H0) {f : Nat} {x : IX} (e : il[f]? = some x) {y : Cp} (ey : cl[x.2.2.2.2.1.1]? = some y) (okH : tyOk (inS il) (hdI x.2.2.2.2.1)) {k : Nat} (hk : k < (ll h (fR h 1326 x.2.1.2.1)).length) : ∃ yy, LnX2 G N cs fo mo (fnS fl', mtS cl, abS cl, inS il, gvI x.2.2.2.2.1) H0 Sl0 h ul τ n x y.2.1 k yy := by
  have I := (X.2.2 f x e).2
  obtain ⟨i1, i2, i3, i4, i5⟩ := I.1
  have c1326 := I.2.2.2.2.2.2.2.2.1
  have LL := I.2.2.2.2.2.2.2.2.2.2
  have hzz := R.2.2.2.2.1.2.1
  have M27 := R.1.2.2.2.1
  obtain ⟨cT, C, tM, _⟩ := X.1.2 _ y ey
  have rg := prR_at R.2.1.1 i1 i3
  have e1 : (ll h (fR h 1326 x.2.1.2.1))[k]? = some ((ll h (fR h 1326 x.2.1.2.1))[k]'hk) := List.getElem?_eq_getElem hk
  have e2 : x.2.2.2.2.2.2.2.2[k]? = some (x.2.2.2.2.2.2.2.2[k]'(by have := c1326.2.2.2.1; have := c1326.2.2.2.2.2.1; omega)) := List.getElem?_eq_getElem _
  have e3 : x.2.2.2.2.2.2.2.1[k]? = some (x.2.2.2.2.2.2.2.1[k]'(by have := c1326.2.2.2.1; omega)) := List.getElem?_eq_getElem _
  generalize (ll h (fR h 1326 x.2.1.2.1))[k]'hk = xo at e1
  generalize x.2.2.2.2.2.2.2.2[k]'(by have := c1326.2.2.2.1; have := c1326.2.2.2.2.2.1; omega) = o at e2
  generalize x.2.2.2.2.2.2.2.1[k]'(by have := c1326.2.2.2.1; omega) = wp at e3
  obtain ⟨⟨x1, x2, x3⟩, ⟨x4, x5⟩, ⟨x6, tok, x7, x8, x9, x10, x11, x12, x22⟩, lo, hi, al, ah, p, z1, ⟨⟨l0, l1⟩, l2, l3, l4, l5, ⟨⟨l6, l7, l8⟩, l9, l10⟩⟩, x13, XX⟩ := LL k xo o wp e1 e2 e3
  have xin := XS_in _ _ _ _ _ _ _ _ XX
  -- its method
  obtain ⟨⟨q, th⟩, _⟩ := O f x y e ey
  obtain ⟨mm, em⟩ := lnB_mIx (thA_nil th).2.2.1 wp (List.mem_of_getElem? e3)
  obtain ⟨yy, eyy, eyw⟩ := ixF_some em
  have ew : yy.1 = wp.1 := by simpa using eyw
  obtain ⟨g642, m4⟩ := ms_642 R X ey eyy
  rw [ew] at g642
  have mt0 := mtS_at ey eyy m4
  obtain ⟨_, c2, _, c4, c5, c6⟩ := C.2.2.2.2.2.2.2 mm yy eyy
  have okM := tyM_ok R X O (cT.2.2.2.2.2 mm yy eyy).2.2 (tM yy (List.mem_of_getElem? eyy))
  have okT : tyOk (inS il) (sbT [(y.2.1, hdI x.2.2.2.2.1)] yy.2) := tyOk_sb (fun p hp => by rw [List.mem_singleton.mp hp]; exact okH) okM.1
  obtain ⟨t, XT, XC, xk, ⟨s1, s2⟩, ⟨s3, s4⟩, s5⟩ := xs_tree (env_xh hI R X Xf O (Sl0 := Sl0) hSl (z1 := z1) (by have := rg.1; omega) (gv := gvI x.2.2.2.2.1)) 100 0 _ _ _ _ _ _ XX (by have := rg.1; omega) (by have := rg.1; omega) (by have := rg.1; omega)
  refine ⟨((xo, fR h 1366 xo, (wp.1, mm, moF mo (4 * x.2.2.2.2.1.1 + mm), yy.2), t, 101, al, ah), (o, p, lo, hi, tok)), ⟨e1, e2⟩, ⟨⟨⟨x2, x3, rfl⟩, ⟨y.2.2.2.2, fun k => moF mo (4 * x.2.2.2.2.1.1 + k), ⟨C.2.2.2.2.2.1.1, C.2.2.2.2.2.1.2.1, C.2.2.2.2.2.1.2.2.1, C.2.2.2.2.2.1.2.2.2, cT.2.2.2.2.1.2⟩, fun k z ez => ?_, em, rfl⟩, x4, ⟨c2.2.1, c2.2.2, c6⟩⟩, XC al ah (Nat.le_refl _) (Nat.le_refl _) (by have := rg.1; omega), ⟨l7, by have := rg.1; show ah ≤ H0; omega⟩, by show (101 : Nat) ≤ 129; omega, xk, by have := rg.1; show 2700 + xsz t ≤ 1000000; omega, by show xbd t ≤ 40000; omega, okM, okT⟩, ⟨XT, ⟨x6, x13, x7, x8, x9, x10⟩, ⟨g642, m4, mt0⟩, okM, okT, xk, by have := rg.1; show 2700 + xsz t ≤ 1000000; omega, by show xbd t ≤ 590; omega, by have := rg.1; show hi - lo ≤ 4200; omega, by show xrd t < 130; omega⟩, ⟨l8, l4⟩, ⟨l0, l6, l2⟩, l9, l10, s2, s5, x22⟩
  obtain ⟨d1, d2, d3, _, d5, _⟩ := C.2.2.2.2.2.2.2 k z ez
  exact ⟨d1, d2, d3, d5⟩
set_option maxHeartbeats 1000000 in
/-- an inst's job -/
theorem ij_at (hI : intO G) (R : RA G A S b m N pr tb z0 cs fo mo K F Ms hr σr M qs ps rs h ul fl τ n) (X : AX G A S b m N pr tb z0 cs fo mo K F Ms hr σr M qs ps rs h ul fl τ n Sl0 cl il) (Xf : FXs G A S b m N pr tb z0 cs fo mo K F Ms hr σr M qs ps rs h ul fl τ n Sl0 fl') (O : TOk cl il) (hSl : ∀ y, z0 ≤ y → y < hz h → kd h y = 42 → ll h y ≠ [] → Sl0 y) (hHd : ∀ y, HdL hr qs y → ¬ Sl0 y ∧ Sl y) (hH : hz hr ≤ H0) {f : Nat} {x : IX} (e : il[f]? = some x) : ∃ j : JB, j.1 = 6 ∧ j.2.1 = tokq S x.2.2.1.2.1 ∧ j.2.2.1 = (x.2.2.2.1.2.2.1, x.2.2.2.1.2.2.2) ∧ IjC G N (clF cs) [] (ssA h il fl') (ioF il) (clF fo) (moF mo) (fnS fl', mtS cl, abS cl, inS il, gvI j.2.2.2.2.1) H0 Sl0 h ul Sl j f ∧ IjT τ n (fnS fl', mtS cl, abS cl, inS il, gvI j.2.2.2.2.1) j x.1 f ∧ (∀ y ∈ j.2.2.2.2.2.2, x.2.2.2.1.1 ≤ y.2.2.2.1 ∧ y.2.2.2.2.1 ≤ x.2.2.2.1.2.1) ∧ (∀ y ∈ j.2.2.2.2.2.2, xnN y.1.2.2.2.1 ≤ 2 * (y.2.2.2.2.1 - y.2.2.2.1) ∧ xU y.1.2.2.2.1 + ctP τ y.2.2.2.1 ≤ ctP τ y.2.2.2.2.1) ∧ (∀ y ∈ j.2.2.2.2.2.2, (y.2.2.2.2.1 ≤ y.2.1 ∧ y.2.1 < x.2.2.2.1.2.1) ∧ ga τ 538 y.2.1 = 22) ∧ j.2.2.2.2.2.2.Pairwise (fun y y' => y.2.1 < y'.2.2.2.1) := by
  have I := (X.2.2 f x e).2
  have f20 := (X.2.2 f x e).1
  obtain ⟨i1, i2, i3, i4, i5⟩ := I.1
  have Tw := I.2.2.1
  have IC := I.2.2.2.1
  have c1276 := I.2.2.2.2.2.1
  have c1326 := I.2.2.2.2.2.2.2.2.1
  have ext := I.2.2.2.2.2.2.2.2.2.1
  have K8 := RA_K8 R
  have la : (abS cl).length = K.length := by unfold abS; rw [List.length_map]; exact X.1.1
  have hc : x.2.2.2.2.1.1 < K.length := Tw.1.2
  have ey : cl[x.2.2.2.2.1.1]? = some (cl[x.2.2.2.2.1.1]'(by rw [X.1.1]; exact hc)) := List.getElem?_eq_getElem _
  generalize cl[x.2.2.2.2.1.1]'(by rw [X.1.1]; exact hc) = y at ey
  obtain ⟨cT, C, _⟩ := X.1.2 _ y ey
  obtain ⟨_, _, in3, inK, _⟩ := ok_ins R X O
  have dm : x.2.2.2.2.1 ∈ inS il := by unfold inS; exact List.mem_map.mpr ⟨x, List.mem_of_getElem? e, rfl⟩
  have okH : tyOk (inS il) (hdI x.2.2.2.2.1) := ⟨(by unfold hdI; intro z; cases z), hdI_wf (inK _ dm).1 (in3 _ dm), hdI_ok⟩
  have c100 : ∀ g ∈ gvI x.2.2.2.2.1, g.1 < 100 := gvI_100 (fun c hc' => by
    obtain ⟨j, hj, ej⟩ := List.getElem_of_mem hc'
    have := (Tw.2.2.2.1.2.2 j c (by rw [List.getElem?_eq_getElem hj, ej])).2.2.1
    omega)
  obtain ⟨jo, jo2⟩ := env_ok R X Xf O (gv := gvI x.2.2.2.2.1) (fun g hg w => by have := c100 g hg; omega) (fun g hg w => by have := c100 g hg; omega)
  obtain ⟨lns, n1, n2⟩ := lch (P := fun k yy => LnX2 G N cs fo mo (fnS fl', mtS cl, abS cl, inS il, gvI x.2.2.2.2.1) H0 Sl0 h ul τ n x y.2.1 k yy) (ll h (fR h 1326 x.2.1.2.1)).length (fun k hk => ln_at hI R X Xf O hSl hH e ey okH hk)
  have at' : ∀ yy ∈ lns, ∃ k, lns[k]? = some yy := fun yy hy => by
    obtain ⟨k, hk, ek⟩ := List.getElem_of_mem hy
    exact ⟨k, by rw [List.getElem?_eq_getElem hk, ek]⟩
  have eo := ioF_at e
  have lnl : x.2.2.2.2.2.2.2.2.length = lns.length := by
    have := c1326.2.2.2.1
    have := c1326.2.2.2.2.2.1
    omega
  have ell : ll h (fR h 1326 x.2.1.2.1) = (lns.map Prod.fst).map Prod.fst := by
    refine List.ext_getElem? (fun k => ?_)
    rw [List.map_map, List.getElem?_map]
    by_cases hk : k < lns.length
    · have ek : lns[k]? = some lns[k] := List.getElem?_eq_getElem hk
      rw [ek, (n2 k _ ek).1.1]
      rfl
    · rw [List.getElem?_eq_none_iff.mpr (by omega), List.getElem?_eq_none_iff.mpr (by omega)]
      rfl
  have ens : x.2.2.2.2.2.2.2.2 = lns.map (fun y : LD × TD => y.2.1) := by
    refine List.ext_getElem? (fun k => ?_)
    rw [List.getElem?_map]
    by_cases hk : k < lns.length
    · have ek : lns[k]? = some lns[k] := List.getElem?_eq_getElem hk
      rw [ek, (n2 k _ ek).1.2]
      rfl
    · rw [List.getElem?_eq_none_iff.mpr (by omega), List.getElem?_eq_none_iff.mpr (by omega)]
      rfl
  have hd := hHd _ ext.2.2.2.1.1
  refine ⟨(6, tokq S x.2.2.1.2.1, (x.2.2.2.1.2.2.1, x.2.2.2.1.2.2.2), ([], .leaf, .leaf, 0, 0, 0), (x.2.2.2.2.1, y.2.1, lns)), rfl, rfl, rfl, ⟨?_, ⟨⟨?_, ?_, ?_, C.1⟩, C.2.2.1, ?_, ?_⟩, ?_, ?_, ?_, fun yy hy => ?_, ?_, ?_, okH, jo, jo2⟩, ⟨?_, by show InTw τ n (abS cl).length f x.2.2.2.2.1; rw [la]; exact Tw, fun yy hy => ?_, ?_, f20, by show (abS cl).length ≤ 8; omega, okH, jo⟩, fun yy hy => ?_, fun yy hy => ?_, fun yy hy => ?_, ?_⟩
  · show (fR h 1286 (ioF il f), gvI x.2.2.2.2.1) ∈ ssA h il fl'
    rw [eo]
    unfold ssA
    exact List.mem_append_left _ (List.mem_map.mpr ⟨x, List.mem_of_getElem? e, rfl⟩)
  · rw [eo]; exact IC.1.2.2.1
  · rw [eo]; exact IC.1.2.1
  · rw [eo]; exact IC.1.2.2.2.2
  · rw [eo]
    exact ⟨c1326.1, c1326.2.1, c1326.2.2.1, ell⟩
  · rw [eo]; exact I.2.2.2.2.1.2.1
  · rw [eo]; exact c1276.2.1
  · rw [eo]
    exact ⟨hd.2, hd.1, by have := R.1.2.2.1; have := ext.2.2.2.1.2.1; have := (prR_at R.2.1.1 i1 i3).1; omega, ext.2.2.1⟩
  · rw [eo]
    have := (prR_at R.2.1.1 i1 i3).1
    exact ⟨ext.2.2.2.1.2.1, ext.2.2.2.1.2.2, by show x.2.2.2.1.2.2.2 ≤ H0; omega⟩
  · obtain ⟨y2, y3, y4⟩ := List.mem_map.mp hy
    obtain ⟨k, ek⟩ := at' y2 y3
    have w := n2 k y2 ek
    rw [← y4, eo]
    exact ⟨w.2.1, w.2.2.2.1⟩
  · refine List.pairwise_iff_getElem.mpr (fun k k' hk hk' lt => ?_)
    have hk2 : k < lns.length := by rw [List.length_map] at hk; exact hk
    have hk2' : k' < lns.length := by rw [List.length_map] at hk'; exact hk'
    have w := n2 k _ (List.getElem?_eq_getElem hk2)
    have w' := n2 k' _ (List.getElem?_eq_getElem hk2')
    rw [List.getElem_map, List.getElem_map]
    exact w.2.2.2.2.2.1 k' _ lt w'.1.1
  · have := c1326.2.2.2.2.2.2
    have := c1326.2.2.2.2.2.1
    show lns.length ≤ 3000
    omega
  · show chain τ (ga τ 602 x.1) (lns.map (fun y : LD × TD => y.2.1))
    rw [← ens]
    exact c1326.2.2.2.2.1
  · obtain ⟨k, ek⟩ := at' yy hy
    exact (n2 k yy ek).2.2.1
  · refine List.pairwise_iff_getElem.mpr (fun k k' hk hk' lt => ?_)
    have w := n2 k _ (List.getElem?_eq_getElem hk)
    have w' := n2 k' _ (List.getElem?_eq_getElem hk')
    have := w.2.2.2.2.1
    have := w'.2.2.2.2.2.2.1 k _ lt w.1.2
    omega
  · obtain ⟨k, ek⟩ := at' yy hy
    have := (n2 k yy ek).2.2.2.2.1
    exact ⟨this.1, by show yy.2.2.2.2.1 ≤ x.2.2.2.1.2.1; omega⟩
  · obtain ⟨k, ek⟩ := at' yy hy
    have w := (n2 k yy ek).2.2.2.2.2.2.2
    exact ⟨w.1, w.2.1⟩
  · obtain ⟨k, ek⟩ := at' yy hy
    have w := n2 k yy ek
    exact ⟨⟨w.2.2.2.2.1.2.1, w.2.2.2.2.1.2.2⟩, w.2.2.2.2.2.2.2.2.2⟩
  · refine List.pairwise_iff_getElem.mpr (fun k k' hk hk' lt => ?_)
    have w := n2 k _ (List.getElem?_eq_getElem hk)
    have w' := n2 k' _ (List.getElem?_eq_getElem hk')
    exact w'.2.2.2.2.2.2.1 k _ lt w.1.2
end LJC
