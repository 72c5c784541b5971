set_option maxRecDepth 100000
/-! WORDS OF GIVENS: they spell their class, or its family -/
section LGW
variable {G : om_G} {A : Nat} {S : List Int} {b m : Nat} {N : List (List Int)} {pr tb z0 : Nat} {cs fo : List Nat} {mo : List (List Nat)} {K : KT} {F : FT} {Ms : List FT} {hr : om_H} {σr : tS} {M : Nat} {qs : List dcl} {ps : List PD} {rs : List (Nat × Nat × Nat × Nat)} {h : om_H} {ul fl : List Nat} {τ : tS} {n : Nat}
/-- a word that can be told stands there -/
def gwC (h : om_H) (K : KT) (y g1 : Nat) : Prop := ∃ L, wLt h (fR h 1338 y) L ∧ (g1 < 100 → ∃ o, K[g1]? = some (some L, o)) ∧ (100 ≤ g1 → ∃ o, K[g1 - 100]? = some (o, some L))
theorem txC_h (R : RA G A S b m N pr tb z0 cs fo mo K F Ms hr σr M qs ps rs h ul fl τ n) : txC h A S ∧ A < hz h := R.2.2.2.1.1.2.1
theorem fn_gw (R : RA G A S b m N pr tb z0 cs fo mo K F Ms hr σr M qs ps rs h ul fl τ n) {f : Nat} (hf : f < F.length) : ∀ (i y : Nat) (g1 : Nat), (ll h (fR h 166 (fR h 1542 (clF fo f))))[i]? = some y → ga τ 750 (4 * f + i) = (g1 : Int) → gwC h K y g1 := by
  intro ii y g1 ey e1
  obtain ⟨i, q, p, r, s, ⟨k1, k2, k3, k4⟩, ⟨k5, k6, k7⟩, ⟨k8, k9⟩, k10, W, ⟨rg1, rg2, rg3⟩, ⟨k11, w, k12, k13⟩, k14, m2, a2, a3, nX, j1, ⟨k15, k16, k17, k18, y0, y1, k19⟩, sc, z1, B, ⟨n1, n2, n3⟩, ⟨g1', g2, g3⟩, ⟨T, t1, t2, t3⟩, hz1, XX⟩ := RA_fn R hf
  obtain ⟨w', so, Ls, Lg, wr, ex, j1', m1, m2', am, ag, a1, a2', a3', nT, nX', kk, ws, xs, os, ⟨⟨o1, o2, o3, o4, o5, o6⟩, _, ⟨o7, o8, o9⟩⟩, ⟨p1, p2, p3, p4, p5, p6⟩, p7, ⟨l1, l2, l3, _⟩, ⟨l4, l5, l6, l7, l8⟩, WT, XW, l9, _⟩ := W
  have ecl : clF fo f = q.2.1 := by unfold clF; rw [List.getD_eq_getElem?_getD, k10]; rfl
  have hzz := R.2.2.2.2.1.2.1
  have z00 := R.1.2.2.1
  have hs0 := R.2.2.2.2.1.1
  have gi := grows_in l6
  have wi := WR_in WT
  have xi := XR_in _ _ _ _ _ _ _ XW
  obtain ⟨x1, x2, x3, x4⟩ := hs0 q.2.1 (by omega) (by omega)
  have e166 : fR hr 166 (fR hr 1542 q.2.1) = Lg := by rw [o4, o9]
  rw [e166, l5] at g1' g2 g3
  have e42 : fR h 1542 q.2.1 = so := by rw [x3 _ (by decide)]; exact o4
  have es3 : fR h 166 so = Lg := by rw [(hs0 so (by omega) (by omega)).2.2.1 _ (by decide)]; exact o9
  rw [ecl, e42, es3, (hs0 Lg (by omega) (by omega)).2.2.2, l5] at ey
  have il := (List.getElem?_eq_some_iff.mp ey).1
  have ol : os[ii]? = some (os[ii]'(by omega)) := List.getElem?_eq_getElem (by omega)
  obtain ⟨j0, v1, v2, v3, v4, v5⟩ := grows_at l6 ey ol
  have gx := gi.2.2.2.1 y (List.mem_of_getElem? ey)
  have e38 : fR h 1338 y = fR hr 1338 y := (hs0 y (by omega) (by omega)).2.2.1 _ (by decide)
  obtain ⟨eq, j, c, wn, u1, ⟨u2, u2'⟩, u3, u4, u5, _⟩ := g3 ii y ey
  have tx := txC_h R
  refine ⟨tokw S j, ⟨⟨by rw [e38]; omega, by rw [u2.2.1]; exact tx.2⟩, wd_wb tx.1 u2⟩, fun c1 => ?_, fun c1 => ?_⟩
  · cases eq with
    | true =>
      exfalso
      rw [e1] at u5
      simp only [if_true] at u5
      omega
    | false =>
      have ec : c = g1 := by
        rw [e1] at u5
        simp at u5
        omega
      have u3' : FI Prod.fst (tokw S j) K = some c := u3
      have lt := FI_lt u3'
      have ek : K[c]? = some (K[c]'lt) := List.getElem?_eq_getElem lt
      have := FI_at u3' ek
      rw [← ec]
      exact ⟨(K[c]'lt).2, by rw [ek, ← this]⟩
  · cases eq with
    | false =>
      exfalso
      rw [e1] at u5
      have u3' : FI Prod.fst (tokw S j) K = some c := u3
      have lt := FI_lt u3'
      have K8 := RA_K8 R
      simp at u5
      omega
    | true =>
      have ec : c = g1 - 100 := by
        rw [e1] at u5
        simp only [if_true] at u5
        omega
      have u3' : FI Prod.snd (tokw S j) K = some c := u3
      have lt := FI_lt u3'
      have ek : K[c]? = some (K[c]'lt) := List.getElem?_eq_getElem lt
      have := FI_at u3' ek
      rw [← ec]
      exact ⟨(K[c]'lt).1, by rw [ek, ← this]⟩
theorem in_gw (R : RA G A S b m N pr tb z0 cs fo mo K F Ms hr σr M qs ps rs h ul fl τ n) {f : Nat} (hf : f < (pss S ps).2.2.2.2.2) {qq : dcl} (eq : (prgL hr qs (fun _ => []) 86)[f]? = some qq.2.1) : ∀ (i y : Nat) (g1 : Nat), (ll h (fR h 166 (fR h 1286 qq.2.1)))[i]? = some y → ga τ 714 (4 * f + i) = (g1 : Int) → g1 < 100 → gwC h K y g1 := by
  intro ii y g1 ey e1 c1
  obtain ⟨i, q, p, r, ⟨k1, k2, k3, k5, k7⟩, ⟨k8, k9⟩, k10, W, ⟨rg1, rg2, rg3⟩, k11, j1, jc, jn, c0, c1', ns, ⟨u1, u2⟩, ⟨u3, u4⟩, u5, ⟨y0, y1, u6, _⟩, sc, c0', c1'', ⟨v1, v2⟩, ⟨v3, v4, v5⟩, B, ⟨v6, v7⟩, ⟨v8, v9, v10⟩, ⟨v11, v12⟩, v13, v14⟩ := RA_in R hf
  have eqq : qq.2.1 = q.2.1 := Option.some.inj (eq.symm.trans k10)
  rw [eqq] at ey
  obtain ⟨so, Lsa, Lg, Lh, Ll, cn, con, fam, fw, j1', jc', jn', m1, m2, g0, g1', g2, am, first, xs, os, ws, lsA, ns', dv, dv', ⟨⟨s1, s2, s3⟩, ⟨s4, s5, _⟩, ⟨s6, s7⟩, s8, s9, s10⟩, ⟨⟨o1, o2, o3, o4, o5, o6, o7, o8, o9, o10⟩, o11⟩, b3, b4, ⟨l1, l2, l3⟩, b6, ⟨l4, l5, l6, l7, l8⟩, b8, b9, ⟨r1, r2, r3, r4, r5, r6, r7, r8, r9, r10, r11, r12, r13⟩⟩ := W
  have hzz := R.2.2.2.2.1.2.1
  have z00 := R.1.2.2.1
  have hs0 := R.2.2.2.2.1.1
  have gi := grows_in s8
  have li := lrows_in l6
  obtain ⟨x1, x2, x3, x4⟩ := hs0 q.2.1 (by omega) (by omega)
  have e166 : fR hr 166 (fR hr 1286 q.2.1) = Lg := by rw [o4, s3]
  rw [e166, s7] at v8 v9 v10
  have e86 : fR h 1286 q.2.1 = so := by rw [x3 _ (by decide)]; exact o4
  have eso := hs0 so (by omega) (by omega)
  have es3 : fR h 166 so = Lg := by rw [eso.2.2.1 _ (by decide)]; exact s3
  rw [e86, es3, (hs0 Lg (by omega) (by omega)).2.2.2, s7] at ey
  have il := (List.getElem?_eq_some_iff.mp ey).1
  have ol : os[ii]? = some (os[ii]'(by omega)) := List.getElem?_eq_getElem (by omega)
  obtain ⟨j0, w1, w2, w3, w4, w5⟩ := grows_at s8 ey ol
  have gx := gi.2.2.2.1 y (List.mem_of_getElem? ey)
  have e38 : fR h 1338 y = fR hr 1338 y := (hs0 y (by omega) (by omega)).2.2.1 _ (by decide)
  obtain ⟨j, c, wn, ⟨q1, q2, q3⟩, q4, q5, q6, _⟩ := v10 ii y ey
  have tx := txC_h R
  have ec : c = g1 := by
    rw [e1] at q6
    omega
  have u3' : FI Prod.fst (tokw S j) K = some c := q4
  have lt := FI_lt u3'
  have ek : K[c]? = some (K[c]'lt) := List.getElem?_eq_getElem lt
  have fa := FI_at u3' ek
  refine ⟨tokw S j, ⟨⟨by rw [e38]; omega, by rw [q2.2.1]; exact tx.2⟩, wd_wb tx.1 q2⟩, fun _ => ?_, fun z => by omega⟩
  rw [← ec]
  exact ⟨(K[c]'lt).2, by rw [ek, ← fa]⟩
end LGW
