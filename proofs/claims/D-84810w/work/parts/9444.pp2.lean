set_option maxRecDepth 100000
/-! THE PROGRAM AS PLAIN DATA: functions; givens and lines one by one -/
section LP2
variable {G : om_G} {A : Nat} {S : List Int} {b m : Nat} {N : List (List Int)} {pr tb z0 : Nat} {cs fo : List Nat} {mo : List (List Nat)} {K : KT} {F : FT} {Ms : List FT} {hr : om_H} {σr : tS} {M : Nat} {qs : List dcl} {ps : List PD} {rs : List (Nat × Nat × Nat × Nat)} {h : om_H} {ul fl : List Nat} {τ : tS} {n : Nat} {Sl : Nat → Prop}
theorem grows_at {σ : tS} {hh : om_H} : ∀ {i : Nat} {xs os : List Nat} {lo hi alo ahi x o : Nat}, grows A S b hh σ xs os lo hi alo ahi → xs[i]? = some x → os[i]? = some o → ∃ j, (ga σ 538 o = 21 ∧ ga σ 542 o = ((b + j : Nat) : Int) ∧ tokk S j = 3 ∧ ga σ 546 o = ((b + (j + 1) : Nat) : Int) ∧ tokk S (j + 1) = 2) ∧ (kd hh x = 22 ∧ alo ≤ x ∧ x < ahi) ∧ (alo ≤ fR hh 1338 x ∧ fR hh 1338 x < ahi ∧ wd hh A S (fR hh 1338 x) j) ∧ (alo ≤ fR hh 1342 x ∧ fR hh 1342 x < ahi ∧ wd hh A S (fR hh 1342 x) (j + 1)) ∧ (fR hh 1346 x = 0 ↔ ga σ 550 o = -1)
  | _, [], [], _, _, _, _, _, _, _, e, _ => by cases e
  | _, [], _ :: _, _, _, _, _, _, _, w, _, _ => w.elim
  | _, _ :: _, [], _, _, _, _, _, _, w, _, _ => w.elim
  | 0, x' :: xs, o' :: os, lo, hi, alo, ahi, x, o, ⟨j, a2, q1, q2, q3, q4, q5, q6⟩, e1, e2 => by
    rw [← Option.some.inj e1, ← Option.some.inj e2]
    have gi := grows_in q6
    refine ⟨j, ⟨q1.1, q1.2.1, q1.2.2.1, q1.2.2.2.1, q1.2.2.2.2.1⟩, ⟨q2.1, q2.2.1, by omega⟩, ⟨q3.1, by omega, q3.2.2⟩, ⟨q4.1, by omega, q4.2.2⟩, ?_⟩
    rcases q5 with ⟨u1, u2, _⟩ | ⟨_, p, _, _, u1, u2, _⟩
    · exact ⟨fun _ => u2, fun _ => u1⟩
    · exact ⟨fun z => absurd z u1, fun z => by omega⟩
  | i + 1, x' :: xs, o' :: os, lo, hi, alo, ahi, x, o, ⟨j, a2, q1, q2, q3, q4, q5, q6⟩, e1, e2 => by
    obtain ⟨j', g1, g2, g3, g4, g5⟩ := grows_at (i := i) q6 e1 e2
    exact ⟨j', g1, ⟨g2.1, by omega, g2.2.2⟩, ⟨by omega, g3.2.1, g3.2.2⟩, ⟨by omega, g4.2.1, g4.2.2⟩, g5⟩
theorem grows_xpw {σ : tS} {hh : om_H} : ∀ {xs os : List Nat} {lo hi alo ahi : Nat}, grows A S b hh σ xs os lo hi alo ahi → xs.Pairwise (· < ·)
  | [], [], _, _, _, _, _ => List.Pairwise.nil
  | x :: xs, o :: os, lo, hi, alo, ahi, ⟨j, a2, q1, q2, q3, q4, q5, q6⟩ => List.Pairwise.cons (fun y hy => by have := (grows_in q6).2.2.2.1 y hy; omega) (grows_xpw q6)
  | [], _ :: _, _, _, _, _, r => r.elim
  | _ :: _, [], _, _, _, _, r => r.elim
theorem lrows_at {σ : tS} {hh : om_H} : ∀ {i : Nat} {xs os : List Nat} {lo hi alo ahi x o : Nat}, lrows G A S b hh σ xs os lo hi alo ahi → xs[i]? = some x → os[i]? = some o → ∃ (p j : Nat), (ga σ 538 o = 22 ∧ ga σ 542 o = ((b + j : Nat) : Int) ∧ tokk S j = 2 ∧ ga σ 546 o = (p : Int)) ∧ (lo ≤ o ∧ o < hi) ∧ (alo ≤ fR hh 1362 x ∧ fR hh 1362 x < ahi ∧ alo ≤ x ∧ x < ahi) ∧ (kd hh x = 23 ∧ wd hh A S (fR hh 1362 x) j)
  | _, [], [], _, _, _, _, _, _, _, e, _ => by cases e
  | _, [], _ :: _, _, _, _, _, _, _, w, _, _ => w.elim
  | _, _ :: _, [], _, _, _, _, _, _, w, _, _ => w.elim
  | 0, x' :: xs, o' :: os, lo, hi, alo, ahi, x, o, ⟨a1, a2, p, j, q1, q2, q3, q4, q5⟩, e1, e2 => by
    rw [← Option.some.inj e1, ← Option.some.inj e2]
    have gi := lrows_in q5
    have xi := XR_in _ _ _ _ _ _ _ q1
    exact ⟨p, j, q2, by omega, by omega, q4⟩
  | i + 1, x' :: xs, o' :: os, lo, hi, alo, ahi, x, o, ⟨a1, a2, p, j, q1, q2, q3, q4, q5⟩, e1, e2 => by
    have xi := XR_in _ _ _ _ _ _ _ q1
    obtain ⟨p', j', g1, g2, g3, g4⟩ := lrows_at (i := i) q5 e1 e2
    exact ⟨p', j', g1, by omega, by omega, g4⟩
/-- the names of givens are known -/
theorem grows_tkn (R : RA G A S b m N pr tb z0 cs fo mo K F Ms hr σr M qs ps rs h ul fl τ n) {xs os : List Nat} {lo hi alo ahi : Nat} (g : grows A S b hr σr xs os lo hi alo ahi) (h1 : z0 ≤ alo) (h2 : ahi ≤ hz hr) : ∀ x ∈ xs, (z0 ≤ x ∧ x < hz hr ∧ kd hr x = 22) ∧ ∀ j, wd h A S (fR h 1342 x) j → ∃ x', wN h N x' (fR h 1342 x) ∧ N[x']? = some (tokw S j) := by
  intro x hx
  obtain ⟨i, hi', ei⟩ := List.getElem_of_mem hx
  have gl := (grows_in g).2.2.2.2
  have e1 : xs[i]? = some x := by rw [List.getElem?_eq_getElem hi', ei]
  obtain ⟨j, u1, u2, u3, u4, u5⟩ := grows_at g e1 (List.getElem?_eq_getElem (show i < os.length by omega))
  refine ⟨⟨by omega, by omega, u2.1⟩, fun j' W => ?_⟩
  have ef : fR h 1342 x = fR hr 1342 x := (R.2.2.2.2.1.1 x (by omega) (by omega)).2.2.1 1342 (by decide)
  obtain ⟨x', v1, v2, v3, _⟩ := RA_w R (w := fR hr 1342 x) (by omega) (by omega) (.inl u1.2.2.2.2) u4.2.2
  rw [ef] at W ⊢
  have X := R.2.2.2.1.1.2.1.1
  have w1 := wd_wb X W
  have w2 := wd_wb X (RA_wd R (by omega) (by omega) u4.2.2)
  rw [wb_fun w1 w2]
  exact ⟨x', v1, v3⟩
/-- A FUNCTION'S ROW AS PLAIN DATA -/
theorem fn_el (R : RA G A S b m N pr tb z0 cs fo mo K F Ms hr σr M qs ps rs h ul fl τ n) (hSl : ∀ y, z0 ≤ y → y < hz h → kd h y = 42 → ¬ HdL hr qs y → Sl y) {f : Nat} (hf : f < F.length) : f < 24 ∧ ∃ (i : Nat) (q : dcl) (p : PD) (r : Nat × Nat × Nat × Nat) (w : Nat) (x : List Nat × List GVs × Ty) (m2 a2 a3 nX z1 : Nat), (qs[i]? = some q ∧ ps[i]? = some p ∧ rs[i]? = some r ∧ p.1 = 2 ∧ (sAt S ps ([], [], [], [], [], 0) i).2.1.length = f ∧ clF fo f = q.2.1) ∧ FnT τ n f w x ∧ FnCo h N (clF cs) (UU ul []) Sl (clF fo f) f w x ∧ (tyM x.2.2 ∧ (∃ L, N[w]? = some L ∧ F[f]? = some (some L)) ∧ ∀ g ∈ x.2.1, g.2.1 ∈ x.1 ∧ (g.1 < 108 ∧ (g.1 < 100 → g.1 < K.length) ∧ (100 ≤ g.1 → g.1 - 100 < K.length)) ∧ (100 ≤ g.1 → tyM g.2.2) ∧ (g.1 < 100 → g.2.2 = .leaf) ∧ (100 ≤ g.1 → ∃ k, K[g.1 - 100]? = some k ∧ k.2 ≠ none)) ∧ (ga τ 730 f = (i : Int) ∧ ga τ 622 i = (nX : Int) ∧ fI h 1188 (fR h 1530 (clF fo f)) = (tokq S p.2.1 : Int) ∧ ∃ os, chain τ (ga τ 606 i) os ∧ os.length = x.2.1.length ∧ ∀ (k o gx : Nat), os[k]? = some o → (ll h (fR h 166 (fR h 1542 (clF fo f))))[k]? = some gx → o < 8400 ∧ ∃ j, ga τ 542 o = ((b + j : Nat) : Int) ∧ tokk S j = 3 ∧ (fR h 1338 gx < hz h ∧ kd h (fR h 1338 gx) = 17 ∧ fI h 1188 (fR h 1338 gx) = (tokq S j : Int))) ∧ (r.1 ≤ m2 ∧ r.2.1 ≤ M ∧ z0 ≤ r.2.2.1 ∧ r.2.2.1 ≤ a2 ∧ a3 ≤ r.2.2.2 ∧ r.2.2.2 ≤ hz hr ∧ hz hr ≤ z1 ∧ (r.2.2.1 ≤ fR h 1542 (clF fo f) ∧ fR h 1542 (clF fo f) < r.2.2.2) ∧ (ll h (fR h 166 (fR h 1542 (clF fo f)))).Nodup ∧ ∀ x ∈ ll h (fR h 166 (fR h 1542 (clF fo f))), (r.2.2.1 ≤ x ∧ x < r.2.2.2) ∧ fR h 1358 x = 0) ∧ XS G A S b h τ (Psi1 S b N cs [] fo F mo Ms z1 h ul τ n) 100 0 m2 r.2.1 a2 a3 (fR h 1554 (clF fo f)) nX := by
  obtain ⟨i, q, p, r, s, ⟨k1, k2, k3, k4⟩, ⟨k5, k6, k7⟩, ⟨k8, k9⟩, k10, W, ⟨rg1, rg2, rg3⟩, ⟨k11, w, k12, k13⟩, k14, m2, a2, a3, nX, j1, ⟨k15, k16, k17, k18, y0, y1, k19⟩, sc, z1, B, ⟨n1, n2, n3⟩, ⟨g1, g2, g3⟩, ⟨T, t1, t2, t3⟩, hz1, XX⟩ := RA_fn R hf
  obtain ⟨w', so, Ls, Lg, wr, ex, j1', m1, m2', am, ag, a1, a2', a3', nT, nX', kk, ws, xs, os, ⟨⟨o1, o2, o3, o4, o5, o6⟩, _, ⟨o7, o8, o9⟩⟩, ⟨p1, p2, p3, p4, p5, p6⟩, p7, ⟨l1, l2, l3, _⟩, ⟨l4, l5, l6, l7, l8⟩, WT, XW, l9, _⟩ := W
  have ecl : clF fo f = q.2.1 := by unfold clF; rw [List.getD_eq_getElem?_getD, k10]; rfl
  have hzz := R.2.2.2.2.1.2.1
  have z00 := R.1.2.2.1
  have hs0 := R.2.2.2.2.1.1
  have gi := grows_in l6
  have wi := WR_in WT
  have xi := XR_in _ _ _ _ _ _ _ XW
  obtain ⟨x1, x2, x3, x4⟩ := hs0 q.2.1 (by omega) (by omega)
  have e162 : fR hr 162 (fR hr 1542 q.2.1) = Ls := by rw [o4, o8]
  have e166 : fR hr 166 (fR hr 1542 q.2.1) = Lg := by rw [o4, o9]
  rw [e162, l2] at k19 B
  rw [e166, l5] at g1 g2 g3
  have tkn := grows_tkn R l6 (by omega) (by omega)
  obtain ⟨gs', GC, gl, gp⟩ := RA_gvs R hSl (so := so) (Lg := Lg) (ix := 4 * f) (gv := xs) (sc := sc) (by omega) o7 o9 (by omega) l4 l5 (RA_nh R k1 k3 (by omega) (by omega) (fun z => by omega)) g2 (fun x hx => (tkn x hx).1) (fun x hx => (tkn x hx).2) (fun i x e => g3 i x e)
  have nm := RA_names R hSl (Ln := Ls) (sc := sc) (by omega) l1 l2 (fun w hw => by have := wrow_mem l3 w hw; omega) k19 B (by omega) (RA_nh R k1 k3 (by omega) (by omega) (fun z => by omega))
  obtain ⟨wn, v1, v2, v3, v4, v5⟩ := RA_w R (w := w') (by omega) (by omega) (.inl p7.2.2.2) p7.2.2.1
  have ew : wn = w := RA_nd R _ _ _ v3 k12
  subst ew
  have e42 : fR h 1542 q.2.1 = so := by rw [x3 _ (by decide)]; exact o4
  have es2 : fR h 162 so = Ls := by rw [(hs0 so (by omega) (by omega)).2.2.1 _ (by decide)]; exact o8
  have e54 : fR h 1554 q.2.1 = ex := by rw [x3 _ (by decide)]; exact o6
  have e30 : fR h 1530 q.2.1 = w' := by rw [x3 _ (by decide)]; exact o2
  refine ⟨k9, i, q, p, r, wn, (sc, gs', T), m2, a2, a3, nX, z1, ⟨k1, k2, k3, k5, by rw [← k4]; exact k8, ecl⟩, ⟨⟨k13, v5⟩, ⟨n1, n2, n3⟩, ⟨by rw [g1, gl], by dsimp only; omega, fun j g e => ?_⟩, t3⟩, ?_, ⟨t1, ⟨_, k12, k14⟩, fun g hg => ?_⟩, ⟨k11, k18, ?_, os, ?_, ?_, fun k o gx e1 e2 => ?_⟩, ⟨k15, rg3, rg1, k16, k17, rg2, hz1, ⟨by rw [ecl, e42]; omega, by rw [ecl, e42]; omega⟩, ?_, fun x hx => ?_⟩, ?_⟩
  · obtain ⟨u1, u2, u3, u4, _⟩ := gp j g e
    exact ⟨u1, u2.1, u3, u4⟩
  · rw [FnCo, ecl, e42, es2, e30]
    exact ⟨⟨by omega, by omega, by rw [x1]; exact o1, by rw [x2 _ (by decide)]; exact o3⟩, v1, nm, GC, t2⟩
  · obtain ⟨j, hj, ej⟩ := List.getElem_of_mem hg
    obtain ⟨u1, u2, u3, u4, u5, u6, u7⟩ := gp j g (by rw [List.getElem?_eq_getElem hj, ej])
    exact ⟨u5, u2, u6, u7⟩
  · rw [ecl, e30]
    exact (RA_wd R (by omega) (by omega) p7.2.2.1).2.2.1
  · rw [R.2.2.2.2.2.1.2.2.2.2.2 606 (by decide)]
    exact chain_keep l7 (fun o _ => R.2.2.2.2.2.1.2.2.2.1 562 (by decide) (by decide) o)
  · show os.length = gs'.length
    rw [gl]
    exact gi.2.2.2.2.symm
  · have es3 : fR h 166 so = Lg := by rw [(hs0 so (by omega) (by omega)).2.2.1 _ (by decide)]; exact o9
    rw [ecl, e42, es3, (hs0 Lg (by omega) (by omega)).2.2.2, l5] at e2
    obtain ⟨j, u1, u2, u3, u4, u5⟩ := grows_at l6 e2 e1
    have ob := gi.2.2.1 o (List.mem_of_getElem? e1)
    have e38 : fR h 1338 gx = fR hr 1338 gx := (hs0 gx (by omega) (by omega)).2.2.1 _ (by decide)
    have wd' := RA_wd R (by omega) (by omega) u3.2.2
    refine ⟨by have := R.1.2.2.2.1; omega, j, by rw [R.2.2.2.2.2.1.2.2.2.1 542 (by decide) (by decide)]; exact u1.2.1, u1.2.2.1, ?_⟩
    rw [e38]
    exact ⟨by omega, wd'.1, wd'.2.2.1⟩
  · have es3 : fR h 166 so = Lg := by rw [(hs0 so (by omega) (by omega)).2.2.1 _ (by decide)]; exact o9
    rw [ecl, e42, es3, (hs0 Lg (by omega) (by omega)).2.2.2, l5]
    exact (grows_xpw l6).imp (fun hab => Nat.ne_of_lt hab)
  · have es3 : fR h 166 so = Lg := by rw [(hs0 so (by omega) (by omega)).2.2.1 _ (by decide)]; exact o9
    rw [ecl, e42, es3, (hs0 Lg (by omega) (by omega)).2.2.2, l5] at hx
    have gx := gi.2.2.2.1 x hx
    exact ⟨by omega, by rw [(hs0 x (by omega) (by omega)).2.2.1 1358 (by decide)]; exact (l8 x hx).2.2.1⟩
  · rw [ecl, e54]
    rw [o6] at XX
    exact XX
end LP2
