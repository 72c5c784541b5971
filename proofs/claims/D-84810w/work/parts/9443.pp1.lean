set_option maxRecDepth 100000
/-! THE PROGRAM AS PLAIN DATA: functions' rows -/
def FnT (σ : tS) (n f w : Nat) (x : List Nat × List GVs × Ty) : Prop := (ga σ 734 f = (w : Int) ∧ w < 2100) ∧ (ga σ 738 f = (x.1.length : Int) ∧ x.1.length ≤ 4 ∧ ∀ (j w : Nat), x.1[j]? = some w → ga σ 742 (4 * f + j) = (w : Int)) ∧ (ga σ 746 f = (x.2.1.length : Int) ∧ x.2.1.length ≤ 4 ∧ ∀ (j : Nat) (g : GVs), x.2.1[j]? = some g → ga σ 750 (4 * f + j) = (g.1 : Int) ∧ g.1 < 108 ∧ (∃ k : Nat, ga σ 754 (4 * f + j) = (k : Int) ∧ ixF (fun x => x == g.2.1) x.1 = some k) ∧ tyT σ n g.2.2 (ga σ 758 (4 * f + j))) ∧ tyT σ n x.2.2 (ga σ 762 f)
def FnCo (h : om_H) (N : List (List Int)) (cl : Nat → Nat) (U Sl : Nat → Prop) (o f w : Nat) (x : List Nat × List GVs × Ty) : Prop := (o ≠ 0 ∧ o < hz h ∧ kd h o = 33 ∧ fI h 1532 o = (f : Int)) ∧ wN h N w (fR h 1530 o) ∧ (Sl (fR h 162 (fR h 1542 o)) ∧ WNs h N (fR h 162 (fR h 1542 o)) x.1) ∧ GVC h N cl U Sl (fR h 1542 o) x.2.1 ∧ tyC h N cl U x.2.2 (fR h 1550 o)
theorem pst_x {S : List Int} {s : PS} {p : PD} (h5 : ¬ p.1 = 5) (h6 : ¬ p.1 = 6) : pst S s p = (s.1, s.2.1 ++ [if nwF S s.2.2.2.2.1 s.2.1.length p.2.1 then some (tokw S p.2.1) else none], s.2.2.1, s.2.2.2.1, s.2.2.2.2.1 ++ [tokw S p.2.1], s.2.2.2.2.2) := by
  unfold pst
  rw [if_neg h5, if_neg h6]
theorem ixF_idx {w : Nat} : ∀ {l : List Nat}, w ∈ l → ixF (fun x => x == w) l = some (l.idxOf w)
  | [], h => absurd h List.not_mem_nil
  | x :: l, h => by
    unfold ixF
    by_cases c : x = w
    · rw [if_pos (by simpa using c), List.idxOf_cons, show (x == w) = true by simpa using c]
      rfl
    · rw [if_neg (by simpa using c), List.idxOf_cons, show (x == w) = false by simpa using c]
      rcases List.mem_cons.mp h with e | e
      · exact absurd e.symm c
      · rw [ixF_idx e]; rfl
section LP1
variable {G : om_G} {A : Nat} {S : List Int} {b m : Nat} {N : List (List Int)} {pr tb z0 : Nat} {cs fo : List Nat} {mo : List (List Nat)} {K : KT} {F : FT} {Ms : List FT} {hr : om_H} {σr : tS} {M : Nat} {qs : List dcl} {ps : List PD} {rs : List (Nat × Nat × Nat × Nat)} {h : om_H} {ul fl : List Nat} {τ : tS} {n : Nat} {Sl : Nat → Prop}
/-- a class's object -/
theorem RA_clO (R : RA G A S b m N pr tb z0 cs fo mo K F Ms hr σr M qs ps rs h ul fl τ n) {c : Nat} (hc : c < K.length) : clO h (clF cs) c := by
  obtain ⟨c1, c2, c3, c4, c5⟩ := R.2.2.2.1.1.2.2.1
  have e1 : cs[c]? = some (cs[c]'(by omega)) := List.getElem?_eq_getElem (by omega)
  have e2 : K[c]? = some K[c] := List.getElem?_eq_getElem hc
  obtain ⟨⟨g1, g2, g3, g4⟩, _⟩ := c5 c _ _ e1 e2
  have ecl : clF cs c = cs[c]'(by omega) := by unfold clF; rw [List.getD_eq_getElem?_getD, e1]; rfl
  rw [clO, ecl]
  exact ⟨g1, g2, g3, g4⟩
/-- a row of names, read and known -/
theorem RA_names (R : RA G A S b m N pr tb z0 cs fo mo K F Ms hr σr M qs ps rs h ul fl τ n) (hSl : ∀ y, z0 ≤ y → y < hz h → kd h y = 42 → ¬ HdL hr qs y → Sl y) {Ln j1 y1 y2 : Nat} {ws sc : List Nat} (rL : z0 ≤ Ln ∧ Ln < hz hr) (kL : kd hr Ln = 42) (el : ll hr Ln = ws) (rw1 : ∀ w ∈ ws, z0 ≤ w ∧ w < hz hr) (W : wrow A S hr y1 y2 j1 ws) (B : bdL N sc ((List.range' j1 ws.length).map (tokw S))) (h4 : sc.length ≤ 1000) (nh : ¬ HdL hr qs Ln) : Sl Ln ∧ WNs h N Ln sc := by
  obtain ⟨k1, k2, k3, k4⟩ := R.2.2.2.2.1.1 Ln rL.1 rL.2
  have hzz := R.2.2.2.2.1.2.1
  have sl : sc.length = ws.length := by rw [B.1, List.length_map, List.length_range']
  refine ⟨hSl Ln rL.1 (by omega) (by rw [k1]; exact kL) nh, ⟨by omega, by rw [k1]; exact kL⟩, by rw [k4, el, sl], h4, fun i a w e1 e2 => ?_⟩
  rw [k4, el] at e1
  obtain ⟨_, g2, g3⟩ := wrow_get W e1
  have ra := rw1 a (List.mem_of_getElem? e1)
  obtain ⟨x, u1, u2, u3, _⟩ := RA_w R ra.1 ra.2 (.inl g3) g2
  have li := (List.getElem?_eq_some_iff.mp e1).1
  have e3 : ((List.range' j1 ws.length).map (tokw S))[i]? = some (tokw S (j1 + i)) := by
    rw [List.getElem?_map, List.getElem?_range' (by omega)]
    simp
  have := B.2 i w _ e2 e3
  rw [RA_nd R _ _ _ this u3]
  exact u1
/-- all functions have names that stand -/
theorem RA_F (R : RA G A S b m N pr tb z0 cs fo mo K F Ms hr σr M qs ps rs h ul fl τ n) : ∀ x ∈ F, x.isSome = true := by
  intro x hx
  obtain ⟨_, _, ⟨e1, e2, e3, e4, e5, e6⟩, _, _, _, r17, _⟩ := R
  obtain ⟨f, hf, ef⟩ := List.getElem_of_mem hx
  have hf' : f < (ps.foldl (pst S) ([], [], [], [], [], 0)).2.1.length := by rw [e5] at hf; exact hf
  obtain ⟨i, p, ep, p5, p6, es⟩ := fn_ix hf' (Nat.zero_le _)
  have pb := psA_at r17 ep
  unfold psB at pb
  rw [if_neg p5, if_neg p6] at pb
  have nw : nwF S (sAt S ps ([], [], [], [], [], 0) i).2.2.2.2.1 (sAt S ps ([], [], [], [], [], 0) i).2.1.length p.2.1 := Classical.byContradiction (fun w => by rw [if_neg w] at pb; cases pb)
  have gr := sAt_gr (S := S) (ps := ps) (s := ([], [], [], [], [], 0)) (i + 1)
  rw [sAt_succ ep] at gr
  obtain ⟨T, t⟩ := gr.2.1
  rw [pst_x p5 p6, if_pos nw] at t
  simp only at t
  have e9 : F[f]? = some (some (tokw S p.2.1)) := by
    rw [e5]
    show (ps.foldl (pst S) ([], [], [], [], [], 0)).2.1[f]? = _
    rw [t, List.append_assoc, List.getElem?_append_right (by omega), es, Nat.sub_self]
    rfl
  rw [List.getElem?_eq_getElem hf, ef] at e9
  rw [Option.some.inj e9]
  rfl
/-- the declaration of a function -/
theorem RA_fn (R : RA G A S b m N pr tb z0 cs fo mo K F Ms hr σr M qs ps rs h ul fl τ n) {f : Nat} (hf : f < F.length) : ∃ (i : Nat) (q : dcl) (p : PD) (r : Nat × Nat × Nat × Nat) (s : PS), (qs[i]? = some q ∧ ps[i]? = some p ∧ rs[i]? = some r ∧ s = sAt S ps ([], [], [], [], [], 0) i) ∧ (p.1 = 2 ∧ q.1 = 2 ∧ q.2.2 = p.2.1) ∧ (s.2.1.length = f ∧ f < 24) ∧ fo[f]? = some q.2.1 ∧ funR G A S b hr σr r.1 r.2.1 r.2.2.1 r.2.2.2 q.2.1 i p.2.1 (f : Int) ∧ (z0 ≤ r.2.2.1 ∧ r.2.2.2 ≤ hz hr ∧ r.2.1 ≤ M) ∧ (ga τ 730 f = (i : Int) ∧ ∃ w : Nat, N[w]? = some (tokw S p.2.1) ∧ ga τ 734 f = (w : Int)) ∧ F[f]? = some (some (tokw S p.2.1)) ∧ ∃ (m2 a2 a3 nX j1 : Nat), (r.1 ≤ m2 ∧ r.2.2.1 ≤ a2 ∧ a3 ≤ r.2.2.2 ∧ ga τ 622 i = (nX : Int) ∧ ∃ y0 y1, wrow A S hr y0 y1 j1 (ll hr (fR hr 162 (fR hr 1542 q.2.1)))) ∧ FnK G A S b N cs K [] fo F mo Ms h ul τ n q.2.1 f (hz hr) m2 r.2.1 a2 a3 (fR hr 1554 q.2.1) nX ((List.range' j1 (ll hr (fR hr 162 (fR hr 1542 q.2.1))).length).map (tokw S)) (ll hr (fR hr 166 (fR hr 1542 q.2.1))) := by
  have FA := RA_F R
  obtain ⟨⟨r1, r2, r3, r4, r4'⟩, ⟨r5, r6, r7, r8, r8'⟩, ⟨e1, e2, e3, e4, e5, e6⟩, r9, ⟨r10, r11, r12⟩, ⟨r13, r14, r15, r16⟩, r17, r18, r19, r20⟩ := R
  have hf' : f < (ps.foldl (pst S) ([], [], [], [], [], 0)).2.1.length := by rw [e5] at hf; exact hf
  obtain ⟨i, p, ep, p5, p6, es⟩ := fn_ix hf' (Nat.zero_le _)
  have il := (List.getElem?_eq_some_iff.mp ep).1
  have eq : qs[i]? = some (qs[i]'(by omega)) := List.getElem?_eq_getElem (by omega)
  have rl := prR_len r5
  have er : rs[i]? = some (rs[i]'(by omega)) := List.getElem?_eq_getElem (by omega)
  generalize qs[i]'(by omega) = q at eq
  generalize rs[i]'(by omega) = r at er
  obtain ⟨⟨q1, q2, q3⟩, a0, amid, ar, D⟩ := prC_at r1 r2 r6 (Nat.le_refl _) LS_nil eq ep
  obtain ⟨g1, g2, g3⟩ := prR_at r5 eq er
  have pb := psA_at r17 ep
  have rw' := rwT_at r14 ep
  rw [Nat.zero_add] at g2 g3 rw'
  unfold psB at pb
  rw [if_neg p5, if_neg p6] at pb
  have nw : nwF S (sAt S ps ([], [], [], [], [], 0) i).2.2.2.2.1 (sAt S ps ([], [], [], [], [], 0) i).2.1.length p.2.1 := Classical.byContradiction (fun w => by rw [if_neg w] at pb; cases pb)
  rcases D with ⟨d1, _⟩ | ⟨d1, _⟩ | ⟨d1, d2, d3⟩
  · omega
  · omega
  obtain ⟨T0, t0⟩ := (sAt_gr (S := S) (ps := ps) (s := ([], [], [], [], [], 0)) i).2.1
  have cn : cntS (sAt S ps ([], [], [], [], [], 0) i).2.1 (sAt S ps ([], [], [], [], [], 0) i).2.1.length = f := by
    rw [cntS_id (fun x hx => FA x (by rw [e5]; show x ∈ (ps.foldl (pst S) ([], [], [], [], [], 0)).2.1; rw [t0]; exact List.mem_append_left _ hx)) (Nat.le_refl _)]
    exact es
  have gr := sAt_gr (S := S) (ps := ps) (s := ([], [], [], [], [], 0)) (i + 1)
  rw [sAt_succ ep] at gr
  obtain ⟨T, t⟩ := gr.2.1
  rw [pst_x p5 p6, if_pos nw] at t
  simp only at t
  have e9 : F[f]? = some (some (tokw S p.2.1)) := by
    rw [e5]
    show (ps.foldl (pst S) ([], [], [], [], [], 0)).2.1[f]? = _
    rw [t, List.append_assoc, List.getElem?_append_right (by omega), es, Nat.sub_self]
    rfl
  have ft := fnT_at r20 eq ep er d1 nw
  rw [Nat.zero_add, cn] at ft
  have g3' : funR G A S b hr σr r.1 r.2.1 r.2.2.1 r.2.2.2 q.2.1 i p.2.1 ((prgL hr (qs.take i) (fun _ => []) 90).length : Int) := by
    rcases g3 with ⟨w, _⟩ | ⟨w, _⟩ | ⟨_, g3⟩
    · omega
    · omega
    · rw [← q2]; exact g3
  have nb : ((prgL hr (qs.take i) (fun _ => []) 90).length : Int) = (f : Int) := by
    obtain ⟨w, s, Ls, Lg, wr, ex, j1, m1, m2, am, ag, a1, a2, a3, nT, nX, kk, ws, xs, os, b1, _⟩ := id g3'
    have := b1.1.2.2.1
    have h2 := d2.2.1.2
    rw [es] at h2
    omega
  rw [nb] at g3'
  have rr := rw'.2.2 d1 nw
  rw [cn] at rr
  exact ⟨i, q, p, r, _, ⟨eq, ep, er, rfl⟩, ⟨d1, by omega, q2⟩, ⟨es, by have := nw.2.2; omega⟩, by rw [e2, ← es]; exact d3, g3', ⟨by omega, g1.2.2.2.2.2, g1.2.2.1⟩, rr, e9, ft⟩
/-- givens in a row, known -/
theorem RA_gvs (R : RA G A S b m N pr tb z0 cs fo mo K F Ms hr σr M qs ps rs h ul fl τ n) (hSl : ∀ y, z0 ≤ y → y < hz h → kd h y = 42 → ¬ HdL hr qs y → Sl y) {so Lg ix : Nat} {gv sc : List Nat} (rS : z0 ≤ so ∧ so < hz hr) (kS : kd hr so = 5) (eL : fR hr 166 so = Lg) (rL : z0 ≤ Lg ∧ Lg < hz hr) (kL : kd hr Lg = 42) (el : ll hr Lg = gv) (nh : ¬ HdL hr qs Lg) (h4 : gv.length ≤ 4) (rg : ∀ x ∈ gv, z0 ≤ x ∧ x < hz hr ∧ kd hr x = 22) (tkn : ∀ x ∈ gv, ∀ j, wd h A S (fR h 1342 x) j → ∃ x', wN h N x' (fR h 1342 x) ∧ N[x']? = some (tokw S j)) (H : ∀ i x : Nat, gv[i]? = some x → GvK A S N cs K sc [] h ul τ n (ix + i) x) : ∃ gs' : List GVs, GVC h N (clF cs) (UU ul []) Sl so gs' ∧ gs'.length = gv.length ∧ (∀ (j : Nat) (g : GVs), gs'[j]? = some g → ga τ 750 (ix + j) = (g.1 : Int) ∧ (g.1 < 108 ∧ (g.1 < 100 → g.1 < K.length) ∧ (100 ≤ g.1 → g.1 - 100 < K.length)) ∧ (∃ k : Nat, ga τ 754 (ix + j) = (k : Int) ∧ ixF (fun x => x == g.2.1) sc = some k) ∧ tyT τ n g.2.2 (ga τ 758 (ix + j)) ∧ g.2.1 ∈ sc ∧ (100 ≤ g.1 → tyM g.2.2) ∧ (g.1 < 100 → g.2.2 = .leaf) ∧ (100 ≤ g.1 → ∃ k, K[g.1 - 100]? = some k ∧ k.2 ≠ none)) := by
  obtain ⟨k1, k2, k3, k4⟩ := R.2.2.2.2.1.1 so rS.1 rS.2
  obtain ⟨l1, l2, l3, l4⟩ := R.2.2.2.2.1.1 Lg rL.1 rL.2
  have hzz := R.2.2.2.2.1.2.1
  have hK8 : K.length ≤ 8 := Classical.byContradiction (fun w => by
    obtain ⟨_, _, _, _, _, _, _, ⟨_, z⟩, _⟩ := RA_cl R (c := 8) (by omega)
    omega)
  obtain ⟨l, le, lp⟩ := lch (P := fun i (g : GVs) => ∃ x, gv[i]? = some x ∧ ga τ 750 (ix + i) = (g.1 : Int) ∧ (g.1 < 108 ∧ (g.1 < 100 → g.1 < K.length) ∧ (100 ≤ g.1 → g.1 - 100 < K.length)) ∧ (∃ k : Nat, ga τ 754 (ix + i) = (k : Int) ∧ ixF (fun x => x == g.2.1) sc = some k) ∧ tyT τ n g.2.2 (ga τ 758 (ix + i)) ∧ g.2.1 ∈ sc ∧ wN h N g.2.1 (fR h 1342 x) ∧ ((100 ≤ g.1 ∧ fR h 1346 x ≠ 0 ∧ fR h 1350 x = clF cs (g.1 - 100) ∧ clO h (clF cs) (g.1 - 100) ∧ tyC h N (clF cs) (UU ul []) g.2.2 (fR h 1354 x)) ∨ (g.1 < 100 ∧ fR h 1346 x = 0 ∧ fR h 1350 x = clF cs g.1 ∧ clO h (clF cs) g.1)) ∧ (100 ≤ g.1 → tyM g.2.2) ∧ (g.1 < 100 → g.2.2 = .leaf) ∧ (100 ≤ g.1 → ∃ k, K[g.1 - 100]? = some k ∧ k.2 ≠ none)) gv.length (fun i hi => by
    have ex : gv[i]? = some gv[i] := List.getElem?_eq_getElem hi
    obtain ⟨eq, j, c, wn, u1, ⟨u2, u2'⟩, u3, u4, u5, ⟨u6, u7, u8⟩, u9, u10⟩ := H i gv[i] ex
    obtain ⟨x', v1, v2⟩ := tkn gv[i] (List.mem_of_getElem? ex) (j + 1) u2'
    have ew : x' = wn := RA_nd R _ _ _ v2 u6
    rw [ew] at v1
    have cK : c < K.length := by
      unfold gvF at u3
      cases eq with
      | true => exact FI_lt u3
      | false => exact FI_lt u3
    have iw : ∃ k : Nat, ga τ 754 (ix + i) = (k : Int) ∧ ixF (fun x => x == wn) sc = some k := ⟨sc.idxOf wn, u8, ixF_idx u7⟩
    cases eq with
    | true =>
      obtain ⟨T, t1, t2, t3⟩ := u10 rfl
      refine ⟨(100 + c, wn, T), gv[i], ex, by rw [u5]; simp only [if_true]; omega, ⟨by show 100 + c < 108; omega, fun z => by have z' : 100 + c < 100 := z; omega, fun _ => by show 100 + c - 100 < _; omega⟩, iw, t3, u7, v1, .inl ⟨by show 100 ≤ 100 + c; omega, u1.mp rfl, ?_, ?_, t2⟩, fun _ => t1, fun z => by have z' : 100 + c < 100 := z; omega, fun _ => ?_⟩
      · show _ = clF cs (100 + c - 100)
        rw [show 100 + c - 100 = c by omega]; exact u4
      · show clO h (clF cs) (100 + c - 100)
        rw [show 100 + c - 100 = c by omega]; exact RA_clO R cK
      · have ek : K[c]? = some (K[c]'cK) := List.getElem?_eq_getElem cK
        refine ⟨K[c]'cK, ?_, ?_⟩
        · show K[100 + c - 100]? = _
          rw [show 100 + c - 100 = c by omega]; exact ek
        · have u3' : FI Prod.snd (tokw S j) K = some c := u3
          rw [FI_at u3' ek]
          intro z; cases z
    | false =>
      refine ⟨(c, wn, .leaf), gv[i], ex, by rw [u5]; simp, ⟨by show c < 108; omega, fun _ => cK, fun z => by have z' : 100 ≤ c := z; omega⟩, iw, ?_, u7, v1, .inr ⟨by show c < 100; omega, Classical.byContradiction (fun z => by have := u1.mpr z; cases this), u4, RA_clO R cK⟩, fun z => by have z' : 100 ≤ c := z; omega, fun _ => rfl, fun z => by have z' : 100 ≤ c := z; omega⟩
      show ga τ 758 (ix + i) = -1
      exact u9 rfl)
  refine ⟨l, ⟨⟨by omega, by rw [k1]; exact kS⟩, ?_, ⟨?_, by omega⟩, fun i x g e1 e2 => ?_⟩, le, fun j g e => ?_⟩
  · rw [k3 _ (by decide), eL]
    exact ⟨hSl Lg rL.1 (by omega) (by rw [l1]; exact kL) nh, by omega, by rw [l1]; exact kL⟩
  · rw [k3 _ (by decide), eL, l4, el, le]
  · rw [k3 _ (by decide), eL, l4, el] at e1
    obtain ⟨x', p1, p2, p3, p4, p5, p6, p7, p8, _⟩ := lp i g e2
    rw [p1] at e1
    have ee := Option.some.inj e1
    subst ee
    have r0 := rg x' (List.mem_of_getElem? p1)
    exact ⟨⟨by omega, by rw [(R.2.2.2.2.1.1 x' r0.1 r0.2.1).1]; exact r0.2.2⟩, p7, p8⟩
  · obtain ⟨x', p1, p2, p3, p4, p5, p6, p7, p8, p9, p10⟩ := lp j g e
    exact ⟨p2, p3, p4, p5, p6, p9, p10⟩
end LP1
