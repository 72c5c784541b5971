set_option maxRecDepth 100000
/-! RESOLVE: a function in the component, up to its givens; the function alone -/
/-- no name stands around -/
def sc0 (τ : tS) : tS := us τ 784 0
theorem sc0_fr {τ : tS} : fr [784] [778] τ (sc0 τ) := ⟨fun f hf => (gs_us τ 784 0 f).trans (if_neg (fun z => hf (by rw [z]; simp))), fun _ _ _ => rfl⟩
theorem sc0_sc {τ : tS} : SCt (sc0 τ) [] := ⟨(gs_us τ 784 0 784).trans (if_pos rfl), by simp, fun i v e => by cases e⟩
theorem pw_len : ∀ {os : List Nat} {lo hi : Nat}, os.Pairwise (· < ·) → (∀ o ∈ os, lo ≤ o ∧ o < hi) → os.length ≤ hi - lo
  | [], _, _, _, _ => by simp
  | o :: os, lo, hi, pw, r => by
    obtain ⟨p1, p2⟩ := List.pairwise_cons.mp pw
    have r0 := r o List.mem_cons_self
    have := pw_len (lo := o + 1) (hi := hi) p2 (fun y hy => ⟨p1 y hy, (r y (List.mem_cons_of_mem _ hy)).2⟩)
    rw [List.length_cons]
    omega
section LRQ
variable {G : om_G} {A : Nat} {S : List Int} {b m : Nat} {N : List (List Int)} {cs : List Nat} {K : KT} {pr Ln : Nat} {Ls : List (List Int)} {sc : List Nat} {tb : Nat} {rest : List (Nat × List Nat)} {fo : List Nat} {F : FT} {mo : List (List Nat)} {Ms : List FT}
variable {h h' h2 hr : om_H} {ul fl ul' fl' : List Nat} {σ τ υ σr : tS} {n n' q z u lo hi alo ahi a0 amid a c w k : Nat} {B B2 : List Int} {X : Int} {L : List Int}
theorem wrow_get {ws : List Nat} : ∀ {j i w : Nat}, wrow A S h alo ahi j ws → ws[i]? = some w → (alo ≤ w ∧ w < ahi) ∧ wd h A S w (j + i) ∧ tokk S (j + i) = 2 := by
  induction ws with
  | nil => intro j i w _ e; cases e
  | cons x ws ih =>
    intro j i w H e
    cases i with
    | zero =>
      have e' : x = w := Option.some.inj e
      rw [← e', Nat.add_zero]
      exact ⟨⟨H.1, H.2.1⟩, H.2.2.1, H.2.2.2.1⟩
    | succ i =>
      have := ih H.2.2.2.2 (show ws[i]? = some w from e)
      rwa [show j + 1 + i = j + (i + 1) by omega] at this
theorem wrow_WL (X : txC h A S) (hA : A < hz h) (hh : ahi ≤ hz h) : ∀ {ws : List Nat} {j : Nat}, wrow A S h alo ahi j ws → WL h ws ((List.range' j ws.length).map (tokw S))
  | [], _, _ => trivial
  | w :: ws, j, H => by
    rw [List.length_cons, List.range'_succ, List.map_cons]
    exact ⟨⟨by have := H.2.1; omega, by rw [H.2.2.1.2.1]; exact hA, wd_wb X H.2.2.1⟩, wrow_WL X hA hh H.2.2.2.2⟩
theorem wrow_hkF (H : hkF alo ahi h h') : ∀ {ws : List Nat} {j : Nat}, wrow A S h alo ahi j ws → wrow A S h' alo ahi j ws
  | [], _, _ => trivial
  | w :: ws, j, W => ⟨W.1, W.2.1, wd_hkF H W.1 W.2.1 W.2.2.1, W.2.2.2.1, wrow_hkF H W.2.2.2.2⟩
/-- names in a row are a scope -/
theorem wrow_SCc {ws : List Nat} {j : Nat} (em : tokk S m = 0) (hm : m ≤ 1300) (X : txC h A S) (hA : A < hz h) (hh : ahi ≤ hz h) (kL : kd h Ln = 42) (hL : Ln < hz h) (el : ll h Ln = ws) (W : wrow A S h alo ahi j ws) : SCc h Ln ((List.range' j ws.length).map (tokw S)) ∧ ws.length ≤ m ∧ ∀ i, i < ws.length → tokk S (j + i) = 2 := by
  have tk : ∀ i, i < ws.length → tokk S (j + i) = 2 := fun i hi => (wrow_get W (List.getElem?_eq_getElem hi)).2.2
  have lm : ws.length ≤ m := by
    by_cases c : ws.length = 0
    · omega
    · have := tok_in em (j := j + (ws.length - 1)) (by rw [tk _ (by omega)]; decide)
      omega
  exact ⟨⟨hL, kL, by rw [el]; omega, by rw [el]; exact wrow_WL X hA hh W⟩, lm, tk⟩
theorem bj_brkE {j0 : Nat} (k : brkE S b m σ lo hi X) (nv : ∀ i : Nat, lo ≤ i → i < hi → ((b + j0 : Nat) : Int) ≤ ga σ 542 i ∧ (ga σ 538 i = 17 → ((b + j0 : Nat) : Int) ≤ ga σ 554 i)) : bj S j0 [X] := fun y hy => by
  rw [List.mem_singleton.mp hy]
  rcases k with k | ⟨v, j, k1, k2, k3, k4, k5⟩
  · exact .inl k
  · have n1 := nv v k1 k2
    rcases k3 with k3 | ⟨k3, k6⟩
    · rw [k3] at n1
      exact .inr ⟨j, by omega, k5⟩
    · have := n1.2 k3
      exact .inr ⟨j, by omega, k5⟩
/-- the head of a function: too many, its names -/
theorem rf_head {f so j0 j1 : Nat} {ws : List Nat} {w0 : Nat} (H : RX G A S N cs K pr tb rest fo F mo Ms h ul fl) (kf : kd h f = 33) (e30 : fR h 1530 f = w0) (w0d : wd h A S w0 j0) (e42 : fR h 1542 f = so) (ks : kd h so = 5 ∧ fR h 162 so = Ln) (C : SCc h Ln ((List.range' j1 ws.length).map (tokw S))) (el : ll h Ln = ws) (W : wrow A S h alo ahi j1 ws) :
    C_1_resolveFunction G pr f (k : Int) h = (om_loop (C_1_resolveGivens_2s G pr so) (0, ruH h pr ((if k < 24 then [] else [(tokq S j0 : Int)]) ++ nmBC S [] 0 (List.range' j1 ws.length)))).bind fun p3 => CRt G pr f p3 := by
  have kp := H.1.2.2.1.1.1
  have tm := c_tooMany (G := G) (h := h) (pr := pr) (x := (tokq S j0 : Int)) (i := k) (n := 24) kp
  have F1 : hF [112] h (ruH h pr (if k < 24 then [] else [(tokq S j0 : Int)])) := ruH_F
  have nm := c_nmF (G := G) (S := S) (f := f) (so := so) (Ln := Ln) (pr := pr) (Ls := (List.range' j1 ws.length).map (tokw S)) (List.range' j1 ws.length) 0 [] (ruH h pr (if k < 24 then [] else [(tokq S j0 : Int)])) kf e42 ks.1 ks.2 kp (hF_SCc F1 (by decide) C) rfl rfl (fun i j e => by
    have il := (List.getElem?_eq_some_iff.mp e).1
    rw [List.length_range'] at il
    have ew : ws[i]? = some ws[i] := List.getElem?_eq_getElem il
    obtain ⟨g1, g2, g3⟩ := wrow_get W ew
    have ej : j = j1 + i := by
      rw [List.getElem?_range' il] at e
      have := Option.some.inj e
      omega
    refine ⟨ws[i], by show (ll h Ln)[0 + i]? = _; rw [el, Nat.zero_add]; exact ew, ?_⟩
    rw [(F1.2 _).2.1 1188 (by decide), ej]
    exact g2.2.2.1)
  rw [show ((0 : Nat) : Int) = 0 from rfl, ruH_app] at nm
  rw [CRt_eq, e30, gd_pos ⟨kf, w0d.1, kp⟩, w0d.2.2.1, show (24 : Int) = ((24 : Nat) : Int) from rfl, tm, Option.bind_some, nm, Option.bind_some, gd_pos ⟨kf, kp⟩]
  unfold C_1_resolveGivens
  have e42' : fR (ruH h pr ((if k < 24 then [] else [(tokq S j0 : Int)]) ++ nmBC S [] 0 (List.range' j1 ws.length))) 1542 f = so := e42
  rw [e42']
  cases om_loop (C_1_resolveGivens_2s G pr so) (0, ruH h pr ((if k < 24 then [] else [(tokq S j0 : Int)]) ++ nmBC S [] 0 (List.range' j1 ws.length))) with
  | none => rfl
  | some y => rfl
set_option maxHeartbeats 1000000 in
/-- A FUNCTION in the component alone -/
theorem fun_alone {f d j0 : Nat} {nb : Int} (em : tokk S m = 0) (hm : m ≤ 1300) (W : funR G A S b hr σr lo hi a0 amid f d j0 nb) (nv : nvR ((b + j0 : Nat) : Int) lo hi d σr) (V : hkV a0 amid hr h) (Hn : nall lo hi σr τ) (H : RX G A S N cs K pr tb rest fo F mo Ms h ul fl) (U : TU S b m N K F Ms τ n) (R : KR S lo hi a0 amid pr tb h ul fl n) (e78 : fR h 78 pr = tb) (h42 : hi - lo ≤ 4200) :
    ∃ (h' : om_H) (ul' fl' : List Nat) (BC : List Int), C_1_resolveFunction G pr f (k : Int) h = some h' ∧ RS G A S N cs K pr tb rest fo F mo Ms a0 amid h ul fl h' ul' fl' (hi - lo) (6 * (hi - lo) + 2) (60 * (hi - lo) + 200) BC ∧ bj S j0 BC ∧ (¬ k < 24 → (tokq S j0 : Int) ∈ BC) := by
  obtain ⟨w, so, Lsa, Lg, wr, ex, j1, m1, m2, am, ag, a1, a2, a3, nT, nX, kk, ws, xs, os, b1, b2, b3, b4, b5, b6, b7, b8, b9⟩ := W
  have gi := grows_in b5.2.2.1
  have wi := WR_in b6
  have xi := XR_in _ _ _ _ _ _ _ b7
  have Vf := hkV_F V
  have zA := R.1.2.1
  have D := R.2.1
  have X1 := H.1.2.1
  obtain ⟨⟨f1, f2, f3, f4, f5, f6⟩, _, ⟨f7, f8, f9⟩⟩ := b1
  obtain ⟨x1, x2, x3, _⟩ := V f (by omega) (by omega)
  obtain ⟨y1, y2, y3, _⟩ := V so (by omega) (by omega)
  obtain ⟨l1, l2, l3, l4, _⟩ := V Lsa (by omega) (by omega)
  obtain ⟨g1, g2, g3, g4, _⟩ := V Lg (by omega) (by omega)
  have W1 : wrow A S h a0 am j1 ws := wrow_hkF (hkF_sub Vf (Nat.le_refl _) (by omega)) b4.2.2.1
  have el : ll h Lsa = ws := by rw [l4]; exact b4.2.1
  obtain ⟨Sc, lw, tk⟩ := wrow_SCc (Ln := Lsa) em hm X1.1 X1.2 (show am ≤ hz h by omega) (by rw [l1]; exact b4.1) (by omega) el W1
  have w0d := wd_hkF Vf b3.1 (by omega) b3.2.2.1
  have hd := rf_head (G := G) (k := k) (so := so) H (by rw [x1]; exact f1) (by rw [x3 1530 (by decide)]; exact f2) w0d (by rw [x3 1542 (by decide)]; exact f4) ⟨by rw [y1]; exact f7, by rw [y3 162 (by decide)]; exact f8⟩ Sc el W1
  have H1 := RS_ruH (alo := a0) (ahi := amid) H ((if k < 24 then [] else [(tokq S j0 : Int)]) ++ nmBC S [] 0 (List.range' j1 ws.length))
  have D1 : dj (ruH h pr ((if k < 24 then [] else [(tokq S j0 : Int)]) ++ nmBC S [] 0 (List.range' j1 ws.length))) tb fl pr a0 amid := D
  have V1 : hkV a0 amid h (ruH h pr ((if k < 24 then [] else [(tokq S j0 : Int)]) ++ nmBC S [] 0 (List.range' j1 ws.length))) := hkV_ru D
  have Sc1 : SCc (ruH h pr ((if k < 24 then [] else [(tokq S j0 : Int)]) ++ nmBC S [] 0 (List.range' j1 ws.length))) Lsa ((List.range' j1 ws.length).map (tokw S)) := hF_SCc ruH_F (by decide) Sc
  have R1 : KR S lo hi a0 amid pr tb (ruH h pr ((if k < 24 then [] else [(tokq S j0 : Int)]) ++ nmBC S [] 0 (List.range' j1 ws.length))) ul fl n := R
  have e78' : fR (ruH h pr ((if k < 24 then [] else [(tokq S j0 : Int)]) ++ nmBC S [] 0 (List.range' j1 ws.length))) 78 pr = tb := e78
  generalize ruH h pr ((if k < 24 then [] else [(tokq S j0 : Int)]) ++ nmBC S [] 0 (List.range' j1 ws.length)) = h1 at *
  have Va := hkV_trans V V1
  have Vaf := hkV_F Va
  obtain ⟨p1, p2, p3, _⟩ := Va so (by omega) (by omega)
  obtain ⟨r1, r2, r3, r4, _⟩ := Va Lg (by omega) (by omega)
  have z1 := H1.2.1.1.1
  have gl : xs.length ≤ 5000 := by have := pw_len (grows_pw b5.2.2.1) gi.2.2.1; have := gi.2.2.2.2; omega
  have nL : Lsa ≠ fR h1 122 tb := fun e => by have := D1 Lsa (.inl (.inr (.inl e))); omega
  have sg : sgF h1 pr tb so Lg Lsa ((List.range' j1 ws.length).map (tokw S)) xs := ⟨⟨by rw [p1]; exact f7, by rw [p3 166 (by decide)]; exact f9, by rw [p3 162 (by decide)]; exact f8⟩, ⟨by rw [r1]; exact b5.1, by rw [r4]; exact b5.2.1, gl⟩, ⟨Sc1, nL⟩, e78'⟩
  obtain ⟨U1, eb⟩ := KU_sc U sc0_fr sc0_sc
  have Hn1 : nall lo hi σr (sc0 τ) := Hn
  have nvg : ∀ i : Nat, lo ≤ i → i < hi → ((b + j0 : Nat) : Int) ≤ ga (sc0 τ) 542 i ∧ (ga (sc0 τ) 538 i = 17 → ((b + j0 : Nat) : Int) ≤ ga (sc0 τ) 554 i) := fun i e1 e2 => by
    rw [Hn1 542 (by simp) i e1 e2, Hn1 538 (by simp) i e1 e2, Hn1 554 (by simp) i e1 e2]
    exact nv.2 i e1 e2
  have Wg : grows A S b h1 (sc0 τ) xs os lo m1 am ag := grows_keepF b5.2.2.1 (hkF_sub Vaf (by omega) (by omega)) (fun g hg i e1 e2 => Hn1 g hg i e1 (by omega))
  obtain ⟨h3, ul3, fl3, B3, k1, k2, k3, k4, k5, k6⟩ := rg_alone (G := G) (j0 := j0) (lo0 := lo) (hi := m1) (ahi := ag) U1 ⟨by omega, show so < amid by omega⟩ ⟨by omega, show Lg < amid by omega⟩ (fun i e1 e2 => (nvg i e1 (by omega)).1) xs os 0 lo am h1 ul fl [] Wg (by omega) (by omega) (Nat.le_refl _) H1.1 sg rfl rfl (KR_sub R1 (Nat.le_refl _) (by omega) (Nat.le_refl _) (Nat.le_refl _))
  have z3 := k2.2.1.1.1
  have ll3 := k2.2.1.2.2.2.1
  have V3 := hkV_trans Va k3
  have V3f := hkV_F V3
  obtain ⟨q1, q2, q3, _⟩ := V3 f (by omega) (by omega)
  obtain ⟨s1, s2, s3, _⟩ := V3 so (by omega) (by omega)
  have D3 := dj_CS D1 k2.2.1 (by omega)
  have nL3 : Lsa ≠ fR h3 122 tb := fun e => by have := D3 Lsa (.inl (.inr (.inl e))); omega
  obtain ⟨t, τ1, τ3, n3, h4, ul4, fl4, XC1, XT1, XC2, XT2, v1, v2, v3, v4, v5, v6, v7, v8, v9, v10, v11, v12, v13, v14, v15, v16, v17, v18⟩ := rf_tail (fi := 0) (a0 := a0) (amid := amid) k2.1 (by rw [q1]; exact f1) (show a0 ≤ f ∧ f < a1 by omega) (by rw [q3 1542 (by decide)]; exact f4) ⟨by rw [s1]; exact f7, show so < hz h3 by omega, by rw [s3 162 (by decide)]; exact f8⟩ (show a0 ≤ so ∧ so < a1 by omega) ⟨k5, nL3⟩ (by rw [k2.2.2.1.2 78]; exact e78') (by rw [q3 1546 (by decide)]; exact f5) (by rw [q3 1554 (by decide)]; exact f6) (WR_keepF b6 (hkF_sub V3f (by omega) (by omega)) (nall_nk (fun g hg i e1 e2 => Hn1 g hg i (by omega) (by omega)) (Nat.le_refl _) (Nat.le_refl _))) (X0_keepF b7 (hkF_sub V3f (by omega) (by omega)) (fun g hg i e1 e2 => Hn1 g hg i (by omega) e2)) ⟨by omega, by omega⟩ U1 ⟨U.2.1.1, U.2.1.2⟩ (fun w L e => U.2.2 w L e) ⟨⟨R.1.1, by omega, R.1.2.2⟩, D3, by have := R.2.2.1; omega, by have := R.2.2.2; omega⟩ (by omega) (by omega)
  have ej1 : ws = [] ∨ j0 ≤ j1 := by
    rcases b4.2.2.2.1 with e | e
    · exact .inl e.1
    · have := nv.1 594 (by simp)
      rw [e] at this
      exact .inr (by omega)
  refine ⟨h4, ul4, fl4, _, ?_, RS_le (RS_trans (RS_trans H1 k2) v4) (by omega) (by omega) (by omega), bj_app (bj_app (bj_app (bj_if (Nat.le_refl _)) ?_) k4) ?_, fun hk => ?_⟩
  · rw [hd]
    rw [show (0 : Int) = ((0 : Nat) : Int) from rfl, k1, Option.bind_some, v3]
  · intro y hy
    obtain ⟨j, e1, e2⟩ := nmBC_mem hy
    rw [List.mem_range'_1] at e1
    rcases ej1 with e | e
    · rw [e] at e1; simp at e1; omega
    · exact .inr ⟨j, by omega, e2⟩
  · intro y hy
    rcases List.mem_cons.mp hy with e | hy
    · exact bj_brk v16.1 (fun i e1 e2 => (nvg i (by omega) (by omega)).1) y (by rw [e]; exact List.mem_cons_self)
    · exact bj_brkE v17.1 (fun i e1 e2 => nvg i (by omega) e2) y hy
  · rw [if_neg hk]
    simp
end LRQ
