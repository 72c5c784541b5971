set_option maxRecDepth 100000
/-! RESOLVE: a function in both -/
/-- a function that is known: fi its place in the twin's tables -/
def FnK (G : om_G) (A : Nat) (S : List Int) (b : Nat) (N : List (List Int)) (cs : List Nat) (K : KT) (rest : List (Nat × List Nat)) (fo : List Nat) (F : FT) (mo : List (List Nat)) (Ms : List FT) (h : om_H) (ul : List Nat) (τ : tS) (n f fi z1 m2 hi a2 a3 ex nX : Nat) (Ls : List (List Int)) (gv : List Nat) : Prop :=
  ∃ (sc : List Nat) (z0 : Nat), bdL N sc Ls ∧ (ga τ 738 fi = (sc.length : Int) ∧ sc.length ≤ 4 ∧ ∀ i w : Nat, sc[i]? = some w → ga τ 742 (4 * fi + i) = (w : Int)) ∧ (ga τ 746 fi = (gv.length : Int) ∧ gv.length ≤ 4 ∧ ∀ i x : Nat, gv[i]? = some x → GvK A S N cs K sc rest h ul τ n (4 * fi + i) x) ∧ (∃ T : Ty, tyM T ∧ tyC h N (clF cs) (UU ul rest) T (fR h 1550 f) ∧ tyT τ n T (ga τ 762 fi)) ∧ z1 ≤ z0 ∧ XS G A S b h τ (Psi1 S b N cs rest fo F mo Ms z0 h ul τ n) 100 0 m2 hi a2 a3 ex nX
abbrev FRA : List Nat := [738, 742, 746, 750, 754, 758, 762, 778, 550, 782, 850] ++ TYA
theorem nmBT_mem {S : List Int} : ∀ {js : List Nat} {tn : List (List Int)} {k : Nat} {y : Int}, y ∈ nmBT S tn k js → ∃ j ∈ js, y = (tokq S j : Int)
  | [], _, _, _, h => absurd h List.not_mem_nil
  | j :: js, tn, k, y, h => by
    unfold nmBT at h
    split at h
    · rcases List.mem_append.mp h with h | h
      · split at h
        · exact ⟨j, List.mem_cons_self, List.mem_singleton.mp h⟩
        · exact absurd h List.not_mem_nil
      · obtain ⟨i, h1, h2⟩ := nmBT_mem h
        exact ⟨i, List.mem_cons_of_mem _ h1, h2⟩
    · exact ⟨j, List.mem_cons_self, List.mem_singleton.mp h⟩
theorem T_fillFunction_eq {fi d : Nat} {τ τ1 τ2 : tS} (hf : fi < 24) (hd : d < 700) (e730 : ga τ 730 fi = (d : Int)) (nm : ∀ g : tS → Option tS, (om_loop (T_fillFunction_21s (fi : Int) (d : Int)) (((0 : Nat) : Int), ua (sc0 τ) 738 fi 0)).bind (Sum.elim g g) = g τ1) (gv : ∀ Kf : tS → Option tS, ((om_loop (T_fillFunction_146s (fi : Int) (d : Int)) (ga τ1 606 d, ua τ1 746 fi 0)).bind (Sum.elim (fun v1 => if 0 ≤ v1.1 ∧ v1.1 < 8400 then ((T_breaks 2 (ga v1.2 542 v1.1.toNat) v1.2).bind fun p2 => Kf p2) else none) (fun v2 => Kf v2))) = Kf τ2) : T_fillFunction (fi : Int) τ = T_fillFunction_362 (fi : Int) (d : Int) τ2 := by
  unfold T_fillFunction
  have fN : ((fi : Int)).toNat = fi := by omega
  rw [if_pos (by omega), fN, e730]
  have e := nm (fun v1 => T_fillFunction_132 (fi : Int) (d : Int) v1)
  show (om_loop (T_fillFunction_21s (fi : Int) (d : Int)) (0, ua (sc0 τ) 738 fi 0)).bind (Sum.elim (fun v1 => T_fillFunction_132 (fi : Int) (d : Int) v1) (fun v1 => T_fillFunction_132 (fi : Int) (d : Int) v1)) = _
  refine Eq.trans e ?_
  unfold T_fillFunction_132
  rw [if_pos (by omega), fN, show ((d : Int)).toNat = d by omega]
  exact gv (fun v => T_fillFunction_362 (fi : Int) (d : Int) v)
theorem grows_kd {A : Nat} {S : List Int} {b : Nat} {h : om_H} {σ : tS} : ∀ {xs os : List Nat} {lo hi alo ahi : Nat}, grows A S b h σ xs os lo hi alo ahi → ∀ x ∈ xs, kd h x = 22
  | [], [], _, _, _, _, _, x, hx => absurd hx List.not_mem_nil
  | y :: xs, o :: os, _, _, _, _, ⟨j, a2, q1, q2, q3, q4, q5, q6⟩, x, hx => by
    rcases List.mem_cons.mp hx with e | hx
    · rw [e]; exact q2.1
    · exact grows_kd q6 x hx
  | [], _ :: _, _, _, _, _, r, _, _ => r.elim
  | _ :: _, [], _, _, _, _, r, _, _ => r.elim
theorem grows_wd {A : Nat} {S : List Int} {b : Nat} {h : om_H} {σ : tS} : ∀ {xs os : List Nat} {lo hi alo ahi : Nat}, grows A S b h σ xs os lo hi alo ahi → ∀ x ∈ xs, (alo ≤ fR h 1338 x ∧ fR h 1338 x < ahi ∧ kd h (fR h 1338 x) = 17) ∧ (alo ≤ fR h 1342 x ∧ fR h 1342 x < ahi ∧ kd h (fR h 1342 x) = 17)
  | [], [], _, _, _, _, _, x, hx => absurd hx List.not_mem_nil
  | y :: xs, o :: os, _, _, _, _, ⟨j, a2, q1, q2, q3, q4, q5, q6⟩, x, hx => by
    have gi := grows_in q6
    rcases List.mem_cons.mp hx with e | hx
    · rw [e]; exact ⟨⟨q3.1, by omega, q3.2.2.1⟩, ⟨q4.1, by omega, q4.2.2.1⟩⟩
    · have := grows_wd q6 x hx
      exact ⟨⟨by omega, by omega, this.1.2.2⟩, ⟨by omega, by omega, this.2.2.2⟩⟩
  | [], _ :: _, _, _, _, _, r, _, _ => r.elim
  | _ :: _, [], _, _, _, _, r, _, _ => r.elim
section LRU
variable {G : om_G} {A : Nat} {S : List Int} {b m : Nat} {N : List (List Int)} {cs : List Nat} {K : KT} {pr Ln : Nat} {Ls : List (List Int)} {sc : List Nat} {tb : Nat} {rest : List (Nat × List Nat)} {fo : List Nat} {F : FT} {mo : List (List Nat)} {Ms : List FT}
variable {h h' h2 hr : om_H} {ul fl ul' fl' : List Nat} {σ τ υ σr : tS} {n n' q z u lo hi alo ahi a0 amid a c w k : Nat} {B B2 : List Int} {X : Int} {L : List Int}
set_option maxHeartbeats 2000000 in
/-- A FUNCTION BECOMES KNOWN ALIKE -/
theorem fun_res {f d j0 fi : Nat} {nb : Int} (em : tokk S m = 0) (hm : m ≤ 1300) (W : funR G A S b hr σr lo hi a0 amid f d j0 nb) (fv : fvR lo hi d σr) (nv : nvR ((b + j0 : Nat) : Int) lo hi d σr) (V : hkV a0 amid hr h) (Hn : nall lo hi σr τ) (Hd : ∀ g ∈ DA, ga τ g d = ga σr g d) (H : RX G A S N cs K pr tb rest fo F mo Ms h ul fl) (U : TU S b m N K F Ms τ n) (R : KR S lo hi a0 amid pr tb h ul fl n) (e78 : fR h 78 pr = tb) (h42 : hi - lo ≤ 4200) (hd : d < 700) (hk : k < 24) (hfi : fi < 24) (e730 : ga τ 730 fi = (d : Int)) :
    ∃ (h' : om_H) (ul' fl' : List Nat) (τ' : tS) (n' : Nat) (BC B : List Int), C_1_resolveFunction G pr f (k : Int) h = some h' ∧ T_fillFunction (fi : Int) τ = some τ' ∧ RS G A S N cs K pr tb rest fo F mo Ms a0 amid h ul fl h' ul' fl' (hi - lo) (6 * (hi - lo) + 2) (60 * (hi - lo) + 200) BC ∧ TU S b m N K F Ms τ' n' ∧ fr [452, 456, 532, 784, 788, 856] FRA τ τ' ∧ (∀ i, (lo ≤ i ∧ i < hi) ∨ ga τ' 550 i = ga τ 550 i) ∧ ((∀ g ∈ [738, 746, 762], ∀ i, i ≠ fi → ga τ' g i = ga τ g i) ∧ ∀ g ∈ [742, 750, 754, 758], ∀ i, (i < 4 * fi ∨ 4 * fi + 4 ≤ i) → ga τ' g i = ga τ g i) ∧ tx τ n τ' n' ∧ n' ≤ n + (hi - lo) ∧ bp τ' = mnl (bp τ) B ∧ bj S 0 B ∧ lbE BC B ∧
      ((∀ y ∈ B, y = 2147483647) → ∃ (m2 a2 a3 nX j1 : Nat), (lo ≤ m2 ∧ a0 ≤ a2 ∧ a3 ≤ amid ∧ ga τ' 622 d = (nX : Int) ∧ (∀ x ∈ ll hr (fR hr 166 (fR hr 1542 f)), fR h' 1338 x = fR hr 1338 x ∧ fR h' 1342 x = fR hr 1342 x) ∧ (∃ y0 y1, wrow A S hr y0 y1 j1 (ll hr (fR hr 162 (fR hr 1542 f))))) ∧ FnK G A S b N cs K rest fo F mo Ms h' ul' τ' n' f fi (hz h) m2 hi a2 a3 (fR hr 1554 f) nX ((List.range' j1 (ll hr (fR hr 162 (fR hr 1542 f))).length).map (tokw S)) (ll hr (fR hr 166 (fR hr 1542 f)))) := by
  obtain ⟨w, so, Lsa, Lg, wr, ex, j1, m1, m2, am, ag, a1, a2, a3, nT, nX, kk, ws, xs, os, b1, b2, b3, b4, b5, b6, b7, b8, b9⟩ := W
  have gi := grows_in b5.2.2.1
  have wi := WR_in b6
  have xi := XR_in _ _ _ _ _ _ _ b7
  have Vf := hkV_F V
  have zA := R.1.2.1
  have hS := R.1.2.2.2
  have D := R.2.1
  have X1 := H.1.2.1
  have hN := H.1.1.2
  obtain ⟨⟨f1, f2, f3, f4, f5, f6⟩, _, ⟨f7, f8, f9⟩⟩ := b1
  obtain ⟨x1, x2, x3, _⟩ := V f (by omega) (by omega)
  obtain ⟨y1, y2, y3, _⟩ := V so (by omega) (by omega)
  obtain ⟨l1, l2, l3, l4, _⟩ := V Lsa (by omega) (by omega)
  have W1 : wrow A S h a0 am j1 ws := wrow_hkF (hkF_sub Vf (Nat.le_refl _) (by omega)) b4.2.2.1
  have el : ll h Lsa = ws := by rw [l4]; exact b4.2.1
  obtain ⟨Sc, lw, tk⟩ := wrow_SCc (Ln := Lsa) em hm X1.1 X1.2 (show am ≤ hz h by omega) (by rw [l1]; exact b4.1) (by omega) el W1
  have w0d := wd_hkF Vf b3.1 (by omega) b3.2.2.1
  have hdC := rf_head (G := G) (k := k) (so := so) H (by rw [x1]; exact f1) (by rw [x3 1530 (by decide)]; exact f2) w0d (by rw [x3 1542 (by decide)]; exact f4) ⟨by rw [y1]; exact f7, by rw [y3 162 (by decide)]; exact f8⟩ Sc el W1
  rw [if_pos hk, List.nil_append] at hdC
  have H1 := RS_ruH (alo := a0) (ahi := amid) H (nmBC S [] 0 (List.range' j1 ws.length))
  have D1 : dj (ruH h pr (nmBC S [] 0 (List.range' j1 ws.length))) tb fl pr a0 amid := D
  have V1 : hkV a0 amid h (ruH h pr (nmBC S [] 0 (List.range' j1 ws.length))) := hkV_ru D
  have Sc1 : SCc (ruH h pr (nmBC S [] 0 (List.range' j1 ws.length))) Lsa ((List.range' j1 ws.length).map (tokw S)) := hF_SCc ruH_F (by decide) Sc
  have zz1 : hz (ruH h pr (nmBC S [] 0 (List.range' j1 ws.length))) = hz h := rfl
  have e78' : fR (ruH h pr (nmBC S [] 0 (List.range' j1 ws.length))) 78 pr = tb := e78
  generalize ruH h pr (nmBC S [] 0 (List.range' j1 ws.length)) = h1 at *
  -- the twin's names
  have R0 : fr [784] [738, 778] τ (ua (sc0 τ) 738 fi 0) := fr_ua (fr_wide sc0_fr (by simp) (by simp)) (by simp)
  have C0 : SCt (ua (sc0 τ) 738 fi 0) [] := SCt_fr (fs := []) (as := [738]) sc0_sc (fr_ua (fr_refl _ _ _) (by simp)) (by simp) (by decide)
  have U0' := (KU_sc U sc0_fr sc0_sc).1
  obtain ⟨U0, eb0⟩ := KU_tab (as := [738]) U0' (fr_ua (σ := sc0 τ) (f := 738) (i := fi) (x := 0) (fr_refl _ _ _) (by simp)) (by decide)
  have eb0' : bp (ua (sc0 τ) 738 fi 0) = bp τ := by rw [eb0]; exact (KU_sc U sc0_fr sc0_sc).2
  have e738 : ga (ua (sc0 τ) 738 fi 0) 738 fi = ((0 : Nat) : Int) := by rw [ga_ua, if_pos ⟨rfl, rfl⟩]; rfl
  have e738' : ∀ i, i ≠ fi → ga (ua (sc0 τ) 738 fi 0) 738 i = ga τ 738 i := fun i hi => by rw [ga_ua, if_neg (fun z => hi z.2)]; rfl
  have e59 : (ws.length = 0 ∨ ga (ua (sc0 τ) 738 fi 0) 594 d = ((b + j1 : Nat) : Int)) ∧ ga (ua (sc0 τ) 738 fi 0) 598 d = (ws.length : Int) := by
    rw [R0.2 594 (by decide), R0.2 598 (by decide), Hd 594 (by simp), Hd 598 (by simp)]
    refine ⟨?_, b4.2.2.2.2⟩
    rcases b4.2.2.2.1 with e | e
    · exact .inl (by rw [e.1]; rfl)
    · exact .inr e
  obtain ⟨τ1, sc', n1, n2, n3, n4, n5, n6, n7, n8, n9, n10⟩ := t_nmF (K := K) (n := n) (b := b) (m := m) hN hS hfi hd (show ws.length ≤ 1300 by omega) tk ws.length 0 [] [] (ua (sc0 τ) 738 fi 0) (by omega) (by omega) e59 U0 rfl ⟨rfl, fun i w L e => (by cases e)⟩ e738 (fun i w e => (by cases e))
  rw [Nat.add_zero, List.nil_append, Nat.sub_zero] at n6
  rw [Nat.add_zero, eb0'] at n4
  generalize hτ0 : ua (sc0 τ) 738 fi 0 = τ0 at *
  -- the twin's count of givens
  have R2 : fr [] [746] τ1 (ua τ1 746 fi 0) := fr_ua (fr_refl _ _ _) (by simp)
  obtain ⟨U2, eb2⟩ := KU_tab n2 R2 (by decide)
  have e746 : ga (ua τ1 746 fi 0) 746 fi = ((0 : Nat) : Int) := by rw [ga_ua, if_pos ⟨rfl, rfl⟩]; rfl
  have e746' : ∀ i, i ≠ fi → ga (ua τ1 746 fi 0) 746 i = ga τ1 746 i := fun i hi => by rw [ga_ua, if_neg (fun z => hi z.2)]
  have F02 : fr [452, 456, 784] [738, 742, 746, 778] τ (ua τ1 746 fi 0) := fr_trans (fr_wide R0 (by decide) (by decide)) (fr_trans (fr_wide n3 (by decide) (by decide)) (fr_wide R2 (by simp) (by simp)))
  have X02 : tx τ n (ua τ1 746 fi 0) n := tx_same (fun g hg i => F02.2 g (fun z => by simp only [List.mem_cons, List.not_mem_nil, or_false] at z hg; omega) i)
  have g738 : ga (ua τ1 746 fi 0) 738 fi = ((min 4 ws.length : Nat) : Int) := by rw [R2.2 738 (by decide)]; exact n7
  have g738' : ∀ i, i ≠ fi → ga (ua τ1 746 fi 0) 738 i = ga τ 738 i := fun i hi => by rw [R2.2 738 (by decide), n9 i hi, e738' i hi]
  have g742 : ∀ i w : Nat, sc'[i]? = some w → ga (ua τ1 746 fi 0) 742 (4 * fi + i) = (w : Int) := fun i w e => by rw [R2.2 742 (by decide)]; exact n8 i w e
  have g742' : ∀ i, (i < 4 * fi ∨ 4 * fi + 4 ≤ i) → ga (ua τ1 746 fi 0) 742 i = ga τ 742 i := fun i hi => by rw [R2.2 742 (by decide), n10 i hi, R0.2 742 (by decide)]
  have g746' : ∀ i, i ≠ fi → ga (ua τ1 746 fi 0) 746 i = ga τ 746 i := fun i hi => by rw [e746' i hi, n3.2 746 (by decide), R0.2 746 (by decide)]
  have e606 : ga τ1 606 d = ga σr 606 d := by rw [n3.2 606 (by decide), R0.2 606 (by decide)]; exact Hd 606 (by simp)
  have bp2 : bp (ua τ1 746 fi 0) = mnl (bp τ) (nmBT S [] 0 (List.range' j1 ws.length)) := by rw [eb2]; exact n4
  generalize hτ2 : ua τ1 746 fi 0 = τ2 at *
  have Hn2 : nall lo hi σr τ2 := fun g hg i e1 e2 => (F02.2 g (by simp only [List.mem_cons, List.not_mem_nil, or_false] at hg ⊢; omega) i).trans (Hn g hg i e1 e2)
  -- tokens behind the forall
  have fvt : ∀ i : Nat, lo ≤ i → i < hi → ws.length ≠ 0 → ((b + (j1 + ws.length) : Nat) : Int) ≤ ga τ2 542 i ∧ (ga τ2 538 i = 17 → ((b + (j1 + ws.length) : Nat) : Int) ≤ ga τ2 554 i) := fun i e1 e2 nz => by
    have := fv i e1 e2
    rw [Hn2 542 (by simp) i e1 e2, Hn2 538 (by simp) i e1 e2, Hn2 554 (by simp) i e1 e2]
    rw [b4.2.2.2.2] at this
    rcases b4.2.2.2.1 with e | e
    · rw [e.1] at nz; exact absurd rfl nz
    · rw [e] at this
      refine ⟨by have := this.1; omega, fun z => by have := this.2 z; omega⟩
  obtain ⟨jF, nvF, ejF⟩ : ∃ jF : Nat, (∀ i : Nat, lo ≤ i → i < hi → ((b + jF : Nat) : Int) ≤ ga τ2 542 i ∧ (ga τ2 538 i = 17 → ((b + jF : Nat) : Int) ≤ ga τ2 554 i)) ∧ (ws.length ≠ 0 → jF = j1 + ws.length) := by
    by_cases nz : ws.length = 0
    · refine ⟨j0, fun i e1 e2 => ?_, fun z => absurd nz z⟩
      rw [Hn2 542 (by simp) i e1 e2, Hn2 538 (by simp) i e1 e2, Hn2 554 (by simp) i e1 e2]
      exact nv.2 i e1 e2
    · exact ⟨j1 + ws.length, fun i e1 e2 => fvt i e1 e2 nz, fun _ => rfl⟩
  have Va := hkV_trans V V1
  have Vaf := hkV_F Va
  obtain ⟨p1, p2, p3, _⟩ := Va so (by omega) (by omega)
  obtain ⟨r1, r2, r3, r4, _⟩ := Va Lg (by omega) (by omega)
  have gl : xs.length ≤ 5000 := by have := pw_len (grows_pw b5.2.2.1) gi.2.2.1; have := gi.2.2.2.2; omega
  have nL : Lsa ≠ fR h1 122 tb := fun e => by have := D1 Lsa (.inl (.inr (.inl e))); omega
  have sg : sgF h1 pr tb so Lg Lsa ((List.range' j1 ws.length).map (tokw S)) xs := ⟨⟨by rw [p1]; exact f7, by rw [p3 166 (by decide)]; exact f9, by rw [p3 162 (by decide)]; exact f8⟩, ⟨by rw [r1]; exact b5.1, by rw [r4]; exact b5.2.1, gl⟩, ⟨Sc1, nL⟩, e78'⟩
  have Wg : grows A S b h1 τ2 xs os lo m1 am ag := grows_keepF b5.2.2.1 (hkF_sub Vaf (by omega) (by omega)) (fun g hg i e1 e2 => Hn2 g hg i e1 (by omega))
  have ch : chain τ2 (ga τ1 606 d) os := by
    rw [e606]
    exact chain_keep b5.2.2.2.1 (fun o ho => Hn2 562 (by simp) o (gi.2.2.1 o ho).1 (by have := (gi.2.2.1 o ho).2; omega))
  have R1 : KR S lo hi a0 amid pr tb h1 ul fl n := ⟨⟨R.1.1, by omega, R.1.2.2⟩, D1, R.2.2⟩
  obtain ⟨h3, ul3, fl3, τ3, n3', BCg, Bg, k1, k2, k3, k4, k5, k6, k7, k8, k9, k10, k11, k12, k13⟩ := gjf (G := G) (d := d) (j0 := jF) (ahi := ag) (hi := m1) hfi ⟨by omega, show so < amid by omega⟩ ⟨by omega, show Lg < amid by omega⟩ (by omega) xs os 0 lo am h1 ul fl [] τ2 n (ga τ1 606 d) Wg ch (by omega) H1.1 sg U2 e746 (by omega) rfl rfl (KR_sub R1 (Nat.le_refl _) (by omega) (Nat.le_refl _) (Nat.le_refl _)) (fun i e1 e2 => (nvF i e1 (by omega)).1)
  obtain ⟨t1, t2, t3, t4, t5, t6⟩ := k7
  have z3 := k3.2.1.1.1
  have ll3 := k3.2.1.2.2.2.1
  have V3 := hkV_trans Va k4
  have V3f := hkV_F V3
  obtain ⟨q1, q2, q3, _⟩ := V3 f (by omega) (by omega)
  obtain ⟨s1, s2, s3, _⟩ := V3 so (by omega) (by omega)
  have D3 := dj_CS D1 k3.2.1 (by omega)
  have nL3 : Lsa ≠ fR h3 122 tb := fun e => by have := D3 Lsa (.inl (.inr (.inl e))); omega
  have Hn3 : nall lo hi σr τ3 := fun g hg i e1 e2 => (t2.2 g (by simp only [List.mem_cons, List.not_mem_nil, or_false] at hg ⊢; omega) i).trans (Hn2 g hg i e1 e2)
  have F03 : fr [452, 456, 532, 784] ([738, 742, 746, 750, 754, 758, 778] ++ TYA) τ τ3 := fr_trans (fr_wide F02 (by decide) (by decide)) (fr_wide t2 (by decide) (by decide))
  obtain ⟨t, τa, τ4, n4', h4, ul4, fl4, XC1, XT1, XC2, XT2, v1, v2, v3, v4, v5, v6, v7, v8, v9, v10, v11, v12, v13, v14, v15, v16, v17, v18⟩ := rf_tail (fi := fi) (a0 := a0) (amid := amid) k3.1 (by rw [q1]; exact f1) (show a0 ≤ f ∧ f < a1 by omega) (by rw [q3 1542 (by decide)]; exact f4) ⟨by rw [s1]; exact f7, show so < hz h3 by omega, by rw [s3 162 (by decide)]; exact f8⟩ (show a0 ≤ so ∧ so < a1 by omega) ⟨k5, nL3⟩ (by rw [k3.2.2.1.2 78]; exact e78') (by rw [q3 1546 (by decide)]; exact f5) (by rw [q3 1554 (by decide)]; exact f6) (WR_keepF b6 (hkF_sub V3f (by omega) (by omega)) (nall_nk (fun g hg i e1 e2 => Hn3 g hg i (by omega) (by omega)) (Nat.le_refl _) (Nat.le_refl _))) (X0_keepF b7 (hkF_sub V3f (by omega) (by omega)) (fun g hg i e1 e2 => Hn3 g hg i (by omega) e2)) ⟨by omega, by omega⟩ t1 ⟨by rw [F03.1 788 (by decide)]; exact U.2.1.1, by rw [F03.1 856 (by decide)]; exact U.2.1.2⟩ (fun w L e => by rw [F03.2 638 (by decide)]; exact U.2.2 w L e) ⟨⟨R.1.1, by omega, R.1.2.2⟩, D3, by have := R.2.2.1; omega, by have := R.2.2.2; omega⟩ hfi (by omega)
  have F04 : fr [452, 456, 532, 784, 788, 856] FRA τ τ4 := fr_trans (fr_wide F03 (by decide) (by decide)) (fr_wide v10 (by decide) (by decide))
  have nv3 : ∀ i : Nat, lo ≤ i → i < hi → ((b + jF : Nat) : Int) ≤ ga τ3 542 i ∧ (ga τ3 538 i = 17 → ((b + jF : Nat) : Int) ≤ ga τ3 554 i) := fun i e1 e2 => by
    rw [t2.2 542 (by decide), t2.2 538 (by decide), t2.2 554 (by decide)]
    exact nvF i e1 e2
  have bjC : bj S jF [XC1, XC2] := by
    intro y hy
    rcases List.mem_cons.mp hy with e | hy
    · exact bj_brk v16.1 (fun i e1 e2 => (nv3 i (by omega) (by omega)).1) y (by rw [e]; exact List.mem_cons_self)
    · exact bj_brkE v17.1 (fun i e1 e2 => nv3 i (by omega) e2) y hy
  have bjT : bj S jF [XT1, XT2] := by
    intro y hy
    rcases List.mem_cons.mp hy with e | hy
    · exact bj_brk v16.2 (fun i e1 e2 => (nv3 i (by omega) (by omega)).1) y (by rw [e]; exact List.mem_cons_self)
    · exact bj_brkE v17.2 (fun i e1 e2 => nv3 i (by omega) e2) y hy
  have lr : (List.range' j1 ws.length).length = ws.length := List.length_range'
  have sA4 : ws.length ≤ 4 → bdL N sc' ((List.range' j1 ws.length).map (tokw S)) := fun c4 => by
    rw [List.take_of_length_le (by rw [lr]; exact c4)] at n6
    exact n6
  have five : ¬ ws.length ≤ 4 → (tokq S (j1 + 4) : Int) ∈ nmBT S [] 0 (List.range' j1 ws.length) := fun c4 => nm_five (by omega) (by rw [Nat.sub_zero, List.getElem?_range' (by omega)])
  have asc : (List.range' j1 ws.length).Pairwise (· ≤ ·) := (List.pairwise_lt_range' (s := j1) (n := ws.length)).imp (fun h => Nat.le_of_lt h)
  have nmE := nm_lbE (S := S) (tn := []) (k := 0) asc
  refine ⟨h4, ul4, fl4, τ4, n4', _, (nmBT S [] 0 (List.range' j1 ws.length) ++ Bg) ++ [XT1, XT2], ?_, ?_, RS_le (RS_trans (RS_trans H1 k3) v4) (by omega) (by omega) (by omega), ⟨⟨v7.1, v7.2.1, v7.2.2.1, v7.2.2.2.2.1, v7.2.2.2.2.2⟩, v8, v9⟩, F04, fun i => ?_, ⟨fun g hg i hi => ?_, fun g hg i hi => ?_⟩, tx_trans X02 (tx_trans t3 v13), by omega, ?_, bj_app (bj_app (fun y hy => by obtain ⟨j, _, q2⟩ := nmBT_mem hy; exact .inr ⟨j, Nat.zero_le _, q2⟩) (bj0_of k10)) (bj0_of bjT), ?_, fun hB => ?_⟩
  · rw [hdC]
    rw [show (0 : Int) = ((0 : Nat) : Int) from rfl, k1, Option.bind_some, v3]
  · have e618 : ga τ3 618 d = (nT : Int) := by rw [F03.2 618 (by decide), Hd 618 (by simp)]; exact b9.2.2.2.1
    have e622 : ga τa 622 d = (nX : Int) := by rw [v1.2.2 622 (by decide), F03.2 622 (by decide), Hd 622 (by simp)]; exact b9.2.2.2.2
    rw [T_fillFunction_eq (τ1 := τ1) (τ2 := τ3) hfi hd e730 (by rw [hτ0]; exact n1) (by rw [hτ2]; exact k2)]
    unfold T_fillFunction_362
    rw [if_pos (by omega), show ((d : Int)).toNat = d by omega, e618, v1.1, Option.bind_some, if_pos (by omega), e622, show ((fi : Int)).toNat = fi by omega, v2, Option.bind_some]
  · rcases v11 i with e | e
    · exact .inl ⟨by omega, e.2⟩
    · exact .inr (by rw [e, F03.2 550 (by decide)])
  · have hg' : g = 738 ∨ g = 746 ∨ g = 762 := by simpa using hg
    rcases hg' with e | e | e
    · rw [e, v10.2 738 (by decide), t2.2 738 (by decide)]; exact g738' i hi
    · rw [e, v10.2 746 (by decide), k12 i hi]; exact g746' i hi
    · rw [e, v12 i hi, F03.2 762 (by decide)]
  · have hg' : g = 742 ∨ g = 750 ∨ g = 754 ∨ g = 758 := by simpa using hg
    rcases hg' with e | e | e | e
    · rw [e, v10.2 742 (by decide), t2.2 742 (by decide)]; exact g742' i hi
    · rw [e, v10.2 750 (by decide), k13 750 (by simp) i (by omega), F02.2 750 (by decide)]
    · rw [e, v10.2 754 (by decide), k13 754 (by simp) i (by omega), F02.2 754 (by decide)]
    · rw [e, v10.2 758 (by decide), k13 758 (by simp) i (by omega), F02.2 758 (by decide)]
  · rw [v15, t5, bp2, ← mnl_app, ← mnl_app, List.append_assoc]
  · by_cases c4 : ws.length ≤ 4
    · have sA := scA_bdL hN (sA4 c4)
      obtain ⟨e1, e2, _⟩ := v18 sA
      obtain ⟨y1, y2⟩ := k8 sA
      rw [e1, e2]
      exact ⟨lb_both (lb_both nmE.1 y1) lb_refl, lb_both (lb_both nmE.2 y2) lb_refl⟩
    · have q4 := five c4
      have ej := ejF (by omega)
      have le4 : (tokq S (j1 + 4) : Int) ≤ (tokq S jF : Int) := tq_i (by omega)
      have l4 : lb [(tokq S jF : Int)] (nmBT S [] 0 (List.range' j1 ws.length)) := fun y hy => ⟨_, q4, by rw [List.mem_singleton.mp hy]; exact le4⟩
      refine ⟨lb_app (lb_app (lb_l (lb_l nmE.1)) (lb_l (lb_l (lb_trans (bj_lb hS k9) l4)))) (lb_l (lb_l (lb_trans (bj_lb hS bjC) l4))), lb_app (lb_app (lb_l (lb_l nmE.2)) (lb_l (lb_l (lb_trans (lb_trans (bj_lb hS k10) l4) nmE.2)))) (lb_l (lb_l (lb_trans (lb_trans (bj_lb hS bjT) l4) nmE.2)))⟩
  · have c4 : ws.length ≤ 4 := Decidable.byContradiction (fun c4 => by
      have := hB _ (List.mem_append_left _ (List.mem_append_left _ (five c4)))
      have := tok_le S (j1 + 4)
      omega)
    have bd := sA4 c4
    have sA := scA_bdL hN bd
    obtain ⟨y1, y2, y3⟩ := k11 sA (fun y hy => hB y (List.mem_append_left _ (List.mem_append_right _ hy)))
    obtain ⟨e1, e2, e3⟩ := v18 sA
    have hX1 : XT1 = 2147483647 := hB _ (List.mem_append_right _ (by simp))
    have hX2 : XT2 = 2147483647 := hB _ (List.mem_append_right _ (by simp))
    obtain ⟨ty, z0, zl, xs4⟩ := e3 (by rw [e1]; exact hX1) (by rw [e2]; exact hX2)
    have l162 : ll hr (fR hr 162 (fR hr 1542 f)) = ws := by rw [f4, f8]; exact b4.2.1
    have l166 : ll hr (fR hr 166 (fR hr 1542 f)) = xs := by rw [f4, f9]; exact b5.2.1
    have gvw : ∀ x ∈ xs, fR h4 1338 x = fR hr 1338 x ∧ fR h4 1342 x = fR hr 1342 x := fun x hx => by
      have xr := gi.2.2.2.1 x hx
      have e := v6 x (by omega) (by omega) (fun z => by
        have := grows_kd b5.2.2.1 x hx
        rw [z, f1] at this
        omega)
      have x3' := (V3 x (by omega) (by omega)).2.2.1
      exact ⟨by rw [e.2.2.1, x3' 1338 (by decide)], by rw [e.2.2.1, x3' 1342 (by decide)]⟩
    rw [l162, l166]
    refine ⟨m2, a2, a3, nX, j1, ⟨by omega, by omega, by omega, ?_, gvw, _, _, b4.2.2.1⟩, sc', z0, bd, ⟨?_, by omega, fun i w e => ?_⟩, ⟨?_, by omega, fun i x e => ?_⟩, ty, by omega, by rw [f6]; exact xs4⟩
    · rw [F04.2 622 (by decide), Hd 622 (by simp)]; exact b9.2.2.2.2
    · rw [v10.2 738 (by decide), t2.2 738 (by decide), g738, n5]
    · rw [v10.2 742 (by decide), t2.2 742 (by decide)]; exact g742 i w e
    · rw [v10.2 746 (by decide), y1, Nat.zero_add]
    · have g0 := y3 i x e
      rw [Nat.zero_add] at g0
      have xr := gi.2.2.2.1 x (List.mem_of_getElem? e)
      refine GvK_keep g0 (v6 x (by omega) (by omega) (fun z => by
        have := grows_kd b5.2.2.1 x (List.mem_of_getElem? e)
        rw [z, f1] at this
        omega)) (fun w' hw => ?_) (fun T a => v4.2.1.2.2.2.2.2.1 T a) v13 (fun g hg => v10.2 g (by simp only [List.mem_cons, List.not_mem_nil, or_false] at hg ⊢; omega) _)
      have hw' := grows_wd b5.2.2.1 x (List.mem_of_getElem? e)
      obtain ⟨x1', x2', x3', _⟩ := V3 x (by omega) (by omega)
      rw [x3' 1338 (by decide), x3' 1342 (by decide)] at hw
      have hw2 : w' = fR hr 1338 x ∨ w' = fR hr 1342 x := by simpa using hw
      have wr' : am ≤ w' ∧ w' < ag ∧ kd hr w' = 17 := by
        rcases hw2 with e | e
        · rw [e]; exact hw'.1
        · rw [e]; exact hw'.2
      exact v6 w' (by omega) (by omega) (fun z => by rw [z, f1] at wr'; omega)
end LRU
