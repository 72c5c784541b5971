set_option maxRecDepth 100000
/-! RESOLVE: a class in both, and in the component alone -/
/-- the twin between declarations -/
def TU (S : List Int) (b m : Nat) (N : List (List Int)) (K : KT) (F : FT) (Ms : List FT) (τ : tS) (n : Nat) : Prop := (TyK K τ n ∧ TT τ N S b m ∧ GL τ N K ∧ (gs τ 452 = 0 ∨ gs τ 452 = 2) ∧ bp τ ≤ 2147483647) ∧ (gs τ 788 = 0 ∧ gs τ 856 = 0) ∧ TLk τ N F Ms
/-- what lies in a range is as it was read, but for what stands -/
def hU (alo ahi : Nat) (h h' : om_H) : Prop := ∀ y, alo ≤ y → y < ahi → kd h' y = kd h y ∧ (∀ f, f ∉ GD ++ ND → fI h' f y = fI h f y) ∧ (∀ f, fR h' f y = fR h f y) ∧ an h' y = an h y ∧ (∀ k, aI h' y k = aI h y k) ∧ (∀ k, aR h' y k = aR h y k) ∧ ll h' y = ll h y ∧ lc h' y = lc h y
/-- one name stands around -/
def sc1 (τ : tS) (w : Int) : tS := ua (us τ 784 1) 778 0 w
theorem sc1_fr {τ : tS} {w : Int} : fr [784] [778] τ (sc1 τ w) := ⟨fun f hf => (gs_us τ 784 1 f).trans (if_neg (fun z => hf (by rw [z]; simp))), fun f hf i => (ga_ua _ 778 0 w f i).trans (if_neg (fun z => hf (by rw [z.1]; simp)))⟩
theorem sc1_sc {τ : tS} {w : Nat} : SCt (sc1 τ (w : Int)) [w] := ⟨(gs_us τ 784 1 784).trans (if_pos rfl), by simp, fun i v e => by
  cases i with
  | zero =>
    have ev : w = v := Option.some.inj e
    rw [← ev]
    exact (ga_ua _ 778 0 _ 778 0).trans (if_pos ⟨rfl, rfl⟩)
  | succ i => cases e⟩
theorem T_fillClass_eq {k d : Nat} {τ : tS} {w : Int} (hk : k < 8) (e1 : ga τ 658 k = (d : Int)) (hd : d < 700) (e2 : ga τ 666 k = w) : T_fillClass (k : Int) τ = (om_loop (T_fillClass_29s (k : Int)) (ga τ 602 d, sc1 τ w)).bind fun y1 => some y1 := by
  unfold T_fillClass
  have kN : ((k : Int)).toNat = k := by omega
  rw [kN, e1, e2, if_pos (by omega), show ((d : Int)).toNat = d by omega]
  rfl
section LRK
variable {G : om_G} {A : Nat} {S : List Int} {b m : Nat} {N : List (List Int)} {cs : List Nat} {K : KT} {pr Ln : Nat} {Ls : List (List Int)} {sc : List Nat} {tb : Nat} {rest : List (Nat × List Nat)} {fo : List Nat} {F : FT} {mo : List (List Nat)} {Ms : List FT}
variable {h h' h2 hr : om_H} {ul fl ul' fl' : List Nat} {σ τ υ σr : tS} {n n' q lo hi alo ahi a0 amid a c w k : Nat} {B B2 : List Int} {X : Int} {L : List Int} {s : PS} {p : PD} {d : Nat}
theorem hU_F (H : hU alo ahi h h') : hkF alo ahi h h' := fun y c d => by
  obtain ⟨a1, a2, a3, a4, a5, a6, a7, a8⟩ := H y c d
  exact ⟨a1, fun f hf => a2 f (fun z => hf (by simp only [List.mem_append, List.mem_cons, List.not_mem_nil, or_false] at z ⊢; omega)), fun f _ => a3 f, a7, a8⟩
theorem hU_sub {blo bhi : Nat} (H : hU alo ahi h h') (h1 : alo ≤ blo) (h2 : bhi ≤ ahi) : hU blo bhi h h' := fun y c d => H y (by omega) (by omega)
theorem hU_eq (H : hU alo ahi h h') (E : ∀ y, alo ≤ y → y < ahi → eqA y h' h2) : hU alo ahi h h2 := fun y c d => by
  obtain ⟨a1, a2, a3, a4, a5, a6, a7, a8⟩ := H y c d
  obtain ⟨b1, b2, b3, b4, b5, b6, b7, b8⟩ := E y c d
  exact ⟨b1.trans a1, fun f hf => (b2 f).trans (a2 f hf), fun f => (b3 f).trans (a3 f), b4.trans a4, fun k => (b5 k).trans (a5 k), fun k => (b6 k).trans (a6 k), b7.trans a7, b8.trans a8⟩
theorem wd_hU {w j : Nat} (H : hU alo ahi h h') (h1 : alo ≤ w ∧ w < ahi) (W : wd h A S w j) : wd h' A S w j := wd_hkF (hU_F H) h1.1 h1.2 W
theorem oC_hU {w : Nat} {o : Option Nat} (H : hU alo ahi h h') (O : oC A S h alo ahi w o) : oC A S h' alo ahi w o := by
  rcases O with O | ⟨j, o1, o2, o3⟩
  · exact .inl O
  · exact .inr ⟨j, o1, o2, o3.1, o3.2.1, wd_hU H ⟨o3.1, o3.2.1⟩ o3.2.2⟩
theorem mthB_ok {st : Prop} [Decidable st] (hs : st) : ∀ {js : List Nat} {tn : List (List Int)} {k : Nat}, mthB S tn k js = [] → mthF S st tn k js = js.map (fun j => some (tokw S j)) ∧ (∀ j ∈ js, tokw S j ∉ tn) ∧ js.Pairwise (fun i j => tokw S i ≠ tokw S j)
  | [], _, _, _ => ⟨rfl, fun j hj => absurd hj List.not_mem_nil, List.Pairwise.nil⟩
  | j :: js, tn, k, e => by
    have e' : (if btI (tokw S j) = none ∧ tokw S j ∉ tn ∧ k < 4 then [] else [(tokq S j : Int)]) ++ mthB S (tn ++ [tokw S j]) (k + 1) js = [] := e
    have c : btI (tokw S j) = none ∧ tokw S j ∉ tn ∧ k < 4 := Decidable.byContradiction (fun z => by rw [if_neg z] at e'; cases e')
    rw [if_pos c, List.nil_append] at e'
    obtain ⟨r1, r2, r3⟩ := mthB_ok hs e'
    refine ⟨?_, fun i hi => ?_, List.Pairwise.cons (fun i hi z => r2 i hi (by rw [← z]; simp)) r3⟩
    · show (if st ∧ btI (tokw S j) = none ∧ tokw S j ∉ tn ∧ k < 4 then some (tokw S j) else none) :: mthF S st (tn ++ [tokw S j]) (k + 1) js = some (tokw S j) :: js.map _
      rw [if_pos ⟨hs, c⟩, r1]
    · rcases List.mem_cons.mp hi with z | z
      · rw [z]; exact c.2.1
      · exact fun y => r2 i z (List.mem_append_left _ y)
theorem pw_inj {js : List Nat} (H : js.Pairwise (fun i j => tokw S i ≠ tokw S j)) {i i' j j' : Nat} (e1 : js[i]? = some j) (e2 : js[i']? = some j') (e : tokw S j = tokw S j') : i = i' := by
  obtain ⟨l1, f1⟩ := List.getElem?_eq_some_iff.mp e1
  obtain ⟨l2, f2⟩ := List.getElem?_eq_some_iff.mp e2
  rw [List.pairwise_iff_getElem] at H
  rcases Nat.lt_trichotomy i i' with z | z | z
  · have := H i i' l1 l2 z; rw [f1, f2] at this; exact absurd e this
  · exact z
  · have := H i' i l2 l1 z; rw [f1, f2] at this; exact absurd e.symm this
theorem scA_one {w : Nat} {L : List Int} (hN : ndN N) (e : N[w]? = some L) : scA N [w] [L] := fun w' L' e' => by
  rw [List.mem_singleton, List.mem_singleton]
  exact ⟨fun z => by rw [z, e] at e'; exact (Option.some.inj e').symm, fun z => hN w' w L (by rw [← z]; exact e') e⟩
/-- the names around are set, in the twin -/
theorem KU_sc (H : TU S b m N K F Ms τ n) {υ : tS} (R : fr [784] [778] τ υ) (C : SCt υ sc) : KU S b m N K sc υ n ∧ bp υ = bp τ := by
  obtain ⟨⟨h1, h2, h3, h4, h5⟩, _⟩ := H
  have g1 : gs υ 452 = gs τ 452 := R.1 452 (by decide)
  have g2 : gs υ 456 = gs τ 456 := R.1 456 (by decide)
  have eb := bp_eq g1 g2
  refine ⟨⟨TyK_same (R.1 532 (by decide)) (fun f hf i => R.2 f (fun z => by have z' := List.mem_singleton.mp z; rw [z'] at hf; exact absurd hf (by decide)) i) h1, TT_fr2 R (by decide) h2, fun w L hw => ?_, C, by rw [g1]; exact h4, by rw [eb]; exact h5⟩, eb⟩
  rw [R.2 630 (by decide), R.2 634 (by decide)]
  exact h3 w L hw
theorem TU_of {as : List Nat} {υ : tS} (H : TU S b m N K F Ms τ n) (U : KU S b m N K sc υ n') (R : fr [452, 456, 532, 784] as τ υ) (d : 638 ∉ as) : TU S b m N K F Ms υ n' := by
  obtain ⟨u1, u2, u3, u4, u5, u6⟩ := U
  exact ⟨⟨u1, u2, u3, u5, u6⟩, ⟨by rw [R.1 788 (by decide)]; exact H.2.1.1, by rw [R.1 856 (by decide)]; exact H.2.1.2⟩, fun w L hw => by rw [R.2 638 d]; exact H.2.2 w L hw⟩
/-- A CLASS BECOMES KNOWN ALIKE: one of the first eight -/
theorem class_res {nb : Int} (W : clsR A S b hr σr lo hi a0 amid c d p.2.1 nb) (C : clsC A S hr a0 amid c p nb) (Dt : dTw S b m σr d p) (hs : s.1.length < 8) (hK : K.take s.1.length = s.1) (Cr : cRow S N τ s.1.length d (p.2.1 + 1) (p.2.1 + 2) p.2.2.1 p.2.2.2.1 s.1 s.2.2.2.1 (mthF S (nwG S s.2.2.2.1 (p.2.1 + 1)) s.2.2.2.2.1 0 p.2.2.2.2)) (p5 : p.1 = 5)
    (Hu : hU a0 amid hr h) (Hn : nall lo hi σr τ) (Hd : ∀ f ∈ DA, ga τ f d = ga σr f d) (H : RX G A S N cs K pr tb rest fo F mo Ms h ul fl) (U : TU S b m N K F Ms τ n) (R : KR S lo hi a0 amid pr tb h ul fl n) (e78 : fR h 78 pr = tb) (nL : ∀ y, a0 ≤ y → y < amid → y ≠ fR h 122 tb) (lm : (ll hr (fR hr 1230 c)).length ≤ 1300) :
    ∃ (h' : om_H) (us' fs' : List Nat) (τ' : tS) (n' : Nat) (BC B : List Int), C_1_resolveClass G pr c ((s.1.length : Nat) : Int) h = some h' ∧ T_fillClass ((s.1.length : Nat) : Int) τ = some τ' ∧ RS G A S N cs K pr tb rest fo F mo Ms a0 amid h ul fl h' us' fs' (hi - lo) 0 0 BC ∧ hkV a0 amid h h' ∧ TU S b m N K F Ms τ' n' ∧ fr [452, 456, 532, 784] (778 :: 686 :: TYA) τ τ' ∧ tx τ n τ' n' ∧ n' ≤ n + (hi - lo) ∧ bp τ' = mnl (bp τ) B ∧ bj S 0 B ∧ lbE BC (abB S s.1 p.2.2.1 ++ m4 S 0 p.2.2.2.2 ++ B) ∧
      fR h' 1226 c = clA cs (p.2.2.1.elim none (fun a => FI Prod.fst (tokw S a) s.1)) ∧ (nwG S s.2.2.2.1 (p.2.1 + 1) → mthB S s.2.2.2.2.1 0 p.2.2.2.2 = [] → (∀ y ∈ B, y = 2147483647) → ∀ i x : Nat, (ll hr (fR hr 1230 c))[i]? = some x → ∃ T : Ty, (tyM T ∧ (bp τ' = 2147483647 → ∃ w, N[w]? = some (tokw S (p.2.1 + 2)) ∧ nmIn [w] T)) ∧ tyC h' N (clF cs) (UU us' rest) T (fR h' 1262 x) ∧ tyT τ' n' T (ga τ' 686 (4 * s.1.length + i))) ∧ ∀ y, (y < 4 * s.1.length ∨ 4 * s.1.length + 4 ≤ y) → ga τ' 686 y = ga τ 686 y := by
  obtain ⟨w1, w2, Lm, Lq, ar, ab, fam, am, ms, ns, a1, a2, a3, a4, a5, a6, a7, a8, a9, a10, a11⟩ := W
  obtain ⟨c1, ⟨c2, c2', c2''⟩, c3, c4, c5, ⟨⟨c61, c62⟩, c63, c64⟩, ⟨⟨c71, c72⟩, c73, wv, c74, c75⟩, ⟨c81, c82, c83⟩, c9⟩ := C
  have eLm : fR hr 1230 c = Lm := a1.2.2.1.1
  have eLn : fR hr 1234 c = Lq := a1.2.2.1.2.1
  obtain ⟨r1, r2, ⟨wv', v1, v2⟩, r4, r5, r6, r7⟩ := Cr
  have hN := H.1.1.2
  have Hk := hU_F Hu
  obtain ⟨x1, x2, x3, x4, x5, x6, x7, x8⟩ := Hu c c1.1 c1.2
  obtain ⟨hh, g1, g2, g3, g4, g5⟩ := rc_head (k := s.1.length) (j0 := p.2.1) (ab := p.2.2.1) H (by rw [x1]; exact c2) (by rw [x2 1196 (by decide)]; exact c2') (by rw [x3]; exact oC_hU Hu c4) (by rw [x3]; exact c83) (by have := congrArg List.length hK; rw [List.length_take] at this; omega) c1 R.2.1
  rw [if_pos hs, List.nil_append, hK] at g2
  rw [hK] at g4
  have zA := R.1.2.1
  have zh : hz h ≤ hz hh := g2.2.1.1.1
  have Rh : KR S lo hi a0 amid pr tb hh ul fl n := ⟨⟨R.1.1, by omega, R.1.2.2⟩, dj_CS R.2.1 g2.2.1 zA, R.2.2⟩
  have mi := mrows_in a8
  have tokj : ∀ j ∈ p.2.2.2.2, tokk S j = 2 := fun j hj => (c9.2.2.1 j hj).2
  -- the names around
  have Rs : fr [784] [778] τ (sc1 τ (wv' : Int)) := sc1_fr
  obtain ⟨U1, eb⟩ := KU_sc U Rs sc1_sc
  have sA := scA_one hN v1
  obtain ⟨nsT, chT, mT1⟩ : ∃ ns', chain σr (ga σr 602 d) ns' ∧ mT S b σr ns' p.2.2.2.2 := by
    rcases Dt.2.2.2 with z | z | z
    · obtain ⟨_, _, _, _, _, ns', y1, y2⟩ := z
      exact ⟨ns', y1, y2⟩
    · omega
    · omega
  have ens : nsT = ns := chain_det chT a9
  rw [ens] at mT1
  have Hn1 : nall lo hi σr (sc1 τ (wv' : Int)) := fun f hf i e1 e2 => (Rs.2 f (by simp only [List.mem_cons, List.not_mem_nil, or_false] at hf ⊢; omega) i).trans (Hn f hf i e1 e2)
  have W2 : mrows A S b hh (sc1 τ (wv' : Int)) c 0 ms ns lo hi am amid := mrows_keepF a8 (hkF_sub (hkF_trans Hk (hkV_F g3)) (by omega) (Nat.le_refl _)) Hn1
  have mT2 : mT S b (sc1 τ (wv' : Int)) ns p.2.2.2.2 := by
    have key : ∀ {ns js : List Nat}, mT S b σr ns js → (∀ o ∈ ns, lo ≤ o ∧ o < hi) → mT S b (sc1 τ (wv' : Int)) ns js := by
      intro ns
      induction ns with
      | nil =>
        intro js m1 _
        cases js with
        | nil => exact m1
        | cons => exact m1.elim
      | cons o os ih =>
        intro js m1 r
        cases js with
        | nil => exact m1.elim
        | cons j js => exact ⟨⟨m1.1.1, by rw [Hn1 542 (by simp) o (r o List.mem_cons_self).1 (r o List.mem_cons_self).2]; exact m1.1.2.1, m1.1.2.2⟩, ih m1.2 (fun o ho => r o (List.mem_cons_of_mem _ ho))⟩
    exact key mT1 mi.2.2.1
  have ch2 : chain (sc1 τ (wv' : Int)) (ga τ 602 d) ns := by
    rw [Hd 602 (by simp)]
    exact chain_keep a9 (fun o ho => Hn1 562 (by simp) o (mi.2.2.1 o ho).1 (mi.2.2.1 o ho).2)
  have Hkh := hkF_trans Hk (hkV_F g3)
  have cF : clF1 hh pr tb c Lm Lq [tokw S (p.2.1 + 2)] ms := by
    obtain ⟨y1, y2, y3, y4, y5⟩ := Hkh c c1.1 c1.2
    obtain ⟨l1, l2, l3, l4, l5⟩ := Hkh Lm (by omega) (by omega)
    obtain ⟨n1, n2, n3, n4, n5⟩ := Hkh Lq (by omega) (by omega)
    have e22 : fR hh 122 tb = fR h 122 tb := g2.2.1.2.2.2.2.1.2 122
    refine ⟨by rw [y1]; exact c2, ⟨by rw [y3 1230 (by decide)]; exact eLm, by rw [l1]; exact a7.1, by rw [l4]; exact a7.2, by rw [← a7.2, ← eLm]; exact lm⟩, ⟨by rw [y3 1234 (by decide)]; exact eLn, ?_, by rw [e22]; exact nL Lq (by omega) (by omega)⟩, by rw [g2.2.2.1.2 78]; exact e78⟩
    have X1 := g2.1.1.2.1
    have eW : ll hh Lq = [w2] := by rw [n4]; exact a1.2.2.2.1.2
    have wW := wd_hkF Hkh (by omega) (by omega) a4.2.2.1
    refine ⟨by omega, by rw [n1]; exact a1.2.2.2.1.1, by rw [eW]; simp, ?_⟩
    rw [eW]
    exact ⟨⟨by omega, by rw [wW.2.1]; exact X1.2, wd_wb X1.1 wW⟩, trivial⟩
  have emm : ga (sc1 τ (wv' : Int)) 678 s.1.length = (cntS (mthF S (nwG S s.2.2.2.1 (p.2.1 + 1)) s.2.2.2.2.1 0 p.2.2.2.2) (mthF S (nwG S s.2.2.2.1 (p.2.1 + 1)) s.2.2.2.2.1 0 p.2.2.2.2).length : Int) := by
    rw [Rs.2 678 (by decide)]; exact r6
  have mm4 : cntS (mthF S (nwG S s.2.2.2.1 (p.2.1 + 1)) s.2.2.2.2.1 0 p.2.2.2.2) (mthF S (nwG S s.2.2.2.1 (p.2.1 + 1)) s.2.2.2.2.1 0 p.2.2.2.2).length ≤ 4 := by
    unfold cntS
    rw [List.take_length]
    exact mthF_cnt
  have okF : nwG S s.2.2.2.1 (p.2.1 + 1) ∧ mthB S s.2.2.2.2.1 0 p.2.2.2.2 = [] → (mthF S (nwG S s.2.2.2.1 (p.2.1 + 1)) s.2.2.2.2.1 0 p.2.2.2.2).filter Option.isSome = p.2.2.2.2.map (fun j => some (tokw S j)) := fun ok => by
    rw [(mthB_ok ok.1 ok.2).1, List.filter_eq_self]
    intro x hx
    obtain ⟨j, _, e⟩ := List.mem_map.mp hx
    rw [← e]; rfl
  obtain ⟨h3, us3, fs3, τ3, n3, BC3, B3, k1, k2, k3, k4, k5, k6, k7, k8, k9, k10, k11⟩ := mj (G := G) (ok := nwG S s.2.2.2.1 (p.2.1 + 1) ∧ mthB S s.2.2.2.2.1 0 p.2.2.2.2 = []) (jt := p.2.2.2.2) hN hs mm4 (Nat.le_trans R.1.2.2.1 (by decide)) sA c1 (show a0 ≤ Lm ∧ Lm < amid by omega) (show a0 ≤ Lq ∧ Lq < amid by omega) tokj (fun ok => by
      unfold cntS
      rw [List.take_length, okF ok, List.length_map]) (fun ok i i' j j' e1 e2 e => pw_inj (mthB_ok ok.1 ok.2).2.2 e1 e2 e) ms ns p.2.2.2.2 0 lo am hh ul fl [] [] (sc1 τ (wv' : Int)) n (ga τ 602 d) W2 ch2 mT2 (by omega) g2.1 cF U1 emm (fun ok i j w e1 e2 => by
      rw [Rs.2 682 (by decide)]
      have e3 : ((mthF S (nwG S s.2.2.2.1 (p.2.1 + 1)) s.2.2.2.2.1 0 p.2.2.2.2).filter Option.isSome)[i]? = some (some (tokw S j)) := by rw [okF ok, List.getElem?_map, e1]; rfl
      obtain ⟨w', z1, z2⟩ := r7 i _ e3
      rw [z2, hN w' w _ z1 e2]) rfl rfl rfl rfl Rh
  obtain ⟨t1, t2, t3, t4, t5, t6⟩ := k7
  have F3 : fr [452, 456, 532, 784] (778 :: 686 :: TYA) τ τ3 := fr_trans (fr_wide Rs (by decide) (by decide)) (fr_wide t2 (by decide) (by decide))
  refine ⟨h3, us3, fs3, τ3, n3, _, B3, ?_, ?_, RS_le (RS_trans g2 k3) (by omega) (by omega) (by omega), hkV_trans g3 k4, TU_of U t1 F3 (by decide), F3, tx_trans (tx_same (fun f hf i => Rs.2 f (fun z => by have z' := List.mem_singleton.mp z; rw [z'] at hf; exact absurd hf (by decide)) i)) t3, t4, by rw [t5, eb], t6, ?_, ?_, fun ok1 ok2 hB i x e => ?_, fun y hy => ?_⟩
  · rw [g1]
    unfold C_1_resolveClass_112
    rw [show (0 : Int) = ((0 : Nat) : Int) from rfl, k1, Option.bind_some]
  · rw [T_fillClass_eq hs r1 Dt.1.1 v2, k2, Option.bind_some]
  · rw [List.append_assoc]
    exact ⟨lb_app (lb_l lb_refl) (lb_trans k8.1 (lb_r lb_refl)), lb_app (lb_l lb_refl) (lb_trans k8.2 (lb_r lb_refl))⟩
  · rw [(k6 c c1.1 c1.2 (fun z => by have := mi.2.2.2.1 c z; omega)).2.2.1, g4]
  · rw [eLm, a7.2] at e
    obtain ⟨T0, ⟨y0, y1⟩, y2, y3⟩ := k9 ⟨ok1, ok2⟩ hB i x e
    rw [Nat.zero_add] at y3
    exact ⟨T0, ⟨y0, fun eb => ⟨wv', v1, y1 eb⟩⟩, y2, y3⟩
  · rw [k11 y hy, Rs.2 686 (by decide)]
end LRK
