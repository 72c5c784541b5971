set_option maxRecDepth 100000
/-! THE COMPONENT's judge: chains as a whole; ALL EXS -/
section LJD
variable {G : om_G} {N : List (List Int)} {cl : Nat → Nat} {tb l0 sc jg Lb : Nat} {rest : List (Nat × List Nat)} {Sl Sl1 Sl2 Gx U U' : Nat → Prop} {io fo mo : Nat → Nat} {E : JE} {B lo H0 : Nat} {Γ Γ1 Γ2 : List Ty} {tot q z u n q1 z1 u1 n1 alo ahi alo1 ahi1 : Nat} {s s1 s2 : JS} {h : om_H} {us fs : List Nat} {Dk : Nat → Prop} {ds : List Nat} {dm : Nat} {h1 : om_H} {us1 fs1 : List Nat} {Dk1 : Nat → Prop} {ds1 : List Nat} {dm1 : Nat} {h2 : om_H} {us2 fs2 : List Nat} {Dk2 : Nat → Prop} {ds2 : List Nat} {dm2 : Nat} {h3 : om_H} {us3 fs3 : List Nat} {Dk3 : Nat → Prop} {ds3 : List Nat} {dm3 : Nat} {r : Nat → Nat → om_H → Option ((Nat ⊕ Nat) × om_H)} {D : Nat}
/-- THE FIRST SIGNS OF A CHAIN -/
theorem c_chL (nd : ndN N) (J : JOk E B) (J2 : JOk2 E) (Hr : ∀ t, JCR G N cl tb l0 sc rest Gx io fo mo E jg Lb lo H0 r D t) : ∀ (t : Xt) (Γ : List Ty) (s : JS) (zz : (Nat × Nat) ⊕ (Et × JS)) (h : om_H) (us fs : List Nat) (Dk : Nat → Prop) (ds : List Nat) (dm : Nat) (Sl : Nat → Prop) (dp m a alo ahi b : Nat), dp ≤ D + 1 → 1 ≤ m → jd E t Γ s = some zz → JCP G N cl tb l0 sc rest Gx io fo mo E jg Lb lo H0 t Γ s h us fs Dk ds dm Sl dp 2 m a alo ahi b → a < hz h ∧ kd h a = 32 → CO G N cl tb l0 sc rest Gx io fo mo E jg Lb lo H0 r t Γ s zz h us fs Dk ds dm Sl dp m a alo ahi := by
  intro t
  induction t with
  | leaf =>
    intro Γ s zz h us fs Dk ds dm Sl dp m a alo ahi b _ _ _ P _
    exact (XCg_l P.2.1).elim
  | inner t lb un l rt ihl ihr =>
    intro Γ s zz h us fs Dk ds dm Sl dp m a alo ahi b hd m1 e P ha
    obtain ⟨⟨Q0, C0⟩, XA, ok, hΓ, hb, hbd, R, hl, hh⟩ := P
    have mk : mOk t 2 m := by
      have H := XA
      rw [XCg_e] at H
      unfold XCb at H
      exact H.1.2.2.2.2
    have tt : t = 18 := by
      rcases mk.2.1 rfl with w | w
      · exact w
      · omega
    subst tt
    have o : aO 18 2 m := .inr (.inr ⟨rfl, rfl, by omega⟩)
    have hm : (2 : Nat) ≠ 0 → a < hz h ∧ (kd h a = 30 ∨ kd h a = 32) := fun _ => ⟨ha.1, .inr ha.2⟩
    have eA : aX h 18 2 m a = a := by unfold aX; rw [if_pos o]
    have eH : ∀ h : om_H, aH h 18 2 m a ahi = ahi := fun h => by unfold aH; rw [if_pos (.inl o)]
    have eD : aD 18 2 m dp = dp := by unfold aD; rw [if_pos o]
    have eM : ∀ h : om_H, aM h 1522 (2 == 2) m a = m := fun h => by unfold aM; rw [if_pos ⟨rfl, by omega⟩]
    rw [XCg_e] at XA
    unfold XCb at XA
    rw [eA, eH, eD, eM, if_neg (by decide), if_neg (by decide), if_neg (by decide), if_neg (by decide), if_pos rfl] at XA
    obtain ⟨⟨g1, g2, g3, g4, g5⟩, hD, ph, k32, f72, c, am, ch, ro, XL, XR⟩ := XA
    rw [xok_e] at ok
    unfold xokB at ok
    rw [if_neg (by decide), if_neg (by decide), if_neg (by decide), if_neg (by decide), if_neg (by decide), if_neg (by decide), if_pos rfl] at ok
    have cs : jcC E (.inner 18 lb un l rt) = 4 + jcC E l + jcC E rt := rfl
    have xs : xnN (.inner 18 lb un l rt) = 1 + xnN l + xnN rt := rfl
    have xz : xsz (.inner 18 lb un l rt) = 1 + 2 * tsz (lbT lb) + xsz l + xsz rt := rfl
    have xb : xbd (.inner 18 lb un l rt) = 0 + max (xbd l) (xbd rt) := rfl
    have rr := XCg_rng XR
    obtain ⟨u1, u2⟩ := chain18 (M := m) (c := c) (am := am) nd J J2 Hr hd e (fun m2 z1 e1 => ihl Γ s z1 h us fs Dk ds dm Sl dp (m - 1) a alo am b hd (by omega) e1 ⟨⟨Q0, C0⟩, XL, ok.1, hΓ, ⟨hb.1, by rw [xz] at hb; omega⟩, by rw [xb] at hbd; omega, RmJ_le R (by rw [cs]; omega) (by rw [xs]; omega), hl, by omega⟩ ha) Q0 C0 ch ro XL XR ok hΓ hb hbd R hl hh ha
    refine ⟨u1, fun e' s' w => ?_⟩
    obtain ⟨h1, us1, fs1, Dk1, ds1, dm1, Sl1, ef, ec, v1, v2, A, XJf, XJc, eqa, sg, sg1, sg2, sg3, _⟩ := u2 e' s' w
    have X := CX_hS A
    refine ⟨h1, us1, fs1, Dk1, ds1, dm1, Sl1, v1, CX_le A (by rw [cs]; omega) (by rw [xs]; omega) (by rw [xs]; omega) (by rw [xs]; omega), ?_, eqa, sg, sg1, sg2, fun q => ⟨(sg3 q).1, (sg3 q).2, ?_⟩⟩
    · rw [v2]
      generalize (if lb.2.1 = 60 ∨ lb.2.1 = 61 then tBool else tInt) = TT
      rw [XCg_e]
      unfold XCb
      have eA1 : aX h1 18 2 m a = a := by rw [aX_keep X hm, eA]
      rw [eA1, eH, eD, eM, if_neg (by decide), if_neg (by decide), if_neg (by decide), if_neg (by decide), if_pos rfl]
      exact ⟨⟨g1, g2, g3, Nat.le_trans g4 X.1, g5⟩, hD, ⟨fun w => by
        rcases w with w | w
        · omega
        · exact absurd o w.2, fun w => by omega, fun w => by omega⟩, by rw [eqa.1]; exact k32, fun w => absurd ⟨rfl, by omega⟩ w, c, am, chC2_keep X A.1 ha ch, ro, XJf, XJc⟩
    · rw [v2]
      show (if lb.2.1 = 60 ∨ lb.2.1 = 61 then tBool else tInt) = tInt
      have := ch.2.2.2.2.2 q
      rw [if_neg (by
        intro w
        rcases w with w | w
        · exact this.1 w
        · exact this.2 w)]
/-- A CHAIN -/
theorem cj_18 (hI : intO G) (nd : ndN N) (J : JOk E B) (J2 : JOk2 E) (Hr : ∀ t, JCR G N cl tb l0 sc rest Gx io fo mo E jg Lb lo H0 r D t) {lb : XL} {un : Unit} {l rt : Xt} {zz : (Nat × Nat) ⊕ (Et × JS)} {dp a b : Nat} (hd : dp ≤ D + 1) (e : jd E (.inner 18 lb un l rt) Γ s = some zz) (P : JCP G N cl tb l0 sc rest Gx io fo mo E jg Lb lo H0 (.inner 18 lb un l rt) Γ s h us fs Dk ds dm Sl dp 0 0 a alo ahi b) : ∃ (v : Nat ⊕ Nat) (h' : om_H) (us' fs' : List Nat) (Dk' : Nat → Prop) (ds' : List Nat) (dm' : Nat), C_37_typeOfB G r jg a h = some (v, h') ∧ JCO G N cl tb l0 sc rest Gx io fo mo E jg Lb lo H0 (.inner 18 lb un l rt) Γ s zz h us fs Dk ds dm Sl dp a alo ahi v h' us' fs' Dk' ds' dm' := by
  obtain ⟨⟨Q0, C0⟩, XA, ok, hΓ, hb, hbd, R, hl, hh⟩ := P
  obtain ⟨He, ra, rh, dp0, ph⟩ := XCg_ex XA
  have c0 : fR h 1382 a = 0 := by
    have := ph.1 ⟨.inl rfl, fun w => by omega⟩
    rw [aX_0] at this
    exact this
  rw [XCg_e] at XA
  unfold XCb at XA
  rw [aX_0, aH_0, aD_0, if_neg (by decide), if_neg (by decide), if_neg (by decide), if_neg (by decide), if_pos rfl, show ((0 : Nat) == 2) = false from rfl, aM_0] at XA
  obtain ⟨⟨g1, g2, g3, g4, g5⟩, _, _, k32, f72, c, am, ch, ro, XL, XR⟩ := XA
  rw [xok_e] at ok
  unfold xokB at ok
  rw [if_neg (by decide), if_neg (by decide), if_neg (by decide), if_neg (by decide), if_neg (by decide), if_neg (by decide), if_pos rfl] at ok
  have cs : jcC E (.inner 18 lb un l rt) = 4 + jcC E l + jcC E rt := rfl
  have xs : xnN (.inner 18 lb un l rt) = 1 + xnN l + xnN rt := rfl
  have xz : xsz (.inner 18 lb un l rt) = 1 + 2 * tsz (lbT lb) + xsz l + xsz rt := rfl
  have xb : xbd (.inner 18 lb un l rt) = 0 + max (xbd l) (xbd rt) := rfl
  have rr := XCg_rng XR
  have f72' := f72 (by omega)
  have ch5 := ch.2.2.2.2.2
  have chM := ch.2.2.1
  have chL := ch.1
  have chS := ch.2.1
  generalize eMM : (ll h (fR h 1522 a)).length = M at *
  obtain ⟨u1, u2⟩ := chain18 (M := M) (c := c) (am := am) nd J J2 Hr hd e (fun m2 z1 e1 => c_chL nd J J2 Hr l Γ s z1 h us fs Dk ds dm Sl dp (M - 1) a alo am b hd (by omega) e1 ⟨⟨Q0, C0⟩, XL, ok.1, hΓ, ⟨hb.1, by rw [xz] at hb; omega⟩, by rw [xb] at hbd; omega, RmJ_le R (by rw [cs]; omega) (by rw [xs]; omega), hl, by omega⟩ ⟨He.1, k32⟩) Q0 C0 ch ro XL XR ok hΓ hb hbd R hl hh ⟨He.1, k32⟩
  rw [tO_32 k32 Q0.2.1.1.1]
  cases zz with
  | inl kp =>
    obtain ⟨a', h1, us1, fs1, Dk1, ds1, dm1, v1, v2⟩ := u1 kp rfl
    refine c_tset (v := .inl a') nd ?_ He ra hh (JCQ_f rfl v2)
    unfold C_37_chain
    rw [v1]
    rfl
  | inr pp =>
    obtain ⟨h1, us1, fs1, Dk1, ds1, dm1, Sl1, ef, ec, v1, v2, A, XJf, XJc, eqa, sg, sg1, sg2, sg3, sg4⟩ := u2 pp.1 pp.2 rfl
    obtain ⟨⟨Q1, C1⟩, b1, _, _, hl1⟩ := A.2
    have X := CX_hS A
    have eLL : (ll h1 (fR h1 1522 a)).length = M := by rw [eqa.2.2.1, X.2.2.2.2 _ chL.2.1 chL.1]; exact eMM
    have k32' : kd h1 a = 32 := by rw [eqa.1]; exact k32
    have en' := ch2s_end (G := G) (r := r) (jg := jg) (a := a) (h := h1) k32' (by rw [eqa.2.2.1, X.2.1 _ chL.2.1]; exact chL.2.2)
    rw [eLL] at en'
    have kS : kd h1 (fR h1 1526 a) = 42 := by rw [eqa.2.2.1, X.2.1 _ chS.2.1]; exact chS.2.2
    have lS : (ll h1 (fR h1 1526 a))[0]? = some (om_cA G (300 + (sg + 128))) := by rw [eqa.2.2.1, X.2.2.2.2 _ chS.2.1 chS.1]; exact sg2
    have l0' := (List.getElem?_eq_some_iff.mp lS).1
    have gt : P_J2_get G (fR h1 1526 a) 0 h1 = some (om_cA G (300 + (sg + 128))) := by
      unfold P_J2_get
      rw [gd_pos ⟨kS, by omega⟩]
      exact lS
    have iv := c_intv (h := h1) hI (j := sg + 128) (by omega)
    have eT : (if sg = 60 ∨ sg = 61 then tBool else tInt) = if lb.2.1 = 60 ∨ lb.2.1 = 61 then tBool else tInt := by
      by_cases M1 : M = 1
      · rw [sg4 M1]
      · have M2 : 2 ≤ M := by omega
        have w1 := sg3 (by rw [eMM]; exact M2)
        have w2 : lb.2.1 ≠ 60 ∧ lb.2.1 ≠ 61 := ch5 M2
        rw [if_neg (by omega), if_neg (by omega)]
    have R1 := CX_R (q1 := 1) (n1 := 0) A R (by rw [cs]; omega) (by rw [xs]; omega)
    obtain ⟨y, h2, us2, fs2, m1, F2, K2, c2⟩ := c_jcon nd Q1.1.1 Q1.2.1 (if sg = 60 ∨ sg = 61 then 1 else 0) (by have := R1.1; omega)
    have run : C_37_chain G r jg a h = some (.inr y, h2) := by
      unfold C_37_chain
      rw [v1, en', Option.bind_some]
      show (gd (kd h1 a = 32 ∧ kd h1 (fR h1 1526 a) = 42) ((P_J2_get G (fR h1 1526 a) 0 h1).bind fun p2 => gd ((∃ j, j < 256 ∧ p2 = om_cA G (300 + j)) ∧ om_Rc G h1 p2 "java/lang/Integer") ((P_J15_intValue G p2 h1).bind fun p3 => if p3 = 60 then C_37_chain_89 G r jg 1 h1 else if p3 ≠ 61 then C_37_chain_89 G r jg 0 h1 else C_37_chain_89 G r jg 1 h1))) = _
      rw [gd_pos ⟨k32', kS⟩, gt, Option.bind_some, gd_pos ⟨⟨_, by omega, rfl⟩, hI.2 _ _ (by omega)⟩, iv, Option.bind_some, show ((sg + 128 : Nat) : Int) - 128 = (sg : Int) by omega]
      unfold C_37_chain_89
      by_cases w0 : sg = 60
      · rw [if_pos (.inl w0)] at m1
        have m1' : C_37_con G jg 1 h1 = some (y, h2) := m1
        rw [if_pos (by omega), gd_pos Q1.2.1.1.1, m1', Option.bind_some]
      · by_cases w1 : sg = 61
        · rw [if_pos (.inr w1)] at m1
          have m1' : C_37_con G jg 1 h1 = some (y, h2) := m1
          rw [if_neg (by omega), if_neg (by omega), gd_pos Q1.2.1.1.1, m1', Option.bind_some]
        · rw [if_neg (by omega)] at m1
          have m1' : C_37_con G jg 0 h1 = some (y, h2) := m1
          rw [if_neg (by omega), if_pos (by omega), gd_pos Q1.2.1.1.1, m1', Option.bind_some]
    have A2 : CX G N cl tb l0 sc rest Gx io fo mo E jg Lb lo H0 h1 us1 fs1 Dk1 ds1 dm1 Sl1 pp.2 ahi ahi h2 us2 fs2 Dk1 ds1 dm1 Sl1 Γ pp.2 1 0 0 0 := CX_KF0 Q1 C1 K2 F2 b1.2 hl1
    have dl := dm_le Q1
    have X2 := CX_hS A2
    have la1 : a < hz h1 := Nat.lt_of_lt_of_le He.1 X.1
    have XJf2 := PhJ_keep (alo := alo) (ahi := am) Q1.1.2.1 A2 ⟨by omega, hh⟩ (.inl (by omega)) (fun _ => ⟨la1, .inr k32'⟩) XJf
    have XJc2 := PhJ_keep (alo := am) (ahi := ahi) Q1.1.2.1 A2 ⟨by omega, hh⟩ (.inl (Nat.le_refl _)) (fun w => absurd rfl w) XJc
    have AA := CX_trans A A2 (by omega) (Nat.le_refl _)
    have XX := CX_hS AA
    have eq2 := CX_eq A2 la1 (by rw [k32']; unfold dyK; omega) (by omega)
    have eqq := eqA_trans eqa eq2
    have eLL2 : (ll h2 (fR h2 1522 a)).length = M := by rw [eqq.2.2.1, XX.2.2.2.2 _ chL.2.1 chL.1]; exact eMM
    have ez : (Sum.inr pp : (Nat × Nat) ⊕ (Et × JS)) = .inr (en 18 lb (if lb.2.1 = 60 ∨ lb.2.1 = 61 then tBool else tInt) .leaf [] ef ec, pp.2) := by rw [← v2]
    have c2' : tyC h2 N cl (UU us2 rest) (if lb.2.1 = 60 ∨ lb.2.1 = 61 then tBool else tInt) y := by
      rw [← eT]
      by_cases w : sg = 60 ∨ sg = 61
      · rw [if_pos w] at c2 ⊢; exact c2
      · rw [if_neg w] at c2 ⊢; exact c2
    refine c_tset nd run He ra hh (JCQ_r ez (CX_le AA (by rw [cs]; omega) (by rw [xs]; omega) (by rw [xs]; omega) (by rw [xs]; omega)) ?_ c2' (by rw [eqq.2.2.1]; exact c0) (PhQ_no (by decide) (by decide)))
    generalize (if lb.2.1 = 60 ∨ lb.2.1 = 61 then tBool else tInt) = TT
    unfold XCb
    rw [aX_0, aH_0, aD_0, if_neg (by decide), if_neg (by decide), if_neg (by decide), if_neg (by decide), if_pos rfl, show ((0 : Nat) == 2) = false from rfl, aM_0, eLL2]
    exact ⟨⟨g1, g2, g3, Nat.le_trans g4 XX.1, g5⟩, dp0, trivial, by rw [eqq.1]; exact k32, fun _ => by rw [eqq.2.1]; exact f72', c, am, chC2_keep XX AA.1 ⟨He.1, k32⟩ ch, ro, XJf2, XJc2⟩
/-- THE COMPONENT JUDGES AN EX as jd does -/
theorem c_jd (hI : intO G) (nd : ndN N) (J : JOk E B) (J2 : JOk2 E) : ∀ (f : Nat) (t : Xt), JCR G N cl tb l0 sc rest Gx io fo mo E jg Lb lo H0 (C_37_typeOfD G f) f t
  | 0, t => fun Γ s zz h us fs Dk ds dm Sl dp a alo ahi b hd e P => by
    cases t with
    | leaf => exact (XCg_l P.2.1).elim
    | inner t lb un l rt =>
      have := (XCg_ex P.2.1).2.2.2.1
      omega
  | f + 1, t => fun Γ s zz h us fs Dk ds dm Sl dp a alo ahi b hd e P => by
    have Hr := c_jd hI nd J J2 f
    show ∃ (v : Nat ⊕ Nat) (h' : om_H) (us' fs' : List Nat) (Dk' : Nat → Prop) (ds' : List Nat) (dm' : Nat), C_37_typeOfB G (C_37_typeOfD G f) jg a h = some (v, h') ∧ JCO G N cl tb l0 sc rest Gx io fo mo E jg Lb lo H0 t Γ s zz h us fs Dk ds dm Sl dp a alo ahi v h' us' fs' Dk' ds' dm'
    cases t with
    | leaf => exact (XCg_l P.2.1).elim
    | inner t lb un l rt =>
      by_cases t10 : t = 10
      · subst t10
        by_cases k30 : kd h a = 30
        · exact cj_10u nd J J2 k30 e P
        · exact cj_10 nd J J2 k30 e P
      by_cases t11 : t = 11
      · subst t11; exact cj_11 nd e P
      by_cases t12 : t = 12
      · subst t12; exact cj_12 nd J J2 Hr hd e P
      by_cases t13 : t = 13
      · subst t13; exact cj_13 nd J J2 Hr hd e P
      by_cases t14 : t = 14
      · subst t14; exact cj_14 nd J Hr hd e P
      by_cases t15 : t = 15
      · subst t15; exact cj_15 nd J J2 Hr hd e P
      by_cases t18 : t = 18
      · subst t18; exact cj_18 hI nd J J2 Hr hd e P
      by_cases t16 : t = 16
      · subst t16; exact cj_16 nd J J2 Hr hd e P
      by_cases t17 : t = 17
      · subst t17; exact cj_17 nd J J2 Hr hd e P
      rw [jd_e] at e
      unfold jdB at e
      rw [if_neg t10, if_neg t11, if_neg t12, if_neg t13, if_neg t14, if_neg t15, if_neg t18] at e
      cases rt with
      | leaf => cases e
      | inner t' lb' un' r1 r2 =>
        dsimp only at e
        rw [if_neg t16, if_neg t17] at e
        cases e
end LJD
