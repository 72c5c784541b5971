set_option maxRecDepth 100000
/-! THE COMPONENT's judge: choices, cases -/
section LJI
variable {G : om_G} {N : List (List Int)} {cl : Nat → Nat} {tb l0 sc jg Lb : Nat} {rest : List (Nat × List Nat)} {Sl Sl1 Sl2 Gx U U' : Nat → Prop} {io fo mo : Nat → Nat} {E : JE} {B lo H0 : Nat} {Γ Γ1 Γ2 : List Ty} {tot q z u n q1 z1 u1 n1 alo ahi alo1 ahi1 : Nat} {s s1 s2 : JS} {h : om_H} {us fs : List Nat} {Dk : Nat → Prop} {ds : List Nat} {dm : Nat} {h1 : om_H} {us1 fs1 : List Nat} {Dk1 : Nat → Prop} {ds1 : List Nat} {dm1 : Nat} {h2 : om_H} {us2 fs2 : List Nat} {Dk2 : Nat → Prop} {ds2 : List Nat} {dm2 : Nat} {h3 : om_H} {us3 fs3 : List Nat} {Dk3 : Nat → Prop} {ds3 : List Nat} {dm3 : Nat} {h4 : om_H} {us4 fs4 : List Nat} {Dk4 : Nat → Prop} {ds4 : List Nat} {dm4 : Nat} {r : Nat → Nat → om_H → Option ((Nat ⊕ Nat) × om_H)} {D : Nat}
theorem jd_okE (J : JOk E B) {t : Xt} {b : Nat} {e : Et} {s' : JS} (ok : xok E t Γ.length) (hΓ : ∀ T ∈ Γ, tyOk E.2.2.2.1 T ∧ tsz T ≤ b) (hb : 2700 ≤ b ∧ b + xsz t ≤ 1000000) (e1 : jd E t Γ s = some (.inr (e, s'))) : tyOk E.2.2.2.1 (eTy e) ∧ tsz (eTy e) ≤ b + xsz t ∧ ePl e = xPl t := by
  obtain ⟨z', ez', oz⟩ := jd_ok J t Γ s b ok hΓ hb.1 hb.2
  rw [e1] at ez'
  obtain ⟨y1, y2⟩ := oz (e, s') (Option.some.inj ez').symm
  exact ⟨y1.1, y1.2, y2⟩
theorem wantE {t : Xt} {T : Ty} {zz : Et × JS} (e1 : (jb (jd E t Γ s) fun a => jw E T a.1 a.2) = some (.inr zz)) : ∃ e0 s0, jd E t Γ s = some (.inr (e0, s0)) := by
  rcases jb_cs e1 with ⟨kp, _, w⟩ | ⟨a, w, _⟩
  · cases w
  · exact ⟨a.1, a.2, w⟩
theorem tBool_ok : tyOk E.2.2.2.1 tBool ∧ tsz tBool ≤ 1 := ⟨tyOk_con (by decide) (by rw [if_neg (by decide)]) (by rw [if_neg (by decide)]), Nat.le_refl _⟩
theorem tInt_ok : tyOk E.2.2.2.1 tInt ∧ tsz tInt ≤ 1 := ⟨tyOk_con (by decide) (by rw [if_neg (by decide)]) (by rw [if_neg (by decide)]), Nat.le_refl _⟩
/-- A CHOICE -/
theorem cj_16 (nd : ndN N) (J : JOk E B) (J2 : JOk2 E) (Hr : ∀ t, JCR G N cl tb l0 sc rest Gx io fo mo E jg Lb lo H0 r D t) {lb : XL} {un : Unit} {l r' : Xt} {zz : (Nat × Nat) ⊕ (Et × JS)} {dp a b : Nat} (hd : dp ≤ D + 1) (e : jd E (.inner 16 lb un l r') Γ s = some zz) (P : JCP G N cl tb l0 sc rest Gx io fo mo E jg Lb lo H0 (.inner 16 lb un l r') Γ s h us fs Dk ds dm Sl dp 0 0 a alo ahi b) : ∃ (v : Nat ⊕ Nat) (h' : om_H) (us' fs' : List Nat) (Dk' : Nat → Prop) (ds' : List Nat) (dm' : Nat), C_37_typeOfB G r jg a h = some (v, h') ∧ JCO G N cl tb l0 sc rest Gx io fo mo E jg Lb lo H0 (.inner 16 lb un l r') Γ s zz h us fs Dk ds dm Sl dp a alo ahi v h' us' fs' Dk' ds' dm' := by
  obtain ⟨⟨Q0, C0⟩, XA, ok, hΓ, hb, hbd, R, hl, hh⟩ := P
  obtain ⟨He, ra, rh, dp0, ph⟩ := XCg_ex XA
  have c0 : fR h 1382 a = 0 := by
    have := ph.1 ⟨.inl rfl, fun w => by omega⟩
    rw [aX_0] at this
    exact this
  cases r' with
  | leaf =>
    rw [jd_e] at e
    cases e
  | inner t' lb' un' r1 r2 =>
  rw [XCg_e] at XA
  unfold XCb at XA
  rw [aX_0, aH_0, aD_0, if_neg (by decide), if_neg (by decide), if_neg (by decide), if_neg (by decide), if_neg (by decide), if_neg (by decide), if_neg (by decide)] at XA
  dsimp only at XA
  rw [if_pos rfl] at XA
  obtain ⟨rg, _, _, m0, f72, tz, k26, a1, a2, a3, a4, g1, ⟨g2, g3, g4⟩, g5, XL, XR1, XR2⟩ := XA
  rw [jd_e] at e
  unfold jdB at e
  rw [if_neg (by decide), if_neg (by decide), if_neg (by decide), if_neg (by decide), if_neg (by decide), if_neg (by decide), if_neg (by decide)] at e
  dsimp only at e
  rw [if_pos rfl] at e
  rw [xok_e] at ok
  unfold xokB at ok
  rw [if_neg (by decide), if_neg (by decide), if_neg (by decide), if_neg (by decide), if_neg (by decide), if_neg (by decide), if_neg (by decide)] at ok
  dsimp only at ok
  rw [if_pos rfl] at ok
  have cs : jcC E (.inner 16 lb un l (.inner t' lb' un' r1 r2)) = 4 + jcC E l + ((if t' = 10 then nCs E lb' else 4) + jcC E r1 + jcC E r2) := rfl
  have xs : xnN (.inner 16 lb un l (.inner t' lb' un' r1 r2)) = 1 + xnN l + (1 + xnN r1 + xnN r2) := rfl
  have xz : xsz (.inner 16 lb un l (.inner t' lb' un' r1 r2)) = 1 + 2 * tsz (lbT lb) + xsz l + (1 + 2 * tsz (lbT lb') + xsz r1 + xsz r2) := rfl
  have xb : xbd (.inner 16 lb un l (.inner t' lb' un' r1 r2)) = 0 + max (xbd l) (xbd (.inner t' lb' un' r1 r2)) := rfl
  have xb2 : max (xbd r1) (xbd r2) ≤ xbd (.inner t' lb' un' r1 r2) := by
    show _ ≤ (if t' = 14 ∨ t' = 15 then 1 else if t' = 17 then 2 else 0) + max (xbd r1) (xbd r2)
    omega
  rw [cs, xs] at R
  rw [xz] at hb
  rw [xb] at hbd
  have rl := XCg_rng XL
  have rr1 := XCg_rng XR1
  have rr2 := XCg_rng XR2
  rw [tO_26 k26 Q0.2.1.1.1]
  have e' : jb (jb (jd E l Γ s) fun a => jw E tBool a.1 a.2) (fun b => jb (jd E r1 Γ b.2) fun c => jb (jb (jd E r2 Γ c.2) fun d => jw E (eTy c.1) d.1 d.2) fun e => some (.inr (en 16 lb (eTy c.1) .leaf [] b.1 (en t' lb' .leaf .leaf [] c.1 e.1), e.2))) = some zz := by
    rw [jb_assoc]
    simp only [jb_assoc]
    exact e
  -- Bool
  obtain ⟨y0, h1, us1, fs1, m1, F1, K1, cB⟩ := c_jcon nd Q0.1.1 Q0.2.1 1 (by have := R.1; omega)
  have m1' : C_37_con G jg 1 h = some (y0, h1) := m1
  have A1 : CX G N cl tb l0 sc rest Gx io fo mo E jg Lb lo H0 h us fs Dk ds dm Sl s ahi ahi h1 us1 fs1 Dk ds dm Sl Γ s 1 0 0 0 := CX_KF0 Q0 C0 K1 F1 R.2.2.2 hl
  obtain ⟨⟨Q1, C1⟩, b1, _, _, hl1⟩ := A1.2
  have X1 := CX_hS A1
  have eq1 := CX_eq A1 He.1 (by unfold dyK; omega) (by omega)
  have XL1 := Ph0_keep (alo := a1) (ahi := a2) A1 (.inl (by omega)) (fun w => absurd rfl w) XL
  have R1' := CX_R (q1 := 3 + jcC E l + (jcC E r1 + jcC E r2)) (n1 := 4 * (xnN l + xnN r1 + xnN r2)) A1 R (by omega) (by omega)
  have AW1 := CX_mono (alo := alo) (ahi := ahi) A1 (by omega) (Nat.le_refl _)
  have PL : JCP G N cl tb l0 sc rest Gx io fo mo E jg Lb lo H0 l Γ s h1 us1 fs1 Dk ds dm Sl (dp - 1) 0 0 (fR h 1422 a) a1 a2 b := by
    exact ⟨⟨Q1, C1⟩, XL1, ok.1, hΓ, ⟨hb.1, by omega⟩, by omega, RmJ_le R1' (by omega) (by omega), hl1, by omega⟩
  have run : C_37_choice G r jg a h = xc (C_37_wanted G r jg (fR h 1422 a) y0 h1) (fun t h => some (.inl t, h)) (fun p2 h2 => gd (kd h2 a = 26 ∧ kd h2 jg = 37) (xc (r jg (fR h2 1426 a) h2) (fun t h => some (.inl t, h)) (fun p3 h3 => gd (kd h3 a = 26 ∧ kd h3 jg = 37) (xc (C_37_wanted G r jg (fR h3 1430 a) p3 h3) (fun t h => some (.inl t, h)) (fun p4 h4 => some (.inr p3, h4)))))) := by
    unfold C_37_choice
    rw [gd_pos ⟨k26, Q0.2.1.1.1⟩, m1', Option.bind_some, gd_pos Q1.2.1.1.1]
  rcases jb_cs e' with ⟨kp, e1, e2⟩ | ⟨⟨e0, s1⟩, e1, e2⟩
  · obtain ⟨v, h2, us2, fs2, Dk2, ds2, dm2, i1, i2, i3⟩ := c_want nd J J2 Hr (by omega) e1 PL cB tBool_ok.1 (by have := (tBool_ok (E := E)).2; omega)
    obtain ⟨a', f1, f2⟩ := i2 kp.1 kp.2 rfl
    subst f1
    rw [i1, xc_t] at run
    exact c_tset nd run He ra hh (JCQ_f e2 (JF_le (CX_F AW1 f2 (by omega) (by omega)) (by rw [cs]; omega) (by rw [xs]; omega) (by rw [xs]; omega) (by rw [xs]; omega)))
  obtain ⟨v, h2, us2, fs2, Dk2, ds2, dm2, i1, i2, i3⟩ := c_want nd J J2 Hr (by omega) e1 PL cB tBool_ok.1 (by have := (tBool_ok (E := E)).2; omega)
  obtain ⟨Sl2, f1, A2, XJ2⟩ := i3 e0 s1 rfl
  subst f1
  obtain ⟨⟨Q2, C2⟩, b2, _, _, hl2⟩ := A2.2
  have eq2 := eqA_trans eq1 (CX_eq A2 (Nat.lt_of_lt_of_le He.1 X1.1) (by rw [eq1.1]; unfold dyK; omega) (by omega))
  have AW2 := CX_trans AW1 A2 (by omega) (by omega)
  have X2 := CX_hS AW2
  have XR12 := Ph0_keep (alo := a2) (ahi := a3) A2 (.inr (Nat.le_refl _)) (fun w => absurd rfl w) (Ph0_keep (alo := a2) (ahi := a3) A1 (.inl (by omega)) (fun w => absurd rfl w) XR1)
  have XR22 := Ph0_keep (alo := a3) (ahi := a4) A2 (.inr (by omega)) (fun w => absurd rfl w) (Ph0_keep (alo := a3) (ahi := a4) A1 (.inl (by omega)) (fun w => absurd rfl w) XR2)
  have R2' := CX_R (q1 := 3 + (jcC E r1 + jcC E r2)) (n1 := 4 * (xnN r1 + xnN r2)) A2 R1' (by omega) (by omega)
  rw [i1, xc_v, gd_pos ⟨by rw [eq2.1]; exact k26, Q2.2.1.1.1⟩, eq2.2.2.1] at run
  have P2 : JCP G N cl tb l0 sc rest Gx io fo mo E jg Lb lo H0 r1 Γ s1 h2 us2 fs2 Dk2 ds2 dm2 Sl2 (dp - 1) 0 0 (fR h 1426 a) a2 a3 b := ⟨⟨Q2, C2⟩, XR12, ok.2.1, hΓ, ⟨hb.1, by omega⟩, by omega, RmJ_le R2' (by omega) (by omega), hl2, by omega⟩
  rcases jb_cs e2 with ⟨kp, e3, e4⟩ | ⟨⟨e5, s2⟩, e3, e4⟩
  · obtain ⟨v, h3, us3, fs3, Dk3, ds3, dm3, j1, j2, j3⟩ := Hr r1 Γ s1 _ h2 us2 fs2 Dk2 ds2 dm2 Sl2 (dp - 1) (fR h 1426 a) a2 a3 b (by omega) e3 P2
    obtain ⟨a', f1, f2⟩ := j2 kp.1 kp.2 rfl
    subst f1
    rw [j1, xc_t] at run
    exact c_tset nd run He ra hh (JCQ_f e4 (JF_le (CX_F AW2 f2 (by omega) (by omega)) (by rw [cs]; omega) (by rw [xs]; omega) (by rw [xs]; omega) (by rw [xs]; omega)))
  obtain ⟨v, h3, us3, fs3, Dk3, ds3, dm3, j1, j2, j3⟩ := Hr r1 Γ s1 _ h2 us2 fs2 Dk2 ds2 dm2 Sl2 (dp - 1) (fR h 1426 a) a2 a3 b (by omega) e3 P2
  obtain ⟨x3, Sl3, f1, A3, XJ3, cx3, _⟩ := j3 e5 s2 rfl
  subst f1
  obtain ⟨⟨Q3, C3⟩, b3, _, _, hl3⟩ := A3.2
  have eq3 := eqA_trans eq2 (CX_eq A3 (Nat.lt_of_lt_of_le He.1 X2.1) (by rw [eq2.1]; unfold dyK; omega) (by omega))
  have AW3 := CX_trans AW2 A3 (by omega) (by omega)
  have X3 := CX_hS AW3
  have okc := jd_okE J ok.2.1 hΓ ⟨hb.1, by omega⟩ e3
  have XR23 := Ph0_keep (alo := a3) (ahi := a4) A3 (.inr (Nat.le_refl _)) (fun w => absurd rfl w) XR22
  have R3' := CX_R (q1 := 3 + jcC E r2) (n1 := 4 * xnN r2) A3 R2' (by omega) (by omega)
  rw [j1, xc_v, gd_pos ⟨by rw [eq3.1]; exact k26, Q3.2.1.1.1⟩, eq3.2.2.1] at run
  have P3 : JCP G N cl tb l0 sc rest Gx io fo mo E jg Lb lo H0 r2 Γ s2 h3 us3 fs3 Dk3 ds3 dm3 Sl3 (dp - 1) 0 0 (fR h 1430 a) a3 a4 b := ⟨⟨Q3, C3⟩, XR23, ok.2.2, hΓ, ⟨hb.1, by omega⟩, by omega, RmJ_le R3' (by omega) (by omega), hl3, by omega⟩
  rcases jb_cs e4 with ⟨kp, e6, e7⟩ | ⟨⟨e8, s3⟩, e6, e7⟩
  · obtain ⟨v, h4, us4, fs4, Dk4, ds4, dm4, l1, l2, l3⟩ := c_want nd J J2 Hr (by omega) e6 P3 cx3 okc.1 (Nat.le_trans okc.2.1 (by omega))
    obtain ⟨a', f1, f2⟩ := l2 kp.1 kp.2 rfl
    subst f1
    rw [l1, xc_t] at run
    exact c_tset nd run He ra hh (JCQ_f e7 (JF_le (CX_F AW3 f2 (by omega) (by omega)) (by rw [cs]; omega) (by rw [xs]; omega) (by rw [xs]; omega) (by rw [xs]; omega)))
  obtain ⟨v, h4, us4, fs4, Dk4, ds4, dm4, l1, l2, l3⟩ := c_want nd J J2 Hr (by omega) e6 P3 cx3 okc.1 (Nat.le_trans okc.2.1 (by omega))
  obtain ⟨Sl4, f1, A4, XJ4⟩ := l3 e8 s3 rfl
  subst f1
  have eq4 := eqA_trans eq3 (CX_eq A4 (Nat.lt_of_lt_of_le He.1 X3.1) (by rw [eq3.1]; unfold dyK; omega) (by omega))
  have AW4 := CX_trans AW3 A4 (by omega) (by omega)
  have X4 := CX_hS AW4
  rw [l1, xc_v] at run
  have e7' : zz = .inr (en 16 lb (eTy e5) .leaf [] e0 (en t' lb' .leaf .leaf [] e5 e8), s3) := (Option.some.inj e7).symm
  have d2 := dm_le Q2
  have d3 := dm_le Q3
  have XJ2' := PhJ_keep (alo := a1) (ahi := a2) Q3.1.2.1 A4 ⟨by omega, by omega⟩ (.inl (by omega)) (fun w => absurd rfl w) (PhJ_keep (alo := a1) (ahi := a2) Q2.1.2.1 A3 ⟨by omega, by omega⟩ (.inl (Nat.le_refl _)) (fun w => absurd rfl w) XJ2)
  have XJ3' := PhJ_keep (alo := a2) (ahi := a3) Q3.1.2.1 A4 ⟨by omega, by omega⟩ (.inl (Nat.le_refl _)) (fun w => absurd rfl w) XJ3
  refine c_tset nd run He ra hh (JCQ_r e7' (CX_le AW4 (by rw [cs]; omega) (by rw [xs]; omega) (by rw [xs]; omega) (by rw [xs]; omega)) ?_ (CX_ty A4 _ _ cx3) (by rw [eq4.2.2.1]; exact c0) (PhQ_no (by decide) (by decide)))
  unfold XCb
  rw [aX_0, aH_0, aD_0, if_neg (by decide), if_neg (by decide), if_neg (by decide), if_neg (by decide), if_neg (by decide), if_neg (by decide), if_neg (by decide)]
  dsimp only
  rw [if_pos rfl]
  exact ⟨⟨rg.1, rg.2.1, rg.2.2.1, Nat.le_trans rg.2.2.2.1 X4.1, rg.2.2.2.2⟩, dp0, trivial, m0, by rw [eq4.2.1]; exact f72, tz, by rw [eq4.1]; exact k26, a1, a2, a3, a4, g1, ⟨g2, g3, g4⟩, g5, by rw [eq4.2.2.1]; exact XJ2', by rw [eq4.2.2.1]; exact XJ3', by rw [eq4.2.2.1]; exact XJ4⟩
end LJI
