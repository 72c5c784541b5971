set_option maxRecDepth 100000
/-! THE COMPONENT's judge: cases -/
section LJC
variable {G : om_G} {N : List (List Int)} {cl : Nat → Nat} {tb l0 sc jg Lb : Nat} {rest : List (Nat × List Nat)} {Sl Sl1 Sl2 Gx U U' : Nat → Prop} {io fo mo : Nat → Nat} {E : JE} {B lo H0 : Nat} {Γ Γ1 Γ2 : List Ty} {tot q z u n q1 z1 u1 n1 alo ahi alo1 ahi1 : Nat} {s s1 s2 : JS} {h : om_H} {us fs : List Nat} {Dk : Nat → Prop} {ds : List Nat} {dm : Nat} {h1 : om_H} {us1 fs1 : List Nat} {Dk1 : Nat → Prop} {ds1 : List Nat} {dm1 : Nat} {h2 : om_H} {us2 fs2 : List Nat} {Dk2 : Nat → Prop} {ds2 : List Nat} {dm2 : Nat} {h3 : om_H} {us3 fs3 : List Nat} {Dk3 : Nat → Prop} {ds3 : List Nat} {dm3 : Nat} {h4 : om_H} {us4 fs4 : List Nat} {Dk4 : Nat → Prop} {ds4 : List Nat} {dm4 : Nat} {r : Nat → Nat → om_H → Option ((Nat ⊕ Nat) × om_H)} {D : Nat}
/-- what is done behind the thing of a case -/
theorem c_57 (nd : ndN N) (J : JOk E B) (J2 : JOk2 E) (Hr : ∀ t, JCR G N cl tb l0 sc rest Gx io fo mo E jg Lb lo H0 r D t) {r1 r2 : Xt} {lb lb' : XL} {e1 : Et} {t' : Nat} {zz : (Nat × Nat) ⊕ (Et × JS)} {dp a a2 a3 a4 a5 b y : Nat} {Tl Tr : Ty} {uu : Unit} (hd : dp ≤ D) (e : (jb (jd E r1 Γ s) fun c => jb (jd E r2 (Γ ++ [Tl, .inner 1 2 uu Tl Tr]) c.2) fun d => jb (jw E (eTy c.1) d.1 d.2) fun e => some (.inr (en 17 lb (eTy c.1) .leaf [] e1 (en t' lb' .leaf .leaf [] c.1 e.1), e.2))) = some zz) (Q0 : JQ G N cl tb l0 sc rest Gx io E jg Lb h us fs Dk ds dm Sl Γ s.1) (C0 : JCE N cl fo mo E h (UU us rest) Sl) (XR1 : XCg id (Ph0 h) G h N cl (UU us rest) Sl fo mo r1 Γ.length dp 0 0 (fR h 1438 a) a2 a3) (XR2 : XCg id (Ph0 h) G h N cl (UU us rest) Sl fo mo r2 (Γ.length + 2) dp 0 0 (fR h 1442 a) a4 a5) (ok1 : xok E r1 Γ.length) (ok2 : xok E r2 (Γ.length + 2)) (hΓ : ∀ T ∈ Γ, tyOk E.2.2.2.1 T ∧ tsz T ≤ b) (hb : 2700 ≤ b ∧ b + xsz r1 ≤ 1000000 ∧ b + xsz r2 ≤ 1000000) (hbd : Γ.length + 2 + max (xbd r1) (xbd r2) ≤ 40000) (R : RmJ us fs ds dm s.1 (jcC E r1 + jcC E r2) (4 * xnN r1 + 4 * xnN r2)) (hl : lo ≤ dm ∧ H0 ≤ hz h) (hh : a5 ≤ H0) (ro : a2 ≤ a3 ∧ a3 ≤ a4 ∧ a4 ≤ a5) (cy : tyC h N cl (UU us rest) (.inner 1 2 uu Tl Tr) y) (okT : tyOk E.2.2.2.1 (.inner 1 2 uu Tl Tr) ∧ tsz (.inner 1 2 uu Tl Tr) ≤ b) (ha : a < hz h ∧ kd h a = 27 ∧ a < a2) : ∃ (v : Nat ⊕ Nat) (h' : om_H) (us' fs' : List Nat) (Dk' : Nat → Prop) (ds' : List Nat) (dm' : Nat), C_37_cases_57 G r jg a y h = some (v, h') ∧ (∀ k p, zz = .inl (k, p) → ∃ a', v = .inl a' ∧ JF G N cl tb l0 sc rest Gx Lb Sl a2 a5 h us fs Dk ds dm h' us' fs' Dk' ds' dm' (jcC E r1 + jcC E r2) (16 * xnN r1 + 16 * xnN r2 + 2) (48 * xnN r1 + 48 * xnN r2) (4 * xnN r1 + 4 * xnN r2) s.1 k p a') ∧ ∀ e s', zz = .inr (e, s') → ∃ x Sl' ec ee, v = .inr x ∧ e = en 17 lb (eTy ec) .leaf [] e1 (en t' lb' .leaf .leaf [] ec ee) ∧ CX G N cl tb l0 sc rest Gx io fo mo E jg Lb lo H0 h us fs Dk ds dm Sl s a2 a5 h' us' fs' Dk' ds' dm' Sl' Γ s' (jcC E r1 + jcC E r2) (16 * xnN r1 + 16 * xnN r2 + 2) (48 * xnN r1 + 48 * xnN r2) (4 * xnN r1 + 4 * xnN r2) ∧ XCg Prod.fst (PhJ N cl rest io E lo H0 Sl' h' us' Dk' ds' dm') G h' N cl (UU us' rest) Sl' fo mo ec Γ.length dp 0 0 (fR h 1438 a) a2 a3 ∧ XCg Prod.fst (PhJ N cl rest io E lo H0 Sl' h' us' Dk' ds' dm') G h' N cl (UU us' rest) Sl' fo mo ee (Γ.length + 2) dp 0 0 (fR h 1442 a) a4 a5 ∧ tyC h' N cl (UU us' rest) (eTy ec) x := by
  have e' : jb (jd E r1 Γ s) (fun c => jb (jb (jd E r2 (Γ ++ [Tl, .inner 1 2 uu Tl Tr]) c.2) fun d => jw E (eTy c.1) d.1 d.2) fun e => some (.inr (en 17 lb (eTy c.1) .leaf [] e1 (en t' lb' .leaf .leaf [] c.1 e.1), e.2))) = some zz := by
    simp only [jb_assoc]
    exact e
  have rr1 := XCg_rng XR1
  have rr2 := XCg_rng XR2
  have P1 : JCP G N cl tb l0 sc rest Gx io fo mo E jg Lb lo H0 r1 Γ s h us fs Dk ds dm Sl dp 0 0 (fR h 1438 a) a2 a3 b := ⟨⟨Q0, C0⟩, XR1, ok1, hΓ, ⟨hb.1, hb.2.1⟩, by omega, RmJ_le R (by omega) (by omega), hl, by omega⟩
  unfold C_37_cases_57
  rw [gd_pos ⟨ha.2.1, Q0.2.1.1.1⟩]
  rcases jb_cs e' with ⟨kp, e1', e2⟩ | ⟨⟨ec, s1⟩, e1', e2⟩
  · obtain ⟨v, h1, us1, fs1, Dk1, ds1, dm1, j1, j2, j3⟩ := Hr r1 Γ s _ h us fs Dk ds dm Sl dp (fR h 1438 a) a2 a3 b hd e1' P1
    obtain ⟨a', f1, f2⟩ := j2 kp.1 kp.2 rfl
    subst f1
    rw [j1, xc_t]
    refine ⟨_, h1, us1, fs1, Dk1, ds1, dm1, rfl, fun k p w => ?_, fun e s' w => by rw [e2] at w; cases w⟩
    rw [e2] at w
    have w' := Sum.inl.inj w
    rw [w'] at f2
    exact ⟨a', rfl, JF_mono (JF_le f2 (by omega) (by omega) (by omega) (by omega)) (Nat.le_refl _) (by omega)⟩
  obtain ⟨v, h1, us1, fs1, Dk1, ds1, dm1, j1, j2, j3⟩ := Hr r1 Γ s _ h us fs Dk ds dm Sl dp (fR h 1438 a) a2 a3 b hd e1' P1
  obtain ⟨x1, Sl1, f1, A1, XJ1, cx1, _⟩ := j3 ec s1 rfl
  subst f1
  obtain ⟨⟨Q1, C1⟩, b1, _, _, hl1⟩ := A1.2
  have okc := jd_okE J ok1 hΓ ⟨hb.1, hb.2.1⟩ e1'
  have X1 := CX_hS A1
  have eq1 := CX_eq A1 ha.1 (by unfold dyK; omega) (by omega)
  have cy1 := CX_ty A1 _ _ cy
  have k34 := cy1.2.1
  obtain ⟨okl, _⟩ := tyOk_parts okT.1 (.inr ⟨rfl, Nat.le_refl _⟩)
  have tz : tsz (.inner 1 2 uu Tl Tr) = 1 + tsz Tl + tsz Tr := rfl
  rw [tz] at okT
  -- two names
  obtain ⟨h2, p1, Q2, K2, _⟩ := JQ_add (alo := a5) (ahi := a5) nd Q1 cy1.2.2.2.2.1 okl.1 (by omega)
  have A2 : CX G N cl tb l0 sc rest Gx io fo mo E jg Lb lo H0 h1 us1 fs1 Dk1 ds1 dm1 Sl1 s1 a5 a5 h2 us1 fs1 Dk1 ds1 dm1 Sl1 (Γ ++ [Tl]) s1 0 1 0 0 := CX_KJ Q2 C1 K2 b1.2 hl1
  obtain ⟨h3, p2, Q3, K3, _⟩ := JQ_add (alo := a5) (ahi := a5) nd Q2 (CX_ty A2 _ _ cy1) (by intro w; cases w) (by rw [List.length_append, List.length_singleton]; omega)
  have A3 : CX G N cl tb l0 sc rest Gx io fo mo E jg Lb lo H0 h2 us1 fs1 Dk1 ds1 dm1 Sl1 s1 a5 a5 h3 us1 fs1 Dk1 ds1 dm1 Sl1 (Γ ++ [Tl] ++ [.inner 1 2 uu Tl Tr]) s1 0 1 0 0 := CX_KJ Q3 A2.2.1.2 K3 b1.2 A2.2.2.2.2.2
  have eG : Γ ++ [Tl] ++ [Std.DTreeMap.Internal.Impl.inner 1 2 uu Tl Tr] = Γ ++ [Tl, .inner 1 2 uu Tl Tr] := by simp
  have lenA : (Γ ++ [Tl, Std.DTreeMap.Internal.Impl.inner 1 2 uu Tl Tr]).length = Γ.length + 2 := by rw [List.length_append]; rfl
  have A23 := CX_trans A2 A3 (Nat.le_refl _) (Nat.le_refl _)
  have A13 := CX_trans (CX_mono (alo := a2) (ahi := a5) A1 (Nat.le_refl _) (by omega)) A23 (by omega) (Nat.le_refl _)
  rw [eG] at A3 A23 A13
  obtain ⟨⟨Q3', C3⟩, _, _, _, hl3⟩ := A3.2
  have X2 := CX_hS A2
  have eq2 := CX_eq A2 (Nat.lt_of_lt_of_le ha.1 X1.1) (by rw [eq1.1]; unfold dyK; omega) (by omega)
  have eq23 := CX_eq A23 (Nat.lt_of_lt_of_le ha.1 X1.1) (by rw [eq1.1]; unfold dyK; omega) (by omega)
  have eq3 := eqA_trans eq1 eq23
  have XR23 := Ph0_keep (alo := a4) (ahi := a5) A23 (.inl (Nat.le_refl _)) (fun w => absurd rfl w) (Ph0_keep (alo := a4) (ahi := a5) A1 (.inr (by omega)) (fun w => absurd rfl w) XR2)
  have R3 := CX_R (q1 := jcC E r2) (n1 := 4 * xnN r2) A13 R (by omega) (by omega)
  have P3 : JCP G N cl tb l0 sc rest Gx io fo mo E jg Lb lo H0 r2 (Γ ++ [Tl, .inner 1 2 uu Tl Tr]) s1 h3 us1 fs1 Dk1 ds1 dm1 Sl1 dp 0 0 (fR h 1442 a) a4 a5 b := ⟨⟨Q3', C3⟩, by rw [lenA]; exact XR23, by rw [lenA]; exact ok2, fun X hX => by
    rcases List.mem_append.mp hX with w | w
    · exact hΓ X w
    · rcases List.mem_cons.mp w with w | w
      · rw [w]; exact ⟨okl, by omega⟩
      · rw [List.mem_singleton.mp w]; exact ⟨okT.1, by rw [tz]; exact okT.2⟩, ⟨hb.1, hb.2.2⟩, by rw [lenA]; omega, R3, hl3, hh⟩
  have L1 := Q1.2.1.2.2.2
  have L2 := Q2.2.1.2.2.2
  rw [j1, xc_v, L1, gd_pos ⟨Q1.2.1.1.1, k34, Q1.2.2.1.1.2.1⟩, p1, Option.bind_some]
  dsimp only
  rw [L2, gd_pos ⟨Q2.2.1.1.1, Q2.2.2.1.1.2.1⟩, p2, Option.bind_some]
  dsimp only
  rw [gd_pos ⟨by rw [eq3.1]; exact ha.2.1, Q3.2.1.1.1⟩, eq3.2.2.1]
  have cx3 := CX_ty A23 _ _ cx1
  rcases jb_cs e2 with ⟨kp, e3, e4⟩ | ⟨⟨ee, s2⟩, e3, e4⟩
  · obtain ⟨v, h4, us4, fs4, Dk4, ds4, dm4, i1, i2, i3⟩ := c_want nd J J2 Hr hd e3 P3 cx3 okc.1 (Nat.le_trans okc.2.1 (by omega))
    obtain ⟨a', f1, f2⟩ := i2 kp.1 kp.2 rfl
    subst f1
    rw [i1, xc_t]
    refine ⟨_, h4, us4, fs4, Dk4, ds4, dm4, rfl, fun k p w => ?_, fun e s' w => by rw [e4] at w; cases w⟩
    rw [e4] at w
    have w' := Sum.inl.inj w
    rw [w'] at f2
    exact ⟨a', rfl, JF_le (CX_F A13 f2 (by omega) (Nat.le_refl _)) (by omega) (by omega) (by omega) (by omega)⟩
  obtain ⟨v, h4, us4, fs4, Dk4, ds4, dm4, i1, i2, i3⟩ := c_want nd J J2 Hr hd e3 P3 cx3 okc.1 (Nat.le_trans okc.2.1 (by omega))
  obtain ⟨Sl4, f1, A4, XJ4⟩ := i3 ee s2 rfl
  subst f1
  rw [← eG] at A4
  obtain ⟨⟨Q4, C4⟩, b4, _, _, hl4⟩ := A4.2
  obtain ⟨x5, h5, d1, d2, Q5, K5⟩ := JQ_drop (alo := a5) (ahi := a5) nd Q4
  have A5 : CX G N cl tb l0 sc rest Gx io fo mo E jg Lb lo H0 h4 us4 fs4 Dk4 ds4 dm4 Sl4 s2 a5 a5 h5 us4 fs4 Dk4 ds4 dm4 Sl4 (Γ ++ [Tl]) s2 0 0 0 0 := CX_KJ Q5 C4 K5 b4.2 hl4
  obtain ⟨x6, h6, d3, d4, Q6, K6⟩ := JQ_drop (alo := a5) (ahi := a5) nd Q5
  have A6 : CX G N cl tb l0 sc rest Gx io fo mo E jg Lb lo H0 h5 us4 fs4 Dk4 ds4 dm4 Sl4 s2 a5 a5 h6 us4 fs4 Dk4 ds4 dm4 Sl4 Γ s2 0 0 0 0 := CX_KJ Q6 A5.2.1.2 K6 b4.2 A5.2.2.2.2.2
  have A46 := CX_trans A5 A6 (Nat.le_refl _) (Nat.le_refl _)
  have len1 : (Γ ++ [Tl]).length = Γ.length + 1 := by rw [List.length_append]; rfl
  rw [len1] at d1 d2
  have ix1 : w32 (((Γ.length + 1 + 1 : Nat) : Int) - 1) = ((Γ.length + 1 : Nat) : Int) := by rw [w32_s (by omega) (by omega)]; omega
  have ix2 : w32 (((Γ.length + 1 : Nat) : Int) - 1) = (Γ.length : Int) := by rw [w32_s (by omega) (by omega)]; omega
  rw [i1, xc_v, Q4.2.1.2.2.2, gd_pos ⟨Q4.2.1.1.1, Q4.2.2.1.1.2.1⟩, d1, Option.bind_some, gd_pos Q4.2.2.1.1.2.1, ix1, d2, Option.bind_some]
  dsimp only
  rw [Q5.2.1.2.2.2, gd_pos ⟨Q5.2.1.1.1, Q5.2.2.1.1.2.1⟩, d3, Option.bind_some, gd_pos Q5.2.2.1.1.2.1, ix2, d4, Option.bind_some]
  have e4' : zz = .inr (en 17 lb (eTy ec) .leaf [] e1 (en t' lb' .leaf .leaf [] ec ee), s2) := (Option.some.inj e4).symm
  have d0 := dm_le Q1
  have d5 := dm_le Q4
  have d6 := dm_le Q3
  have XJ1' := PhJ_keep (alo := a2) (ahi := a3) Q4.1.2.1 A46 ⟨by omega, hh⟩ (.inl (by omega)) (fun w => absurd rfl w) (PhJ_keep (alo := a2) (ahi := a3) Q3.1.2.1 A4 ⟨by omega, hh⟩ (.inl (by omega)) (fun w => absurd rfl w) (PhJ_keep (alo := a2) (ahi := a3) Q1.1.2.1 A23 ⟨by omega, hh⟩ (.inl (by omega)) (fun w => absurd rfl w) XJ1))
  have XJ4' := PhJ_keep (alo := a4) (ahi := a5) Q4.1.2.1 A46 ⟨by omega, hh⟩ (.inl (Nat.le_refl _)) (fun w => absurd rfl w) XJ4
  rw [lenA] at XJ4'
  refine ⟨_, h6, us4, fs4, Dk4, ds4, dm4, rfl, fun k p w => (by rw [e4'] at w; cases w), fun e s' w => ?_⟩
  rw [e4'] at w
  injection Sum.inr.inj w with w1 w2
  rw [← w1, ← w2]
  exact ⟨x1, Sl4, ec, ee, rfl, rfl, CX_le (CX_trans (CX_trans A13 A4 (by omega) (Nat.le_refl _)) A46 (by omega) (Nat.le_refl _)) (by omega) (by omega) (by omega) (by omega), XJ1', XJ4', CX_ty A46 _ _ (CX_ty A4 _ _ cx3)⟩
/-- CASES -/
theorem cj_17 (nd : ndN N) (J : JOk E B) (J2 : JOk2 E) (Hr : ∀ t, JCR G N cl tb l0 sc rest Gx io fo mo E jg Lb lo H0 r D t) {lb : XL} {un : Unit} {l r' : Xt} {zz : (Nat × Nat) ⊕ (Et × JS)} {dp a b : Nat} (hd : dp ≤ D + 1) (e : jd E (.inner 17 lb un l r') Γ s = some zz) (P : JCP G N cl tb l0 sc rest Gx io fo mo E jg Lb lo H0 (.inner 17 lb un l r') Γ s h us fs Dk ds dm Sl dp 0 0 a alo ahi b) : ∃ (v : Nat ⊕ Nat) (h' : om_H) (us' fs' : List Nat) (Dk' : Nat → Prop) (ds' : List Nat) (dm' : Nat), C_37_typeOfB G r jg a h = some (v, h') ∧ JCO G N cl tb l0 sc rest Gx io fo mo E jg Lb lo H0 (.inner 17 lb un l r') Γ s zz h us fs Dk ds dm Sl dp a alo ahi v h' us' fs' Dk' ds' dm' := by
  obtain ⟨⟨Q0, C0⟩, XA, ok, hΓ, hb, hbd, R, hl, hh⟩ := P
  obtain ⟨He, ra, rh, dp0, ph⟩ := XCg_ex XA
  have c0 : fR h 1382 a = 0 := by
    have := ph.1 ⟨.inl rfl, fun w => by omega⟩
    rw [aX_0] at this
    exact this
  cases r' with
  | leaf =>
    rw [jd_e] at e
    cases e
  | inner t' lb' un' r1 r2 =>
  rw [XCg_e] at XA
  unfold XCb at XA
  rw [aX_0, aH_0, aD_0, if_neg (by decide), if_neg (by decide), if_neg (by decide), if_neg (by decide), if_neg (by decide), if_neg (by decide), if_neg (by decide)] at XA
  dsimp only at XA
  rw [if_neg (by decide), if_pos rfl] at XA
  obtain ⟨rg, _, _, m0, f72, tz, k27, w1, w2, a1, a2, a3, a4, a5, g1, ⟨g2, g3, g4, g5⟩, g6, XL, XR1, XR2⟩ := XA
  rw [jd_e] at e
  unfold jdB at e
  rw [if_neg (by decide), if_neg (by decide), if_neg (by decide), if_neg (by decide), if_neg (by decide), if_neg (by decide), if_neg (by decide)] at e
  dsimp only at e
  rw [if_neg (by decide), if_pos rfl] at e
  rw [xok_e] at ok
  unfold xokB at ok
  rw [if_neg (by decide), if_neg (by decide), if_neg (by decide), if_neg (by decide), if_neg (by decide), if_neg (by decide), if_neg (by decide)] at ok
  dsimp only at ok
  rw [if_neg (by decide), if_pos rfl] at ok
  have cs : jcC E (.inner 17 lb un l (.inner t' lb' un' r1 r2)) = 4 + jcC E l + ((if t' = 10 then nCs E lb' else 4) + jcC E r1 + jcC E r2) := rfl
  have xs : xnN (.inner 17 lb un l (.inner t' lb' un' r1 r2)) = 1 + xnN l + (1 + xnN r1 + xnN r2) := rfl
  have xz : xsz (.inner 17 lb un l (.inner t' lb' un' r1 r2)) = 1 + 2 * tsz (lbT lb) + xsz l + (1 + 2 * tsz (lbT lb') + xsz r1 + xsz r2) := rfl
  have xb : xbd (.inner 17 lb un l (.inner t' lb' un' r1 r2)) = 2 + max (xbd l) (xbd (.inner t' lb' un' r1 r2)) := rfl
  have xb2 : max (xbd r1) (xbd r2) ≤ xbd (.inner t' lb' un' r1 r2) := by
    show _ ≤ (if t' = 14 ∨ t' = 15 then 1 else if t' = 17 then 2 else 0) + max (xbd r1) (xbd r2)
    omega
  rw [cs, xs] at R
  rw [xz] at hb
  rw [xb] at hbd
  have rl := XCg_rng XL
  have rr1 := XCg_rng XR1
  have rr2 := XCg_rng XR2
  rw [tO_27 k27 Q0.2.1.1.1]
  have PL : JCP G N cl tb l0 sc rest Gx io fo mo E jg Lb lo H0 l Γ s h us fs Dk ds dm Sl (dp - 1) 0 0 (fR h 1434 a) a1 a2 b := ⟨⟨Q0, C0⟩, XL, ok.1, hΓ, ⟨hb.1, by omega⟩, by omega, RmJ_le R (by omega) (by omega), hl, by omega⟩
  have run : C_37_cases G r jg a h = xc (r jg (fR h 1434 a) h) (fun t h => some (.inl t, h)) (fun p1 h1 => gd (kd h1 a = 27 ∧ (∃ k ∈ om_exk, kd h1 (fR h1 1434 a) = k + 1) ∧ kd h1 jg = 37) (xc (C_37_as G jg p1 1 2 (fI h1 1372 (fR h1 1434 a)) h1) (fun t h => some (.inl t, h)) (fun p2 h2 => if p2 ≠ 0 then if p2 = p1 then C_37_cases_57 G r jg a p2 h2 else gd (kd h2 a = 27 ∧ (∃ k ∈ om_exk, kd h2 (fR h2 1434 a) = k + 1)) (C_37_cases_57 G r jg a p2 (sR h2 1382 (fR h2 1434 a) p2)) else gd (kd (nO h2 16 8) a = 27 ∧ (∃ k ∈ om_exk, kd (nO h2 16 8) (fR (nO h2 16 8) 1434 a) = k + 1) ∧ kd (nO h2 16 8) (hz h2) = 16) ((C_15_init G (hz h2) 4 (fI (nO h2 16 8) 1372 (fR (nO h2 16 8) 1434 a)) (nO h2 16 8)).bind fun p3 => gd ((hz h2) ≠ 0) (some (.inl (hz h2), p3)))))) := by
    unfold C_37_cases
    rw [gd_pos ⟨k27, Q0.2.1.1.1⟩]
  rcases jb_cs e with ⟨kp, e1, e2⟩ | ⟨⟨e0, s1⟩, e1, e2⟩
  · obtain ⟨v, h1, us1, fs1, Dk1, ds1, dm1, j1, j2, j3⟩ := Hr l Γ s _ h us fs Dk ds dm Sl (dp - 1) (fR h 1434 a) a1 a2 b (by omega) e1 PL
    obtain ⟨a', f1, f2⟩ := j2 kp.1 kp.2 rfl
    subst f1
    rw [j1, xc_t] at run
    exact c_tset nd run He ra hh (JCQ_f e2 (JF_mono (JF_le f2 (by rw [cs]; omega) (by rw [xs]; omega) (by rw [xs]; omega) (by rw [xs]; omega)) (by omega) (by omega)))
  obtain ⟨v, h1, us1, fs1, Dk1, ds1, dm1, j1, j2, j3⟩ := Hr l Γ s _ h us fs Dk ds dm Sl (dp - 1) (fR h 1434 a) a1 a2 b (by omega) e1 PL
  obtain ⟨x1, Sl1, f1, A1, XJ1, cx1, c01⟩ := j3 e0 s1 rfl
  subst f1
  obtain ⟨⟨Q1, C1⟩, b1, _, _, hl1⟩ := A1.2
  have X1 := CX_hS A1
  have eq1 := CX_eq A1 He.1 (by unfold dyK; omega) (by omega)
  have okE := jd_okE J ok.1 hΓ ⟨hb.1, by omega⟩ e1
  have AW1 := CX_mono (alo := alo) (ahi := ahi) A1 (by omega) (by omega)
  have R1' := CX_R (q1 := 4 + (jcC E r1 + jcC E r2)) (n1 := 4 * xnN r1 + 4 * xnN r2) A1 R (by omega) (by omega)
  cases e0 with
  | leaf => exact c01.elim
  | inner tg lx un1 el er =>
  obtain ⟨He1, ra1, rh1, _, pj1⟩ := XCg_ex XJ1
  have pl : fI h1 1372 (fR h 1434 a) = ((ePl (.inner tg lx un1 el er) : Nat) : Int) := He1.2.2
  rw [j1, xc_v, eq1.2.2.1, gd_pos ⟨by rw [eq1.1]; exact k27, exO_k He1, Q1.2.1.1.1⟩, pl] at run
  obtain ⟨zf, ezf, _⟩ := jf_ok (k := 1) (w := 2) (pl := ePl (.inner tg lx un1 el er)) (s := s1) (p := ePl (.inner tg lx un1 el er)) J (by omega) (by omega) ⟨⟨okE.1, okE.2.1⟩, rfl⟩
  obtain ⟨v2, h2, us2, fs2, q1, q2⟩ := c_as nd J J2.2.2 (k := 1) (w := 2) (.inr ⟨rfl, rfl⟩) ezf Q1.1.1 Q1.2.1 cx1 okE.1 (by omega) b1.2 (by have := R1'.1; have := J.1.1; have := b1.2; omega)
  have q1' : C_37_as G jg x1 1 2 ((ePl (.inner tg lx un1 el er) : Nat) : Int) h1 = some (v2, h2) := q1
  rw [q1'] at run
  have e2' : jb (jf E 1 2 (ePl (.inner tg lx un1 el er)) (.inner tg lx un1 el er) s1) (fun f => jb (jd E r1 Γ f.2.2) fun c => jb (jd E r2 (Γ ++ [tL f.2.1, f.2.1]) c.2) fun d => jb (jw E (eTy c.1) d.1 d.2) fun e => some (.inr (en 17 lb (eTy c.1) .leaf [] f.1 (en t' lb' .leaf .leaf [] c.1 e.1), e.2))) = some zz := e2
  rw [ezf] at e2'
  rcases q2 with ⟨y1, a', y2, y3, y4, y5⟩ | ⟨y1, y2, ⟨tot', y3⟩, y4⟩ | ⟨ef, U, s2, y, y1, y2, ⟨y3, y4⟩, y5, y6, y7, y8, y9⟩
  · subst y1 y2
    have ez : zz = .inl (7, ePl (.inner tg lx un1 el er)) := (Option.some.inj e2').symm
    rw [xc_t] at run
    exact c_tset nd run He ra hh (JCQ_f ez (JF_le (CX_F AW1 (JF_KF (alo := alo) (ahi := ahi) (q' := 0) (k := 7) Q1 y3 y4 y5 b1.2 (by have := J.1.1; omega)) (Nat.le_refl _) (Nat.le_refl _)) (by rw [cs]; omega) (by rw [xs]; omega) (by rw [xs]; omega) (by rw [xs]; omega)))
  · subst y1 y2
    have ez : zz = .inl (4, ePl (.inner tg lx un1 el er)) := (Option.some.inj e2').symm
    have T2 := y3.1
    obtain ⟨h3, n1, n2, n3, n4, n5, n6, n7⟩ := c_fault T2 nd ⟨y3.2.1.1.1, y3.2.1.1.2.1⟩ 4 ((ePl (.inner tg lx un1 el er) : Nat) : Int)
    have g1' := KF_kd Q1.1.1.1 Q1.1.1.2.1.1.1 y4 (Nat.lt_of_lt_of_le He.1 X1.1) (by rw [eq1.1, k27]; decide)
    have g2' := KF_kd Q1.1.1.1 Q1.1.1.2.1.1.1 y4 He1.1 (by have := He1.2.1; omega)
    have la : a < hz h2 := Nat.lt_of_lt_of_le (Nat.lt_of_lt_of_le He.1 X1.1) y4.1.1
    have ls : fR h 1434 a < hz h2 := Nat.lt_of_lt_of_le He1.1 y4.1.1
    have z1 : kd (nO h2 16 8) a = 27 := by rw [kd_nO, if_neg (by omega), g1'.1, eq1.1]; exact k27
    have z2 : fR (nO h2 16 8) 1434 a = fR h 1434 a := by rw [fR_nO, if_neg (by omega), g1'.2.2.1, eq1.2.2.1]
    have z3 : kd (nO h2 16 8) (fR h 1434 a) = kd h1 (fR h 1434 a) := by rw [kd_nO, if_neg (by omega), g2'.1]
    have z4 : fI (nO h2 16 8) 1372 (fR h 1434 a) = ((ePl (.inner tg lx un1 el er) : Nat) : Int) := by rw [fI_nO, if_neg (by omega), g2'.2.1]; exact pl
    rw [xc_v, if_neg (fun w => w rfl), z2, gd_pos ⟨z1, by rw [z3]; exact exO_k He1, n2⟩, z4, n1, Option.bind_some, gd_pos n3] at run
    exact c_tset nd run He ra hh (JCQ_f ez (JF_le (CX_F AW1 (JF_KF (alo := alo) (ahi := ahi) (q' := 0) (k := 4) Q1 n5 n4 (KF_le (KF_trans y4 n6) (Nat.le_refl _) (by omega) (by omega)) b1.2 (by omega)) (Nat.le_refl _) (Nat.le_refl _)) (by rw [cs]; omega) (by rw [xs]; omega) (by rw [xs]; omega) (by rw [xs]; omega)))
  subst y1 y2
  obtain ⟨zf', ezf', okf⟩ := jf_ok (k := 1) (w := 2) (pl := ePl (.inner tg lx un1 el er)) (s := s1) (p := ePl (.inner tg lx un1 el er)) J (by omega) (by omega) ⟨⟨okE.1, okE.2.1⟩, rfl⟩
  rw [ezf] at ezf'
  obtain ⟨_, okU, szU, isU⟩ := okf (ef, U, s2) (Option.some.inj ezf').symm
  have okU' : tyOk E.2.2.2.1 U := okU
  have szU' : tsz U ≤ b + xsz l := szU
  obtain ⟨uu, Tl, Tr, eU⟩ := isK_iff (show isK 1 2 U = true from isU)
  subst eU
  have A2 : CX G N cl tb l0 sc rest Gx io fo mo E jg Lb lo H0 h1 us1 fs1 Dk1 ds1 dm1 Sl1 s1 ahi ahi h2 us2 fs2 Dk1 ds1 dm1 Sl1 Γ s2 0 0 0 0 := CX_KF Q1 C1 y7 y5 y6 (by omega) y8 hl1
  have d1 := dm_le Q1
  have XJ2 := PhJ_keep (alo := a1) (ahi := a2) Q1.1.2.1 A2 ⟨by omega, hh⟩ (.inl (by omega)) (fun w => absurd rfl w) XJ1
  have AW2 := CX_trans AW1 A2 (by omega) (Nat.le_refl _)
  have X2 := CX_hS AW2
  have eq2 := eqA_trans eq1 (CX_eq A2 (Nat.lt_of_lt_of_le He.1 X1.1) (by rw [eq1.1]; unfold dyK; omega) (by omega))
  obtain ⟨⟨Q2, C2⟩, b2, _, _, hl2⟩ := A2.2
  obtain ⟨He2, ra2, rh2, _, pj2⟩ := XCg_ex XJ2
  obtain ⟨pr1, pr2⟩ := PhJ_root.mp pj2
  -- the cast
  obtain ⟨h3, A3, XJ3, run3⟩ : ∃ h3, CX G N cl tb l0 sc rest Gx io fo mo E jg Lb lo H0 h2 us2 fs2 Dk1 ds1 dm1 Sl1 s2 a1 a2 h3 us2 fs2 Dk1 ds1 dm1 Sl1 Γ s2 0 0 0 0 ∧ XCg Prod.fst (PhJ N cl rest io E lo H0 Sl1 h3 us2 Dk1 ds1 dm1) G h3 N cl (UU us2 rest) Sl1 fo mo ef Γ.length (dp - 1) 0 0 (fR h 1434 a) a1 a2 ∧ C_37_cases G r jg a h = C_37_cases_57 G r jg a y h3 := by
    rw [xc_v, if_pos y3] at run
    rcases y9 with ⟨z1, z2, z3⟩ | ⟨z1, z2, z3⟩
    · rw [if_pos z3] at run
      exact ⟨h2, CX_refl Q2 C2 b2.2 hl2, by rw [z1]; exact XJ2, run⟩
    · rw [if_neg z3, eq2.2.2.1, gd_pos ⟨by rw [eq2.1]; exact k27, exO_k He2⟩] at run
      have XB := XJ2
      rw [XCg_e] at XB
      have XB' := XCb_true (lab := Prod.fst) (x := lx) (x' := (lx.1, lx.2.1, .inner 1 2 uu Tl Tr, lx.2.2.2)) rfl XB
      obtain ⟨x3, x4⟩ := XJ_fin (un := un1) (f := 1382) (v := y) nd Q2 C2 b2.2 hl2 (by omega) (.inr rfl) ⟨He2.1, He2.2.1.1, He2.2.1.2.1⟩ XB' ⟨⟨by rw [fR_ne (by decide)]; exact pr1.1, by rw [fR_eq]; exact y4⟩, pr2⟩ ra2
      exact ⟨_, CX_mono x4 (by omega) (by omega), by rw [z1]; exact x3, run⟩
  have AW3 := CX_trans AW2 A3 (by omega) (by omega)
  have X3 := CX_hS AW3
  have eq3 := eqA_trans eq2 (CX_eq A3 (Nat.lt_of_lt_of_le He.1 X2.1) (by rw [eq2.1]; unfold dyK; omega) (by omega))
  obtain ⟨⟨Q3, C3⟩, b3, _, _, hl3⟩ := A3.2
  have XR13 := Ph0_keep (alo := a2) (ahi := a3) A3 (.inr (Nat.le_refl _)) (fun w => absurd rfl w) (Ph0_keep (alo := a2) (ahi := a3) A2 (.inl (by omega)) (fun w => absurd rfl w) (Ph0_keep (alo := a2) (ahi := a3) A1 (.inr (Nat.le_refl _)) (fun w => absurd rfl w) XR1))
  have XR23 := Ph0_keep (alo := a4) (ahi := a5) A3 (.inr (by omega)) (fun w => absurd rfl w) (Ph0_keep (alo := a4) (ahi := a5) A2 (.inl (by omega)) (fun w => absurd rfl w) (Ph0_keep (alo := a4) (ahi := a5) A1 (.inr (by omega)) (fun w => absurd rfl w) XR2))
  have R3' := CX_R (q1 := jcC E r1 + jcC E r2) (n1 := 4 * xnN r1 + 4 * xnN r2) A3 (CX_R (q1 := jcC E r1 + jcC E r2) (n1 := 4 * xnN r1 + 4 * xnN r2) A2 R1' (by omega) (by omega)) (by omega) (by omega)
  obtain ⟨v4, h4, us4, fs4, Dk4, ds4, dm4, l1, l2, l3⟩ := c_57 (a := a) (dp := dp - 1) (a2 := a2) (a3 := a3) (a4 := a4) (a5 := a5) (b := b + xsz l) (e1 := ef) (lb := lb) (lb' := lb') (t' := t') nd J J2 Hr (by omega) e2' Q3 C3 (by rw [eq3.2.2.1]; exact XR13) (by rw [eq3.2.2.1]; exact XR23) ok.2.1 ok.2.2 (fun T hT => ⟨(hΓ T hT).1, by have := (hΓ T hT).2; omega⟩) ⟨by omega, by omega, by omega⟩ (by omega) R3' hl3 (by omega) ⟨g3, g4, g5⟩ (CX_ty A3 _ _ y4) ⟨okU', szU'⟩ ⟨Nat.lt_of_lt_of_le He.1 X3.1, by rw [eq3.1]; exact k27, by omega⟩
  rw [l1] at run3
  cases zz with
  | inl kp =>
    obtain ⟨a', f1, f2⟩ := l2 kp.1 kp.2 rfl
    subst f1
    exact c_tset nd run3 He ra hh (JCQ_f rfl (JF_le (CX_F AW3 f2 (by omega) (by omega)) (by rw [cs]; omega) (by rw [xs]; omega) (by rw [xs]; omega) (by rw [xs]; omega)))
  | inr pp =>
    obtain ⟨x, Sl4, ec, ee, f1, f2, A4, XJc, XJe, cx4⟩ := l3 pp.1 pp.2 rfl
    subst f1
    have AW4 := CX_trans AW3 A4 (by omega) (by omega)
    have X4 := CX_hS AW4
    have eq4 := eqA_trans eq3 (CX_eq A4 (Nat.lt_of_lt_of_le He.1 X3.1) (by rw [eq3.1]; unfold dyK; omega) (by omega))
    have d3 := dm_le Q3
    have XJ3' := PhJ_keep (alo := a1) (ahi := a2) Q3.1.2.1 A4 ⟨by omega, by omega⟩ (.inl (Nat.le_refl _)) (fun w => absurd rfl w) XJ3
    rw [eq3.2.2.1] at XJc XJe
    have ez : (Sum.inr pp : (Nat × Nat) ⊕ (Et × JS)) = .inr (en 17 lb (eTy ec) .leaf [] ef (en t' lb' .leaf .leaf [] ec ee), pp.2) := by rw [← f2]
    refine c_tset nd run3 He ra hh (JCQ_r ez (CX_le AW4 (by rw [cs]; omega) (by rw [xs]; omega) (by rw [xs]; omega) (by rw [xs]; omega)) ?_ cx4 (by rw [eq4.2.2.1]; exact c0) (PhQ_no (by decide) (by decide)))
    unfold XCb
    rw [aX_0, aH_0, aD_0, if_neg (by decide), if_neg (by decide), if_neg (by decide), if_neg (by decide), if_neg (by decide), if_neg (by decide), if_neg (by decide)]
    dsimp only
    rw [if_neg (by decide), if_pos rfl]
    exact ⟨⟨rg.1, rg.2.1, rg.2.2.1, Nat.le_trans rg.2.2.2.1 X4.1, rg.2.2.2.2⟩, dp0, trivial, m0, by rw [eq4.2.1]; exact f72, tz, by rw [eq4.1]; exact k27, by rw [eq4.2.2.1]; exact wN_hS X4 w1, by rw [eq4.2.2.1]; exact wN_hS X4 w2, a1, a2, a3, a4, a5, g1, ⟨g2, g3, g4, g5⟩, g6, by rw [eq4.2.2.1]; exact XJ3', by rw [eq4.2.2.1]; exact XJc, by rw [eq4.2.2.1]; exact XJe⟩
end LJC
