set_option maxRecDepth 100000
/-! THE COMPONENT's judge: an item of a use -/
section LIT
variable {G : om_G} {N : List (List Int)} {cl : Nat → Nat} {tb l0 sc jg Lb : Nat} {rest : List (Nat × List Nat)} {Sl Sl1 Sl2 Gx U U' : Nat → Prop} {io fo mo : Nat → Nat} {E : JE} {B lo H0 : Nat} {Γ Γ1 Γ2 : List Ty} {tot q z u n q1 z1 u1 n1 alo ahi alo1 ahi1 : Nat} {s s1 s2 : JS} {h : om_H} {us fs : List Nat} {Dk : Nat → Prop} {ds : List Nat} {dm : Nat} {h1 : om_H} {us1 fs1 : List Nat} {Dk1 : Nat → Prop} {ds1 : List Nat} {dm1 : Nat} {h2 : om_H} {us2 fs2 : List Nat} {Dk2 : Nat → Prop} {ds2 : List Nat} {dm2 : Nat} {h3 : om_H} {us3 fs3 : List Nat} {Dk3 : Nat → Prop} {ds3 : List Nat} {dm3 : Nat} {r : Nat → Nat → om_H → Option ((Nat ⊕ Nat) × om_H)} {D : Nat}
theorem useK_f {t : Nat} : useK G (.inr (.inr (.inl t, h))) = some (.inl t, h) := rfl
theorem eCt_0 {e : Et} (c : eC0 e) : eCt e = eTy e := by
  cases e with
  | leaf => exact c.elim
  | inner t x u l r' =>
    have c' : x.2.2.1 = .leaf := c
    show (match x.2.2.1 with
      | .leaf => x.2.1
      | .inner k w u l r => .inner k w u l r) = x.2.1
    rw [c']
theorem eCt_1 {e : Et} {k w : Nat} {u : Unit} {l r' : Ty} (c : eC0 e) : eCt (eCs (.inner k w u l r') e) = .inner k w u l r' := by
  cases e with
  | leaf => exact c.elim
  | inner t x u l r' => rfl
/-- AN ITEM -/
theorem c_item (nd : ndN N) (J : JOk E B) (J2 : JOk2 E) (Hr : ∀ t, JCR G N cl tb l0 sc rest Gx io fo mo E jg Lb lo H0 r D t) {rt : Xt} {lb : XL} {e0 : Et} {zz : (Nat × Nat) ⊕ (Et × JS)} {dp a a1 am i k x b : Nat} (hd : dp ≤ D) (e : (jb (jf E 3 0 (xPl rt) e0 s) fun f => jb (jd E rt Γ f.2.2) fun b => jb (jw E (tL f.2.1) b.1 b.2) fun c => some (.inr (en 12 lb (tR' f.2.1) .leaf [] f.1 c.1, c.2))) = some zz) (Q0 : JQ G N cl tb l0 sc rest Gx io E jg Lb h us fs Dk ds dm Sl Γ s.1) (C0 : JCE N cl fo mo E h (UU us rest) Sl) (XR : XCg id (Ph0 h) G h N cl (UU us rest) Sl fo mo rt Γ.length dp 0 0 (fR h 1498 i) am a1) (ok : xok E rt Γ.length) (hΓ : ∀ T ∈ Γ, tyOk E.2.2.2.1 T ∧ tsz T ≤ b) (hb : 2700 ≤ b ∧ b + xsz rt ≤ 1000000) (hbd : Γ.length + xbd rt ≤ 40000) (R : RmJ us fs ds dm s.1 (jcC E rt) (4 * xnN rt)) (hl : lo ≤ dm ∧ H0 ≤ hz h) (hh : ahi ≤ H0) (ro : a1 ≤ i ∧ i < ahi) (cx : tyC h N cl (UU us rest) (eTy e0) x) (c0 : eC0 e0) (okE : tyOk E.2.2.2.1 (eTy e0) ∧ tsz (eTy e0) ≤ b) (ha : a < hz h ∧ kd h a = 30 ∧ a < am) (kL : kd h (fR h 1494 a) = 42) (ei : (ll h (fR h 1494 a))[k]? = some i) (hi : i < hz h ∧ kd h i = 31) (n0 : fR h 1498 i ≠ 0) (pl : fI h 1504 i = (xPl rt : Int)) (hk : k < 5000) : (∀ kp, zz = .inl kp → ∃ (a' : Nat) (h' : om_H) (us' fs' : List Nat) (Dk' : Nat → Prop) (ds' : List Nat) (dm' : Nat), (om_loop (C_37_use_80s G r jg a) (x, (k : Int), h)).bind (useK G) = some (.inl a', h') ∧ JF G N cl tb l0 sc rest Gx Lb Sl am ahi h us fs Dk ds dm h' us' fs' Dk' ds' dm' (jcC E rt) (16 * xnN rt) (48 * xnN rt) (4 * xnN rt) s.1 kp.1 kp.2 a') ∧ ∀ e1 s', zz = .inr (e1, s') → ∃ (x' : Nat) (h' : om_H) (us' fs' : List Nat) (Dk' : Nat → Prop) (ds' : List Nat) (dm' : Nat) (Sl' : Nat → Prop) (ef ec : Et) (U : Ty), (om_loop (C_37_use_80s G r jg a) (x, (k : Int), h)).bind (useK G) = (om_loop (C_37_use_80s G r jg a) (x', ((k + 1 : Nat) : Int), h')).bind (useK G) ∧ e1 = en 12 lb (tR' U) .leaf [] ef ec ∧ (ef = e0 ∨ ef = eCs U e0) ∧ ePl ec = xPl rt ∧ CX G N cl tb l0 sc rest Gx io fo mo E jg Lb lo H0 h us fs Dk ds dm Sl s am ahi h' us' fs' Dk' ds' dm' Sl' Γ s' (jcC E rt) (16 * xnN rt) (48 * xnN rt) (4 * xnN rt) ∧ XCg Prod.fst (PhJ N cl rest io E lo H0 Sl' h' us' Dk' ds' dm') G h' N cl (UU us' rest) Sl' fo mo ec Γ.length dp 0 0 (fR h 1498 i) am a1 ∧ (tyC h' N cl (UU us' rest) (eTy ef) (fR h' 1510 i) ∧ tyC h' N cl (UU us' rest) (eCt ef) (fR h' 1514 i)) ∧ tyC h' N cl (UU us' rest) (tR' U) x' := by
  have rr := XCg_rng XR
  obtain ⟨zf, ezf, okf⟩ := jf_ok (k := 3) (w := 0) (pl := xPl rt) (s := s) (p := ePl e0) J hb.1 (by omega) ⟨⟨okE.1, okE.2⟩, rfl⟩
  obtain ⟨v2, h2, us2, fs2, q1, q2⟩ := c_as nd J J2.2.2 (k := 3) (w := 0) (.inl ⟨rfl, rfl⟩) ezf Q0.1.1 Q0.2.1 cx okE.1 (by omega) R.2.2.2 (by have := R.1; have := J.1.1; have := R.2.2.2; omega)
  have q1' : C_37_as G jg x 3 0 (xPl rt : Int) h = some (v2, h2) := q1
  have st := u80 (G := G) (r := r) (x := x) ha.2.1 Q0.2.1.1.1 kL ei hi.2
  rw [if_pos n0, pl, q1'] at st
  rw [ezf] at e
  rcases q2 with ⟨y1, a', y2, y3, y4, y5⟩ | ⟨y1, y2, ⟨tot', y3⟩, y4⟩ | ⟨ef, U, s2, y, y1, y2, ⟨y3, y4⟩, y5, y6, y7, y8, y9⟩
  · subst y1 y2
    have ez : zz = .inl (7, xPl rt) := (Option.some.inj e).symm
    rw [xc_t] at st
    refine ⟨fun kp w => ?_, fun e1 s' w => by rw [ez] at w; cases w⟩
    rw [ez] at w
    have w' := Sum.inl.inj w
    rw [← w']
    refine ⟨a', h2, us2, fs2, Dk, ds, dm, ?_, JF_le (JF_KF (alo := am) (ahi := ahi) (q' := 0) (k := 7) Q0 y3 y4 y5 R.2.2.2 (by have := J.1.1; omega)) (by omega) (by omega) (by omega) (by omega)⟩
    rw [om_loop_out st]
    rfl
  · subst y1 y2
    have ez : zz = .inl (4, xPl rt) := (Option.some.inj e).symm
    obtain ⟨h3, n1, n2, n3, n4, n5, n6, n7⟩ := c_fault y3.1 nd ⟨y3.2.1.1.1, y3.2.1.1.2.1⟩ 4 (xPl rt : Int)
    have g1' := KF_kd Q0.1.1.1 Q0.1.1.2.1.1.1 y4 hi.1 (by omega)
    have li : i < hz h2 := Nat.lt_of_lt_of_le hi.1 y4.1.1
    have z1 : kd (nO h2 16 8) i = 31 := by rw [kd_nO, if_neg (by omega), g1'.1]; exact hi.2
    have z4 : fI (nO h2 16 8) 1504 i = (xPl rt : Int) := by rw [fI_nO, if_neg (by omega), g1'.2.1]; exact pl
    rw [xc_v] at st
    unfold C_37_use_130 at st
    rw [if_neg (fun w => w rfl)] at st
    refine ⟨fun kp w => ?_, fun e1 s' w => by rw [ez] at w; cases w⟩
    rw [ez] at w
    have w' := Sum.inl.inj w
    rw [← w']
    refine ⟨hz h2, h3, us2, fs2, Dk, ds, dm, ?_, JF_le (JF_KF (alo := am) (ahi := ahi) (q' := 0) (k := 4) Q0 n5 n4 (KF_le (KF_trans y4 n6) (Nat.le_refl _) (by omega) (by omega)) R.2.2.2 (by omega)) (by omega) (by omega) (by omega) (by omega)⟩
    rw [om_loop_out st]
    show (gd (kd (nO h2 16 8) i = 31 ∧ kd (nO h2 16 8) (hz h2) = 16) ((C_15_init G (hz h2) 4 (fI (nO h2 16 8) 1504 i) (nO h2 16 8)).bind fun p2 => gd ((hz h2) ≠ 0) (some ((.inl (hz h2) : Nat ⊕ Nat), p2)))) = _
    rw [gd_pos ⟨z1, n2⟩, z4, n1, Option.bind_some, gd_pos n3]
  subst y1 y2
  obtain ⟨_, okU, szU, isU⟩ := okf (ef, U, s2) rfl
  have okU' : tyOk E.2.2.2.1 U := okU
  have szU' : tsz U ≤ b := szU
  obtain ⟨uu, Tl, Tr, eU⟩ := isK_iff (show isK 3 0 U = true from isU)
  subst eU
  have tz : tsz (.inner 3 0 uu Tl Tr) = 1 + tsz Tl + tsz Tr := rfl
  rw [tz] at szU'
  obtain ⟨okl, okr⟩ := tyOk_parts okU' (.inl rfl)
  have A2 : CX G N cl tb l0 sc rest Gx io fo mo E jg Lb lo H0 h us fs Dk ds dm Sl s ahi ahi h2 us2 fs2 Dk ds dm Sl Γ s2 0 0 0 0 := CX_KF Q0 C0 y7 y5 y6 (by omega) y8 hl
  obtain ⟨⟨Q2, C2⟩, b2, _, _, hl2⟩ := A2.2
  have eqi := CX_eq A2 hi.1 (by rw [hi.2]; unfold dyK; omega) (by omega)
  have li2 : i < hz h2 := Nat.lt_of_lt_of_le hi.1 (CX_hS A2).1
  have ki2 : kd h2 i = 31 := by rw [eqi.1]; exact hi.2
  -- the item is written
  have A3 := CX_sR (lo := lo) (H0 := H0) (fo := fo) (mo := mo) (x := x) nd Q2 C2 b2.2 hl2 SRf_78.2.2.1 li2 (by rw [ki2]; unfold dyK; omega) (by omega)
  obtain ⟨⟨Q3, C3⟩, b3, _, _, hl3⟩ := A3.2
  have A4 := CX_sR (lo := lo) (H0 := H0) (fo := fo) (mo := mo) (x := y) nd Q3 C3 b3.2 hl3 SRf_78.2.2.2 (show i < hz (sR h2 1510 i x) from li2) (by show dyK (kd h2 i); rw [ki2]; unfold dyK; omega) (by show kd h2 i ≠ 37; omega)
  obtain ⟨⟨Q4, C4⟩, b4, _, _, hl4⟩ := A4.2
  have A24 := CX_trans A3 A4 (Nat.le_refl _) (Nat.le_refl _)
  have A04 := CX_trans (CX_mono (alo := am) (ahi := ahi) A2 (by omega) (Nat.le_refl _)) A24 (by omega) (by omega)
  have XR4 := Ph0_keep (alo := am) (ahi := a1) A24 (.inl (by omega)) (fun w => absurd rfl w) (Ph0_keep (alo := am) (ahi := a1) A2 (.inl (by omega)) (fun w => absurd rfl w) XR)
  have R4 := CX_R (q1 := jcC E rt) (n1 := 4 * xnN rt) A04 R (by omega) (by omega)
  have k34 := (tyC_34 y4 okU'.1).1
  rw [xc_v] at st
  unfold C_37_use_130 at st
  rw [if_pos y3, gd_pos ⟨ki2, k34, Q2.2.1.1.1⟩, eqi.2.2.1] at st
  have cl4 : tyC (sR (sR h2 1510 i x) 1514 i y) N cl (UU us2 rest) Tl (fR h2 1582 y) := CX_ty A24 _ _ y4.2.2.2.2.1
  have PR : JCP G N cl tb l0 sc rest Gx io fo mo E jg Lb lo H0 rt Γ s2 (sR (sR h2 1510 i x) 1514 i y) us2 fs2 Dk ds dm Sl dp 0 0 (fR h 1498 i) am a1 b := ⟨⟨Q4, C4⟩, XR4, ok, hΓ, hb, hbd, R4, hl4, by omega⟩
  have e' : jb (jb (jd E rt Γ s2) fun b => jw E Tl b.1 b.2) (fun c => some (.inr (en 12 lb Tr .leaf [] ef c.1, c.2))) = some zz := by rw [jb_assoc]; exact e
  generalize ehw : sR (sR h2 1510 i x) 1514 i y = hw at *
  have fw : fR hw 1510 i = x ∧ fR hw 1514 i = y := by
    rw [← ehw]
    exact ⟨by rw [fR_ne (by decide), fR_eq], fR_eq⟩
  rcases jb_cs e' with ⟨kp, e1, e2⟩ | ⟨⟨ec, s3⟩, e1, e2⟩
  · obtain ⟨v, h5, us5, fs5, Dk5, ds5, dm5, i1, i2, i3⟩ := c_want nd J J2 Hr hd e1 PR cl4 okl (by omega)
    obtain ⟨a', f1, f2⟩ := i2 kp.1 kp.2 rfl
    subst f1
    rw [i1, xc_t] at st
    refine ⟨fun kp' w => ?_, fun e1 s' w => by rw [e2] at w; cases w⟩
    rw [e2] at w
    have w' := Sum.inl.inj w
    rw [← w']
    refine ⟨a', h5, us5, fs5, Dk5, ds5, dm5, ?_, JF_le (CX_F A04 f2 (Nat.le_refl _) (by omega)) (by omega) (by omega) (by omega) (by omega)⟩
    rw [om_loop_out st]
    rfl
  obtain ⟨v, h5, us5, fs5, Dk5, ds5, dm5, i1, i2, i3⟩ := c_want nd J J2 Hr hd e1 PR cl4 okl (by omega)
  obtain ⟨Sl5, f1, A5, XJ5⟩ := i3 ec s3 rfl
  subst f1
  have y45 := CX_ty A5 _ _ (CX_ty A24 _ _ y4)
  rw [i1, xc_v, gd_pos (tyC_34 y45 okU'.1).1, w32_s (by omega) (by omega)] at st
  have e2' : zz = .inr (en 12 lb Tr .leaf [] ef ec, s3) := (Option.some.inj e2).symm
  have l4 : i < hz hw := Nat.lt_of_lt_of_le li2 (CX_hS A24).1
  have k4 : kd hw i = 31 := by rw [(CX_hS A24).2.1 _ li2]; exact ki2
  have eqi5 := CX_eq A5 l4 (by rw [k4]; unfold dyK; omega) (by omega)
  have plc : ePl ec = xPl rt := by
    obtain ⟨ew, sw, hw'⟩ := wantE e1
    have o1 := jd_okE J ok hΓ hb hw'
    rw [hw'] at e1
    have e1' : jw E Tl ew sw = some (.inr (ec, s3)) := e1
    obtain ⟨zw, ezw, ow⟩ := jw_ok (T := Tl) (s := sw) (b := b + xsz rt) (p := xPl rt) ⟨⟨o1.1, o1.2.1⟩, o1.2.2⟩
    rw [ezw] at e1'
    exact (ow (ec, s3) (Option.some.inj e1')).2
  refine ⟨fun kp w => (by rw [e2'] at w; cases w), fun e1 s' w => ?_⟩
  rw [e2'] at w
  injection Sum.inr.inj w with w1 w2
  rw [← w1, ← w2]
  have cx5 := CX_ty A5 _ _ (CX_ty A04 _ _ cx)
  have efs : eTy ef = eTy e0 ∧ eCt ef = .inner 3 0 uu Tl Tr ∧ (ef = e0 ∨ ef = eCs (.inner 3 0 uu Tl Tr) e0) := by
    rcases y9 with ⟨z1, z2, z3⟩ | ⟨z1, z2, z3⟩
    · rw [z1]
      exact ⟨rfl, by rw [eCt_0 c0]; exact z2.symm, .inl rfl⟩
    · rw [z1]
      exact ⟨eTy_Cs.1, eCt_1 c0, .inr rfl⟩
  refine ⟨fR h5 1586 y, h5, us5, fs5, Dk5, ds5, dm5, Sl5, ef, ec, .inner 3 0 uu Tl Tr, ?_, rfl, efs.2.2, plc, CX_le (CX_trans A04 A5 (Nat.le_refl _) (by omega)) (by omega) (by omega) (by omega) (by omega), XJ5, ?_, y45.2.2.2.2.2.1⟩
  · rw [om_loop_in st]
    rfl
  · rw [eqi5.2.2.1, eqi5.2.2.1, fw.1, fw.2, efs.1, efs.2.1]
    exact ⟨cx5, y45⟩
end LIT
