set_option maxRecDepth 100000
/-! THE COMPONENT's judge: names, numbers, functions, lets -/
section LJT
variable {G : om_G} {N : List (List Int)} {cl : Nat → Nat} {tb l0 sc jg Lb : Nat} {rest : List (Nat × List Nat)} {Sl Sl1 Sl2 Gx U U' : Nat → Prop} {io fo mo : Nat → Nat} {E : JE} {B lo H0 : Nat} {Γ Γ1 Γ2 : List Ty} {tot q z u n q1 z1 u1 n1 alo ahi alo1 ahi1 : Nat} {s s1 s2 : JS} {h : om_H} {us fs : List Nat} {Dk : Nat → Prop} {ds : List Nat} {dm : Nat} {h1 : om_H} {us1 fs1 : List Nat} {Dk1 : Nat → Prop} {ds1 : List Nat} {dm1 : Nat} {h2 : om_H} {us2 fs2 : List Nat} {Dk2 : Nat → Prop} {ds2 : List Nat} {dm2 : Nat} {r : Nat → Nat → om_H → Option ((Nat ⊕ Nat) × om_H)} {D : Nat}
theorem aH_0 {t a : Nat} : aH h t 0 0 a ahi = ahi := by unfold aH; rw [if_pos (.inl (.inl rfl))]
theorem aD_0 {t dp : Nat} : aD t 0 0 dp = dp := by unfold aD; rw [if_pos (.inl rfl)]
theorem jb_assoc {α β γ : Type} {x : Option ((Nat × Nat) ⊕ α)} {f : α → Option ((Nat × Nat) ⊕ β)} {g : β → Option ((Nat × Nat) ⊕ γ)} : jb (jb x f) g = jb x (fun a => jb (f a) g) := by
  cases x with
  | none => rfl
  | some z => cases z <;> rfl
theorem JCO_f {t : Xt} {zz : (Nat × Nat) ⊕ (Et × JS)} {kp : Nat × Nat} {dp a a' : Nat} (ez : zz = .inl kp) (F : JF G N cl tb l0 sc rest Gx Lb Sl alo ahi h us fs Dk ds dm h1 us1 fs1 Dk1 ds1 dm1 (jcC E t) (16 * xnN t) (48 * xnN t) (4 * xnN t) s.1 kp.1 kp.2 a') : JCO G N cl tb l0 sc rest Gx io fo mo E jg Lb lo H0 t Γ s zz h us fs Dk ds dm Sl dp a alo ahi (.inl a') h1 us1 fs1 Dk1 ds1 dm1 := ⟨fun k p w => by
  rw [ez] at w
  have w' := Sum.inl.inj w
  rw [w'] at F
  exact ⟨a', rfl, F⟩, fun e s' w => by rw [ez] at w; cases w⟩
theorem JCQ_f {t : Xt} {zz : (Nat × Nat) ⊕ (Et × JS)} {kp : Nat × Nat} {dp a a' : Nat} (ez : zz = .inl kp) (F : JF G N cl tb l0 sc rest Gx Lb Sl alo ahi h us fs Dk ds dm h1 us1 fs1 Dk1 ds1 dm1 (jcC E t) (16 * xnN t) (48 * xnN t) (4 * xnN t) s.1 kp.1 kp.2 a') : JCQ G N cl tb l0 sc rest Gx io fo mo E jg Lb lo H0 t Γ s zz h us fs Dk ds dm Sl dp a alo ahi (.inl a') h1 us1 fs1 Dk1 ds1 dm1 := ⟨fun k p w => by
  rw [ez] at w
  have w' := Sum.inl.inj w
  rw [w'] at F
  exact ⟨a', rfl, F⟩, fun e s' w => by rw [ez] at w; cases w⟩
theorem JCQ_r {t : Xt} {zz : (Nat × Nat) ⊕ (Et × JS)} {s' : JS} {dp a x tg : Nat} {lb : XL} {T : Ty} {ev : List Dc} {el er : Et} (ez : zz = .inr (en tg lb T .leaf ev el er, s')) (A : CX G N cl tb l0 sc rest Gx io fo mo E jg Lb lo H0 h us fs Dk ds dm Sl s alo ahi h1 us1 fs1 Dk1 ds1 dm1 Sl1 Γ s' (jcC E t) (16 * xnN t) (48 * xnN t) (4 * xnN t)) (Bx : XCb Prod.fst (fun _ _ _ _ => True) G h1 N cl (UU us1 rest) Sl1 fo mo (XCg Prod.fst (PhJ N cl rest io E lo H0 Sl1 h1 us1 Dk1 ds1 dm1) G h1 N cl (UU us1 rest) Sl1 fo mo) tg (lb, T, .leaf, ev) el er Γ.length dp 0 0 a alo ahi) (c : tyC h1 N cl (UU us1 rest) T x) (z0 : fR h1 1382 a = 0) (Q : PhQ N cl rest io E lo H0 Sl1 h1 us1 Dk1 ds1 dm1 tg lb ev el a) : JCQ G N cl tb l0 sc rest Gx io fo mo E jg Lb lo H0 t Γ s zz h us fs Dk ds dm Sl dp a alo ahi (.inr x) h1 us1 fs1 Dk1 ds1 dm1 := ⟨fun k p w => (by rw [ez] at w; cases w), fun e s2 w => by
  rw [ez] at w
  injection Sum.inr.inj w with w1 w2
  rw [← w1, ← w2]
  exact ⟨x, Sl1, tg, lb, T, ev, el, er, rfl, A, rfl, Bx, c, z0, Q⟩⟩
theorem PhQ_no {tg a : Nat} {lb : XL} {ev : List Dc} {l : Et} (n1 : tg ≠ 10) (n2 : tg ≠ 12) : PhQ N cl rest io E lo H0 Sl h us Dk ds dm tg lb ev l a := ⟨fun w => absurd w n1, fun w => absurd w n2⟩
theorem JQ_more (H : JQ G N cl tb l0 sc rest Gx io E jg Lb h us fs Dk ds dm Sl Γ tot) {L : Nat} (hL : L < hz h ∧ kd h L = 42) (W : noW h tb Sl Dk L) (n : L ≠ Lb) : JQ G N cl tb l0 sc rest Gx io E jg Lb h us fs Dk ds dm (fun a => Sl a ∨ a = L) Γ tot := ⟨HvQ_more H.1 hL W.2.2.1 W.2.2.2.1 W.2.2.2.2, H.2.1, H.2.2.1, ⟨H.2.2.2.1, fun w => by
  rcases w with w | w
  · exact H.2.2.2.2.1 w
  · exact n w.symm, H.2.2.2.2.2⟩⟩
/-- behind a name's judging: its reasons stand -/
theorem nm_post {nm pl Lt : Nat} {Dn : List Dc} {evs : List Nat} (C : JCE N cl fo mo E h (UU us rest) Sl) (H : JQ G N cl tb l0 sc rest Gx io E jg Lb h1 us1 fs1 Dk1 ds1 dm1 Sl Γ s1.1) (hs : s.1 ≤ s1.1 ∧ s1.1 ≤ 300) (K : KRm N cl tb l0 sc rest Gx Lb Sl nm (nm + 1) h us fs Dk ds dm h1 us1 fs1 Dk1 ds1 dm1 q z u n (s1.1 - s.1)) (Dt : tsD N cl rest s.2 s1.2 h1 us1) (M : NmS N cl tb rest Lb io E lo H0 Sl h1 us1 Dk1 ds1 dm1 nm pl Lt Dn evs) : ∃ Sl1, CX G N cl tb l0 sc rest Gx io fo mo E jg Lb lo H0 h us fs Dk ds dm Sl s nm (nm + 1) h1 us1 fs1 Dk1 ds1 dm1 Sl1 Γ s1 q z u n ∧ rsJ h1 Sl1 nm evs ∧ evLs N cl rest io E lo h1 us1 Dk1 ds1 dm1 Dn evs ∧ ∀ y ∈ evs, H0 ≤ y := by
  obtain ⟨n1, rs, nb, ev, hlo, h0, h00⟩ := M
  have C1 := JCE_keep (KJ_hS K.1) (KJ_ty K.1) C
  rcases rs with ⟨r1, r2⟩ | ⟨r1, ⟨a1, a2, a3⟩, ⟨b1, b2, b3⟩, b4, b5, b6, b7, b8⟩
  · exact ⟨Sl, ⟨fun _ w => w, ⟨H, C1⟩, hs, K, Dt, ⟨hlo, h0⟩⟩, .inl ⟨r1, r2⟩, ev, h00⟩
  · exact ⟨fun a => Sl a ∨ a = fR h1 1482 nm, ⟨fun _ w => .inl w, ⟨JQ_more H ⟨a2, a3⟩ ⟨a1, b5, b6, b7, b8⟩ (fun w => nb w.symm), JCE_more (fun _ w => .inl w) C1⟩, hs, K, Dt, ⟨hlo, h0⟩⟩, .inr ⟨r1, a1, .inr rfl, a2, a3, b2⟩, ev, h00⟩
theorem aN_28 {a : Nat} (k : kd h a ≠ 30) : aN h a = a := by unfold aN; rw [if_neg k]
/-- A NAME -/
theorem cj_10 (nd : ndN N) (J : JOk E B) (J2 : JOk2 E) {lb : XL} {un : Unit} {l r' : Xt} {zz : (Nat × Nat) ⊕ (Et × JS)} {dp a b : Nat} (k30 : kd h a ≠ 30) (e : jd E (.inner 10 lb un l r') Γ s = some zz) (P : JCP G N cl tb l0 sc rest Gx io fo mo E jg Lb lo H0 (.inner 10 lb un l r') Γ s h us fs Dk ds dm Sl dp 0 0 a alo ahi b) : ∃ (v : Nat ⊕ Nat) (h' : om_H) (us' fs' : List Nat) (Dk' : Nat → Prop) (ds' : List Nat) (dm' : Nat), C_37_typeOfB G r jg a h = some (v, h') ∧ JCO G N cl tb l0 sc rest Gx io fo mo E jg Lb lo H0 (.inner 10 lb un l r') Γ s zz h us fs Dk ds dm Sl dp a alo ahi v h' us' fs' Dk' ds' dm' := by
  obtain ⟨⟨Q0, C0⟩, XA, ok, hΓ, hb, hbd, R, hl, hh⟩ := P
  obtain ⟨He, ra, rh, dp0, ph⟩ := XCg_ex XA
  have r0 : fR h 1482 a = 0 := by
    have := ph.2 rfl
    rw [aX_0, aN_28 k30] at this
    exact this
  have c0 : fR h 1382 a = 0 := by
    have := ph.1 ⟨.inl rfl, fun w => by omega⟩
    rw [aX_0] at this
    exact this
  rw [XCg_e] at XA
  unfold XCb at XA
  rw [aX_0, aH_0, aD_0, if_pos rfl, aN_28 k30] at XA
  obtain ⟨rg, _, _, nc, nr, at0⟩ := XA
  have at' : lb.2.2.2.2.2 = [] := by
    have w := at0
    unfold atC at w
    rw [if_neg (by intro z; omega)] at w
    rcases w.2 with z | z
    · exact z.2
    · exact absurd z.1 k30
  rw [jd_e] at e
  unfold jdB at e
  rw [if_pos rfl] at e
  rw [xok_e] at ok
  unfold xokB at ok
  rw [if_pos rfl] at ok
  have cs : jcC E (.inner 10 lb un l r') = nCs E lb + jcC E l + jcC E r' := rfl
  have xs : xnN (.inner 10 lb un l r') = 1 + xnN l + xnN r' := rfl
  obtain ⟨v, h1, us1, fs1, Dk1, ds1, dm1, n1, n2, n3⟩ := c_nameJ (uo := 0) nd J J2 ok (fun T hT => (hΓ T hT).1.1) e Q0 C0 nc (fun w => absurd at' w) He.1 r0 hl.1 hl.2 (RmJ_le R (by rw [cs]; omega) (by rw [xs]; omega))
  rw [tO_28 nc.1.1 Q0.2.1.1.1]
  refine c_tset (us1 := us1) (fs1 := fs1) (Dk1 := Dk1) (ds1 := ds1) (dm1 := dm1) nd n1 He ra hh ?_
  cases zz with
  | inl kp =>
    obtain ⟨a', f1, f2⟩ := n2 kp.1 kp.2 rfl
    rw [f1]
    exact JCQ_f rfl (JF_mono (JF_le f2 (by rw [cs]; omega) (by rw [xs]; omega) (by rw [xs]; omega) (by rw [xs]; omega)) (by omega) (by omega))
  | inr pp =>
    obtain ⟨x, f1, f2, f3, f4, f5, ⟨T, Dn, evs, f6, f7, f8, fB⟩, f9⟩ := n3 pp.1 pp.2 rfl
    rw [f1]
    obtain ⟨Sl1, A, r1, r2, r3⟩ := nm_post C0 f2 f3 f4 f5 f8
    have X := CX_hS A
    refine JCQ_r (by rw [← f6]) (CX_mono (CX_le A (by rw [cs]; omega) (by rw [xs]; omega) (by rw [xs]; omega) (by rw [xs]; omega)) (by omega) (by omega)) ?_ f7 (by rw [f9.1 _ (by decide)]; exact c0) ⟨fun _ => ⟨evs, by rw [aN_28 (by rw [X.2.1 _ He.1]; exact k30)]; exact r1, r2, r3, fB⟩, fun w => by omega⟩
    unfold XCb
    rw [aX_0, aH_0, aD_0, if_pos rfl, aN_28 (by rw [X.2.1 _ He.1]; exact k30)]
    exact ⟨⟨rg.1, rg.2.1, rg.2.2.1, Nat.le_trans rg.2.2.2.1 X.1, rg.2.2.2.2⟩, dp0, trivial, nmC_keep X A.1 (CX_ty A) He.1 nc, nr, atC_keep X A.1 (fun w => absurd rfl w) He.1 at0⟩
/-- A NUMBER -/
theorem cj_11 (nd : ndN N) {lb : XL} {un : Unit} {l r' : Xt} {zz : (Nat × Nat) ⊕ (Et × JS)} {dp a b : Nat} (e : jd E (.inner 11 lb un l r') Γ s = some zz) (P : JCP G N cl tb l0 sc rest Gx io fo mo E jg Lb lo H0 (.inner 11 lb un l r') Γ s h us fs Dk ds dm Sl dp 0 0 a alo ahi b) : ∃ (v : Nat ⊕ Nat) (h' : om_H) (us' fs' : List Nat) (Dk' : Nat → Prop) (ds' : List Nat) (dm' : Nat), C_37_typeOfB G r jg a h = some (v, h') ∧ JCO G N cl tb l0 sc rest Gx io fo mo E jg Lb lo H0 (.inner 11 lb un l r') Γ s zz h us fs Dk ds dm Sl dp a alo ahi v h' us' fs' Dk' ds' dm' := by
  obtain ⟨⟨Q0, C0⟩, XA, ok, hΓ, hb, hbd, R, hl, hh⟩ := P
  obtain ⟨He, ra, rh, dp0, ph⟩ := XCg_ex XA
  have c0 : fR h 1382 a = 0 := by
    have := ph.1 ⟨.inl rfl, fun w => by omega⟩
    rw [aX_0] at this
    exact this
  rw [XCg_e] at XA
  unfold XCb at XA
  rw [aX_0, aH_0, aD_0, if_neg (by decide), if_pos rfl] at XA
  obtain ⟨rg, _, _, m0, k29, f72, f84⟩ := XA
  rw [jd_e] at e
  unfold jdB at e
  rw [if_neg (by decide), if_pos rfl] at e
  have cs : jcC E (.inner 11 lb un l r') = 4 + jcC E l + jcC E r' := rfl
  have xs : xnN (.inner 11 lb un l r') = 1 + xnN l + xnN r' := rfl
  rw [cs] at R
  obtain ⟨x, h1, us1, fs1, b1, F1, K1, c1⟩ := c_jcon nd Q0.1.1 Q0.2.1 0 (by have := R.1; omega)
  have b1' : C_37_con G jg 0 h = some (x, h1) := b1
  rw [tO_29 k29 Q0.2.1.1.1, b1', Option.bind_some]
  have A : CX G N cl tb l0 sc rest Gx io fo mo E jg Lb lo H0 h us fs Dk ds dm Sl s ahi ahi h1 us1 fs1 Dk ds dm Sl Γ s 1 0 0 0 := CX_KF0 Q0 C0 K1 F1 R.2.2.2 hl
  have X := CX_hS A
  have eq := CX_eq A He.1 (by unfold dyK; omega) (by omega)
  refine c_tset nd rfl He ra hh (JCQ_r (Option.some.inj e).symm (CX_mono (CX_le A (by rw [cs]; omega) (by omega) (by omega) (by omega)) (by omega) (Nat.le_refl _)) ?_ c1 (by rw [eq.2.2.1]; exact c0) (PhQ_no (by decide) (by decide)))
  unfold XCb
  rw [aX_0, aH_0, aD_0, if_neg (by decide), if_pos rfl]
  exact ⟨⟨rg.1, rg.2.1, rg.2.2.1, Nat.le_trans rg.2.2.2.1 X.1, rg.2.2.2.2⟩, dp0, trivial, m0, by rw [eq.1]; exact k29, by rw [eq.2.1]; exact f72, by rw [eq.2.1]; exact f84⟩
/-- A FUNCTION -/
theorem cj_14 (nd : ndN N) (J : JOk E B) (Hr : ∀ t, JCR G N cl tb l0 sc rest Gx io fo mo E jg Lb lo H0 r D t) {lb : XL} {un : Unit} {l r' : Xt} {zz : (Nat × Nat) ⊕ (Et × JS)} {dp a b : Nat} (hd : dp ≤ D + 1) (e : jd E (.inner 14 lb un l r') Γ s = some zz) (P : JCP G N cl tb l0 sc rest Gx io fo mo E jg Lb lo H0 (.inner 14 lb un l r') Γ s h us fs Dk ds dm Sl dp 0 0 a alo ahi b) : ∃ (v : Nat ⊕ Nat) (h' : om_H) (us' fs' : List Nat) (Dk' : Nat → Prop) (ds' : List Nat) (dm' : Nat), C_37_typeOfB G r jg a h = some (v, h') ∧ JCO G N cl tb l0 sc rest Gx io fo mo E jg Lb lo H0 (.inner 14 lb un l r') Γ s zz h us fs Dk ds dm Sl dp a alo ahi v h' us' fs' Dk' ds' dm' := by
  obtain ⟨⟨Q0, C0⟩, XA, ok, hΓ, hb, hbd, R, hl, hh⟩ := P
  obtain ⟨He, ra, rh, dp0, ph⟩ := XCg_ex XA
  have c0 : fR h 1382 a = 0 := by
    have := ph.1 ⟨.inl rfl, fun w => by omega⟩
    rw [aX_0] at this
    exact this
  rw [XCg_e] at XA
  unfold XCb at XA
  rw [aX_0, aH_0, aD_0, if_neg (by decide), if_neg (by decide), if_neg (by decide), if_neg (by decide), if_neg (by decide), if_pos rfl] at XA
  obtain ⟨rg, _, _, m0, f72, k24, t1, w1, a1, a2, r1, r2, XL⟩ := XA
  rw [jd_e] at e
  unfold jdB at e
  rw [if_neg (by decide), if_neg (by decide), if_neg (by decide), if_neg (by decide), if_pos rfl] at e
  rw [xok_e] at ok
  unfold xokB at ok
  rw [if_neg (by decide), if_neg (by decide), if_neg (by decide), if_neg (by decide), if_pos rfl] at ok
  have cs : jcC E (.inner 14 lb un l r') = 4 + jcC E l + jcC E r' := rfl
  have xs : xnN (.inner 14 lb un l r') = 1 + xnN l + xnN r' := rfl
  have xz : xsz (.inner 14 lb un l r') = 1 + 2 * tsz (lbT lb) + xsz l + xsz r' := rfl
  have xb : xbd (.inner 14 lb un l r') = 1 + max (xbd l) (xbd r') := rfl
  rw [cs, xs] at R
  rw [xz] at hb
  rw [xb] at hbd
  have rngl := XCg_rng XL
  rw [tO_24 k24 Q0.2.1.1.1]
  rcases jb_cs e with ⟨kp, e1, e2⟩ | ⟨⟨e0, s1⟩, e1, e2⟩
  · obtain ⟨v, h1, us1, fs1, Dk1, ds1, dm1, i1, i2, i3⟩ := c_inside (b := b + tsz (lbT lb)) nd Hr (by omega) e1 Q0 C0 XL ok.2 (fun T hT => ⟨(hΓ T hT).1, by have := (hΓ T hT).2; omega⟩) ⟨by omega, by omega⟩ (by omega) (RmJ_le R (by omega) (by omega)) hl (by omega) t1 ⟨ok.1, by omega⟩
    obtain ⟨a', f1, f2⟩ := i2 kp.1 kp.2 rfl
    subst f1
    rw [i1, xc_t]
    exact ⟨_, h1, us1, fs1, Dk1, ds1, dm1, rfl, JCO_f e2 (JF_mono (JF_le f2 (by rw [cs]; omega) (by rw [xs]; omega) (by rw [xs]; omega) (by rw [xs]; omega)) (by omega) (by omega))⟩
  · obtain ⟨v, h1, us1, fs1, Dk1, ds1, dm1, i1, i2, i3⟩ := c_inside (b := b + tsz (lbT lb)) nd Hr (by omega) e1 Q0 C0 XL ok.2 (fun T hT => ⟨(hΓ T hT).1, by have := (hΓ T hT).2; omega⟩) ⟨by omega, by omega⟩ (by omega) (RmJ_le R (by omega) (by omega)) hl (by omega) t1 ⟨ok.1, by omega⟩
    obtain ⟨x, Sl1, f1, A1, XJ1, cx, _⟩ := i3 e0 s1 rfl
    subst f1
    have e2' : zz = .inr (en 14 lb (tArr (lbT lb) (eTy e0)) .leaf [] e0 .leaf, s1) := (Option.some.inj e2).symm
    obtain ⟨⟨Q1, C1⟩, b1, K1, D1, hl1⟩ := A1.2
    have R1 := CX_R (q1 := 1) (n1 := 0) A1 R (by omega) (by omega)
    have dl := dm_le Q1
    obtain ⟨y, h2, us2, fs2, m1, F2, K2, c2⟩ := c_mkArr nd Q1.1.1 (CX_ty A1 _ _ t1) cx (by have := R1.1; omega)
    rw [i1, xc_v, Q0.2.1.2.2.1, gd_pos (TB_3 Q1.1.1.1).1, m1, Option.bind_some]
    have A2 : CX G N cl tb l0 sc rest Gx io fo mo E jg Lb lo H0 h1 us1 fs1 Dk1 ds1 dm1 Sl1 s1 ahi ahi h2 us2 fs2 Dk1 ds1 dm1 Sl1 Γ s1 1 0 0 0 := CX_KF0 Q1 C1 K2 F2 b1.2 hl1
    have XJ2 := PhJ_keep (alo := a1) (ahi := a2) Q1.1.2.1 A2 ⟨by omega, hh⟩ (.inl (by omega)) (fun w => absurd rfl w) XJ1
    have A := CX_trans (CX_mono (alo := alo) (ahi := ahi) A1 (by omega) (by omega)) A2 (by omega) (Nat.le_refl _)
    have X1 := CX_hS A1
    have X := CX_hS A
    have eq1 := CX_eq A1 He.1 (by unfold dyK; omega) (by omega)
    have eq2 := CX_eq A2 (Nat.lt_of_lt_of_le He.1 X1.1) (by rw [eq1.1]; unfold dyK; omega) (by omega)
    have eq := eqA_trans eq1 eq2
    refine c_tset nd rfl He ra hh (JCQ_r e2' (CX_le A (by rw [cs]; omega) (by rw [xs]; omega) (by rw [xs]; omega) (by rw [xs]; omega)) ?_ c2 (by rw [eq.2.2.1]; exact c0) (PhQ_no (by decide) (by decide)))
    unfold XCb
    rw [aX_0, aH_0, aD_0, if_neg (by decide), if_neg (by decide), if_neg (by decide), if_neg (by decide), if_neg (by decide), if_pos rfl]
    exact ⟨⟨rg.1, rg.2.1, rg.2.2.1, Nat.le_trans rg.2.2.2.1 X.1, rg.2.2.2.2⟩, dp0, trivial, m0, by rw [eq.2.1]; exact f72, by rw [eq.1]; exact k24, by rw [eq.2.2.1]; exact CX_ty A _ _ t1, by rw [eq.2.2.1]; exact wN_hS X w1, a1, a2, r1, r2, by rw [eq.2.2.1]; exact XJ2⟩
/-- A LET -/
theorem cj_15 (nd : ndN N) (J : JOk E B) (J2 : JOk2 E) (Hr : ∀ t, JCR G N cl tb l0 sc rest Gx io fo mo E jg Lb lo H0 r D t) {lb : XL} {un : Unit} {l r' : Xt} {zz : (Nat × Nat) ⊕ (Et × JS)} {dp a b : Nat} (hd : dp ≤ D + 1) (e : jd E (.inner 15 lb un l r') Γ s = some zz) (P : JCP G N cl tb l0 sc rest Gx io fo mo E jg Lb lo H0 (.inner 15 lb un l r') Γ s h us fs Dk ds dm Sl dp 0 0 a alo ahi b) : ∃ (v : Nat ⊕ Nat) (h' : om_H) (us' fs' : List Nat) (Dk' : Nat → Prop) (ds' : List Nat) (dm' : Nat), C_37_typeOfB G r jg a h = some (v, h') ∧ JCO G N cl tb l0 sc rest Gx io fo mo E jg Lb lo H0 (.inner 15 lb un l r') Γ s zz h us fs Dk ds dm Sl dp a alo ahi v h' us' fs' Dk' ds' dm' := by
  obtain ⟨⟨Q0, C0⟩, XA, ok, hΓ, hb, hbd, R, hl, hh⟩ := P
  obtain ⟨He, ra, rh, dp0, ph⟩ := XCg_ex XA
  have c0 : fR h 1382 a = 0 := by
    have := ph.1 ⟨.inl rfl, fun w => by omega⟩
    rw [aX_0] at this
    exact this
  rw [XCg_e] at XA
  unfold XCb at XA
  rw [aX_0, aH_0, aD_0, if_neg (by decide), if_neg (by decide), if_neg (by decide), if_neg (by decide), if_neg (by decide), if_neg (by decide), if_pos rfl] at XA
  obtain ⟨rg, _, _, m0, f72, k25, t1, w1, a1, a2, a3, r1, ⟨r2, r3⟩, r4, XL, XR⟩ := XA
  rw [jd_e] at e
  unfold jdB at e
  rw [if_neg (by decide), if_neg (by decide), if_neg (by decide), if_neg (by decide), if_neg (by decide), if_pos rfl] at e
  rw [xok_e] at ok
  unfold xokB at ok
  rw [if_neg (by decide), if_neg (by decide), if_neg (by decide), if_neg (by decide), if_neg (by decide), if_pos rfl] at ok
  have cs : jcC E (.inner 15 lb un l r') = 4 + jcC E l + jcC E r' := rfl
  have xs : xnN (.inner 15 lb un l r') = 1 + xnN l + xnN r' := rfl
  have xz : xsz (.inner 15 lb un l r') = 1 + 2 * tsz (lbT lb) + xsz l + xsz r' := rfl
  have xb : xbd (.inner 15 lb un l r') = 1 + max (xbd l) (xbd r') := rfl
  rw [cs, xs] at R
  rw [xz] at hb
  rw [xb] at hbd
  have rngl := XCg_rng XL
  have rngr := XCg_rng XR
  rw [tO_25 k25 Q0.2.1.1.1]
  have e' : jb (jb (jd E l Γ s) fun a => jw E (lbT lb) a.1 a.2) (fun b => jb (jd E r' (Γ ++ [lbT lb]) b.2) fun c => some (.inr (en 15 lb (eTy c.1) .leaf [] b.1 c.1, c.2))) = some zz := by rw [jb_assoc]; exact e
  have run : C_37_let G r jg a h = xc (C_37_wanted G r jg (fR h 1414 a) (fR h 1410 a) h) (fun t h => some (.inl t, h)) (fun p1 h1 => gd (kd h1 a = 25 ∧ kd h1 jg = 37) (C_37_inside G r jg (fR h1 1410 a) (fR h1 1418 a) h1)) := by
    unfold C_37_let
    rw [gd_pos ⟨k25, Q0.2.1.1.1⟩]
    simp only [xc_id2]
  have PL : JCP G N cl tb l0 sc rest Gx io fo mo E jg Lb lo H0 l Γ s h us fs Dk ds dm Sl (dp - 1) 0 0 (fR h 1414 a) a1 a2 b := ⟨⟨Q0, C0⟩, XL, ok.2.1, hΓ, ⟨hb.1, by omega⟩, by omega, RmJ_le R (by omega) (by omega), hl, by omega⟩
  rcases jb_cs e' with ⟨kp, e1, e2⟩ | ⟨⟨e0, s1⟩, e1, e2⟩
  · obtain ⟨v, h1, us1, fs1, Dk1, ds1, dm1, i1, i2, i3⟩ := c_want nd J J2 Hr (by omega) e1 PL t1 ok.1 (by omega)
    obtain ⟨a', f1, f2⟩ := i2 kp.1 kp.2 rfl
    subst f1
    rw [i1, xc_t] at run
    exact c_tset nd run He ra hh (JCQ_f e2 (JF_mono (JF_le f2 (by rw [cs]; omega) (by rw [xs]; omega) (by rw [xs]; omega) (by rw [xs]; omega)) (by omega) (by omega)))
  · obtain ⟨v, h1, us1, fs1, Dk1, ds1, dm1, i1, i2, i3⟩ := c_want nd J J2 Hr (by omega) e1 PL t1 ok.1 (by omega)
    obtain ⟨Sl1, f1, A1, XJ1⟩ := i3 e0 s1 rfl
    subst f1
    obtain ⟨⟨Q1, C1⟩, b1, K1, D1, hl1⟩ := A1.2
    have X1 := CX_hS A1
    have eq1 := CX_eq A1 He.1 (by unfold dyK; omega) (by omega)
    have XR1 := Ph0_keep (alo := a2) (ahi := a3) A1 (.inr (Nat.le_refl _)) (fun w => absurd rfl w) XR
    rw [i1, xc_v, gd_pos ⟨by rw [eq1.1]; exact k25, Q1.2.1.1.1⟩, eq1.2.2.1, eq1.2.2.1] at run
    have R1 := CX_R (q1 := jcC E r') (n1 := 4 * xnN r') A1 R (by omega) (by omega)
    have AW := CX_mono (alo := alo) (ahi := ahi) A1 (by omega) (by omega)
    rcases jb_cs e2 with ⟨kp, e3, e4⟩ | ⟨⟨e5, s2⟩, e3, e4⟩
    · obtain ⟨v, h2, us2, fs2, Dk2, ds2, dm2, j1, j2, j3⟩ := c_inside (b := b + tsz (lbT lb)) nd Hr (by omega) e3 Q1 C1 XR1 ok.2.2 (fun T hT => ⟨(hΓ T hT).1, by have := (hΓ T hT).2; omega⟩) ⟨by omega, by omega⟩ (by omega) R1 hl1 (by omega) (CX_ty A1 _ _ t1) ⟨ok.1, by omega⟩
      obtain ⟨a', f1, f2⟩ := j2 kp.1 kp.2 rfl
      subst f1
      rw [j1] at run
      exact c_tset nd run He ra hh (JCQ_f e4 (JF_le (CX_F AW f2 (by omega) (by omega)) (by rw [cs]; omega) (by rw [xs]; omega) (by rw [xs]; omega) (by rw [xs]; omega)))
    · obtain ⟨v, h2, us2, fs2, Dk2, ds2, dm2, j1, j2, j3⟩ := c_inside (b := b + tsz (lbT lb)) nd Hr (by omega) e3 Q1 C1 XR1 ok.2.2 (fun T hT => ⟨(hΓ T hT).1, by have := (hΓ T hT).2; omega⟩) ⟨by omega, by omega⟩ (by omega) R1 hl1 (by omega) (CX_ty A1 _ _ t1) ⟨ok.1, by omega⟩
      obtain ⟨x, Sl2, f1, A2, XJ2, cx, _⟩ := j3 e5 s2 rfl
      subst f1
      rw [j1] at run
      have e4' : zz = .inr (en 15 lb (eTy e5) .leaf [] e0 e5, s2) := (Option.some.inj e4).symm
      have A := CX_trans AW A2 (by omega) (by omega)
      have X := CX_hS A
      have dl := dm_le Q1
      have XJ1' := PhJ_keep (alo := a1) (ahi := a2) Q1.1.2.1 A2 ⟨by omega, by omega⟩ (.inl (Nat.le_refl _)) (fun w => absurd rfl w) XJ1
      have eq2 := CX_eq A2 (Nat.lt_of_lt_of_le He.1 X1.1) (by rw [eq1.1]; unfold dyK; omega) (by omega)
      have eq := eqA_trans eq1 eq2
      refine c_tset nd run He ra hh (JCQ_r e4' (CX_le A (by rw [cs]; omega) (by rw [xs]; omega) (by rw [xs]; omega) (by rw [xs]; omega)) ?_ cx (by rw [eq.2.2.1]; exact c0) (PhQ_no (by decide) (by decide)))
      unfold XCb
      rw [aX_0, aH_0, aD_0, if_neg (by decide), if_neg (by decide), if_neg (by decide), if_neg (by decide), if_neg (by decide), if_neg (by decide), if_pos rfl]
      exact ⟨⟨rg.1, rg.2.1, rg.2.2.1, Nat.le_trans rg.2.2.2.1 X.1, rg.2.2.2.2⟩, dp0, trivial, m0, by rw [eq.2.1]; exact f72, by rw [eq.1]; exact k25, by rw [eq.2.2.1]; exact CX_ty A _ _ t1, by rw [eq.2.2.1]; exact wN_hS X w1, a1, a2, a3, r1, ⟨r2, r3⟩, r4, by rw [eq.2.2.1]; exact XJ1', by rw [eq.2.2.1]; exact XJ2⟩
end LJT
