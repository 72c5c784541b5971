set_option maxRecDepth 100000
/-! A LINE IS JUDGED, in the component -/
section LLN
variable {G : om_G} {N : List (List Int)} {cl : Nat → Nat} {tb l0 sc jg Lb : Nat} {rest : List (Nat × List Nat)} {Sl Gx : Nat → Prop} {io fo mo : Nat → Nat} {E : JE} {B : Nat} {Γ : List Ty} {lo H0 alo ahi : Nat} {h : om_H} {us fs : List Nat} {Dk : Nat → Prop} {ds : List Nat} {dm : Nat} {s : JS}
/-- what is judged is to be of a type -/
theorem c_isW (nd : ndN N) (J : JOk E B) (J2 : JOk2 E) {e0 : Et} {T : Ty} {x y dp a : Nat} {zz : (Nat × Nat) ⊕ (Et × JS)} (Q1 : JQ G N cl tb l0 sc rest Gx io E jg Lb h us fs Dk ds dm Sl Γ s.1) (C1 : JCE N cl fo mo E h (UU us rest) Sl) (XJ : XCg Prod.fst (PhJ N cl rest io E lo H0 Sl h us Dk ds dm) G h N cl (UU us rest) Sl fo mo e0 Γ.length dp 0 0 a alo ahi) (cx : tyC h N cl (UU us rest) (eTy e0) x) (c0 : eC0 e0) (okE : tyOk E.2.2.2.1 (eTy e0) ∧ tsz (eTy e0) ≤ 1000000) (cy : tyC h N cl (UU us rest) T y) (okT : tyOk E.2.2.2.1 T) (hzT : tsz T ≤ 1000000) (R : RmJ us fs ds dm s.1 0 0) (hl : lo ≤ dm ∧ H0 ≤ hz h) (hh : ahi ≤ H0) (e2 : jw E T e0 s = some zz) : ∃ (v : Nat ⊕ Unit) (h' : om_H) (us' fs' : List Nat), C_37_isOf G jg a x y h = some (v, h') ∧ (∀ k p, zz = .inl (k, p) → ∃ a', v = .inl a' ∧ JF G N cl tb l0 sc rest Gx Lb Sl alo ahi h us fs Dk ds dm h' us' fs' Dk ds dm 0 0 0 0 s.1 k p a') ∧ ∀ e s', zz = .inr (e, s') → v = .inr () ∧ CX G N cl tb l0 sc rest Gx io fo mo E jg Lb lo H0 h us fs Dk ds dm Sl s alo ahi h' us' fs' Dk ds dm Sl Γ s' 0 0 0 0 ∧ XCg Prod.fst (PhJ N cl rest io E lo H0 Sl h' us' Dk ds dm) G h' N cl (UU us' rest) Sl fo mo e Γ.length dp 0 0 a alo ahi := by
  have dl := dm_le Q1
  have h300 := R.2.2.2
  cases e0 with
  | leaf => exact c0.elim
  | inner tg lx un el er =>
  obtain ⟨He, ra, rh, _, PJ⟩ := XCg_ex XJ
  have He' : exO h a (ePl (.inner tg lx un el er)) := He
  obtain ⟨v2, h2, us2, fs2, g1, g2, g3⟩ := c_isOf nd J J2.2.2 e2 Q1.1.1 Q1.2.1 He' cx cy okE.1 okT okE.2 hzT h300 (by have := R.1; have := J.1.1; omega)
  rw [g1]
  cases zz with
  | inl kp =>
    obtain ⟨a', ea, t1, t2, t3⟩ := g2 kp.1 kp.2 rfl
    subst ea
    refine ⟨_, h2, us2, fs2, rfl, fun k p w => ?_, fun e s' w => by cases w⟩
    have w' := Sum.inl.inj w
    rw [w'] at t2
    exact ⟨a', rfl, JF_KF (alo := alo) (ahi := ahi) (q' := 0) Q1 t1 t2 t3 h300 (by have := J.1.1; omega)⟩
  | inr pp =>
    obtain ⟨ev, h3, F3, b3, K3, D3, cs⟩ := g3 pp.1 pp.2 rfl
    subst ev
    have A3 : CX G N cl tb l0 sc rest Gx io fo mo E jg Lb lo H0 h us fs Dk ds dm Sl s ahi ahi h3 us2 fs2 Dk ds dm Sl Γ pp.2 0 0 0 0 := CX_KF Q1 C1 K3 F3 b3 (by omega) D3 hl
    have XJ3 := PhJ_keep (alo := alo) (ahi := ahi) Q1.1.2.1 A3 ⟨by omega, hh⟩ (.inl (Nat.le_refl _)) (fun w => absurd rfl w) XJ
    have A03 : CX G N cl tb l0 sc rest Gx io fo mo E jg Lb lo H0 h us fs Dk ds dm Sl s alo ahi h3 us2 fs2 Dk ds dm Sl Γ pp.2 0 0 0 0 := CX_mono A3 (by omega) (Nat.le_refl _)
    rcases cs with ⟨c1, c2, c3⟩ | ⟨c1, c2, c3⟩
    · subst c2
      refine ⟨_, h2, us2, fs2, rfl, fun k p w => (by cases w), fun e s' w => ?_⟩
      have w' := Sum.inr.inj w
      rw [w'] at c1 A03
      have c1' : e = .inner tg lx un el er := c1
      rw [c1']
      exact ⟨rfl, A03, XJ3⟩
    · subst c2
      obtain ⟨He3, ra3, rh3, _, PJ3⟩ := XCg_ex XJ3
      obtain ⟨pj1, pj2⟩ := PhJ_root.mp PJ3
      have XB := XJ3
      rw [XCg_e] at XB
      have XB' := XCb_true (lab := (Prod.fst : XL × Ty × Ty × List Dc → XL)) (x := lx) (x' := (lx.1, lx.2.1, T, lx.2.2.2)) rfl XB
      obtain ⟨y1, y2⟩ := XJ_fin (un := un) (f := 1382) (v := y) nd A3.2.1.1 A3.2.1.2 b3.2 A3.2.2.2.2.2 hh (.inr rfl) ⟨He3.1, He3.2.1.1, He3.2.1.2.1⟩ XB' ⟨⟨by rw [fR_ne (by decide)]; exact pj1.1, by rw [fR_eq]; exact CX_ty A3 _ _ cy⟩, pj2⟩ ra3
      refine ⟨_, sR h3 1382 a y, us2, fs2, rfl, fun k p w => (by cases w), fun e s' w => ?_⟩
      have w' := Sum.inr.inj w
      have A4 := CX_trans A03 y2 (by omega) (by omega)
      rw [w'] at c1 A4
      have c1' : e = .inner tg (lx.1, lx.2.1, T, lx.2.2.2) un el er := c1
      rw [c1']
      exact ⟨rfl, A4, y1⟩
/-- what a line needs of its inst and class -/
def LnC (h : om_H) (N : List (List Int)) (cl : Nat → Nat) (U Sl : Nat → Prop) (o c x a w wc m : Nat) (mm : Nat) (Hd mty : Ty) : Prop := (kd h o = 21 ∧ o < hz h ∧ fR h 1302 o = cl c ∧ clO h cl c) ∧ (x < hz h ∧ kd h x = 23 ∧ fR h 1366 x = a) ∧ (Sl (fR h 1234 (cl c)) ∧ WNs h N (fR h 1234 (cl c)) [wc]) ∧ (∃ (ms : List (Nat × Ty)) (mo : Nat → Nat), (Sl (fR h 1230 (cl c)) ∧ fR h 1230 (cl c) < hz h ∧ kd h (fR h 1230 (cl c)) = 42 ∧ (ll h (fR h 1230 (cl c))).length = ms.length ∧ ms.length ≤ 4) ∧ (∀ (k : Nat) (y : Nat × Ty), ms[k]? = some y → (ll h (fR h 1230 (cl c)))[k]? = some (mo k) ∧ (mo k ≠ 0 ∧ mo k < hz h ∧ kd h (mo k) = 19) ∧ wN h N y.1 (fR h 1242 (mo k)) ∧ fI h 1252 (mo k) = (k : Int)) ∧ mIx ms w = some m ∧ mo m = mm) ∧ wN h N w (fR h 1362 x) ∧ (mm < hz h ∧ kd h mm = 19 ∧ tyC h N cl U mty (fR h 1262 mm)) ∧ (Sl (fR h 1322 o) ∧ fR h 1322 o < hz h ∧ kd h (fR h 1322 o) = 42 ∧ ∃ y, ll h (fR h 1322 o) = [y] ∧ tyC h N cl U Hd y)
theorem LnC_keep {g : Prop} {U U' Sl1 : Nat → Prop} {h1 : om_H} {o c x a w wc m mm : Nat} {Hd mty : Ty} (X : hSg g Sl h h1) (m1 : ∀ a, Sl a → Sl1 a) (kp : ∀ T a, tyC h N cl U T a → tyC h1 N cl U' T a) (H : LnC h N cl U Sl o c x a w wc m mm Hd mty) : LnC h1 N cl U' Sl1 o c x a w wc m mm Hd mty := by
  obtain ⟨⟨a1, a2, a3, a4⟩, ⟨b1, b2, b3⟩, ⟨c1, c2⟩, ⟨ms, mo, ⟨d1, d2, d3, d4, d5⟩, d6, d7, d8⟩, e1, ⟨f1, f2, f3⟩, ⟨g1, g2, g3, y, g4, g5⟩⟩ := H
  have so := X.2.2.1 o a2 (by rw [a1]; decide)
  have sx := X.2.2.1 x b1 (by rw [b2]; decide)
  have sc := X.2.2.1 _ a4.2.1 (by rw [a4.2.2.1]; decide)
  have sm := X.2.2.1 mm f1 (by rw [f2]; decide)
  have e1230 := sc.2 1230 (by decide)
  have e1234 := sc.2 1234 (by decide)
  have e1322 := so.2 1322 (by decide)
  have l1230 := X.2.2.2.2 _ d2 d1
  refine ⟨⟨by rw [X.2.1 _ a2]; exact a1, Nat.lt_of_lt_of_le a2 X.1, by rw [so.2 1302 (by decide)]; exact a3, clO_hS X a4⟩, ⟨Nat.lt_of_lt_of_le b1 X.1, by rw [X.2.1 _ b1]; exact b2, by rw [sx.2 1366 (by decide)]; exact b3⟩, ⟨by rw [e1234]; exact m1 _ c1, by rw [e1234]; exact WNs_hS X c1 c2⟩, ⟨ms, mo, ?_, fun k y ey => ?_, d7, d8⟩, by rw [sx.2 1362 (by decide)]; exact wN_hS X e1, ⟨Nat.lt_of_lt_of_le f1 X.1, by rw [X.2.1 _ f1]; exact f2, by rw [sm.2 1262 (by decide)]; exact kp _ _ f3⟩, ?_⟩
  · rw [e1230, l1230, X.2.1 _ d2]
    exact ⟨m1 _ d1, Nat.lt_of_lt_of_le d2 X.1, d3, d4, d5⟩
  · obtain ⟨q1, ⟨q2, q3, q4⟩, q5, q6⟩ := d6 k y ey
    have sk := X.2.2.1 _ q3 (by rw [q4]; decide)
    rw [e1230, l1230, X.2.1 _ q3, sk.2 1242 (by decide), sk.1 1252 (by decide)]
    exact ⟨q1, ⟨q2, Nat.lt_of_lt_of_le q3 X.1, q4⟩, wN_hS X q5, q6⟩
  · rw [e1322, X.2.1 _ g2]
    exact ⟨m1 _ g1, Nat.lt_of_lt_of_le g2 X.1, g3, y, by rw [X.2.2.2.2 _ g2 g1]; exact g4, kp _ _ g5⟩
/-- a line, plainly: judged, then to be of its method's type with the head put -/
def jln (E : JE) (T : Ty) (t : Xt) (s : JS) : Option ((Nat × Nat) ⊕ (Et × JS)) := jb (jd E t [] s) fun a => if tszW T ≤ 60 then jw E T a.1 a.2 else some (.inl (7, ePl a.1))
set_option maxHeartbeats 1000000 in
/-- A LINE, in the component -/
theorem c_line (hI : intO G) (nd : ndN N) (J : JOk E B) (J2 : JOk2 E) {t : Xt} {o c x a w wc m mm dp b : Nat} {Hd mty : Ty} {zz : (Nat × Nat) ⊕ (Et × JS)} (hdp : dp ≤ 130) (e : jln E (sbT [(wc, Hd)] mty) t s = some zz) (P : JCP G N cl tb l0 sc rest Gx io fo mo E jg Lb lo H0 t [] s h us fs Dk ds dm Sl dp 0 0 a alo ahi b) (R60 : RmJ us fs ds dm s.1 (jcC E t + 60) (4 * xnN t)) (hx : x < alo) (Hn : LnC h N cl (UU us rest) Sl o c x a w wc m mm Hd mty) (okM : tyOk E.2.2.2.1 mty ∧ tsz mty ≤ 2700 ∧ tdp mty < 60) (okH : tyOk E.2.2.2.1 Hd ∧ tsz Hd ≤ 3) (okT : tyOk E.2.2.2.1 (sbT [(wc, Hd)] mty)) : ∃ (v : Nat ⊕ Unit) (h' : om_H) (us' fs' : List Nat) (Dk' : Nat → Prop) (ds' : List Nat) (dm' : Nat), C_37_line G jg o x h = some (v, h') ∧ (∀ k p, zz = .inl (k, p) → ∃ a', v = .inl a' ∧ JF G N cl tb l0 sc rest Gx Lb Sl x ahi h us fs Dk ds dm h' us' fs' Dk' ds' dm' (jcC E t + 60) (16 * xnN t) (48 * xnN t) (4 * xnN t) s.1 k p a') ∧ ∀ e s', zz = .inr (e, s') → ∃ Sl', v = .inr () ∧ CX G N cl tb l0 sc rest Gx io fo mo E jg Lb lo H0 h us fs Dk ds dm Sl s x ahi h' us' fs' Dk' ds' dm' Sl' [] s' (jcC E t + 60) (16 * xnN t) (48 * xnN t) (4 * xnN t) ∧ XCg Prod.fst (PhJ N cl rest io E lo H0 Sl' h' us' Dk' ds' dm') G h' N cl (UU us' rest) Sl' fo mo e 0 dp 0 0 a alo ahi ∧ tyC h' N cl (UU us' rest) (sbT [(wc, Hd)] mty) (fR h' 1370 x) := by
  obtain ⟨⟨Q0, C0⟩, XA, ok, hΓ, hb, hbd, R, hl, hh⟩ := id P
  obtain ⟨⟨a1, a2, a3, a4⟩, ⟨b1, b2, b3⟩, _⟩ := id Hn
  have hs3 : tsz (sbT [(wc, Hd)] mty) ≤ 3 * tsz mty := sbT_tsz (by decide) (fun p hp => by rw [List.mem_singleton.mp hp]; exact okH.2) okM.1.2.1
  unfold C_37_line
  rw [gd_pos ⟨b2, Q0.2.1.1.1⟩, b3]
  have Hr := c_jd (lo := lo) (H0 := H0) (fo := fo) (mo := mo) (rest := rest) (Gx := Gx) (io := io) (tb := tb) (l0 := l0) (sc := sc) (jg := jg) (Lb := Lb) (cl := cl) hI nd J J2 130
  unfold jln at e
  rcases jb_cs e with ⟨kp, e1, e2⟩ | ⟨⟨e0, s1⟩, e1, e2⟩
  · obtain ⟨v, h1, us1, fs1, Dk1, ds1, dm1, r1, o1, o2⟩ := Hr t [] s _ h us fs Dk ds dm Sl dp a alo ahi b hdp e1 P
    obtain ⟨a', f1, f2⟩ := o1 kp.1 kp.2 rfl
    subst f1
    have r1' : C_37_typeOf G jg a h = some (.inl a', h1) := r1
    rw [r1', xc_t]
    refine ⟨_, h1, us1, fs1, Dk1, ds1, dm1, rfl, fun k p w => ?_, fun e s' w => by rw [e2] at w; cases w⟩
    rw [e2] at w
    have w' := Sum.inl.inj w
    rw [w'] at f2
    exact ⟨a', rfl, JF_mono (JF_le f2 (by omega) (Nat.le_refl _) (Nat.le_refl _) (Nat.le_refl _)) (by omega) (Nat.le_refl _)⟩
  · obtain ⟨v, h1, us1, fs1, Dk1, ds1, dm1, r1, o1, o2⟩ := Hr t [] s _ h us fs Dk ds dm Sl dp a alo ahi b hdp e1 P
    obtain ⟨p1, Sl1, f1, A, XJ, cx, c0⟩ := o2 e0 s1 rfl
    subst f1
    have r1' : C_37_typeOf G jg a h = some (.inr p1, h1) := r1
    simp only at e2
    obtain ⟨⟨Q1, C1⟩, bb1, K1, D1, hl1⟩ := A.2
    obtain ⟨z', ez', oz⟩ := jd_ok J t [] s b ok hΓ hb.1 hb.2
    rw [e1] at ez'
    obtain ⟨okE, pE⟩ := oz (e0, s1) (Option.some.inj ez').symm
    have R1 := CX_R (q1 := 60) (n1 := 0) A R60 (by omega) (by omega)
    have H1 := LnC_keep (CX_hS A) A.1 (CX_ty A) Hn
    obtain ⟨⟨a1', a2', a3', a4'⟩, ⟨b1', b2', b3'⟩, ⟨c1', c2'⟩, ⟨ms, mo', ⟨d1, d2, d3, d4, d5⟩, d6, d7, d8⟩, e1', ⟨f1, f2, f3⟩, ⟨g1, g2, g3, yh, g4, g5⟩⟩ := id H1
    have fnd : C_17_find G (cl c) (fR h1 1362 x) h1 = some mm := by rw [c_find (mo := mo') nd a4'.2.2.1 d3 d4 d5 d6 e1', d7, ← d8]; rfl
    have Xe : exO h1 a (ePl e0) := by
      cases e0 with
      | leaf => exact c0.elim
      | inner tg lx un el er => exact (XCg_ex XJ).1
    have rge : alo < ahi := by
      cases e0 with
      | leaf => exact c0.elim
      | inner tg lx un el er =>
        obtain ⟨He, ra, rh, _, _⟩ := XCg_ex XJ
        omega
    have kex : ∃ k ∈ om_exk, kd h1 a = k + 1 := exO_k Xe
    have e46 : fR h1 1646 jg = l0 := Q1.2.1.2.1
    have k9 : kd h1 l0 = 9 := Q1.1.1.2.1.1.1
    have n122 : ∀ L, Sl1 L → L ≠ fR h1 122 tb := fun L hL e => Q1.1.1.2.2.1.2.1 (by rw [← e]; exact hL)
    have PC : PutC h1 N cl (UU us1 rest) (fR h1 1234 (cl c)) (fR h1 1322 o) 0 [(wc, Hd)] := ⟨c2', .inr ⟨rfl, ⟨g2, g3⟩, fun k q eq => by
      cases k with
      | zero =>
        have : (wc, Hd) = q := Option.some.inj eq
        rw [← this]
        exact ⟨yh, by rw [g4]; rfl, g5⟩
      | succ k => cases eq⟩⟩
    have hθ : wfS [(wc, Hd)] := fun p hp => by
      rw [List.mem_singleton.mp hp]
      exact ⟨okH.1.2.1, okH.1.1⟩
    obtain ⟨v2, h2, us2, fs2, q1, q2, q3⟩ := c_put8 nd hθ (ePl e0 : Int) Q1.1.1 ⟨n122 _ c1', n122 _ g1⟩ PC f3 okM.1.1 okM.1.2.1 (by omega) (by have := nnT_le mty; have := R1.1; have := R1.2.2.2; omega)
    have st0 : (xc (C_37_typeOf G jg a h) (fun t h => some ((Sum.inl t : Nat ⊕ Unit), h)) (fun p1 h1 => gd (kd h1 jg = 37 ∧ kd h1 o = 21 ∧ kd h1 x = 23 ∧ kd h1 (fR h1 1302 o) = 18) ((C_17_find G (fR h1 1302 o) (fR h1 1362 x) h1).bind fun p2 => gd (kd h1 p2 = 19 ∧ kd h1 o = 21 ∧ kd h1 (fR h1 1302 o) = 18 ∧ kd h1 x = 23 ∧ (∃ k ∈ om_exk, kd h1 (fR h1 1366 x) = k + 1) ∧ kd h1 (fR h1 1646 jg) = 9) (xc (C_8_put G (fR h1 1646 jg) (fR h1 1262 p2) (fR h1 1234 (fR h1 1302 o)) (fR h1 1322 o) (fI h1 1372 (fR h1 1366 x)) h1) (fun t h => some (.inl t, h)) (fun p3 h3 => gd (kd h3 x = 23 ∧ kd h3 x = 23 ∧ kd h3 jg = 37) (xc (C_37_isOf G jg (fR h3 1366 x) p1 (fR (sR h3 1370 x p3) 1370 x) (sR h3 1370 x p3)) (fun t h => some (.inl t, h)) (fun p4 h4 => some (.inr (), h4)))))))) = xc (some (v2, h2)) (fun t h => some ((Sum.inl t : Nat ⊕ Unit), h)) (fun p3 h3 => gd (kd h3 x = 23 ∧ kd h3 x = 23 ∧ kd h3 jg = 37) (xc (C_37_isOf G jg (fR h3 1366 x) p1 (fR (sR h3 1370 x p3) 1370 x) (sR h3 1370 x p3)) (fun t h => some (.inl t, h)) (fun p4 h4 => some (.inr (), h4)))) := by
      rw [r1', xc_v]
      rw [a3', b3', e46, gd_pos ⟨Q1.2.1.1.1, a1', b2', a4'.2.2.1⟩, fnd, Option.bind_some, gd_pos ⟨f2, a1', a4'.2.2.1, b2', kex, k9⟩, Xe.2.2, q1]
    rw [st0]
    by_cases s60 : tszW (sbT [(wc, Hd)] mty) ≤ 60
    · rw [if_pos s60] at e2
      obtain ⟨y, ev, cy, F2, K2, _⟩ := q2 s60
      subst ev
      have nn : nnT mty ≤ 60 := by
        have w1 := nnT_sb (θ := [(wc, Hd)]) mty
        have w2 : tsz (sbT [(wc, Hd)] mty) ≤ 2147483647 := by
          have h2 := okM.2.1
          omega
        have w3 := tszW_eq w2
        omega
      have A2 : CX G N cl tb l0 sc rest Gx io fo mo E jg Lb lo H0 h1 us1 fs1 Dk1 ds1 dm1 Sl1 s1 ahi ahi h2 us2 fs2 Dk1 ds1 dm1 Sl1 [] s1 60 0 0 0 := CX_le (CX_KF0 (alo := ahi) (ahi := ahi) Q1 C1 K2 F2 bb1.2 hl1) nn (Nat.le_refl _) (Nat.le_refl _) (Nat.le_refl _)
      have dl := dm_le Q1
      have XJ2 := PhJ_keep (alo := alo) (ahi := ahi) Q1.1.2.1 A2 ⟨by omega, hh⟩ (.inl (Nat.le_refl _)) (fun w => absurd rfl w) XJ
      have H2 := LnC_keep (CX_hS A2) A2.1 (CX_ty A2) H1
      obtain ⟨_, ⟨b1'', b2'', b3''⟩, _⟩ := id H2
      have A3 := CX_sR (x := y) (f := 1370) (a := x) nd A2.2.1.1 A2.2.1.2 bb1.2 A2.2.2.2.2.2 (by decide) b1'' (by rw [b2'']; unfold dyK; omega) (by omega)
      have XJ3 := PhJ_keep (alo := alo) (ahi := ahi) A2.2.1.1.1.2.1 A3 ⟨by have := dm_le A2.2.1.1; omega, by omega⟩ (.inr (by omega)) (fun w => absurd rfl w) XJ2
      have R3 : RmJ us2 fs2 ds1 dm1 s1.1 0 0 := CX_R (q1 := 0) (n1 := 0) A2 R1 (by omega) (by omega)
      have cx3 := CX_ty A3 _ _ (CX_ty A2 _ _ cx)
      have cy3 := CX_ty A3 _ _ cy
      obtain ⟨v4, h4, us4, fs4, t1, t2, t3⟩ := c_isW nd J J2 A3.2.1.1 A3.2.1.2 XJ3 cx3 c0 ⟨okE.1, by have w : tsz (eTy e0) ≤ b + xsz t := okE.2; omega⟩ cy3 okT (by have h2 := okM.2.1; omega) R3 A3.2.2.2.2.2 hh e2
      have ea : fR h2 1366 x = a := b3''
      rw [xc_v]
      rw [gd_pos ⟨b2'', b2'', A2.2.1.1.2.1.1.1⟩, fR_eq, ea, t1]
      have A03 := CX_trans (CX_trans (CX_mono (alo := x) (ahi := ahi) A (by omega) (Nat.le_refl _)) A2 (by omega) (Nat.le_refl _)) A3 (Nat.le_refl _) (by omega)
      cases zz with
      | inl kp =>
        obtain ⟨a', ea', t4⟩ := t2 kp.1 kp.2 rfl
        subst ea'
        rw [xc_t]
        refine ⟨_, h4, us4, fs4, Dk1, ds1, dm1, rfl, fun k p w => ?_, fun e s' w => by cases w⟩
        have w' := Sum.inl.inj w
        rw [w'] at t4
        exact ⟨a', rfl, JF_le (CX_F A03 t4 (by omega) (Nat.le_refl _)) (by omega) (by omega) (by omega) (by omega)⟩
      | inr pp =>
        obtain ⟨ev, A4, XJ4⟩ := t3 pp.1 pp.2 rfl
        subst ev
        rw [xc_v]
        refine ⟨_, h4, us4, fs4, Dk1, ds1, dm1, rfl, fun k p w => (by cases w), fun e s' w => ?_⟩
        have w' := Sum.inr.inj w
        have A04 := CX_trans A03 A4 (by omega) (Nat.le_refl _)
        have e70 := CX_eq A4 (a := x) (by show x < hz h2; exact b1'') (by show dyK (kd h2 x); rw [b2'']; unfold dyK; omega) (.inl hx)
        have y4 : fR h4 1370 x = y := by rw [e70.2.2.1, fR_eq]
        have cy4 := CX_ty A4 _ _ cy3
        rw [w'] at A04 XJ4
        exact ⟨Sl1, rfl, CX_le A04 (by omega) (by omega) (by omega) (by omega), XJ4, by rw [y4]; exact cy4⟩
    · rw [if_neg s60] at e2
      have ez : zz = .inl (7, ePl e0) := (Option.some.inj e2).symm
      obtain ⟨a', ev, t1, t2, t3⟩ := q3 s60
      subst ev
      rw [xc_t]
      refine ⟨_, h2, us2, fs2, Dk1, ds1, dm1, rfl, fun k p w => ?_, fun e s' w => by rw [ez] at w; cases w⟩
      rw [ez] at w
      injection Sum.inl.inj w with w1 w2
      rw [← w1, ← w2]
      exact ⟨a', rfl, JF_mono (JF_le (CX_F A (JF_KF (alo := alo) (ahi := ahi) (q' := 0) (k := 7) Q1 t1 t2 t3 bb1.2 (by have := nnT_le mty; omega)) (Nat.le_refl _) (Nat.le_refl _)) (by omega) (by omega) (by omega) (by omega)) (by omega) (Nat.le_refl _)⟩
end LLN
