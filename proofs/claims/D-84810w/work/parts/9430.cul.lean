set_option maxRecDepth 100000
/-! THE COMPONENT's judge: uses -/
/-- the first items of a use are judged -/
def UO (G : om_G) (N : List (List Int)) (cl : Nat → Nat) (tb l0 sc : Nat) (rest : List (Nat × List Nat)) (Gx : Nat → Prop) (io fo mo : Nat → Nat) (E : JE) (jg Lb lo H0 : Nat) (r : Nat → Nat → om_H → Option ((Nat ⊕ Nat) × om_H)) (t : Xt) (Γ : List Ty) (s : JS) (zz : (Nat × Nat) ⊕ (Et × JS)) (h : om_H) (us fs : List Nat) (Dk : Nat → Prop) (ds : List Nat) (dm : Nat) (Sl : Nat → Prop) (dp m a alo ahi : Nat) : Prop := (∀ kp, zz = .inl kp → ∃ (a' : Nat) (h' : om_H) (us' fs' : List Nat) (Dk' : Nat → Prop) (ds' : List Nat) (dm' : Nat), C_37_use G r jg a h = some (.inl a', h') ∧ JF G N cl tb l0 sc rest Gx Lb Sl alo ahi h us fs Dk ds dm h' us' fs' Dk' ds' dm' (jcC E t) (16 * xnN t) (48 * xnN t) (4 * xnN t) s.1 kp.1 kp.2 a') ∧ ∀ e s', zz = .inr (e, s') → ∃ (x : Nat) (h' : om_H) (us' fs' : List Nat) (Dk' : Nat → Prop) (ds' : List Nat) (dm' : Nat) (Sl' : Nat → Prop), C_37_use G r jg a h = (om_loop (C_37_use_80s G r jg a) (x, (m : Int), h')).bind (useK G) ∧ CX G N cl tb l0 sc rest Gx io fo mo E jg Lb lo H0 h us fs Dk ds dm Sl s alo ahi h' us' fs' Dk' ds' dm' Sl' Γ s' (jcC E t) (16 * xnN t) (48 * xnN t) (4 * xnN t) ∧ XCg Prod.fst (PhJ N cl rest io E lo H0 Sl' h' us' Dk' ds' dm') G h' N cl (UU us' rest) Sl' fo mo e Γ.length dp 1 m a alo ahi ∧ tyC h' N cl (UU us' rest) (eTy e) x ∧ eC0 e ∧ eqA a h h'
section LUL
variable {G : om_G} {N : List (List Int)} {cl : Nat → Nat} {tb l0 sc jg Lb : Nat} {rest : List (Nat × List Nat)} {Sl Sl1 Sl2 Gx U U' : Nat → Prop} {io fo mo : Nat → Nat} {E : JE} {B lo H0 : Nat} {Γ Γ1 Γ2 : List Ty} {tot q z u n q1 z1 u1 n1 alo ahi alo1 ahi1 : Nat} {s s1 s2 : JS} {h : om_H} {us fs : List Nat} {Dk : Nat → Prop} {ds : List Nat} {dm : Nat} {h1 : om_H} {us1 fs1 : List Nat} {Dk1 : Nat → Prop} {ds1 : List Nat} {dm1 : Nat} {h2 : om_H} {us2 fs2 : List Nat} {Dk2 : Nat → Prop} {ds2 : List Nat} {dm2 : Nat} {h3 : om_H} {us3 fs3 : List Nat} {Dk3 : Nat → Prop} {ds3 : List Nat} {dm3 : Nat} {r : Nat → Nat → om_H → Option ((Nat ⊕ Nat) × om_H)} {D : Nat}
theorem gPl_e {e : Et} : gPl Prod.fst e = ePl e := by cases e <;> rfl
theorem gPl_x {t : Xt} : gPl id t = xPl t := by cases t <;> rfl
theorem ePl_cs {C : Ty} {e : Et} : ePl (eCs C e) = ePl e := eTy_Cs.2
/-- one more item -/
theorem use12 (nd : ndN N) (J : JOk E B) (J2 : JOk2 E) (Hr : ∀ t, JCR G N cl tb l0 sc rest Gx io fo mo E jg Lb lo H0 r D t) {lb : XL} {un : Unit} {l rt : Xt} {zz z1 : (Nat × Nat) ⊕ (Et × JS)} {dp M a am a1 i b : Nat} (hd : dp ≤ D + 1) (e : jd E (.inner 12 lb un l rt) Γ s = some zz) (e1 : jd E l Γ s = some z1) (hU : UO G N cl tb l0 sc rest Gx io fo mo E jg Lb lo H0 r l Γ s z1 h us fs Dk ds dm Sl dp (M - 1) a alo am) (it : itC h Sl a M i) (n0 : fR h 1498 i ≠ 0) (pl : fI h 1504 i = (xPl rt : Int)) (ro : alo ≤ am ∧ am ≤ a1 ∧ a1 ≤ i ∧ i < ahi) (XR : XCg id (Ph0 h) G h N cl (UU us rest) Sl fo mo rt Γ.length (dp - 1) 0 0 (fR h 1498 i) am a1) (ok : xok E l Γ.length ∧ xok E rt Γ.length) (hΓ : ∀ T ∈ Γ, tyOk E.2.2.2.1 T ∧ tsz T ≤ b) (hb : 2700 ≤ b ∧ b + xsz (.inner 12 lb un l rt) ≤ 1000000) (hbd : Γ.length + xbd (.inner 12 lb un l rt) ≤ 40000) (R : RmJ us fs ds dm s.1 (jcC E (.inner 12 lb un l rt)) (4 * xnN (.inner 12 lb un l rt))) (hh : ahi ≤ H0) (ha : a < hz h ∧ kd h a = 30 ∧ a < am) (lp : lb.1 = xPl l) : (∀ kp, zz = .inl kp → ∃ (a' : Nat) (h' : om_H) (us' fs' : List Nat) (Dk' : Nat → Prop) (ds' : List Nat) (dm' : Nat), C_37_use G r jg a h = some (.inl a', h') ∧ JF G N cl tb l0 sc rest Gx Lb Sl alo ahi h us fs Dk ds dm h' us' fs' Dk' ds' dm' (jcC E (.inner 12 lb un l rt)) (16 * xnN (.inner 12 lb un l rt)) (48 * xnN (.inner 12 lb un l rt)) (4 * xnN (.inner 12 lb un l rt)) s.1 kp.1 kp.2 a') ∧ ∀ e s', zz = .inr (e, s') → ∃ (x : Nat) (h' : om_H) (us' fs' : List Nat) (Dk' : Nat → Prop) (ds' : List Nat) (dm' : Nat) (Sl' : Nat → Prop) (ef ec : Et) (T : Ty), C_37_use G r jg a h = (om_loop (C_37_use_80s G r jg a) (x, (M : Int), h')).bind (useK G) ∧ e = en 12 lb T .leaf [] ef ec ∧ CX G N cl tb l0 sc rest Gx io fo mo E jg Lb lo H0 h us fs Dk ds dm Sl s alo ahi h' us' fs' Dk' ds' dm' Sl' Γ s' (jcC E (.inner 12 lb un l rt)) (16 * xnN (.inner 12 lb un l rt)) (48 * xnN (.inner 12 lb un l rt)) (4 * xnN (.inner 12 lb un l rt)) ∧ XCg Prod.fst (PhJ N cl rest io E lo H0 Sl' h' us' Dk' ds' dm') G h' N cl (UU us' rest) Sl' fo mo ef Γ.length dp 1 (M - 1) a alo am ∧ XCg Prod.fst (PhJ N cl rest io E lo H0 Sl' h' us' Dk' ds' dm') G h' N cl (UU us' rest) Sl' fo mo ec Γ.length (dp - 1) 0 0 (fR h' 1498 i) am a1 ∧ (itC h' Sl' a M i ∧ fR h' 1498 i ≠ 0 ∧ fI h' 1504 i = (gPl Prod.fst ec : Int)) ∧ (tyC h' N cl (UU us' rest) (eTy ef) (fR h' 1510 i) ∧ tyC h' N cl (UU us' rest) (eCt ef) (fR h' 1514 i)) ∧ tyC h' N cl (UU us' rest) T x ∧ eqA a h h' ∧ lb.1 = gPl Prod.fst ef := by
  have cs : jcC E (.inner 12 lb un l rt) = 4 + jcC E l + jcC E rt := rfl
  have xs : xnN (.inner 12 lb un l rt) = 1 + xnN l + xnN rt := rfl
  have xz : xsz (.inner 12 lb un l rt) = 1 + 2 * tsz (lbT lb) + xsz l + xsz rt := rfl
  have xb : xbd (.inner 12 lb un l rt) = 0 + max (xbd l) (xbd rt) := rfl
  rw [cs, xs] at R
  rw [cs, xs]
  rw [xz] at hb
  rw [xb] at hbd
  obtain ⟨⟨t1, t2, t3⟩, ⟨m1, m2, m3⟩, t4, t5, t6, t7⟩ := id it
  obtain ⟨u1, u2⟩ := hU
  rw [jd_e] at e
  unfold jdB at e
  rw [if_neg (by decide), if_neg (by decide), if_pos rfl, e1] at e
  cases z1 with
  | inl kp =>
    have ez : zz = .inl kp := (Option.some.inj e).symm
    obtain ⟨a', h1, us1, fs1, Dk1, ds1, dm1, g1, g2⟩ := u1 kp rfl
    refine ⟨fun kp' w => ?_, fun e s' w => by rw [ez] at w; cases w⟩
    rw [ez] at w
    rw [← Sum.inl.inj w]
    exact ⟨a', h1, us1, fs1, Dk1, ds1, dm1, g1, JF_mono (JF_le g2 (by omega) (by omega) (by omega) (by omega)) (Nat.le_refl _) (by omega)⟩
  | inr pp =>
    obtain ⟨e0, s1⟩ := pp
    obtain ⟨x, h1, us1, fs1, Dk1, ds1, dm1, Sl1, g1, A1, XJ1, cx, c0, eqa⟩ := u2 e0 s1 rfl
    obtain ⟨⟨Q1, C1⟩, b1, _, _, hl1⟩ := A1.2
    have X1 := CX_hS A1
    have e' : (jb (jf E 3 0 (xPl rt) e0 s1) fun f => jb (jd E rt Γ f.2.2) fun b => jb (jw E (tL f.2.1) b.1 b.2) fun c => some (.inr (en 12 lb (tR' f.2.1) .leaf [] f.1 c.1, c.2))) = some zz := e
    have okE := jd_okE J ok.1 hΓ ⟨hb.1, by omega⟩ e1
    have eqi := CX_eq A1 t6 (by rw [t7]; unfold dyK; omega) (by omega)
    have eL := X1.2.2.2.2 _ t2 t1
    have XR1 := Ph0_keep (alo := am) (ahi := a1) A1 (.inr (Nat.le_refl _)) (fun w => absurd rfl w) XR
    have R1 := CX_R (q1 := jcC E rt) (n1 := 4 * xnN rt) A1 R (by omega) (by omega)
    have AW := CX_mono (alo := alo) (ahi := ahi) A1 (Nat.le_refl _) (by omega)
    obtain ⟨i1, i2⟩ := c_item (dp := dp - 1) (a := a) (a1 := a1) (am := am) (i := i) (k := M - 1) (x := x) (b := b + xsz l) nd J J2 Hr (by omega) e' Q1 C1 (by rw [eqi.2.2.1]; exact XR1) ok.2 (fun T hT => ⟨(hΓ T hT).1, by have := (hΓ T hT).2; omega⟩) ⟨by omega, by omega⟩ (by omega) R1 hl1 hh ⟨ro.2.2.1, ro.2.2.2⟩ cx c0 ⟨okE.1, okE.2.1⟩ ⟨Nat.lt_of_lt_of_le ha.1 X1.1, by rw [eqa.1]; exact ha.2.1, ha.2.2⟩ (by rw [eqa.2.2.1, X1.2.1 _ t2]; exact t3) (by rw [eqa.2.2.1, eL]; exact t4) ⟨Nat.lt_of_lt_of_le t6 X1.1, by rw [eqi.1]; exact t7⟩ (by rw [eqi.2.2.1]; exact n0) (by rw [eqi.2.1]; exact pl) (by omega)
    have eM : ((M - 1 + 1 : Nat) : Int) = (M : Int) := by omega
    refine ⟨fun kp w => ?_, fun e2 s2 w => ?_⟩
    · obtain ⟨a', h2, us2, fs2, Dk2, ds2, dm2, j1, j2⟩ := i1 kp w
      exact ⟨a', h2, us2, fs2, Dk2, ds2, dm2, by rw [g1]; exact j1, JF_le (CX_F AW j2 (by omega) (Nat.le_refl _)) (by omega) (by omega) (by omega) (by omega)⟩
    · obtain ⟨x', h2, us2, fs2, Dk2, ds2, dm2, Sl2, ef, ec, U, j1, j2, j3, j4, A2, XJc, j5, j6⟩ := i2 e2 s2 w
      have X2 := CX_hS A2
      have la1 : a < hz h1 := Nat.lt_of_lt_of_le ha.1 X1.1
      have ka1 : kd h1 a = 30 := by rw [eqa.1]; exact ha.2.1
      have eqa2 := eqA_trans eqa (CX_eq A2 la1 (by rw [ka1]; unfold dyK; omega) (by omega))
      have dl := dm_le Q1
      have XJ2 := PhJ_keep (alo := alo) (ahi := am) Q1.1.2.1 A2 ⟨by omega, hh⟩ (.inl (Nat.le_refl _)) (fun _ => ⟨la1, .inl ka1⟩) XJ1
      have XJf : XCg Prod.fst (PhJ N cl rest io E lo H0 Sl2 h2 us2 Dk2 ds2 dm2) G h2 N cl (UU us2 rest) Sl2 fo mo ef Γ.length dp 1 (M - 1) a alo am := by
        rcases j3 with w | w
        · rw [w]; exact XJ2
        · rw [w]; exact XJ_cs1 XJ2
      have AA := CX_trans AW A2 (by omega) (Nat.le_refl _)
      have XX := CX_hS AA
      have its := itC_keep XX AA.1 ⟨ha.1, ha.2.1⟩ it
      refine ⟨x', h2, us2, fs2, Dk2, ds2, dm2, Sl2, ef, ec, tR' U, by rw [g1, j1, eM], j2, CX_le AA (by omega) (by omega) (by omega) (by omega), XJf, ?_, ⟨its.1, by rw [its.2.1]; exact n0, by rw [its.2.2, gPl_e, j4]; exact pl⟩, j5, j6, eqa2, ?_⟩
      · rw [its.2.1, ← eqi.2.2.1]; exact XJc
      · rw [gPl_e]
        rcases j3 with w | w
        · rw [w, okE.2.2]; exact lp
        · rw [w, ePl_cs, okE.2.2]; exact lp
/-- an @ where none may stand -/
theorem use13 (nd : ndN N) {lb : XL} {un : Unit} {l rt : Xt} {zz z1 : (Nat × Nat) ⊕ (Et × JS)} {dp M a am i : Nat} (e : jd E (.inner 13 lb un l rt) Γ s = some zz) (e1 : jd E l Γ s = some z1) (hU : UO G N cl tb l0 sc rest Gx io fo mo E jg Lb lo H0 r l Γ s z1 h us fs Dk ds dm Sl dp (M - 1) a alo am) (it : itC h Sl a M i) (n0 : fR h 1498 i = 0) (pl : fI h 1504 i = (lb.2.1 : Int)) (ro : am ≤ i ∧ i < ahi) (ha : a < hz h ∧ kd h a = 30) : ∃ kp, zz = .inl kp ∧ ∃ (a' : Nat) (h' : om_H) (us' fs' : List Nat) (Dk' : Nat → Prop) (ds' : List Nat) (dm' : Nat), C_37_use G r jg a h = some (.inl a', h') ∧ JF G N cl tb l0 sc rest Gx Lb Sl alo ahi h us fs Dk ds dm h' us' fs' Dk' ds' dm' (jcC E (.inner 13 lb un l rt)) (16 * xnN (.inner 13 lb un l rt)) (48 * xnN (.inner 13 lb un l rt)) (4 * xnN (.inner 13 lb un l rt)) s.1 kp.1 kp.2 a' := by
  have cs : jcC E (.inner 13 lb un l rt) = 4 + jcC E l + jcC E rt := rfl
  have xs : xnN (.inner 13 lb un l rt) = 1 + xnN l + xnN rt := rfl
  rw [cs, xs]
  obtain ⟨⟨t1, t2, t3⟩, ⟨m1, m2, m3⟩, t4, t5, t6, t7⟩ := id it
  obtain ⟨u1, u2⟩ := hU
  rw [jd_e] at e
  unfold jdB at e
  rw [if_neg (by decide), if_neg (by decide), if_neg (by decide), if_pos rfl, e1] at e
  cases z1 with
  | inl kp =>
    have ez : zz = .inl kp := (Option.some.inj e).symm
    obtain ⟨a', h1, us1, fs1, Dk1, ds1, dm1, g1, g2⟩ := u1 kp rfl
    exact ⟨kp, ez, a', h1, us1, fs1, Dk1, ds1, dm1, g1, JF_mono (JF_le g2 (by omega) (by omega) (by omega) (by omega)) (Nat.le_refl _) (by omega)⟩
  | inr pp =>
    have ez : zz = .inl (4, lb.2.1) := (Option.some.inj e).symm
    obtain ⟨x, h1, us1, fs1, Dk1, ds1, dm1, Sl1, g1, A1, XJ1, cx, c0, eqa⟩ := u2 pp.1 pp.2 rfl
    obtain ⟨⟨Q1, C1⟩, b1, _, _, hl1⟩ := A1.2
    have X1 := CX_hS A1
    have eqi := CX_eq A1 t6 (by rw [t7]; unfold dyK; omega) (by omega)
    have eL := X1.2.2.2.2 _ t2 t1
    have li : i < hz h1 := Nat.lt_of_lt_of_le t6 X1.1
    have st := u80 (G := G) (r := r) (x := x) (k := M - 1) (i := i) (a := a) (h := h1) (by rw [eqa.1]; exact ha.2) Q1.2.1.1.1 (by rw [eqa.2.2.1, X1.2.1 _ t2]; exact t3) (by rw [eqa.2.2.1, eL]; exact t4) (by rw [eqi.1]; exact t7)
    rw [if_neg (fun w => w (by rw [eqi.2.2.1]; exact n0))] at st
    unfold C_37_use_130 at st
    rw [if_neg (fun w => w rfl)] at st
    obtain ⟨h2, f1, f2, f3, f4⟩ := JQ_fault (alo := alo) (ahi := ahi) nd Q1 b1.2 4 lb.2.1
    have f1' : C_15_init G (hz h1) 4 (lb.2.1 : Int) (nO h1 16 8) = some h2 := f1
    have z1 : kd (nO h1 16 8) i = 31 := by rw [kd_nO, if_neg (by omega), eqi.1]; exact t7
    have z4 : fI (nO h1 16 8) 1504 i = (lb.2.1 : Int) := by rw [fI_nO, if_neg (by omega), eqi.2.1]; exact pl
    refine ⟨(4, lb.2.1), ez, hz h1, h2, us1, fs1, Dk1, ds1, dm1, ?_, JF_le (CX_F (CX_mono (alo := alo) (ahi := ahi) A1 (Nat.le_refl _) (by omega)) f4 (Nat.le_refl _) (Nat.le_refl _)) (by omega) (by omega) (by omega) (by omega)⟩
    rw [g1, om_loop_out st]
    show (gd (kd (nO h1 16 8) i = 31 ∧ kd (nO h1 16 8) (hz h1) = 16) ((C_15_init G (hz h1) 4 (fI (nO h1 16 8) 1504 i) (nO h1 16 8)).bind fun p2 => gd ((hz h1) ≠ 0) (some ((.inl (hz h1) : Nat ⊕ Nat), p2)))) = _
    rw [gd_pos ⟨z1, f2⟩, z4, f1', Option.bind_some, gd_pos f3]
end LUL
