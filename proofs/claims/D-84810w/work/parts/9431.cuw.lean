set_option maxRecDepth 100000
/-! THE COMPONENT's judge: uses, as a whole -/
section LUW
variable {G : om_G} {N : List (List Int)} {cl : Nat → Nat} {tb l0 sc jg Lb : Nat} {rest : List (Nat × List Nat)} {Sl Sl1 Sl2 Gx U U' : Nat → Prop} {io fo mo : Nat → Nat} {E : JE} {B lo H0 : Nat} {Γ Γ1 Γ2 : List Ty} {tot q z u n q1 z1 u1 n1 alo ahi alo1 ahi1 : Nat} {s s1 s2 : JS} {h : om_H} {us fs : List Nat} {Dk : Nat → Prop} {ds : List Nat} {dm : Nat} {h1 : om_H} {us1 fs1 : List Nat} {Dk1 : Nat → Prop} {ds1 : List Nat} {dm1 : Nat} {h2 : om_H} {us2 fs2 : List Nat} {Dk2 : Nat → Prop} {ds2 : List Nat} {dm2 : Nat} {h3 : om_H} {us3 fs3 : List Nat} {Dk3 : Nat → Prop} {ds3 : List Nat} {dm3 : Nat} {r : Nat → Nat → om_H → Option ((Nat ⊕ Nat) × om_H)} {D : Nat}
theorem XCg_n28 {L : Type} {lab : L → XL} {Φ : Std.DTreeMap.Internal.Impl L (fun _ => Unit) → Nat → Nat → Nat → Prop} {t d dp a : Nat} {x : L} {un : Unit} {l r : Std.DTreeMap.Internal.Impl L (fun _ => Unit)} (n10 : t ≠ 10) (H : XCg lab Φ G h N cl U Sl fo mo (.inner t x un l r) d dp 0 0 a alo ahi) : kd h a ≠ 28 := by
  rw [XCg_e] at H
  unfold XCb at H
  rw [aX_0] at H
  obtain ⟨_, _, _, h7⟩ := H
  rw [if_neg n10] at h7
  by_cases t11 : t = 11
  · rw [if_pos t11] at h7; omega
  rw [if_neg t11] at h7
  by_cases t12 : t = 12
  · rw [if_pos t12] at h7; have := h7.1; omega
  rw [if_neg t12] at h7
  by_cases t13 : t = 13
  · rw [if_pos t13] at h7; have := h7.1; omega
  rw [if_neg t13] at h7
  by_cases t18 : t = 18
  · rw [if_pos t18] at h7; have := h7.1; omega
  rw [if_neg t18] at h7
  obtain ⟨_, g1, g2⟩ := h7
  by_cases t14 : t = 14
  · rw [if_pos t14] at g2; have := g2.1; omega
  rw [if_neg t14] at g2
  by_cases t15 : t = 15
  · rw [if_pos t15] at g2; have := g2.1; omega
  rw [if_neg t15] at g2
  cases r with
  | leaf => exact g2.elim
  | inner t' y u' r1 r2 =>
    obtain ⟨_, g3⟩ := g2
    by_cases t16 : t = 16
    · rw [if_pos t16] at g3; have := g3.1; omega
    rw [if_neg t16] at g3
    by_cases t17 : t = 17
    · rw [if_pos t17] at g3; have := g3.1; omega
    rw [if_neg t17] at g3
    exact g3.elim
/-- the head of a use is a name -/
theorem use_nm (nd : ndN N) (J : JOk E B) (J2 : JOk2 E) {lb : XL} {un : Unit} {l rt : Xt} {zz : (Nat × Nat) ⊕ (Et × JS)} {dp m a b : Nat} (k28 : kd h (fR h 1490 a) = 28) (e : jd E (.inner 10 lb un l rt) Γ s = some zz) (P : JCP G N cl tb l0 sc rest Gx io fo mo E jg Lb lo H0 (.inner 10 lb un l rt) Γ s h us fs Dk ds dm Sl dp 1 m a alo ahi b) (ha : a < hz h ∧ kd h a = 30) : UO G N cl tb l0 sc rest Gx io fo mo E jg Lb lo H0 r (.inner 10 lb un l rt) Γ s zz h us fs Dk ds dm Sl dp m a alo ahi := by
  obtain ⟨⟨Q0, C0⟩, XA, ok, hΓ, hb, hbd, R, hl, hh⟩ := P
  have no : ¬ aO 10 1 m := by intro w; rcases w with w | w | w <;> omega
  have ea : aX h 10 1 m a = fR h 1490 a := by unfold aX; rw [if_neg no, if_pos rfl]
  have eH : aH h 10 1 m a ahi = ahi := by unfold aH; rw [if_pos (.inr ⟨rfl, rfl, k28⟩)]
  have hm : (1 : Nat) ≠ 0 → a < hz h ∧ (kd h a = 30 ∨ kd h a = 32) := fun _ => ⟨ha.1, .inl ha.2⟩
  rw [XCg_e] at XA
  unfold XCb at XA
  have eN0 : aN h (fR h 1490 a) = fR h 1490 a := aN_28 (by omega)
  rw [ea, eH, if_pos rfl, eN0] at XA
  obtain ⟨⟨g1, g2, g3, g4, g5⟩, hD, ph, nc, nr, at'⟩ := XA
  have r0 : fR h 1482 (fR h 1490 a) = 0 := by
    have := ph.2 rfl
    rw [ea, eN0] at this
    exact this
  generalize enm : fR h 1490 a = nm at *
  have hn : nm < hz h := by omega
  have na : nm ≠ a := fun w => by have := nc.1.1; rw [w, ha.2] at this; omega
  rw [jd_e] at e
  unfold jdB at e
  rw [if_pos rfl] at e
  rw [xok_e] at ok
  unfold xokB at ok
  rw [if_pos rfl] at ok
  have cs : jcC E (.inner 10 lb un l rt) = nCs E lb + jcC E l + jcC E rt := rfl
  have xs : xnN (.inner 10 lb un l rt) = 1 + xnN l + xnN rt := rfl
  have at2 := at'
  unfold atC at at2
  rw [if_pos ⟨rfl, k28⟩] at at2
  obtain ⟨am, ⟨at3, at4, at5, _⟩, at6⟩ := at2
  have exn : ∃ k ∈ om_exk, kd h nm = k + 1 := ⟨27, by decide, by rw [nc.1.1]⟩
  obtain ⟨v, h1, us1, fs1, Dk1, ds1, dm1, n1, n2, n3⟩ := c_nameJ (uo := a) nd J J2 ok (fun T hT => (hΓ T hT).1.1) e Q0 C0 nc (fun _ => ⟨⟨ha.1, ha.2⟩, ⟨at4, at5⟩, at6⟩) hn r0 hl.1 hl.2 (RmJ_le R (by rw [cs]; omega) (by rw [xs]; omega))
  have run : C_37_use G r jg a h = xc (some (v, h1)) (fun t h => some (.inl t, h)) (fun p2 h2 => C_37_use_68 G r jg a (m : Int) p2 h2) := by
    unfold C_37_use
    rw [enm, gd_pos ⟨ha.2, exn⟩, if_neg (fun w => w nc.1.1), gd_pos ⟨.inr nc.1.1, nc.1.1⟩, c_manyN nc, Option.bind_some, ← am]
    unfold C_37_use_28
    rw [enm, gd_pos ⟨ha.2, exn⟩, if_neg (fun w => w nc.1.1), gd_pos ⟨.inr nc.1.1, Q0.2.1.1.1⟩, n1]
  cases zz with
  | inl kp =>
    obtain ⟨a', f1, f2⟩ := n2 kp.1 kp.2 rfl
    subst f1
    refine ⟨fun kp' w => ?_, fun e s' w => by cases w⟩
    rw [← Sum.inl.inj w]
    exact ⟨a', h1, us1, fs1, Dk1, ds1, dm1, run, JF_mono (JF_le f2 (by rw [cs]; omega) (by rw [xs]; omega) (by rw [xs]; omega) (by rw [xs]; omega)) (by omega) (by omega)⟩
  | inr pp =>
    obtain ⟨x, f1, f2, f3, f4, f5, ⟨T, Dn, evs, f6, f7, f8, fB⟩, f9⟩ := n3 pp.1 pp.2 rfl
    subst f1
    obtain ⟨Sl1, A1, r1, r2, r3⟩ := nm_post C0 f2 f3 f4 f5 f8
    obtain ⟨⟨Q1, C1⟩, b1, _, _, hl1⟩ := A1.2
    have X1 := CX_hS A1
    have eqa := CX_eq A1 ha.1 (by rw [ha.2]; unfold dyK; omega) (by omega)
    have ln : nm < hz h1 := Nat.lt_of_lt_of_le hn X1.1
    have kn : kd h1 nm = 28 := f8.1.2.1
    have A2 := CX_sR (lo := lo) (H0 := H0) (fo := fo) (mo := mo) (x := x) nd Q1 C1 b1.2 hl1 SRf_78.1 ln (by rw [kn]; unfold dyK; omega) (by omega)
    have AA := CX_trans (CX_mono (alo := alo) (ahi := ahi) A1 (by omega) (by omega)) A2 (by omega) (by omega)
    have XX := CX_hS AA
    have dl := dm_le Q1
    have eqa2 := eqA_trans eqa (CX_eq A2 (Nat.lt_of_lt_of_le ha.1 X1.1) (by rw [eqa.1, ha.2]; unfold dyK; omega) (by omega))
    refine ⟨fun kp' w => (by cases w), fun e' s' w => ?_⟩
    have w' := Sum.inr.inj w
    rw [w'] at f6 AA
    have f6' : e' = en 10 lb T .leaf Dn .leaf .leaf := f6
    refine ⟨x, sR h1 1378 nm x, us1, fs1, Dk1, ds1, dm1, Sl1, ?_, CX_le AA (by rw [cs]; omega) (by rw [xs]; omega) (by rw [xs]; omega) (by rw [xs]; omega), ?_, ?_, ?_, eqa2⟩
    · rw [run, xc_v]
      unfold C_37_use_68
      rw [eqa.2.2.1, enm, gd_pos ⟨by rw [eqa.1]; exact ha.2, ⟨27, by decide, by rw [kn]⟩⟩]
      rfl
    · rw [f6', XCg_e]
      unfold XCb
      have ea2 : aX (sR h1 1378 nm x) 10 1 m a = nm := by rw [aX_keep XX hm, ea]
      have eH2 : aH (sR h1 1378 nm x) 10 1 m a ahi = ahi := by rw [aH_keep XX hm (by rw [ea]; exact hn), eH]
      have eN2 : aN (sR h1 1378 nm x) nm = nm := by rw [aN_keep XX hn]; exact eN0
      rw [ea2, eH2, if_pos rfl, eN2]
      refine ⟨⟨g1, g2, g3, Nat.le_trans g4 XX.1, g5⟩, hD, ⟨fun w => by rcases w with w | w <;> omega, fun _ => ⟨evs, ?_, ⟨r2.1, fun i y D f1 f2 => evC_keep Q1.1.2.1 A2.2.2.2.1.1 (.inr (by have := r3 y (List.mem_of_getElem? f1); omega)) (by omega) (r2.2 i y D f1 f2)⟩, r3, btX_keep (CX_ty A2) fB⟩, fun w => by omega⟩, nmC_keep XX AA.1 (CX_ty AA) hn nc, nr, atC_keep XX AA.1 hm hn at'⟩
      rw [ea2, eN2]
      unfold rsJ
      rw [fR_ne (by decide)]
      exact r1
    · rw [f6']; exact CX_ty A2 _ _ f7
    · rw [f6']; rfl
/-- the head of a use is no name -/
theorem use_hd (nd : ndN N) (Hr : ∀ t, JCR G N cl tb l0 sc rest Gx io fo mo E jg Lb lo H0 r D t) {t : Nat} {lb : XL} {un : Unit} {l rt : Xt} {zz : (Nat × Nat) ⊕ (Et × JS)} {dp m a b : Nat} (t10 : ¬ (t = 10 ∧ kd h (fR h 1490 a) = 28)) (no : ¬ aO t 1 m) (hd : dp ≤ D + 1) (e : jd E (.inner t lb un l rt) Γ s = some zz) (P : JCP G N cl tb l0 sc rest Gx io fo mo E jg Lb lo H0 (.inner t lb un l rt) Γ s h us fs Dk ds dm Sl dp 1 m a alo ahi b) (ha : a < hz h ∧ kd h a = 30) : UO G N cl tb l0 sc rest Gx io fo mo E jg Lb lo H0 r (.inner t lb un l rt) Γ s zz h us fs Dk ds dm Sl dp m a alo ahi := by
  obtain ⟨⟨Q0, C0⟩, XA, ok, hΓ, hb, hbd, R, hl, hh⟩ := P
  have ea : aX h t 1 m a = fR h 1490 a := by unfold aX; rw [if_neg no, if_pos rfl]
  have mk : mOk t 1 m := by
    have H := XA
    rw [XCg_e] at H
    unfold XCb at H
    exact H.1.2.2.2.2
  have m0 : m = 0 := by
    rcases mk.1 rfl with w | w | w | w
    · have H := XA
      rw [XCg_e] at H
      unfold XCb at H
      rw [ea, if_pos w] at H
      have H2 := H.2.2.2.2.2
      unfold atC at H2
      rw [if_neg (fun z => t10 ⟨w, z.2⟩)] at H2
      exact H2.1 rfl
    · by_cases q : m = 0
      · exact q
      · exact absurd (.inr (.inl ⟨rfl, .inl w, by omega⟩)) no
    · by_cases q : m = 0
      · exact q
      · exact absurd (.inr (.inl ⟨rfl, .inr w, by omega⟩)) no
    · exact w
  have la := XCg_lt XA
  have rng := XCg_rng XA
  have XW := XCg_head XA no (fun w => t10 ⟨w.1, w.2.2⟩) (fun φ => ⟨fun _ => by rw [aX_0]; exact φ.1 ⟨.inr no, fun w => t10 ⟨w.1, by rw [← ea]; exact w.2.2⟩⟩, fun w => by rw [aX_0]; exact φ.2 w⟩)
  rw [ea] at XW
  obtain ⟨He, ra, rh, dp0, ph⟩ := XCg_ex XW
  have n28 : kd h (fR h 1490 a) ≠ 28 := by
    by_cases q : t = 10
    · exact fun w => t10 ⟨q, w⟩
    · exact XCg_n28 q XW
  generalize eb : fR h 1490 a = c at *
  obtain ⟨v, h1, us1, fs1, Dk1, ds1, dm1, r1, q1, q2⟩ := Hr (.inner t lb un l rt) Γ s zz h us fs Dk ds dm Sl (dp - 1) c alo a b (by omega) e ⟨⟨Q0, C0⟩, XW, ok, hΓ, hb, hbd, R, hl, by omega⟩
  have run : C_37_use G r jg a h = xc (some (v, h1)) (fun t h => some (.inl t, h)) (fun p2 h2 => C_37_use_68 G r jg a (m : Int) p2 h2) := by
    unfold C_37_use
    rw [eb, gd_pos ⟨ha.2, exO_k He⟩, if_pos n28]
    unfold C_37_use_28
    rw [eb, gd_pos ⟨ha.2, exO_k He⟩, if_pos n28, gd_pos ⟨ha.2, Q0.2.1.1.1⟩, r1, m0]
    rfl
  cases zz with
  | inl kp =>
    obtain ⟨a', f1, f2⟩ := q1 kp.1 kp.2 rfl
    subst f1
    refine ⟨fun kp' w => ?_, fun e s' w => by cases w⟩
    rw [← Sum.inl.inj w]
    exact ⟨a', h1, us1, fs1, Dk1, ds1, dm1, run, JF_mono f2 (Nat.le_refl _) (by omega)⟩
  | inr pp =>
    obtain ⟨e0, s1⟩ := pp
    obtain ⟨x, Sl1, f1, A1, XJ1, cx, c0⟩ := q2 e0 s1 rfl
    subst f1
    obtain ⟨T, ev, el, er, et⟩ := jd_tag e
    subst et
    obtain ⟨⟨Q1, C1⟩, b1, _, _, hl1⟩ := A1.2
    have X1 := CX_hS A1
    have eqa := CX_eq A1 ha.1 (by rw [ha.2]; unfold dyK; omega) (.inr (Nat.le_refl _))
    obtain ⟨He1, ra1, rh1, _, ph1⟩ := XCg_ex XJ1
    obtain ⟨pr1, pr2⟩ := PhJ_root.mp ph1
    have XB := XJ1
    rw [XCg_e] at XB
    have XB' := XCb_true (lab := (Prod.fst : XL × Ty × Ty × List Dc → XL)) (x' := (lb, T, Std.DTreeMap.Internal.Impl.leaf, ev)) rfl XB
    obtain ⟨y1, y2⟩ := XJ_fin (un := ()) (f := 1378) (v := x) nd Q1 C1 b1.2 hl1 (by omega) (.inl rfl) ⟨He1.1, He1.2.1.1, He1.2.1.2.1⟩ XB' ⟨⟨by rw [fR_eq]; exact cx, by rw [fR_ne (by decide)]; exact pr1.2⟩, pr2⟩ ra1
    have AA := CX_trans (CX_mono (alo := alo) (ahi := ahi) A1 (Nat.le_refl _) (by omega)) y2 (by omega) (by omega)
    have XX := CX_hS AA
    have eqa2 := eqA_trans eqa (CX_eq y2 (Nat.lt_of_lt_of_le ha.1 X1.1) (by rw [eqa.1, ha.2]; unfold dyK; omega) (by omega))
    refine ⟨fun kp' w => (by cases w), fun e' s' w => ?_⟩
    injection Sum.inr.inj w with w1 w2
    rw [← w1, ← w2]
    refine ⟨x, sR h1 1378 c x, us1, fs1, Dk1, ds1, dm1, Sl1, ?_, CX_le AA (Nat.le_refl _) (Nat.le_refl _) (Nat.le_refl _) (Nat.le_refl _), ?_, CX_ty y2 _ _ cx, rfl, eqa2⟩
    · rw [run, xc_v]
      unfold C_37_use_68
      rw [eqa.2.2.1, eb, gd_pos ⟨by rw [eqa.1]; exact ha.2, exO_k He1⟩]
      rfl
    · have ea2 : aX (sR h1 1378 c x) t 1 m a = c := by rw [aX_keep XX (fun _ => ⟨ha.1, .inl ha.2⟩), ea]
      refine XCg_unhead (b := c) ea2 no mk (fun w => n28 (by rw [← XX.2.1 c He.1]; exact w.2.2)) (fun _ _ => m0) ⟨by omega, Nat.le_trans rng.2 XX.1⟩ (fun φ => ?_) y1
      obtain ⟨_, pq⟩ := PhJ_root.mp φ
      unfold PhJ
      dsimp only
      rw [ea2]
      refine ⟨fun w => by rcases w with w | w <;> omega, pq.1, fun w i ei => ?_⟩
      rw [aM_no (.inl ⟨rfl, .inl w⟩) no] at ei
      exact pq.2 w i ei
/-- THE FIRST ITEMS OF A USE -/
theorem c_useL (nd : ndN N) (J : JOk E B) (J2 : JOk2 E) (Hr : ∀ t, JCR G N cl tb l0 sc rest Gx io fo mo E jg Lb lo H0 r D t) : ∀ (t : Xt) (Γ : List Ty) (s : JS) (zz : (Nat × Nat) ⊕ (Et × JS)) (h : om_H) (us fs : List Nat) (Dk : Nat → Prop) (ds : List Nat) (dm : Nat) (Sl : Nat → Prop) (dp m a alo ahi b : Nat), dp ≤ D + 1 → jd E t Γ s = some zz → JCP G N cl tb l0 sc rest Gx io fo mo E jg Lb lo H0 t Γ s h us fs Dk ds dm Sl dp 1 m a alo ahi b → a < hz h ∧ kd h a = 30 → UO G N cl tb l0 sc rest Gx io fo mo E jg Lb lo H0 r t Γ s zz h us fs Dk ds dm Sl dp m a alo ahi := by
  intro t
  induction t with
  | leaf =>
    intro Γ s zz h us fs Dk ds dm Sl dp m a alo ahi b _ _ P _
    exact (XCg_l P.2.1).elim
  | inner t lb un l rt ihl ihr =>
    intro Γ s zz h us fs Dk ds dm Sl dp m a alo ahi b hd e P ha
    by_cases t10 : t = 10 ∧ kd h (fR h 1490 a) = 28
    · obtain ⟨t10, k28⟩ := t10
      subst t10
      exact use_nm nd J J2 k28 e P ha
    by_cases o : aO t 1 m
    rotate_left
    · exact use_hd nd Hr t10 o hd e P ha
    obtain ⟨tt, m0⟩ : (t = 12 ∨ t = 13) ∧ 0 < m := by
      rcases o with w | w | w
      · omega
      · exact w.2
      · omega
    obtain ⟨⟨Q0, C0⟩, XA, ok, hΓ, hb, hbd, R, hl, hh⟩ := P
    have hm : (1 : Nat) ≠ 0 → a < hz h ∧ (kd h a = 30 ∨ kd h a = 32) := fun _ => ⟨ha.1, .inl ha.2⟩
    have eA : aX h t 1 m a = a := by unfold aX; rw [if_pos o]
    have eH : ∀ h : om_H, aH h t 1 m a ahi = ahi := fun h => by unfold aH; rw [if_pos (.inl o)]
    have eD : aD t 1 m dp = dp := by unfold aD; rw [if_pos o]
    have eM : ∀ h : om_H, aM h 1494 (1 == 1) m a = m := fun h => by unfold aM; rw [if_pos ⟨rfl, m0⟩]
    rw [XCg_e] at XA
    unfold XCb at XA
    rw [eA, eH, eD, eM] at XA
    obtain ⟨⟨g1, g2, g3, g4, g5⟩, hD, ph, XA⟩ := XA
    rcases tt with tt | tt
    · subst tt
      rw [if_neg (by decide), if_neg (by decide), if_pos rfl] at XA
      obtain ⟨k30, lp, f72, i, am, a1, it, n0, pl, ro, XL, XR⟩ := XA
      rw [xok_e] at ok
      unfold xokB at ok
      rw [if_neg (by decide), if_neg (by decide), if_pos rfl] at ok
      have cs : jcC E (.inner 12 lb un l rt) = 4 + jcC E l + jcC E rt := rfl
      have xs : xnN (.inner 12 lb un l rt) = 1 + xnN l + xnN rt := rfl
      have xz : xsz (.inner 12 lb un l rt) = 1 + 2 * tsz (lbT lb) + xsz l + xsz rt := rfl
      have xb : xbd (.inner 12 lb un l rt) = 0 + max (xbd l) (xbd rt) := rfl
      have lam := XCg_lt XL
      obtain ⟨z1, e1⟩ : ∃ z1, jd E l Γ s = some z1 := by
        obtain ⟨z', ez', _⟩ := jd_ok J l Γ s b ok.1 hΓ hb.1 (by rw [xz] at hb; omega)
        exact ⟨z', ez'⟩
      have hU := ihl Γ s z1 h us fs Dk ds dm Sl dp (m - 1) a alo am b hd e1 ⟨⟨Q0, C0⟩, XL, ok.1, hΓ, ⟨hb.1, by rw [xz] at hb; omega⟩, by rw [xb] at hbd; omega, RmJ_le R (by rw [cs]; omega) (by rw [xs]; omega), hl, by omega⟩ ha
      have lp' : lb.1 = gPl id l := lp
      have pl' : fI h 1504 i = (gPl id rt : Int) := pl
      rw [gPl_x] at lp' pl'
      obtain ⟨u1, u2⟩ := use12 (M := m) nd J J2 Hr hd e e1 hU it n0 pl' ro XR ok hΓ hb hbd R hh ⟨ha.1, ha.2, lam.1⟩ lp'
      refine ⟨u1, fun e' s' w => ?_⟩
      obtain ⟨x, h1, us1, fs1, Dk1, ds1, dm1, Sl1, ef, ec, T, v1, v2, A, XJf, XJc, ⟨its, n01, pl1⟩, v3, v4, eqa, lp1⟩ := u2 e' s' w
      have X := CX_hS A
      refine ⟨x, h1, us1, fs1, Dk1, ds1, dm1, Sl1, v1, A, ?_, ?_, ?_, eqa⟩
      · rw [v2, XCg_e]
        unfold XCb
        have eA1 : aX h1 12 1 m a = a := by rw [aX_keep X hm, eA]
        rw [eA1, eH, eD, eM, if_neg (by decide), if_neg (by decide), if_pos rfl]
        refine ⟨⟨g1, g2, g3, Nat.le_trans g4 X.1, g5⟩, hD, ⟨fun w => by rcases w with w | w <;> omega, fun w => by omega, fun _ j ej => ?_⟩, by rw [eqa.1]; exact k30, lp1, fun w => absurd ⟨rfl, m0⟩ w, i, am, a1, its, n01, pl1, ro, XJf, XJc⟩
        rw [eA1, eM, its.2.2.1] at ej
        rw [← Option.some.inj ej]
        exact v3
      · rw [v2]; exact v4
      · rw [v2]; rfl
    · subst tt
      rw [if_neg (by decide), if_neg (by decide), if_neg (by decide), if_pos rfl] at XA
      obtain ⟨k30, lp, f72, i, am, it, n0, pl, ro, XL⟩ := XA
      rw [xok_e] at ok
      unfold xokB at ok
      rw [if_neg (by decide), if_neg (by decide), if_neg (by decide), if_pos rfl] at ok
      have cs : jcC E (.inner 13 lb un l rt) = 4 + jcC E l + jcC E rt := rfl
      have xs : xnN (.inner 13 lb un l rt) = 1 + xnN l + xnN rt := rfl
      have xz : xsz (.inner 13 lb un l rt) = 1 + 2 * tsz (lbT lb) + xsz l + xsz rt := rfl
      have xb : xbd (.inner 13 lb un l rt) = 0 + max (xbd l) (xbd rt) := rfl
      obtain ⟨z1, e1⟩ : ∃ z1, jd E l Γ s = some z1 := by
        obtain ⟨z', ez', _⟩ := jd_ok J l Γ s b ok hΓ hb.1 (by rw [xz] at hb; omega)
        exact ⟨z', ez'⟩
      have hU := ihl Γ s z1 h us fs Dk ds dm Sl dp (m - 1) a alo am b hd e1 ⟨⟨Q0, C0⟩, XL, ok, hΓ, ⟨hb.1, by rw [xz] at hb; omega⟩, by rw [xb] at hbd; omega, RmJ_le R (by rw [cs]; omega) (by rw [xs]; omega), hl, by omega⟩ ha
      obtain ⟨kp, ez, w⟩ := use13 (M := m) nd e e1 hU it n0 pl ro ha
      refine ⟨fun kp' w' => ?_, fun e' s' w' => by rw [ez] at w'; cases w'⟩
      rw [ez] at w'
      rw [← Sum.inl.inj w']
      exact w
/-- A USE -/
theorem cj_12 (nd : ndN N) (J : JOk E B) (J2 : JOk2 E) (Hr : ∀ t, JCR G N cl tb l0 sc rest Gx io fo mo E jg Lb lo H0 r D t) {lb : XL} {un : Unit} {l rt : Xt} {zz : (Nat × Nat) ⊕ (Et × JS)} {dp a b : Nat} (hd : dp ≤ D + 1) (e : jd E (.inner 12 lb un l rt) Γ s = some zz) (P : JCP G N cl tb l0 sc rest Gx io fo mo E jg Lb lo H0 (.inner 12 lb un l rt) Γ s h us fs Dk ds dm Sl dp 0 0 a alo ahi b) : ∃ (v : Nat ⊕ Nat) (h' : om_H) (us' fs' : List Nat) (Dk' : Nat → Prop) (ds' : List Nat) (dm' : Nat), C_37_typeOfB G r jg a h = some (v, h') ∧ JCO G N cl tb l0 sc rest Gx io fo mo E jg Lb lo H0 (.inner 12 lb un l rt) Γ s zz h us fs Dk ds dm Sl dp a alo ahi v h' us' fs' Dk' ds' dm' := by
  obtain ⟨⟨Q0, C0⟩, XA, ok, hΓ, hb, hbd, R, hl, hh⟩ := P
  obtain ⟨He, ra, rh, dp0, ph⟩ := XCg_ex XA
  have c0 : fR h 1382 a = 0 := by
    have := ph.1 ⟨.inl rfl, fun w => by omega⟩
    rw [aX_0] at this
    exact this
  rw [XCg_e] at XA
  unfold XCb at XA
  rw [aX_0, aH_0, aD_0, if_neg (by decide), if_neg (by decide), if_pos rfl, show ((0 : Nat) == 1) = false from rfl, aM_0] at XA
  obtain ⟨⟨g1, g2, g3, g4, g5⟩, _, _, k30, lp, f72, i, am, a1, it, n0, pl, ro, XL, XR⟩ := XA
  have okk := ok
  rw [xok_e] at ok
  unfold xokB at ok
  rw [if_neg (by decide), if_neg (by decide), if_pos rfl] at ok
  have cs : jcC E (.inner 12 lb un l rt) = 4 + jcC E l + jcC E rt := rfl
  have xs : xnN (.inner 12 lb un l rt) = 1 + xnN l + xnN rt := rfl
  have xz : xsz (.inner 12 lb un l rt) = 1 + 2 * tsz (lbT lb) + xsz l + xsz rt := rfl
  have xb : xbd (.inner 12 lb un l rt) = 0 + max (xbd l) (xbd rt) := rfl
  have lam := XCg_lt XL
  have f72' := f72 (by omega)
  generalize eMM : (ll h (fR h 1494 a)).length = M at *
  obtain ⟨z1, e1⟩ : ∃ z1, jd E l Γ s = some z1 := by
    obtain ⟨z', ez', _⟩ := jd_ok J l Γ s b ok.1 hΓ hb.1 (by rw [xz] at hb; omega)
    exact ⟨z', ez'⟩
  have hU := c_useL nd J J2 Hr l Γ s z1 h us fs Dk ds dm Sl dp (M - 1) a alo am b hd e1 ⟨⟨Q0, C0⟩, XL, ok.1, hΓ, ⟨hb.1, by rw [xz] at hb; omega⟩, by rw [xb] at hbd; omega, RmJ_le R (by rw [cs]; omega) (by rw [xs]; omega), hl, by omega⟩ ⟨He.1, k30⟩
  have lp' : lb.1 = gPl id l := lp
  have pl' : fI h 1504 i = (gPl id rt : Int) := pl
  rw [gPl_x] at lp' pl'
  obtain ⟨u1, u2⟩ := use12 (M := M) nd J J2 Hr hd e e1 hU it n0 pl' ro XR ok hΓ hb hbd R hh ⟨He.1, k30, lam.1⟩ lp'
  rw [tO_30 k30 Q0.2.1.1.1]
  cases zz with
  | inl kp =>
    obtain ⟨a', h1, us1, fs1, Dk1, ds1, dm1, v1, v2⟩ := u1 kp rfl
    exact c_tset nd v1 He ra hh (JCQ_f rfl v2)
  | inr pp =>
    obtain ⟨x, h1, us1, fs1, Dk1, ds1, dm1, Sl1, ef, ec, T, v1, v2, A, XJf, XJc, ⟨its, n01, pl1⟩, v3, v4, eqa, lp1⟩ := u2 pp.1 pp.2 rfl
    have X := CX_hS A
    have eLL : (ll h1 (fR h1 1494 a)).length = M := by rw [eqa.2.2.1, X.2.2.2.2 _ it.1.2.1 it.1.1]; exact eMM
    have en' := u80_end (G := G) (r := r) (jg := jg) (x := x) (a := a) (h := h1) (by rw [eqa.1]; exact k30) its.1.2.2
    rw [eLL] at en'
    rw [en'] at v1
    have ez : (Sum.inr pp : (Nat × Nat) ⊕ (Et × JS)) = .inr (en 12 lb T .leaf [] ef ec, pp.2) := by rw [← v2]
    refine c_tset nd v1 He ra hh (JCQ_r ez A ?_ v4 (by rw [eqa.2.2.1]; exact c0) ⟨fun w => by omega, fun _ j ej => ?_⟩)
    · unfold XCb
      rw [aX_0, aH_0, aD_0, if_neg (by decide), if_neg (by decide), if_pos rfl, show ((0 : Nat) == 1) = false from rfl, aM_0, eLL]
      exact ⟨⟨g1, g2, g3, Nat.le_trans g4 X.1, g5⟩, dp0, trivial, by rw [eqa.1]; exact k30, lp1, fun _ => by rw [eqa.2.1]; exact f72', i, am, a1, its, n01, pl1, ro, XJf, XJc⟩
    · rw [eLL, its.2.2.1] at ej
      rw [← Option.some.inj ej]
      exact v3
/-- an @ where none may stand, as a whole ex -/
theorem cj_13 (nd : ndN N) (J : JOk E B) (J2 : JOk2 E) (Hr : ∀ t, JCR G N cl tb l0 sc rest Gx io fo mo E jg Lb lo H0 r D t) {lb : XL} {un : Unit} {l rt : Xt} {zz : (Nat × Nat) ⊕ (Et × JS)} {dp a b : Nat} (hd : dp ≤ D + 1) (e : jd E (.inner 13 lb un l rt) Γ s = some zz) (P : JCP G N cl tb l0 sc rest Gx io fo mo E jg Lb lo H0 (.inner 13 lb un l rt) Γ s h us fs Dk ds dm Sl dp 0 0 a alo ahi b) : ∃ (v : Nat ⊕ Nat) (h' : om_H) (us' fs' : List Nat) (Dk' : Nat → Prop) (ds' : List Nat) (dm' : Nat), C_37_typeOfB G r jg a h = some (v, h') ∧ JCO G N cl tb l0 sc rest Gx io fo mo E jg Lb lo H0 (.inner 13 lb un l rt) Γ s zz h us fs Dk ds dm Sl dp a alo ahi v h' us' fs' Dk' ds' dm' := by
  obtain ⟨⟨Q0, C0⟩, XA, ok, hΓ, hb, hbd, R, hl, hh⟩ := P
  obtain ⟨He, ra, rh, dp0, ph⟩ := XCg_ex XA
  rw [XCg_e] at XA
  unfold XCb at XA
  rw [aX_0, aH_0, aD_0, if_neg (by decide), if_neg (by decide), if_neg (by decide), if_pos rfl, show ((0 : Nat) == 1) = false from rfl, aM_0] at XA
  obtain ⟨⟨g1, g2, g3, g4, g5⟩, _, _, k30, lp, f72, i, am, it, n0, pl, ro, XL⟩ := XA
  rw [xok_e] at ok
  unfold xokB at ok
  rw [if_neg (by decide), if_neg (by decide), if_neg (by decide), if_pos rfl] at ok
  have cs : jcC E (.inner 13 lb un l rt) = 4 + jcC E l + jcC E rt := rfl
  have xs : xnN (.inner 13 lb un l rt) = 1 + xnN l + xnN rt := rfl
  have xz : xsz (.inner 13 lb un l rt) = 1 + 2 * tsz (lbT lb) + xsz l + xsz rt := rfl
  have xb : xbd (.inner 13 lb un l rt) = 0 + max (xbd l) (xbd rt) := rfl
  generalize eMM : (ll h (fR h 1494 a)).length = M at *
  obtain ⟨z1, e1⟩ : ∃ z1, jd E l Γ s = some z1 := by
    obtain ⟨z', ez', _⟩ := jd_ok J l Γ s b ok hΓ hb.1 (by rw [xz] at hb; omega)
    exact ⟨z', ez'⟩
  have hU := c_useL nd J J2 Hr l Γ s z1 h us fs Dk ds dm Sl dp (M - 1) a alo am b hd e1 ⟨⟨Q0, C0⟩, XL, ok, hΓ, ⟨hb.1, by rw [xz] at hb; omega⟩, by rw [xb] at hbd; omega, RmJ_le R (by rw [cs]; omega) (by rw [xs]; omega), hl, by omega⟩ ⟨He.1, k30⟩
  obtain ⟨kp, ez, a', h1, us1, fs1, Dk1, ds1, dm1, v1, v2⟩ := use13 (M := M) nd e e1 hU it n0 pl ro ⟨He.1, k30⟩
  rw [tO_30 k30 Q0.2.1.1.1]
  exact c_tset nd v1 He ra hh (JCQ_f ez v2)
/-- a name with its @s alone -/
theorem cj_10u (nd : ndN N) (J : JOk E B) (J2 : JOk2 E) {lb : XL} {un : Unit} {l rt : Xt} {zz : (Nat × Nat) ⊕ (Et × JS)} {dp a b : Nat} (k30 : kd h a = 30) (e : jd E (.inner 10 lb un l rt) Γ s = some zz) (P : JCP G N cl tb l0 sc rest Gx io fo mo E jg Lb lo H0 (.inner 10 lb un l rt) Γ s h us fs Dk ds dm Sl dp 0 0 a alo ahi b) : ∃ (v : Nat ⊕ Nat) (h' : om_H) (us' fs' : List Nat) (Dk' : Nat → Prop) (ds' : List Nat) (dm' : Nat), C_37_typeOfB G r jg a h = some (v, h') ∧ JCO G N cl tb l0 sc rest Gx io fo mo E jg Lb lo H0 (.inner 10 lb un l rt) Γ s zz h us fs Dk ds dm Sl dp a alo ahi v h' us' fs' Dk' ds' dm' := by
  obtain ⟨⟨Q0, C0⟩, XA, ok, hΓ, hb, hbd, R, hl, hh⟩ := P
  obtain ⟨He, ra, rh, dp0, ph⟩ := XCg_ex XA
  have eN : aN h a = fR h 1490 a := by unfold aN; rw [if_pos k30]
  have c0 : fR h 1382 a = 0 := by
    have := ph.1 ⟨.inl rfl, fun w => by omega⟩
    rw [aX_0] at this
    exact this
  have r0 : fR h 1482 (fR h 1490 a) = 0 := by
    have := ph.2 rfl
    rw [aX_0, eN] at this
    exact this
  rw [XCg_e] at XA
  unfold XCb at XA
  rw [aX_0, aH_0, aD_0, if_pos rfl] at XA
  obtain ⟨rg, _, _, nc0, nr0, at0⟩ := XA
  have nc := nc0
  have nr := nr0
  rw [eN] at nc nr
  have at1 := at0
  unfold atC at at1
  rw [if_neg (by intro w; omega)] at at1
  obtain ⟨f72, ne, len, il⟩ : fI h 1372 a = (lb.1 : Int) ∧ lb.2.2.2.2.2 ≠ [] ∧ (ll h (fR h 1494 a)).length = lb.2.2.2.2.2.length ∧ itL h Sl lb.2.2.2.2.2 a := by
    rcases at1.2 with w | w
    · omega
    · exact w.2
  have no : ¬ aO 10 1 lb.2.2.2.2.2.length := by intro w; rcases w with w | w | w <;> omega
  have ea : aX h 10 1 lb.2.2.2.2.2.length a = fR h 1490 a := by unfold aX; rw [if_neg no, if_pos rfl]
  have eN1 : aN h (fR h 1490 a) = fR h 1490 a := aN_28 (by have := nc.1.1; omega)
  have XA1 : XCg id (Ph0 h) G h N cl (UU us rest) Sl fo mo (.inner 10 lb un l rt) Γ.length (dp + 1) 1 lb.2.2.2.2.2.length a alo ahi := by
    rw [XCg_e]
    unfold XCb
    have eH : aH h 10 1 lb.2.2.2.2.2.length a ahi = ahi := by unfold aH; rw [if_pos (.inr ⟨rfl, rfl, nc.1.1⟩)]
    have eD : aD 10 1 lb.2.2.2.2.2.length (dp + 1) = dp := by unfold aD; rw [if_neg no]; rfl
    rw [ea, eH, eD, if_pos rfl, eN1]
    refine ⟨⟨nr.1, nr.2, .inr ra.2, rg.2.2.2.1, ⟨fun _ => .inl rfl, fun w => by omega, by omega⟩⟩, dp0, ⟨fun w => absurd ⟨rfl, rfl, by rw [ea]; exact nc.1.1⟩ w.2, fun _ => by rw [ea, eN1]; exact r0⟩, nc, nr, ?_⟩
    unfold atC
    rw [if_pos ⟨rfl, nc.1.1⟩]
    exact ⟨rfl, il⟩
  obtain ⟨u1, u2⟩ := use_nm (r := r) nd J J2 nc.1.1 e ⟨⟨Q0, C0⟩, XA1, ok, hΓ, hb, hbd, R, hl, hh⟩ ⟨He.1, k30⟩
  rw [tO_30 k30 Q0.2.1.1.1]
  cases zz with
  | inl kp =>
    obtain ⟨a', h1, us1, fs1, Dk1, ds1, dm1, v1, v2⟩ := u1 kp rfl
    exact c_tset nd v1 He ra hh (JCQ_f rfl v2)
  | inr pp =>
    obtain ⟨x, h1, us1, fs1, Dk1, ds1, dm1, Sl1, v1, A, XJ, cx, _, eqa⟩ := u2 pp.1 pp.2 rfl
    obtain ⟨T, ev, el, er, et⟩ := jd_tag (e := pp.1) (s' := pp.2) e
    have X := CX_hS A
    have il1 := itL_keep X A.1 ⟨He.1, .inl k30⟩ il
    have k30' : kd h1 a = 30 := by rw [eqa.1]; exact k30
    have en' := u80_end (G := G) (r := r) (jg := jg) (x := x) (a := a) (h := h1) k30' il1.1.1.2.2.1
    rw [il1.2, len] at en'
    rw [en'] at v1
    have ez : (Sum.inr pp : (Nat × Nat) ⊕ (Et × JS)) = .inr (en 10 lb T .leaf ev el er, pp.2) := by rw [← et]
    rw [et] at XJ cx
    have eN2 : aN h1 a = fR h 1490 a := by rw [aN_keep X He.1]; exact eN
    have ln : fR h 1490 a < hz h := by have := nr.2; omega
    refine c_tset nd v1 He ra hh (JCQ_r ez A ?_ cx (by rw [eqa.2.2.1]; exact c0) ⟨fun _ => ?_, fun w => by omega⟩)
    · unfold XCb
      rw [aX_0, aH_0, aD_0, if_pos rfl, eN2]
      exact ⟨⟨rg.1, rg.2.1, rg.2.2.1, Nat.le_trans rg.2.2.2.1 X.1, rg.2.2.2.2⟩, dp0, trivial, nmC_keep X A.1 (CX_ty A) ln nc, nr, atC_keep X A.1 (fun w => absurd rfl w) He.1 at0⟩
    · rw [XCg_e] at XJ
      unfold XCb at XJ
      obtain ⟨_, _, φ, _⟩ := XJ
      have φ2 := φ.2.1 rfl
      rw [aX_keep X (fun _ => ⟨He.1, .inl k30⟩), ea, aN_keep X ln, eN1] at φ2
      rw [eN2]
      exact φ2
end LUW
