set_option maxRecDepth 100000
/-! THE COMPONENT's judge: an ex of a type; an ex with a name bound -/
section LWT
variable {G : om_G} {N : List (List Int)} {cl : Nat → Nat} {tb l0 sc jg Lb : Nat} {rest : List (Nat × List Nat)} {Sl Sl1 Sl2 Gx U U' : Nat → Prop} {io fo mo : Nat → Nat} {E : JE} {B lo H0 : Nat} {Γ Γ1 Γ2 : List Ty} {tot q z u n q1 z1 u1 n1 alo ahi alo1 ahi1 : Nat} {s s1 s2 : JS} {h : om_H} {us fs : List Nat} {Dk : Nat → Prop} {ds : List Nat} {dm : Nat} {h1 : om_H} {us1 fs1 : List Nat} {Dk1 : Nat → Prop} {ds1 : List Nat} {dm1 : Nat} {h2 : om_H} {us2 fs2 : List Nat} {Dk2 : Nat → Prop} {ds2 : List Nat} {dm2 : Nat} {r : Nat → Nat → om_H → Option ((Nat ⊕ Nat) × om_H)} {D : Nat}
theorem jb_cs {α β : Type} {x : Option ((Nat × Nat) ⊕ α)} {f : α → Option ((Nat × Nat) ⊕ β)} {zz : (Nat × Nat) ⊕ β} (e : jb x f = some zz) : (∃ kp, x = some (.inl kp) ∧ zz = .inl kp) ∨ ∃ a, x = some (.inr a) ∧ f a = some zz := by
  unfold jb at e
  cases x with
  | none => cases e
  | some z1 =>
    cases z1 with
    | inl kp => exact .inl ⟨kp, rfl, (Option.some.inj e).symm⟩
    | inr a => exact .inr ⟨a, rfl, e⟩
/-- AN EX IS TO BE OF A TYPE, and is judged -/
theorem c_want (nd : ndN N) (J : JOk E B) (J2 : JOk2 E) (Hr : ∀ t, JCR G N cl tb l0 sc rest Gx io fo mo E jg Lb lo H0 r D t) {t : Xt} {T : Ty} {y dp a b : Nat} {zz : (Nat × Nat) ⊕ (Et × JS)} (hd : dp ≤ D) (e : (jb (jd E t Γ s) fun a => jw E T a.1 a.2) = some zz) (P : JCP G N cl tb l0 sc rest Gx io fo mo E jg Lb lo H0 t Γ s h us fs Dk ds dm Sl dp 0 0 a alo ahi b) (cy : tyC h N cl (UU us rest) T y) (okT : tyOk E.2.2.2.1 T) (hzT : tsz T ≤ 1000000) : ∃ (v : Nat ⊕ Unit) (h' : om_H) (us' fs' : List Nat) (Dk' : Nat → Prop) (ds' : List Nat) (dm' : Nat), C_37_wanted G r jg a y h = some (v, h') ∧ (∀ k p, zz = .inl (k, p) → ∃ a', v = .inl a' ∧ JF G N cl tb l0 sc rest Gx Lb Sl alo ahi h us fs Dk ds dm h' us' fs' Dk' ds' dm' (jcC E t) (16 * xnN t) (48 * xnN t) (4 * xnN t) s.1 k p a') ∧ ∀ e s', zz = .inr (e, s') → ∃ Sl', v = .inr () ∧ CX G N cl tb l0 sc rest Gx io fo mo E jg Lb lo H0 h us fs Dk ds dm Sl s alo ahi h' us' fs' Dk' ds' dm' Sl' Γ s' (jcC E t) (16 * xnN t) (48 * xnN t) (4 * xnN t) ∧ XCg Prod.fst (PhJ N cl rest io E lo H0 Sl' h' us' Dk' ds' dm') G h' N cl (UU us' rest) Sl' fo mo e Γ.length dp 0 0 a alo ahi := by
  obtain ⟨⟨Q0, C0⟩, XA, ok, hΓ, hb, hbd, R, hl, hh⟩ := id P
  unfold C_37_wanted
  rw [gd_pos Q0.2.1.1.1]
  rcases jb_cs e with ⟨kp, e1, e2⟩ | ⟨⟨e0, s1⟩, e1, e2⟩
  · obtain ⟨v, h1, us1, fs1, Dk1, ds1, dm1, r1, o1, o2⟩ := Hr t Γ s _ h us fs Dk ds dm Sl dp a alo ahi b hd e1 P
    obtain ⟨a', f1, f2⟩ := o1 kp.1 kp.2 rfl
    subst f1
    rw [r1, xc_t]
    refine ⟨_, h1, us1, fs1, Dk1, ds1, dm1, rfl, fun k p w => ?_, fun e s' w => by rw [e2] at w; cases w⟩
    rw [e2] at w
    have w' := Sum.inl.inj w
    rw [w'] at f2
    exact ⟨a', rfl, f2⟩
  · obtain ⟨v, h1, us1, fs1, Dk1, ds1, dm1, r1, o1, o2⟩ := Hr t Γ s _ h us fs Dk ds dm Sl dp a alo ahi b hd e1 P
    obtain ⟨x, Sl1, f1, A, XJ, cx, c0⟩ := o2 e0 s1 rfl
    subst f1
    have e2' : jw E T e0 s1 = some zz := e2
    obtain ⟨⟨Q1, C1⟩, b1, K1, D1, hl1⟩ := A.2
    obtain ⟨z', ez', oz⟩ := jd_ok J t Γ s b ok hΓ hb.1 hb.2
    rw [e1] at ez'
    obtain ⟨okE, _⟩ := oz (e0, s1) (Option.some.inj ez').symm
    have R1 := CX_R (q1 := 0) (n1 := 0) A R (by omega) (by omega)
    have dl := dm_le Q1
    cases e0 with
    | leaf => exact c0.elim
    | inner tg lx un el er =>
    obtain ⟨He, ra, rh, _, PJ⟩ := XCg_ex XJ
    have He' : exO h1 a (ePl (.inner tg lx un el er)) := He
    have okE' : tyOk E.2.2.2.1 (eTy (.inner tg lx un el er)) ∧ tsz (eTy (.inner tg lx un el er)) ≤ b + xsz t := okE
    rw [r1, xc_v, gd_pos Q1.2.1.1.1]
    obtain ⟨v2, h2, us2, fs2, g1, g2, g3⟩ := c_isOf nd J J2.2.2 e2' Q1.1.1 Q1.2.1 He' cx (CX_ty A _ _ cy) okE'.1 okT (by omega) hzT b1.2 (by have := R1.1; have := J.1.1; have := b1.2; omega)
    rw [g1]
    cases zz with
    | inl kp =>
      obtain ⟨a', ea, t1, t2, t3⟩ := g2 kp.1 kp.2 rfl
      subst ea
      refine ⟨_, h2, us2, fs2, Dk1, ds1, dm1, rfl, fun k p w => ?_, fun e s' w => by cases w⟩
      have w' := Sum.inl.inj w
      rw [w'] at t2
      exact ⟨a', rfl, CX_F A (JF_KF (alo := alo) (ahi := ahi) (q' := 0) Q1 t1 t2 t3 b1.2 (by have := J.1.1; omega)) (Nat.le_refl _) (Nat.le_refl _)⟩
    | inr pp =>
      obtain ⟨ev, h3, F3, b3, K3, D3, cs⟩ := g3 pp.1 pp.2 rfl
      subst ev
      have A3 : CX G N cl tb l0 sc rest Gx io fo mo E jg Lb lo H0 h1 us1 fs1 Dk1 ds1 dm1 Sl1 s1 ahi ahi h3 us2 fs2 Dk1 ds1 dm1 Sl1 Γ pp.2 0 0 0 0 := CX_KF Q1 C1 K3 F3 b3 (by omega) D3 hl1
      have XJ3 := PhJ_keep (alo := alo) (ahi := ahi) Q1.1.2.1 A3 ⟨by omega, hh⟩ (.inl (Nat.le_refl _)) (fun w => absurd rfl w) XJ
      have A03 := CX_trans A A3 (by omega) (Nat.le_refl _)
      rcases cs with ⟨c1, c2, c3⟩ | ⟨c1, c2, c3⟩
      · subst c2
        refine ⟨_, h2, us2, fs2, Dk1, ds1, dm1, rfl, fun k p w => (by cases w), fun e s' w => ?_⟩
        have w' := Sum.inr.inj w
        rw [w'] at c1 A03
        have c1' : e = .inner tg lx un el er := c1
        rw [c1']
        exact ⟨Sl1, rfl, A03, XJ3⟩
      · subst c2
        obtain ⟨He3, ra3, rh3, _, PJ3⟩ := XCg_ex XJ3
        obtain ⟨pj1, pj2⟩ := PhJ_root.mp PJ3
        have XB := XJ3
        rw [XCg_e] at XB
        have XB' := XCb_true (lab := (Prod.fst : XL × Ty × Ty × List Dc → XL)) (x := lx) (x' := (lx.1, lx.2.1, T, lx.2.2.2)) rfl XB
        obtain ⟨y1, y2⟩ := XJ_fin (un := un) (f := 1382) (v := y) nd A3.2.1.1 A3.2.1.2 b3.2 A3.2.2.2.2.2 hh (.inr rfl) ⟨He3.1, He3.2.1.1, He3.2.1.2.1⟩ XB' ⟨⟨by rw [fR_ne (by decide)]; exact pj1.1, by rw [fR_eq]; exact CX_ty A3 _ _ (CX_ty A _ _ cy)⟩, pj2⟩ ra3
        refine ⟨_, sR h3 1382 a y, us2, fs2, Dk1, ds1, dm1, rfl, fun k p w => (by cases w), fun e s' w => ?_⟩
        have w' := Sum.inr.inj w
        have A4 := CX_trans A03 y2 (by omega) (by omega)
        rw [w'] at c1 A4
        have c1' : e = .inner tg (lx.1, lx.2.1, T, lx.2.2.2) un el er := c1
        rw [c1']
        exact ⟨Sl1, rfl, A4, y1⟩
/-- WITH A NAME BOUND -/
theorem c_inside (nd : ndN N) (Hr : ∀ t, JCR G N cl tb l0 sc rest Gx io fo mo E jg Lb lo H0 r D t) {t : Xt} {T : Ty} {y dp a b : Nat} {zz : (Nat × Nat) ⊕ (Et × JS)} (hd : dp ≤ D) (e : jd E t (Γ ++ [T]) s = some zz) (Q : JQ G N cl tb l0 sc rest Gx io E jg Lb h us fs Dk ds dm Sl Γ s.1) (C : JCE N cl fo mo E h (UU us rest) Sl) (XA : XCg id (Ph0 h) G h N cl (UU us rest) Sl fo mo t (Γ.length + 1) dp 0 0 a alo ahi) (ok : xok E t (Γ.length + 1)) (hΓ : ∀ T ∈ Γ, tyOk E.2.2.2.1 T ∧ tsz T ≤ b) (hb : 2700 ≤ b ∧ b + xsz t ≤ 1000000) (hbd : Γ.length + 1 + xbd t ≤ 40000) (R : RmJ us fs ds dm s.1 (jcC E t) (4 * xnN t)) (hl : lo ≤ dm ∧ H0 ≤ hz h) (hh : ahi ≤ H0) (cy : tyC h N cl (UU us rest) T y) (okT : tyOk E.2.2.2.1 T ∧ tsz T ≤ b) : ∃ (v : Nat ⊕ Nat) (h' : om_H) (us' fs' : List Nat) (Dk' : Nat → Prop) (ds' : List Nat) (dm' : Nat), C_37_inside G r jg y a h = some (v, h') ∧ (∀ k p, zz = .inl (k, p) → ∃ a', v = .inl a' ∧ JF G N cl tb l0 sc rest Gx Lb Sl alo ahi h us fs Dk ds dm h' us' fs' Dk' ds' dm' (jcC E t) (16 * xnN t + 1) (48 * xnN t) (4 * xnN t) s.1 k p a') ∧ ∀ e s', zz = .inr (e, s') → ∃ x Sl', v = .inr x ∧ CX G N cl tb l0 sc rest Gx io fo mo E jg Lb lo H0 h us fs Dk ds dm Sl s alo ahi h' us' fs' Dk' ds' dm' Sl' Γ s' (jcC E t) (16 * xnN t + 1) (48 * xnN t) (4 * xnN t) ∧ XCg Prod.fst (PhJ N cl rest io E lo H0 Sl' h' us' Dk' ds' dm') G h' N cl (UU us' rest) Sl' fo mo e (Γ.length + 1) dp 0 0 a alo ahi ∧ tyC h' N cl (UU us' rest) (eTy e) x ∧ eC0 e := by
  have lenA : (Γ ++ [T]).length = Γ.length + 1 := by rw [List.length_append]; rfl
  obtain ⟨h1, a1, Q1, K1, _⟩ := JQ_add (alo := ahi) (ahi := ahi) nd Q cy okT.1.1 (by omega)
  have A1 : CX G N cl tb l0 sc rest Gx io fo mo E jg Lb lo H0 h us fs Dk ds dm Sl s ahi ahi h1 us fs Dk ds dm Sl (Γ ++ [T]) s 0 1 0 0 := CX_KJ Q1 C K1 R.2.2.2 hl
  have XA1 := Ph0_keep (alo := alo) (ahi := ahi) A1 (.inl (Nat.le_refl _)) (fun w => absurd rfl w) XA
  have rng := XCg_rng XA
  obtain ⟨v, h2, us2, fs2, Dk2, ds2, dm2, r1, o1, o2⟩ := Hr t (Γ ++ [T]) s zz h1 us fs Dk ds dm Sl dp a alo ahi b hd e ⟨⟨Q1, A1.2.1.2⟩, by rw [lenA]; exact XA1, by rw [lenA]; exact ok, fun X hX => by
    rcases List.mem_append.mp hX with w | w
    · exact hΓ X w
    · rw [List.mem_singleton.mp w]; exact okT, hb, by rw [lenA]; exact hbd, R, A1.2.2.2.2.2, hh⟩
  unfold C_37_inside
  rw [Q.2.1.2.2.2, gd_pos ⟨Q.2.1.1.1, Q.2.2.1.1.2.1⟩, a1, Option.bind_some, gd_pos Q1.2.1.1.1, r1]
  have AW := CX_mono (alo := alo) (ahi := ahi) A1 (by omega) (Nat.le_refl _)
  cases zz with
  | inl kp =>
    obtain ⟨a', f1, f2⟩ := o1 kp.1 kp.2 rfl
    subst f1
    refine ⟨_, h2, us2, fs2, Dk2, ds2, dm2, rfl, fun k p w => ?_, fun e s' w => by cases w⟩
    have w' := Sum.inl.inj w
    rw [w'] at f2
    exact ⟨a', rfl, JF_le (CX_F AW f2 (Nat.le_refl _) (Nat.le_refl _)) (by omega) (by omega) (by omega) (by omega)⟩
  | inr pp =>
    obtain ⟨x, Sl2, f1, A2, XJ, cx, c0⟩ := o2 pp.1 pp.2 rfl
    subst f1
    obtain ⟨⟨Q2, C2⟩, b2, K2, D2, hl2⟩ := A2.2
    obtain ⟨x3, h3, d1, d2, Q3, K3⟩ := JQ_drop (alo := ahi) (ahi := ahi) nd Q2
    have A3 : CX G N cl tb l0 sc rest Gx io fo mo E jg Lb lo H0 h2 us2 fs2 Dk2 ds2 dm2 Sl2 pp.2 ahi ahi h3 us2 fs2 Dk2 ds2 dm2 Sl2 Γ pp.2 0 0 0 0 := CX_KJ Q3 C2 K3 b2.2 hl2
    have dl := dm_le Q2
    have XJ3 := PhJ_keep (alo := alo) (ahi := ahi) Q2.1.2.1 A3 ⟨by omega, hh⟩ (.inl (Nat.le_refl _)) (fun w => absurd rfl w) XJ
    rw [lenA] at XJ3
    have ix : w32 (((Γ.length + 1 : Nat) : Int) - 1) = (Γ.length : Int) := by rw [w32_s (by omega) (by omega)]; omega
    rw [xc_v, Q2.2.1.2.2.2, gd_pos ⟨Q2.2.1.1.1, Q2.2.2.1.1.2.1⟩, d1, Option.bind_some, gd_pos Q2.2.2.1.1.2.1, ix, d2, Option.bind_some]
    have AA := CX_trans (CX_trans AW A2 (Nat.le_refl _) (Nat.le_refl _)) A3 (by omega) (Nat.le_refl _)
    refine ⟨_, h3, us2, fs2, Dk2, ds2, dm2, rfl, fun k p w => (by cases w), fun e s' w => ?_⟩
    have w' := Sum.inr.inj w
    rw [w'] at XJ3 AA cx c0
    exact ⟨x, Sl2, rfl, CX_le AA (by omega) (by omega) (by omega) (by omega), XJ3, CX_ty A3 _ _ cx, c0⟩
/-- the kinds of exs -/
theorem tO_28 {a : Nat} (k : kd h a = 28) (j : kd h jg = 37) : C_37_typeOfB G r jg a h = tset G r a (C_37_name G jg a 0 h) := by
  have ex : ∃ k ∈ om_exk, kd h a = k + 1 := ⟨27, by decide, by rw [k]⟩
  unfold C_37_typeOfB
  rw [gd_pos ex, if_neg (fun w => w k), gd_pos ⟨.inr k, j⟩]
  rfl
theorem tO_29 {a : Nat} (k : kd h a = 29) (j : kd h jg = 37) : C_37_typeOfB G r jg a h = (C_37_con G jg 0 h).bind fun p8 => tset G r a (some (.inr p8.1, p8.2)) := by
  have ex : ∃ k ∈ om_exk, kd h a = k + 1 := ⟨28, by decide, by rw [k]⟩
  unfold C_37_typeOfB
  rw [gd_pos ex, if_pos (by omega), gd_pos ex, if_neg (fun w => w k), gd_pos j]
  rfl
theorem tO_24 {a : Nat} (k : kd h a = 24) (j : kd h jg = 37) : C_37_typeOfB G r jg a h = xc (C_37_inside G r jg (fR h 1394 a) (fR h 1398 a) h) (fun t h => some (.inl t, h)) (fun p6 h6 => gd (kd h6 (fR h 1650 jg) = 3) ((C_2_arrow G (fR h 1650 jg) (fR h 1394 a) p6 h6).bind fun p7 => tset G r a (some (.inr p7.1, p7.2)))) := by
  have ex : ∃ k ∈ om_exk, kd h a = k + 1 := ⟨23, by decide, by rw [k]⟩
  unfold C_37_typeOfB
  rw [gd_pos ex, if_pos (by omega), gd_pos ex, if_pos (by omega), gd_pos ex, if_neg (fun w => w k), gd_pos ⟨.inr k, j, k⟩]
  rfl
theorem tO_25 {a : Nat} (k : kd h a = 25) (j : kd h jg = 37) : C_37_typeOfB G r jg a h = tset G r a (C_37_let G r jg a h) := by
  have ex : ∃ k ∈ om_exk, kd h a = k + 1 := ⟨24, by decide, by rw [k]⟩
  unfold C_37_typeOfB
  rw [gd_pos ex, if_pos (by omega), gd_pos ex, if_pos (by omega), gd_pos ex, if_pos (by omega), gd_pos ex, if_neg (fun w => w k), gd_pos ⟨.inr k, j⟩]
  rfl
theorem tO_26 {a : Nat} (k : kd h a = 26) (j : kd h jg = 37) : C_37_typeOfB G r jg a h = tset G r a (C_37_choice G r jg a h) := by
  have ex : ∃ k ∈ om_exk, kd h a = k + 1 := ⟨25, by decide, by rw [k]⟩
  unfold C_37_typeOfB
  rw [gd_pos ex, if_pos (by omega), gd_pos ex, if_pos (by omega), gd_pos ex, if_pos (by omega), gd_pos ex, if_pos (by omega), gd_pos ex, if_neg (fun w => w k), gd_pos ⟨.inr k, j⟩]
  rfl
theorem tO_27 {a : Nat} (k : kd h a = 27) (j : kd h jg = 37) : C_37_typeOfB G r jg a h = tset G r a (C_37_cases G r jg a h) := by
  have ex : ∃ k ∈ om_exk, kd h a = k + 1 := ⟨26, by decide, by rw [k]⟩
  unfold C_37_typeOfB
  rw [gd_pos ex, if_pos (by omega), gd_pos ex, if_pos (by omega), gd_pos ex, if_pos (by omega), gd_pos ex, if_pos (by omega), gd_pos ex, if_pos (by omega), gd_pos ex, if_neg (fun w => w k), gd_pos ⟨.inr k, j⟩]
  rfl
theorem tO_30 {a : Nat} (k : kd h a = 30) (j : kd h jg = 37) : C_37_typeOfB G r jg a h = tset G r a (C_37_use G r jg a h) := by
  have ex : ∃ k ∈ om_exk, kd h a = k + 1 := ⟨29, by decide, by rw [k]⟩
  unfold C_37_typeOfB
  rw [gd_pos ex, if_pos (by omega), gd_pos ex, if_pos (by omega), gd_pos ex, if_pos (by omega), gd_pos ex, if_pos (by omega), gd_pos ex, if_pos (by omega), gd_pos ex, if_pos (by omega), gd_pos ex, if_neg (fun w => w k), gd_pos ⟨.inr k, j⟩]
  rfl
theorem tO_32 {a : Nat} (k : kd h a = 32) (j : kd h jg = 37) : C_37_typeOfB G r jg a h = tset G r a (C_37_chain G r jg a h) := by
  have ex : ∃ k ∈ om_exk, kd h a = k + 1 := ⟨31, by decide, by rw [k]⟩
  unfold C_37_typeOfB
  rw [gd_pos ex, if_pos (by omega), gd_pos ex, if_pos (by omega), gd_pos ex, if_pos (by omega), gd_pos ex, if_pos (by omega), gd_pos ex, if_pos (by omega), gd_pos ex, if_pos (by omega), gd_pos ex, if_pos (by omega), gd_pos ⟨.inr k, j⟩]
  rfl
end LWT
