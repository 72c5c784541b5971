set_option maxRecDepth 100000
/-! THE COMPONENT's judge: chains of signs -/
/-- Integers are known -/
def intO (G : om_G) : Prop := (∀ i j, i < 256 → j < 256 → om_cA G (300 + i) = om_cA G (300 + j) → i = j) ∧ ∀ (j : Nat) (h : om_H), j < 256 → om_Rc G h (om_cA G (300 + j)) "java/lang/Integer"
/-- the first signs of a chain are judged -/
def CO (G : om_G) (N : List (List Int)) (cl : Nat → Nat) (tb l0 sc : Nat) (rest : List (Nat × List Nat)) (Gx : Nat → Prop) (io fo mo : Nat → Nat) (E : JE) (jg Lb lo H0 : Nat) (r : Nat → Nat → om_H → Option ((Nat ⊕ Nat) × om_H)) (t : Xt) (Γ : List Ty) (s : JS) (zz : (Nat × Nat) ⊕ (Et × JS)) (h : om_H) (us fs : List Nat) (Dk : Nat → Prop) (ds : List Nat) (dm : Nat) (Sl : Nat → Prop) (dp m a alo ahi : Nat) : Prop := (∀ kp, zz = .inl kp → ∃ (a' : Nat) (h' : om_H) (us' fs' : List Nat) (Dk' : Nat → Prop) (ds' : List Nat) (dm' : Nat), om_loop (C_37_chain_2s G r jg a) (0, h) = some (.inr (.inl a', h')) ∧ JF G N cl tb l0 sc rest Gx Lb Sl alo ahi h us fs Dk ds dm h' us' fs' Dk' ds' dm' (jcC E t) (16 * xnN t) (48 * xnN t) (4 * xnN t) s.1 kp.1 kp.2 a') ∧ ∀ e s', zz = .inr (e, s') → ∃ (h' : om_H) (us' fs' : List Nat) (Dk' : Nat → Prop) (ds' : List Nat) (dm' : Nat) (Sl' : Nat → Prop), om_loop (C_37_chain_2s G r jg a) (0, h) = om_loop (C_37_chain_2s G r jg a) ((m : Int), h') ∧ CX G N cl tb l0 sc rest Gx io fo mo E jg Lb lo H0 h us fs Dk ds dm Sl s alo ahi h' us' fs' Dk' ds' dm' Sl' Γ s' (jcC E t) (16 * xnN t) (48 * xnN t) (4 * xnN t) ∧ XCg Prod.fst (PhJ N cl rest io E lo H0 Sl' h' us' Dk' ds' dm') G h' N cl (UU us' rest) Sl' fo mo e Γ.length dp 2 m a alo ahi ∧ eqA a h h' ∧ (∃ sg, sg < 128 ∧ (ll h (fR h 1526 a))[0]? = some (om_cA G (300 + (sg + 128))) ∧ (2 ≤ (ll h (fR h 1522 a)).length → sg ≠ 60 ∧ sg ≠ 61 ∧ eTy e = tInt))
section LCC
variable {G : om_G} {N : List (List Int)} {cl : Nat → Nat} {tb l0 sc jg Lb : Nat} {rest : List (Nat × List Nat)} {Sl Sl1 Sl2 Gx U U' : Nat → Prop} {io fo mo : Nat → Nat} {E : JE} {B lo H0 : Nat} {Γ Γ1 Γ2 : List Ty} {tot q z u n q1 z1 u1 n1 alo ahi alo1 ahi1 : Nat} {s s1 s2 : JS} {h : om_H} {us fs : List Nat} {Dk : Nat → Prop} {ds : List Nat} {dm : Nat} {h1 : om_H} {us1 fs1 : List Nat} {Dk1 : Nat → Prop} {ds1 : List Nat} {dm1 : Nat} {h2 : om_H} {us2 fs2 : List Nat} {Dk2 : Nat → Prop} {ds2 : List Nat} {dm2 : Nat} {h3 : om_H} {us3 fs3 : List Nat} {Dk3 : Nat → Prop} {ds3 : List Nat} {dm3 : Nat} {r : Nat → Nat → om_H → Option ((Nat ⊕ Nat) × om_H)} {D : Nat}
theorem c_intv (hI : intO G) {j : Nat} (hj : j < 256) : P_J15_intValue G (om_cA G (300 + j)) h = some ((j : Int) - 128) := by
  have ex : ∃ k : Nat, k < 256 ∧ om_cA G (300 + j) = om_cA G (300 + k) := ⟨j, hj, rfl⟩
  unfold P_J15_intValue
  rw [dif_pos ex]
  have c := Classical.choose_spec ex
  have : Classical.choose ex = j := (hI.1 _ _ hj c.1 c.2).symm
  rw [this]
/-- Int, and an ex of it -/
theorem c_conw (nd : ndN N) (J : JOk E B) (J2 : JOk2 E) (Hr : ∀ t, JCR G N cl tb l0 sc rest Gx io fo mo E jg Lb lo H0 r D t) {t : Xt} {dp a b : Nat} {zz : (Nat × Nat) ⊕ (Et × JS)} (hd : dp ≤ D) (e : (jb (jd E t Γ s) fun a => jw E tInt a.1 a.2) = some zz) (Q0 : JQ G N cl tb l0 sc rest Gx io E jg Lb h us fs Dk ds dm Sl Γ s.1) (C0 : JCE N cl fo mo E h (UU us rest) Sl) (XA : XCg id (Ph0 h) G h N cl (UU us rest) Sl fo mo t Γ.length dp 0 0 a alo ahi) (ok : xok E t Γ.length) (hΓ : ∀ T ∈ Γ, tyOk E.2.2.2.1 T ∧ tsz T ≤ b) (hb : 2700 ≤ b ∧ b + xsz t ≤ 1000000) (hbd : Γ.length + xbd t ≤ 40000) (R : RmJ us fs ds dm s.1 (1 + jcC E t) (4 * xnN t)) (hl : lo ≤ dm ∧ H0 ≤ hz h) (hh : ahi ≤ H0) : ∃ (y : Nat) (h1 : om_H) (v : Nat ⊕ Unit) (h' : om_H) (us' fs' : List Nat) (Dk' : Nat → Prop) (ds' : List Nat) (dm' : Nat), C_37_con G jg 0 h = some (y, h1) ∧ kd h1 jg = 37 ∧ C_37_wanted G r jg a y h1 = some (v, h') ∧ (∀ k p, zz = .inl (k, p) → ∃ a', v = .inl a' ∧ JF G N cl tb l0 sc rest Gx Lb Sl alo ahi h us fs Dk ds dm h' us' fs' Dk' ds' dm' (1 + jcC E t) (16 * xnN t) (48 * xnN t) (4 * xnN t) s.1 k p a') ∧ ∀ e s', zz = .inr (e, s') → ∃ Sl', v = .inr () ∧ CX G N cl tb l0 sc rest Gx io fo mo E jg Lb lo H0 h us fs Dk ds dm Sl s alo ahi h' us' fs' Dk' ds' dm' Sl' Γ s' (1 + jcC E t) (16 * xnN t) (48 * xnN t) (4 * xnN t) ∧ XCg Prod.fst (PhJ N cl rest io E lo H0 Sl' h' us' Dk' ds' dm') G h' N cl (UU us' rest) Sl' fo mo e Γ.length dp 0 0 a alo ahi := by
  obtain ⟨y, h1, us1, fs1, b1, F1, K1, c1⟩ := c_jcon nd Q0.1.1 Q0.2.1 0 (by have := R.1; omega)
  have b1' : C_37_con G jg 0 h = some (y, h1) := b1
  have A1 : CX G N cl tb l0 sc rest Gx io fo mo E jg Lb lo H0 h us fs Dk ds dm Sl s ahi ahi h1 us1 fs1 Dk ds dm Sl Γ s 1 0 0 0 := CX_KF0 Q0 C0 K1 F1 R.2.2.2 hl
  obtain ⟨⟨Q1, C1⟩, bb, _, _, hl1⟩ := A1.2
  have rr := XCg_rng XA
  have XA1 := Ph0_keep (alo := alo) (ahi := ahi) A1 (.inl (Nat.le_refl _)) (fun w => absurd rfl w) XA
  have R1 := CX_R (q1 := jcC E t) (n1 := 4 * xnN t) A1 R (by omega) (by omega)
  have AW := CX_mono (alo := alo) (ahi := ahi) A1 (by omega) (Nat.le_refl _)
  obtain ⟨v, h2, us2, fs2, Dk2, ds2, dm2, w1, w2, w3⟩ := c_want nd J J2 Hr hd e (show JCP G N cl tb l0 sc rest Gx io fo mo E jg Lb lo H0 t Γ s h1 us1 fs1 Dk ds dm Sl dp 0 0 a alo ahi b from ⟨⟨Q1, C1⟩, XA1, ok, hΓ, hb, hbd, R1, hl1, hh⟩) c1 tInt_ok.1 (by have := (tInt_ok (E := E)).2; omega)
  refine ⟨y, h1, v, h2, us2, fs2, Dk2, ds2, dm2, b1', Q1.2.1.1.1, w1, fun k p w => ?_, fun e s' w => ?_⟩
  · obtain ⟨a', f1, f2⟩ := w2 k p w
    exact ⟨a', f1, JF_le (CX_F AW f2 (Nat.le_refl _) (Nat.le_refl _)) (Nat.le_refl _) (by omega) (by omega) (by omega)⟩
  · obtain ⟨Sl2, f1, A2, XJ2⟩ := w3 e s' w
    exact ⟨Sl2, f1, CX_le (CX_trans AW A2 (Nat.le_refl _) (Nat.le_refl _)) (Nat.le_refl _) (by omega) (by omega) (by omega), XJ2⟩
/-- one operand -/
theorem c_op (nd : ndN N) (J : JOk E B) (J2 : JOk2 E) (Hr : ∀ t, JCR G N cl tb l0 sc rest Gx io fo mo E jg Lb lo H0 r D t) {t : Xt} {dp a c k b : Nat} {zz : (Nat × Nat) ⊕ (Et × JS)} (hd : dp ≤ D) (e : (jb (jd E t Γ s) fun a => jw E tInt a.1 a.2) = some zz) (Q0 : JQ G N cl tb l0 sc rest Gx io E jg Lb h us fs Dk ds dm Sl Γ s.1) (C0 : JCE N cl fo mo E h (UU us rest) Sl) (XA : XCg id (Ph0 h) G h N cl (UU us rest) Sl fo mo t Γ.length dp 0 0 c alo ahi) (ok : xok E t Γ.length) (hΓ : ∀ T ∈ Γ, tyOk E.2.2.2.1 T ∧ tsz T ≤ b) (hb : 2700 ≤ b ∧ b + xsz t ≤ 1000000) (hbd : Γ.length + xbd t ≤ 40000) (R : RmJ us fs ds dm s.1 (1 + jcC E t) (4 * xnN t)) (hl : lo ≤ dm ∧ H0 ≤ hz h) (hh : ahi ≤ H0) (k32 : kd h a = 32) (kL : kd h (fR h 1522 a) = 42) (ec : (ll h (fR h 1522 a))[k]? = some c) (hk : k < 5000) : (∀ kp, zz = .inl kp → ∃ (a' : Nat) (h' : om_H) (us' fs' : List Nat) (Dk' : Nat → Prop) (ds' : List Nat) (dm' : Nat), C_37_chain_30 G r jg a (k : Int) h = some (.inr (.inr (.inl a', h'))) ∧ JF G N cl tb l0 sc rest Gx Lb Sl alo ahi h us fs Dk ds dm h' us' fs' Dk' ds' dm' (1 + jcC E t) (16 * xnN t) (48 * xnN t) (4 * xnN t) s.1 kp.1 kp.2 a') ∧ ∀ e s', zz = .inr (e, s') → ∃ (h' : om_H) (us' fs' : List Nat) (Dk' : Nat → Prop) (ds' : List Nat) (dm' : Nat) (Sl' : Nat → Prop), C_37_chain_30 G r jg a (k : Int) h = some (.inl (((k + 1 : Nat) : Int), h')) ∧ CX G N cl tb l0 sc rest Gx io fo mo E jg Lb lo H0 h us fs Dk ds dm Sl s alo ahi h' us' fs' Dk' ds' dm' Sl' Γ s' (1 + jcC E t) (16 * xnN t) (48 * xnN t) (4 * xnN t) ∧ XCg Prod.fst (PhJ N cl rest io E lo H0 Sl' h' us' Dk' ds' dm') G h' N cl (UU us' rest) Sl' fo mo e Γ.length dp 0 0 c alo ahi := by
  obtain ⟨y, h1, v, h2, us2, fs2, Dk2, ds2, dm2, w1, w2, w3, w4, w5⟩ := c_conw nd J J2 Hr hd e Q0 C0 XA ok hΓ hb hbd R hl hh
  have kl := (List.getElem?_eq_some_iff.mp ec).1
  have gt : P_J2_get G (fR h 1522 a) (k : Int) h = some c := by
    unfold P_J2_get
    rw [gd_pos ⟨kL, by omega⟩, show ((k : Int)).toNat = k by omega, ec]
  have exc : ∃ k ∈ om_exk, kd h c = k + 1 := by
    cases t with
    | leaf => exact (XCg_l XA).elim
    | inner t lb un l rt => exact exO_k (XCg_ex XA).1
  have run : C_37_chain_30 G r jg a (k : Int) h = xc (some (v, h2)) (fun t h => some (.inr (.inr (.inl t, h)))) (fun p3 h3 => some (.inl ((w32 ((k : Int) + 1)), h3))) := by
    unfold C_37_chain_30
    rw [gd_pos ⟨k32, kL⟩, gt, Option.bind_some, gd_pos ⟨.inr exc, Q0.2.1.1.1⟩, w1, Option.bind_some]
    dsimp only
    rw [gd_pos w2, w3]
  cases zz with
  | inl kp =>
    obtain ⟨a', f1, f2⟩ := w4 kp.1 kp.2 rfl
    subst f1
    refine ⟨fun kp' w => ?_, fun e s' w => by cases w⟩
    rw [← Sum.inl.inj w]
    exact ⟨a', h2, us2, fs2, Dk2, ds2, dm2, run, f2⟩
  | inr pp =>
    obtain ⟨Sl2, f1, A2, XJ2⟩ := w5 pp.1 pp.2 rfl
    subst f1
    rw [xc_v, w32_s (by omega) (by omega)] at run
    refine ⟨fun kp' w => (by cases w), fun e s' w => ?_⟩
    have w' := Sum.inr.inj w
    rw [w'] at A2 XJ2
    exact ⟨h2, us2, fs2, Dk2, ds2, dm2, Sl2, run, A2, XJ2⟩
/-- the loop's step in a chain -/
theorem ch2s {a k : Nat} (k32 : kd h a = 32) (kL : kd h (fR h 1522 a) = 42) (kl : k < (ll h (fR h 1522 a)).length) (k0 : k ≠ 0) : C_37_chain_2s G r jg a ((k : Int), h) = C_37_chain_30 G r jg a (k : Int) h := by
  have sz : P_J2_size G (fR h 1522 a) h = some (((ll h (fR h 1522 a)).length : Nat) : Int) := by
    unfold P_J2_size
    rw [gd_pos kL]
  unfold C_37_chain_2s
  dsimp only
  rw [gd_pos ⟨k32, kL⟩, sz, Option.bind_some, if_neg (by omega), if_pos (by omega)]
theorem ch2s_end {a : Nat} (k32 : kd h a = 32) (kL : kd h (fR h 1522 a) = 42) : om_loop (C_37_chain_2s G r jg a) ((((ll h (fR h 1522 a)).length : Nat) : Int), h) = some (.inl h) := by
  have sz : P_J2_size G (fR h 1522 a) h = some (((ll h (fR h 1522 a)).length : Nat) : Int) := by
    unfold P_J2_size
    rw [gd_pos kL]
  apply om_loop_out
  unfold C_37_chain_2s
  dsimp only
  rw [gd_pos ⟨k32, kL⟩, sz, Option.bind_some, if_pos (Int.le_refl _)]
/-- ONE MORE SIGN -/
theorem chain18 (nd : ndN N) (J : JOk E B) (J2 : JOk2 E) (Hr : ∀ t, JCR G N cl tb l0 sc rest Gx io fo mo E jg Lb lo H0 r D t) {lb : XL} {un : Unit} {l rt : Xt} {zz : (Nat × Nat) ⊕ (Et × JS)} {dp M a c am b : Nat} (hd : dp ≤ D + 1) (e : jd E (.inner 18 lb un l rt) Γ s = some zz) (hU : 2 ≤ M → ∀ z1, jd E l Γ s = some z1 → CO G N cl tb l0 sc rest Gx io fo mo E jg Lb lo H0 r l Γ s z1 h us fs Dk ds dm Sl dp (M - 1) a alo am) (Q0 : JQ G N cl tb l0 sc rest Gx io E jg Lb h us fs Dk ds dm Sl Γ s.1) (C0 : JCE N cl fo mo E h (UU us rest) Sl) (ch : chC2 G h Sl a M lb.2.1 c) (ro : alo ≤ am) (XL : XCg id (Ph0 h) G h N cl (UU us rest) Sl fo mo l Γ.length dp 2 (M - 1) a alo am) (XR : XCg id (Ph0 h) G h N cl (UU us rest) Sl fo mo rt Γ.length (dp - 1) 0 0 c am ahi) (ok : xok E l Γ.length ∧ xok E rt Γ.length) (hΓ : ∀ T ∈ Γ, tyOk E.2.2.2.1 T ∧ tsz T ≤ b) (hb : 2700 ≤ b ∧ b + xsz (.inner 18 lb un l rt) ≤ 1000000) (hbd : Γ.length + xbd (.inner 18 lb un l rt) ≤ 40000) (R : RmJ us fs ds dm s.1 (jcC E (.inner 18 lb un l rt)) (4 * xnN (.inner 18 lb un l rt))) (hl : lo ≤ dm ∧ H0 ≤ hz h) (hh : ahi ≤ H0) (ha : a < hz h ∧ kd h a = 32) : (∀ kp, zz = .inl kp → ∃ (a' : Nat) (h' : om_H) (us' fs' : List Nat) (Dk' : Nat → Prop) (ds' : List Nat) (dm' : Nat), om_loop (C_37_chain_2s G r jg a) (0, h) = some (.inr (.inl a', h')) ∧ JF G N cl tb l0 sc rest Gx Lb Sl alo ahi h us fs Dk ds dm h' us' fs' Dk' ds' dm' (jcC E (.inner 18 lb un l rt)) (16 * xnN (.inner 18 lb un l rt)) (48 * xnN (.inner 18 lb un l rt)) (4 * xnN (.inner 18 lb un l rt)) s.1 kp.1 kp.2 a') ∧ ∀ e s', zz = .inr (e, s') → ∃ (h' : om_H) (us' fs' : List Nat) (Dk' : Nat → Prop) (ds' : List Nat) (dm' : Nat) (Sl' : Nat → Prop) (ef ec : Et), om_loop (C_37_chain_2s G r jg a) (0, h) = om_loop (C_37_chain_2s G r jg a) ((M : Int), h') ∧ e = en 18 lb (if lb.2.1 = 60 ∨ lb.2.1 = 61 then tBool else tInt) .leaf [] ef ec ∧ CX G N cl tb l0 sc rest Gx io fo mo E jg Lb lo H0 h us fs Dk ds dm Sl s alo ahi h' us' fs' Dk' ds' dm' Sl' Γ s' (1 + 1 + jcC E l + jcC E rt) (16 * xnN l + 16 * xnN rt) (48 * xnN l + 48 * xnN rt) (4 * xnN l + 4 * xnN rt) ∧ XCg Prod.fst (PhJ N cl rest io E lo H0 Sl' h' us' Dk' ds' dm') G h' N cl (UU us' rest) Sl' fo mo ef Γ.length dp 2 (M - 1) a alo am ∧ XCg Prod.fst (PhJ N cl rest io E lo H0 Sl' h' us' Dk' ds' dm') G h' N cl (UU us' rest) Sl' fo mo ec Γ.length (dp - 1) 0 0 c am ahi ∧ eqA a h h' ∧ (∃ sg, sg < 128 ∧ (ll h (fR h 1526 a))[0]? = some (om_cA G (300 + (sg + 128))) ∧ (2 ≤ (ll h (fR h 1522 a)).length → sg ≠ 60 ∧ sg ≠ 61) ∧ (M = 1 → sg = lb.2.1)) := by
  have cs : jcC E (.inner 18 lb un l rt) = 4 + jcC E l + jcC E rt := rfl
  have xs : xnN (.inner 18 lb un l rt) = 1 + xnN l + xnN rt := rfl
  have xz : xsz (.inner 18 lb un l rt) = 1 + 2 * tsz (lbT lb) + xsz l + xsz rt := rfl
  have xb : xbd (.inner 18 lb un l rt) = 0 + max (xbd l) (xbd rt) := rfl
  rw [cs, xs] at R
  rw [cs, xs]
  rw [xz] at hb
  rw [xb] at hbd
  obtain ⟨⟨t1, t2, t3⟩, ⟨v1, v2, v3⟩, ⟨m0, m1, m2, m3⟩, t4, ⟨t5, t6⟩, t7⟩ := id ch
  have rl := XCg_rng XL
  have rr := XCg_rng XR
  have lam := (XCg_lt XL).1
  rw [jd_e] at e
  unfold jdB at e
  rw [if_neg (by decide), if_neg (by decide), if_neg (by decide), if_neg (by decide), if_neg (by decide), if_neg (by decide), if_pos rfl] at e
  have e' : jb (jb (jd E l Γ s) fun a => jw E tInt a.1 a.2) (fun b => jb (jb (jd E rt Γ b.2) fun c => jw E tInt c.1 c.2) fun d => some (.inr (en 18 lb (if lb.2.1 = 60 ∨ lb.2.1 = 61 then tBool else tInt) .leaf [] b.1 d.1, d.2))) = some zz := by
    rw [jb_assoc]
    simp only [jb_assoc]
    exact e
  have hm : ∀ {md : Nat}, md ≠ 0 → a < hz h ∧ (kd h a = 30 ∨ kd h a = 32) := fun _ => ⟨ha.1, .inr ha.2⟩
  -- what is on the left
  have left : (∀ kp, (jb (jd E l Γ s) fun a => jw E tInt a.1 a.2) = some (.inl kp) → ∃ (a' : Nat) (h' : om_H) (us' fs' : List Nat) (Dk' : Nat → Prop) (ds' : List Nat) (dm' : Nat), om_loop (C_37_chain_2s G r jg a) (0, h) = some (.inr (.inl a', h')) ∧ JF G N cl tb l0 sc rest Gx Lb Sl alo am h us fs Dk ds dm h' us' fs' Dk' ds' dm' (1 + jcC E l) (16 * xnN l) (48 * xnN l) (4 * xnN l) s.1 kp.1 kp.2 a') ∧ ∀ ef s1, (jb (jd E l Γ s) fun a => jw E tInt a.1 a.2) = some (.inr (ef, s1)) → ∃ (h1 : om_H) (us1 fs1 : List Nat) (Dk1 : Nat → Prop) (ds1 : List Nat) (dm1 : Nat) (Sl1 : Nat → Prop), (∀ (w : (Int × om_H) ⊕ (om_H ⊕ ((Nat ⊕ Nat) × om_H))), C_37_chain_30 G r jg a ((M - 1 : Nat) : Int) h1 = some w → om_loop (C_37_chain_2s G r jg a) (0, h) = Sum.elim (fun x => om_loop (C_37_chain_2s G r jg a) x) (fun y => some y) w) ∧ CX G N cl tb l0 sc rest Gx io fo mo E jg Lb lo H0 h us fs Dk ds dm Sl s alo am h1 us1 fs1 Dk1 ds1 dm1 Sl1 Γ s1 (1 + jcC E l) (16 * xnN l) (48 * xnN l) (4 * xnN l) ∧ XCg Prod.fst (PhJ N cl rest io E lo H0 Sl1 h1 us1 Dk1 ds1 dm1) G h1 N cl (UU us1 rest) Sl1 fo mo ef Γ.length dp 2 (M - 1) a alo am ∧ eqA a h h1 ∧ (∃ sg, sg < 128 ∧ (ll h (fR h 1526 a))[0]? = some (om_cA G (300 + (sg + 128))) ∧ (2 ≤ (ll h (fR h 1522 a)).length → sg ≠ 60 ∧ sg ≠ 61) ∧ (M = 1 → sg = lb.2.1)) := by
    have stepOut : ∀ (w : (Int × om_H) ⊕ (om_H ⊕ ((Nat ⊕ Nat) × om_H))) (x : Int × om_H), C_37_chain_2s G r jg a x = some w → om_loop (C_37_chain_2s G r jg a) x = Sum.elim (fun x => om_loop (C_37_chain_2s G r jg a) x) (fun y => some y) w := fun w x ew => by
      cases w with
      | inl y => exact om_loop_in ew
      | inr y => exact om_loop_out ew
    by_cases M1 : 2 ≤ M
    · -- a chain's first part
      obtain ⟨z1, ez1⟩ : ∃ z1, jd E l Γ s = some z1 := by
        obtain ⟨z', ez', _⟩ := jd_ok J l Γ s b ok.1 hΓ hb.1 (by omega)
        exact ⟨z', ez'⟩
      obtain ⟨u1, u2⟩ := hU M1 z1 ez1
      refine ⟨fun kp w => ?_, fun ef s1 w => ?_⟩
      · rw [ez1] at w
        cases z1 with
        | inl kp' =>
          have w' : kp' = kp := by injection (Option.some.inj w)
          rw [← w']
          obtain ⟨a', h1, us1, fs1, Dk1, ds1, dm1, g1, g2⟩ := u1 kp' rfl
          exact ⟨a', h1, us1, fs1, Dk1, ds1, dm1, g1, JF_le g2 (by omega) (Nat.le_refl _) (Nat.le_refl _) (Nat.le_refl _)⟩
        | inr pp =>
          obtain ⟨h1, us1, fs1, Dk1, ds1, dm1, Sl1, g1, A1, XJ1, eqa, sg, sg1, sg2, sg3⟩ := u2 pp.1 pp.2 rfl
          have w' : jw E tInt pp.1 pp.2 = some (.inl kp) := w
          unfold jw at w'
          rw [if_pos (tyE_iff.mpr (sg3 (by omega)).2.2)] at w'
          cases w'
      · rw [ez1] at w
        cases z1 with
        | inl kp' => cases w
        | inr pp =>
          obtain ⟨h1, us1, fs1, Dk1, ds1, dm1, Sl1, g1, A1, XJ1, eqa, sg, sg1, sg2, sg3⟩ := u2 pp.1 pp.2 rfl
          have X1 := CX_hS A1
          have w' : jw E tInt pp.1 pp.2 = some (.inr (ef, s1)) := w
          unfold jw at w'
          rw [if_pos (tyE_iff.mpr (sg3 (by omega)).2.2)] at w'
          injection Sum.inr.inj (Option.some.inj w') with w1 w2
          rw [← w1, ← w2]
          refine ⟨h1, us1, fs1, Dk1, ds1, dm1, Sl1, fun wv ew => ?_, CX_le A1 (by omega) (Nat.le_refl _) (Nat.le_refl _) (Nat.le_refl _), XJ1, eqa, sg, sg1, sg2, fun q => ⟨(sg3 q).1, (sg3 q).2.1⟩, fun q => by omega⟩
          have e2 := ch2s (G := G) (r := r) (jg := jg) (h := h1) (a := a) (k := M - 1) (by rw [eqa.1]; exact ha.2) (by rw [eqa.2.2.1, X1.2.1 _ t2]; exact t3) (by rw [eqa.2.2.1, X1.2.2.2.2 _ t2 t1]; omega) (by omega)
          rw [g1]
          exact stepOut wv _ (by rw [e2]; exact ew)
    · -- the first of a chain
      have M0 : M = 1 := by omega
      have sz : P_J2_size G (fR h 1522 a) h = some (((ll h (fR h 1522 a)).length : Nat) : Int) := by
        unfold P_J2_size
        rw [gd_pos t3]
      have st : ∀ (y : Nat) (h1 : om_H) (v : Nat ⊕ Unit) (h' : om_H), C_37_con G jg 0 h = some (y, h1) → kd h1 jg = 37 → C_37_wanted G r jg (fR h 1518 a) y h1 = some (v, h') → C_37_chain_2s G r jg a (0, h) = xc (some (v, h')) (fun t h => some (.inr (.inr (.inl t, h)))) (fun p3 h3 => C_37_chain_30 G r jg a 0 h3) := fun y h1 v h' w1 w2 w3 => by
        unfold C_37_chain_2s
        dsimp only
        rw [gd_pos ⟨ha.2, t3⟩, sz, Option.bind_some, if_neg (by omega), if_neg (fun w => w rfl), gd_pos ⟨ha.2, Q0.2.1.1.1⟩, w1, Option.bind_some]
        dsimp only
        rw [gd_pos w2, w3]
      rw [M0] at XL
      cases l with
      | leaf => exact (XCg_l XL).elim
      | inner tl lbl unl ll' rl' =>
      have no : ¬ aO tl 2 0 := by intro w; rcases w with w | w | w <;> omega
      have ea : aX h tl 2 0 a = fR h 1518 a := by unfold aX; rw [if_neg no, if_neg (by decide)]
      have mk : mOk tl 2 0 := ⟨fun w => by omega, fun _ => .inr rfl, by omega⟩
      have XL' : XCg id (Ph0 h) G h N cl (UU us rest) Sl fo mo (.inner tl lbl unl ll' rl') Γ.length dp 2 0 a alo am := XL
      have XW := XCg_head XL' no (fun w => by omega) (fun φ => ⟨fun _ => by rw [aX_0]; exact φ.1 ⟨.inr no, fun w => by omega⟩, fun w => by rw [aX_0]; exact φ.2 w⟩)
      rw [ea] at XW
      obtain ⟨He, ra, rh, dp0, _⟩ := XCg_ex XW
      obtain ⟨z1, ez1⟩ : ∃ z1, (jb (jd E (.inner tl lbl unl ll' rl') Γ s) fun a => jw E tInt a.1 a.2) = some z1 := by
        cases q : (jb (jd E (.inner tl lbl unl ll' rl') Γ s) fun a => jw E tInt a.1 a.2) with
        | some z => exact ⟨z, rfl⟩
        | none => rw [q] at e'; cases e'
      obtain ⟨y, h1, v, h2, us2, fs2, Dk2, ds2, dm2, w1, w2, w3, w4, w5⟩ := c_conw (a := fR h 1518 a) (dp := dp - 1) (b := b) nd J J2 Hr (by omega) ez1 Q0 C0 XW ok.1 hΓ ⟨hb.1, by omega⟩ (by omega) (RmJ_le R (by omega) (by omega)) hl (by omega)
      have st' := st y h1 v h2 w1 w2 w3
      refine ⟨fun kp w => ?_, fun ef s1 w => ?_⟩
      · rw [ez1] at w
        obtain ⟨a', f1, f2⟩ := w4 kp.1 kp.2 (Option.some.inj w)
        subst f1
        exact ⟨a', h2, us2, fs2, Dk2, ds2, dm2, om_loop_out st', JF_mono f2 (Nat.le_refl _) (by omega)⟩
      · rw [ez1] at w
        obtain ⟨Sl2, f1, A2, XJ2⟩ := w5 ef s1 (Option.some.inj w)
        subst f1
        rw [xc_v] at st'
        have X2 := CX_hS A2
        have eqa := CX_eq A2 ha.1 (by rw [ha.2]; unfold dyK; omega) (.inr (Nat.le_refl _))
        obtain ⟨T, ev, el, er, et⟩ : ∃ T ev el er, ∃ C : Ty, ef = .inner tl (lbl, T, C, ev) () el er := by
          rcases jb_cs (ez1.trans w) with ⟨kp, _, q⟩ | ⟨pp, q1, q2⟩
          · cases q
          · obtain ⟨T, ev, el, er, q3⟩ := jd_tag q1
            have q2' : jw E tInt pp.1 pp.2 = some (.inr (ef, s1)) := q2
            unfold jw at q2'
            split at q2'
            · injection Sum.inr.inj (Option.some.inj q2') with q4 _
              rw [← q4, q3]
              exact ⟨T, ev, el, er, _, rfl⟩
            · obtain ⟨ao, eo⟩ := one_ends (ins := E.2.2.2.1) (gv := E.2.2.2.2) (0, pp.2.1, pp.2.2) (eTy pp.1) tInt (Nat.zero_le _)
              rw [eo, Option.bind_some] at q2'
              cases ao with
              | none => cases q2'
              | some pb =>
                simp only at q2'
                split at q2'
                · injection Sum.inr.inj (Option.some.inj q2') with q4 _
                  rw [← q4, q3]
                  exact ⟨T, ev, el, er, _, rfl⟩
                · cases q2'
        obtain ⟨C, et⟩ := et
        subst et
        have AA := CX_mono (alo := alo) (ahi := am) A2 (Nat.le_refl _) (by omega)
        refine ⟨h2, us2, fs2, Dk2, ds2, dm2, Sl2, fun wv ew => stepOut wv _ (by rw [st', ← ew, M0]; rfl), AA, ?_, eqa, lb.2.1, t5, by rw [M0] at t6; exact t6, t7, fun _ => rfl⟩
        have ea2 : aX h2 tl 2 0 a = fR h 1518 a := by rw [aX_keep X2 hm, ea]
        rw [M0]
        show XCg Prod.fst (PhJ N cl rest io E lo H0 Sl2 h2 us2 Dk2 ds2 dm2) G h2 N cl (UU us2 rest) Sl2 fo mo (.inner tl (lbl, T, C, ev) () el er) Γ.length dp 2 0 a alo am
        refine XCg_unhead (b := fR h 1518 a) ea2 no mk (fun w => by omega) (fun _ w => by omega) ⟨lam, Nat.le_trans rl.2 X2.1⟩ (fun φ => ?_) XJ2
        obtain ⟨p1, p2⟩ := PhJ_root.mp φ
        unfold PhJ
        dsimp only
        rw [ea2]
        refine ⟨fun _ => p1, p2.1, fun q i ei => ?_⟩
        rw [aM_no (.inl ⟨rfl, .inl q⟩) no] at ei
        exact p2.2 q i ei
  -- the operand
  obtain ⟨left1, left2⟩ := left
  rcases jb_cs e' with ⟨kp, e1, e2⟩ | ⟨⟨ef, s1⟩, e1, e2⟩
  · obtain ⟨a', h1, us1, fs1, Dk1, ds1, dm1, g1, g2⟩ := left1 kp e1
    refine ⟨fun kp' w => ?_, fun e s' w => by rw [e2] at w; cases w⟩
    rw [e2] at w
    rw [← Sum.inl.inj w]
    exact ⟨a', h1, us1, fs1, Dk1, ds1, dm1, g1, JF_mono (JF_le g2 (by omega) (by omega) (by omega) (by omega)) (Nat.le_refl _) (by omega)⟩
  obtain ⟨h1, us1, fs1, Dk1, ds1, dm1, Sl1, g1, A1, XJ1, eqa, sgs⟩ := left2 ef s1 e1
  obtain ⟨⟨Q1, C1⟩, b1, _, _, hl1⟩ := A1.2
  have X1 := CX_hS A1
  have XR1 := Ph0_keep (alo := am) (ahi := ahi) A1 (.inr (Nat.le_refl _)) (fun w => absurd rfl w) XR
  have R1 := CX_R (q1 := 1 + jcC E rt) (n1 := 4 * xnN rt) A1 R (by omega) (by omega)
  have AW := CX_mono (alo := alo) (ahi := ahi) A1 (Nat.le_refl _) (by omega)
  have k32 : kd h1 a = 32 := by rw [eqa.1]; exact ha.2
  have la1 : a < hz h1 := Nat.lt_of_lt_of_le ha.1 X1.1
  obtain ⟨z2, ez2⟩ : ∃ z2, (jb (jd E rt Γ s1) fun c => jw E tInt c.1 c.2) = some z2 := by
    cases q : (jb (jd E rt Γ s1) fun c => jw E tInt c.1 c.2) with
    | some z => exact ⟨z, rfl⟩
    | none =>
      have e2' : jb (jb (jd E rt Γ s1) fun c => jw E tInt c.1 c.2) (fun d => some (.inr (en 18 lb (if lb.2.1 = 60 ∨ lb.2.1 = 61 then tBool else tInt) .leaf [] ef d.1, d.2))) = some zz := e2
      rw [q] at e2'; cases e2'
  obtain ⟨p1, p2⟩ := c_op (a := a) (c := c) (k := M - 1) (dp := dp - 1) (b := b) nd J J2 Hr (by omega) ez2 Q1 C1 XR1 ok.2 hΓ ⟨hb.1, by omega⟩ (by omega) R1 hl1 hh k32 (by rw [eqa.2.2.1, X1.2.1 _ t2]; exact t3) (by rw [eqa.2.2.1, X1.2.2.2.2 _ t2 t1]; exact t4) (by omega)
  rcases jb_cs e2 with ⟨kp, e3, e4⟩ | ⟨⟨ec, s2⟩, e3, e4⟩
  · have q : z2 = .inl kp := Option.some.inj (ez2.symm.trans e3)
    obtain ⟨a', h2, us2, fs2, Dk2, ds2, dm2, j1, j2⟩ := p1 kp q
    refine ⟨fun kp' w => ?_, fun e s' w => by rw [e4] at w; cases w⟩
    rw [e4] at w
    rw [← Sum.inl.inj w]
    exact ⟨a', h2, us2, fs2, Dk2, ds2, dm2, g1 _ j1, JF_le (CX_F AW j2 (by omega) (Nat.le_refl _)) (by omega) (by omega) (by omega) (by omega)⟩
  · have q : z2 = .inr (ec, s2) := Option.some.inj (ez2.symm.trans e3)
    obtain ⟨h2, us2, fs2, Dk2, ds2, dm2, Sl2, j1, A2, XJ2⟩ := p2 ec s2 q
    have e4' : zz = .inr (en 18 lb (if lb.2.1 = 60 ∨ lb.2.1 = 61 then tBool else tInt) .leaf [] ef ec, s2) := (Option.some.inj e4).symm
    refine ⟨fun kp' w => (by rw [e4'] at w; cases w), fun e s' w => ?_⟩
    rw [e4'] at w
    injection Sum.inr.inj w with w1 w2
    rw [← w1, ← w2]
    have dl := dm_le Q1
    have eM : ((M - 1 + 1 : Nat) : Int) = (M : Int) := by omega
    have XJ1' := PhJ_keep (alo := alo) (ahi := am) Q1.1.2.1 A2 ⟨by omega, hh⟩ (.inl (Nat.le_refl _)) (fun _ => ⟨la1, .inr k32⟩) XJ1
    exact ⟨h2, us2, fs2, Dk2, ds2, dm2, Sl2, ef, ec, by rw [g1 _ j1, eM]; rfl, rfl, CX_le (CX_trans AW A2 (by omega) (Nat.le_refl _)) (by omega) (Nat.le_refl _) (Nat.le_refl _) (Nat.le_refl _), XJ1', XJ2, eqA_trans eqa (CX_eq A2 la1 (by rw [k32]; unfold dyK; omega) (by omega)), sgs⟩
end LCC
