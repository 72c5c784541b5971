set_option maxRecDepth 100000
/-! THE COMPONENT's judge: what is to be shown of an ex -/
/-- of the root of a whole ex: reasons, items -/
noncomputable def PhQ (N : List (List Int)) (cl : Nat → Nat) (rest : List (Nat × List Nat)) (io : Nat → Nat) (E : JE) (lo H0 : Nat) (Sl : Nat → Prop) (h : om_H) (us : List Nat) (Dk : Nat → Prop) (ds : List Nat) (dm : Nat) (t : Nat) (lb : XL) (ev : List Dc) (l : Et) (a : Nat) : Prop := (t = 10 → ∃ evs, rsJ h Sl (aN h a) evs ∧ evLs N cl rest io E lo h us Dk ds dm ev evs ∧ (∀ y ∈ evs, H0 ≤ y) ∧ btX h N cl (UU us rest) lb) ∧ (t = 12 → ∀ i, (ll h (fR h 1494 a))[(ll h (fR h 1494 a)).length - 1]? = some i → tyC h N cl (UU us rest) (eTy l) (fR h 1510 i) ∧ tyC h N cl (UU us rest) (eCt l) (fR h 1514 i))
/-- what there is before an ex is judged -/
def JCP (G : om_G) (N : List (List Int)) (cl : Nat → Nat) (tb l0 sc : Nat) (rest : List (Nat × List Nat)) (Gx : Nat → Prop) (io fo mo : Nat → Nat) (E : JE) (jg Lb lo H0 : Nat) (t : Xt) (Γ : List Ty) (s : JS) (h : om_H) (us fs : List Nat) (Dk : Nat → Prop) (ds : List Nat) (dm : Nat) (Sl : Nat → Prop) (dp md m a alo ahi b : Nat) : Prop := (JQ G N cl tb l0 sc rest Gx io E jg Lb h us fs Dk ds dm Sl Γ s.1 ∧ JCE N cl fo mo E h (UU us rest) Sl) ∧ XCg id (Ph0 h) G h N cl (UU us rest) Sl fo mo t Γ.length dp md m a alo ahi ∧ xok E t Γ.length ∧ (∀ T ∈ Γ, tyOk E.2.2.2.1 T ∧ tsz T ≤ b) ∧ (2700 ≤ b ∧ b + xsz t ≤ 1000000) ∧ Γ.length + xbd t ≤ 40000 ∧ RmJ us fs ds dm s.1 (jcC E t) (4 * xnN t) ∧ (lo ≤ dm ∧ H0 ≤ hz h) ∧ ahi ≤ H0
/-- what there is behind it -/
def JCO (G : om_G) (N : List (List Int)) (cl : Nat → Nat) (tb l0 sc : Nat) (rest : List (Nat × List Nat)) (Gx : Nat → Prop) (io fo mo : Nat → Nat) (E : JE) (jg Lb lo H0 : Nat) (t : Xt) (Γ : List Ty) (s : JS) (zz : (Nat × Nat) ⊕ (Et × JS)) (h : om_H) (us fs : List Nat) (Dk : Nat → Prop) (ds : List Nat) (dm : Nat) (Sl : Nat → Prop) (dp a alo ahi : Nat) (v : Nat ⊕ Nat) (h' : om_H) (us' fs' : List Nat) (Dk' : Nat → Prop) (ds' : List Nat) (dm' : Nat) : Prop := (∀ k p, zz = .inl (k, p) → ∃ a', v = .inl a' ∧ JF G N cl tb l0 sc rest Gx Lb Sl alo ahi h us fs Dk ds dm h' us' fs' Dk' ds' dm' (jcC E t) (16 * xnN t) (48 * xnN t) (4 * xnN t) s.1 k p a') ∧ ∀ e s', zz = .inr (e, s') → ∃ x Sl', v = .inr x ∧ CX G N cl tb l0 sc rest Gx io fo mo E jg Lb lo H0 h us fs Dk ds dm Sl s alo ahi h' us' fs' Dk' ds' dm' Sl' Γ s' (jcC E t) (16 * xnN t) (48 * xnN t) (4 * xnN t) ∧ XCg Prod.fst (PhJ N cl rest io E lo H0 Sl' h' us' Dk' ds' dm') G h' N cl (UU us' rest) Sl' fo mo e Γ.length dp 0 0 a alo ahi ∧ tyC h' N cl (UU us' rest) (eTy e) x ∧ eC0 e
/-- what there is behind it, before its type is written -/
def JCQ (G : om_G) (N : List (List Int)) (cl : Nat → Nat) (tb l0 sc : Nat) (rest : List (Nat × List Nat)) (Gx : Nat → Prop) (io fo mo : Nat → Nat) (E : JE) (jg Lb lo H0 : Nat) (t : Xt) (Γ : List Ty) (s : JS) (zz : (Nat × Nat) ⊕ (Et × JS)) (h : om_H) (us fs : List Nat) (Dk : Nat → Prop) (ds : List Nat) (dm : Nat) (Sl : Nat → Prop) (dp a alo ahi : Nat) (v : Nat ⊕ Nat) (h' : om_H) (us' fs' : List Nat) (Dk' : Nat → Prop) (ds' : List Nat) (dm' : Nat) : Prop := (∀ k p, zz = .inl (k, p) → ∃ a', v = .inl a' ∧ JF G N cl tb l0 sc rest Gx Lb Sl alo ahi h us fs Dk ds dm h' us' fs' Dk' ds' dm' (jcC E t) (16 * xnN t) (48 * xnN t) (4 * xnN t) s.1 k p a') ∧ ∀ e s', zz = .inr (e, s') → ∃ x Sl' tg lb T ev el er, v = .inr x ∧ CX G N cl tb l0 sc rest Gx io fo mo E jg Lb lo H0 h us fs Dk ds dm Sl s alo ahi h' us' fs' Dk' ds' dm' Sl' Γ s' (jcC E t) (16 * xnN t) (48 * xnN t) (4 * xnN t) ∧ e = en tg lb T .leaf ev el er ∧ XCb Prod.fst (fun _ _ _ _ => True) G h' N cl (UU us' rest) Sl' fo mo (XCg Prod.fst (PhJ N cl rest io E lo H0 Sl' h' us' Dk' ds' dm') G h' N cl (UU us' rest) Sl' fo mo) tg (lb, T, .leaf, ev) el er Γ.length dp 0 0 a alo ahi ∧ tyC h' N cl (UU us' rest) T x ∧ fR h' 1382 a = 0 ∧ PhQ N cl rest io E lo H0 Sl' h' us' Dk' ds' dm' tg lb ev el a
/-- an ex is judged by r, if it is not too deep -/
def JCR (G : om_G) (N : List (List Int)) (cl : Nat → Nat) (tb l0 sc : Nat) (rest : List (Nat × List Nat)) (Gx : Nat → Prop) (io fo mo : Nat → Nat) (E : JE) (jg Lb lo H0 : Nat) (r : Nat → Nat → om_H → Option ((Nat ⊕ Nat) × om_H)) (D : Nat) (t : Xt) : Prop := ∀ (Γ : List Ty) (s : JS) (zz : (Nat × Nat) ⊕ (Et × JS)) (h : om_H) (us fs : List Nat) (Dk : Nat → Prop) (ds : List Nat) (dm : Nat) (Sl : Nat → Prop) (dp a alo ahi b : Nat), dp ≤ D → jd E t Γ s = some zz → JCP G N cl tb l0 sc rest Gx io fo mo E jg Lb lo H0 t Γ s h us fs Dk ds dm Sl dp 0 0 a alo ahi b → ∃ (v : Nat ⊕ Nat) (h' : om_H) (us' fs' : List Nat) (Dk' : Nat → Prop) (ds' : List Nat) (dm' : Nat), r jg a h = some (v, h') ∧ JCO G N cl tb l0 sc rest Gx io fo mo E jg Lb lo H0 t Γ s zz h us fs Dk ds dm Sl dp a alo ahi v h' us' fs' Dk' ds' dm'
/-- the type is written -/
noncomputable def tset (G : om_G) (r : Nat → Nat → om_H → Option ((Nat ⊕ Nat) × om_H)) (a : Nat) (X : Option ((Nat ⊕ Nat) × om_H)) : Option ((Nat ⊕ Nat) × om_H) := xc X (fun t h => some (.inl t, h)) (fun p h1 => gd (∃ k ∈ om_exk, kd h1 a = k + 1) (C_37_typeOf_202 G r a (sR h1 1378 a p)))
section LJR
variable {G : om_G} {N : List (List Int)} {cl : Nat → Nat} {tb l0 sc jg Lb : Nat} {rest : List (Nat × List Nat)} {Sl Sl1 Sl2 Gx U U' : Nat → Prop} {io fo mo : Nat → Nat} {E : JE} {B lo H0 : Nat} {Γ Γ1 Γ2 : List Ty} {tot q z u n q1 z1 u1 n1 alo ahi alo1 ahi1 : Nat} {s s1 s2 : JS} {h : om_H} {us fs : List Nat} {Dk : Nat → Prop} {ds : List Nat} {dm : Nat} {h1 : om_H} {us1 fs1 : List Nat} {Dk1 : Nat → Prop} {ds1 : List Nat} {dm1 : Nat} {h2 : om_H} {us2 fs2 : List Nat} {Dk2 : Nat → Prop} {ds2 : List Nat} {dm2 : Nat} {r : Nat → Nat → om_H → Option ((Nat ⊕ Nat) × om_H)}
theorem aX_0 {t a : Nat} : aX h t 0 0 a = a := by unfold aX; rw [if_pos (.inl rfl)]
theorem aM_0 {f m a : Nat} : aM h f false m a = (ll h (fR h f a)).length := by unfold aM; rw [if_neg (fun w => by cases w.1)]
theorem PhJ_root {t a : Nat} {x : XL × Ty × Ty × List Dc} {l r : Et} : PhJ N cl rest io E lo H0 Sl h us Dk ds dm (.inner t x () l r) 0 0 a ↔ (tyC h N cl (UU us rest) x.2.1 (fR h 1378 a) ∧ tyC h N cl (UU us rest) x.2.2.1 (fR h 1382 a)) ∧ PhQ N cl rest io E lo H0 Sl h us Dk ds dm t x.1 x.2.2.2 l a := by
  unfold PhJ PhQ
  dsimp only
  rw [aX_0, show ((0 : Nat) == 1) = false from rfl, aM_0]
  exact ⟨fun w => ⟨w.1 (.inl rfl), w.2⟩, fun w => ⟨fun _ => w.1, w.2⟩⟩
/-- the root of a whole ex -/
theorem XCg_ex {L : Type} {lab : L → XL} {Φ : Std.DTreeMap.Internal.Impl L (fun _ => Unit) → Nat → Nat → Nat → Prop} {t d dp a : Nat} {x : L} {un : Unit} {l r : Std.DTreeMap.Internal.Impl L (fun _ => Unit)} (H : XCg lab Φ G h N cl U Sl fo mo (.inner t x un l r) d dp 0 0 a alo ahi) : exO h a (lab x).1 ∧ (alo ≤ a ∧ a < ahi) ∧ ahi ≤ hz h ∧ 0 < dp ∧ Φ (.inner t x () l r) 0 0 a := by
  rw [XCg_e] at H
  unfold XCb at H
  have hH : aH h t 0 0 a ahi = ahi := by unfold aH; rw [if_pos (.inl (.inl rfl))]
  have hD : aD t 0 0 dp = dp := by unfold aD; rw [if_pos (.inl rfl)]
  rw [aX_0, hH, hD] at H
  obtain ⟨⟨h1, h2, h3, h4, _⟩, h5, h6, h7⟩ := H
  refine ⟨⟨by omega, ?_⟩, ⟨h1, h2⟩, h4, h5, h6⟩
  by_cases t10 : t = 10
  · rw [if_pos t10] at h7
    obtain ⟨nc, _, na⟩ := h7
    unfold atC at na
    rw [if_neg (by intro w; omega)] at na
    rcases na.2 with w | w
    · have k := nc.1
      unfold aN at k
      rw [if_neg (by omega)] at k
      exact ⟨by omega, k.2.1⟩
    · exact ⟨by omega, w.2.1⟩
  rw [if_neg t10] at h7
  by_cases t11 : t = 11
  · rw [if_pos t11] at h7
    exact ⟨by omega, h7.2.2.1⟩
  rw [if_neg t11] at h7
  by_cases t12 : t = 12
  · rw [if_pos t12] at h7
    exact ⟨by omega, h7.2.2.1 (by omega)⟩
  rw [if_neg t12] at h7
  by_cases t13 : t = 13
  · rw [if_pos t13] at h7
    exact ⟨by omega, h7.2.2.1 (by omega)⟩
  rw [if_neg t13] at h7
  by_cases t18 : t = 18
  · rw [if_pos t18] at h7
    exact ⟨by omega, h7.2.1 (by omega)⟩
  rw [if_neg t18] at h7
  obtain ⟨_, g1, g2⟩ := h7
  refine ⟨?_, g1⟩
  by_cases t14 : t = 14
  · rw [if_pos t14] at g2; omega
  rw [if_neg t14] at g2
  by_cases t15 : t = 15
  · rw [if_pos t15] at g2; omega
  rw [if_neg t15] at g2
  cases r with
  | leaf => exact g2.elim
  | inner t' y u' r1 r2 =>
    obtain ⟨_, g3⟩ := g2
    by_cases t16 : t = 16
    · rw [if_pos t16] at g3; omega
    rw [if_neg t16] at g3
    by_cases t17 : t = 17
    · rw [if_pos t17] at g3; omega
    rw [if_neg t17] at g3
    exact g3.elim
theorem XCb_true {L : Type} {lab : L → XL} {Φ : Std.DTreeMap.Internal.Impl L (fun _ => Unit) → Nat → Nat → Nat → Prop} {W : Std.DTreeMap.Internal.Impl L (fun _ => Unit) → Nat → Nat → Nat → Nat → Nat → Nat → Nat → Prop} {t d dp md m a : Nat} {x x' : L} {l r : Std.DTreeMap.Internal.Impl L (fun _ => Unit)} (el : lab x' = lab x) (H : XCb lab Φ G h N cl U Sl fo mo W t x l r d dp md m a alo ahi) : XCb lab (fun _ _ _ _ => True) G h N cl U Sl fo mo W t x' l r d dp md m a alo ahi := by
  unfold XCb at H ⊢
  rw [el]
  exact ⟨H.1, H.2.1, trivial, H.2.2.2⟩
theorem SRf_78 : 1378 ∉ SRf ∧ 1382 ∉ SRf ∧ 1510 ∉ SRf ∧ 1514 ∉ SRf := by decide
/-- a field of the root is written, all else being there -/
theorem XJ_fin (nd : ndN N) (H : JQ G N cl tb l0 sc rest Gx io E jg Lb h us fs Dk ds dm Sl Γ s.1) (C : JCE N cl fo mo E h (UU us rest) Sl) (h300 : s.1 ≤ 300) (hl : lo ≤ dm ∧ H0 ≤ hz h) (hh : ahi ≤ H0) {f t d dp a v : Nat} (hf : f = 1378 ∨ f = 1382) {x : XL × Ty × Ty × List Dc} {un : Unit} {l r : Et} (ka : a < hz h ∧ 24 ≤ kd h a ∧ kd h a ≤ 32) (Bx : XCb Prod.fst (fun _ _ _ _ => True) G h N cl (UU us rest) Sl fo mo (XCg Prod.fst (PhJ N cl rest io E lo H0 Sl h us Dk ds dm) G h N cl (UU us rest) Sl fo mo) t x l r d dp 0 0 a alo ahi) (R : (tyC h N cl (UU us rest) x.2.1 (fR (sR h f a v) 1378 a) ∧ tyC h N cl (UU us rest) x.2.2.1 (fR (sR h f a v) 1382 a)) ∧ PhQ N cl rest io E lo H0 Sl h us Dk ds dm t x.1 x.2.2.2 l a) (ra : alo ≤ a ∧ a < ahi) : XCg Prod.fst (PhJ N cl rest io E lo H0 Sl (sR h f a v) us Dk ds dm) G (sR h f a v) N cl (UU us rest) Sl fo mo (.inner t x un l r) d dp 0 0 a alo ahi ∧ CX G N cl tb l0 sc rest Gx io fo mo E jg Lb lo H0 h us fs Dk ds dm Sl s a (a + 1) (sR h f a v) us fs Dk ds dm Sl Γ s 0 0 0 0 := by
  have hfs : f ∉ SRf := by rcases hf with w | w <;> (rw [w]; decide)
  have A := CX_sR (lo := lo) (H0 := H0) (fo := fo) (mo := mo) (x := v) nd H C h300 hl hfs ka.1 (by unfold dyK; omega) (by omega)
  have X := CX_hS A
  have kp := CX_ty A
  have P := H.1.2.1
  have dl := dm_le H
  have ne : ∀ g b, b ≠ a → fR (sR h f a v) g b = fR h g b := fun g b hb => fR_na hb
  have nf : ∀ g, g ≠ 1378 → g ≠ 1382 → fR (sR h f a v) g a = fR h g a := fun g h1 h2 => fR_ne (by rcases hf with w | w <;> omega)
  have nA : ∀ b, fR (sR h f a v) 1482 b = fR h 1482 b := fun b => by
    by_cases e : b = a
    · rw [e]; exact nf _ (by decide) (by decide)
    · exact ne _ _ e
  have nodes : ∀ t x l r md m a', (md ≠ 0 → a' < hz h ∧ (kd h a' = 30 ∨ kd h a' = 32)) → (alo ≤ aX h t md m a' ∧ aX h t md m a' < ahi ∧ aX h t md m a' < hz h) → (24 ≤ kd h (aX h t md m a') ∧ kd h (aX h t md m a') ≤ 32 ∧ kd h (aX h t md m a') ≠ 31) → (t = 12 → Sl (fR h 1494 (aX h t md m a')) ∧ fR h 1494 (aX h t md m a') < hz h ∧ ∀ i, (ll h (fR h 1494 (aX h t md m a')))[aM h 1494 (md == 1) m (aX h t md m a') - 1]? = some i → alo ≤ i ∧ i < ahi ∧ i < hz h ∧ kd h i = 31) → (t = 10 → alo ≤ aN h (aX h t md m a') ∧ aN h (aX h t md m a') < ahi ∧ aN h (aX h t md m a') < hz h ∧ kd h (aN h (aX h t md m a')) = 28) → (aX h t md m a' = a → md ≠ 0 ∧ a' = a ∧ aO t md m) → PhJ N cl rest io E lo H0 Sl h us Dk ds dm (.inner t x () l r) md m a' → PhJ N cl rest io E lo H0 Sl (sR h f a v) us Dk ds dm (.inner t x () l r) md m a' := fun t x l r md m a' hm g1 g2 g3 g10 g4 φ => by
    have fo' : ∀ g, g ≠ 1378 → g ≠ 1382 → fR (sR h f a v) g (aX h t md m a') = fR h g (aX h t md m a') := fun g h1 h2 => by
      by_cases e : aX h t md m a' = a
      · rw [e]; exact nf g h1 h2
      · exact ne g _ e
    refine PhJ_node P A ⟨by omega, by omega⟩ hm g1.2.2 (fun w => ?_) (fun _ => nA _) (fun w => ?_) φ
    · have e : aX h t md m a' ≠ a := fun e => by
        obtain ⟨y1, _, y3⟩ := g4 e
        rcases w with w | w
        · exact y1 w
        · exact w.2 y3
      exact ⟨ne _ _ e, ne _ _ e⟩
    · obtain ⟨y1, y2, y3⟩ := g3 w
      refine ⟨⟨y1, y2, fo' _ (by decide) (by decide)⟩, fun i ei => ?_⟩
      obtain ⟨_, _, z3, z4⟩ := y3 i ei
      by_cases e : i = a
      · rw [e]; exact ⟨nf _ (by decide) (by decide), nf _ (by decide) (by decide)⟩
      · exact ⟨ne _ _ e, ne _ _ e⟩
  have ih := fun (t : Et) d dp md m a' alo' ahi' => XCg_keep (G := G) (lab := Prod.fst) (fo := fo) (mo := mo) X (fun _ w => w) kp alo ahi a nodes t d dp md m a' alo' ahi'
  refine ⟨?_, A⟩
  rw [XCg_e]
  refine XCb_keep (W := XCg Prod.fst (PhJ N cl rest io E lo H0 Sl h us Dk ds dm) G h N cl (UU us rest) Sl fo mo) (W' := XCg Prod.fst (PhJ N cl rest io E lo H0 Sl (sR h f a v) us Dk ds dm) G (sR h f a v) N cl (UU us rest) Sl fo mo) X (fun _ w => w) kp (c := a) rfl (fun z => absurd rfl z) (.inr rfl) (fun w => ⟨(XCg_rng w).1, (XCg_lt w).1⟩) (fun _ g2 g3 _ _ _ => ?_) (fun d dp md' m a' alo' ahi' k1 k2 k3 k4 w => ih _ d dp md' m a' alo' ahi' k1 k2 k3 k4 w) (fun d dp a' alo' ahi' k1 k2 k4 w => ih _ d dp 0 0 a' alo' ahi' k1 k2 (fun z => absurd rfl z) (.inl k4) w) (fun t' y u r1 r2 er => ⟨fun d dp a' alo' ahi' k1 k2 k4 w => ih _ d dp 0 0 a' alo' ahi' k1 k2 (fun z => absurd rfl z) (.inl k4) w, fun d dp a' alo' ahi' k1 k2 k4 w => ih _ d dp 0 0 a' alo' ahi' k1 k2 (fun z => absurd rfl z) (.inl k4) w⟩) Bx
  refine PhJ_root.mpr ⟨⟨kp _ _ R.1.1, kp _ _ R.1.2⟩, fun w => ?_, fun w i ei => ?_⟩
  · obtain ⟨evs, r1, r2, r3, rB⟩ := R.2.1 w
    refine ⟨evs, ?_, ⟨r2.1, fun i y D f1 f2 => evC_keep P A.2.2.2.1.1 (.inr (by have := r3 y (List.mem_of_getElem? f1); omega)) (by omega) (r2.2 i y D f1 f2)⟩, r3, btX_keep kp rB⟩
    rw [aN_keep X ka.1]
    unfold rsJ
    rw [nA]
    exact r1
  · rw [nf 1494 (by decide) (by decide)] at ei
    have i1 := R.2.2 w i ei
    rw [aX_0] at g3
    obtain ⟨_, _, y3⟩ := g3 w
    rw [show ((0 : Nat) == 1) = false from rfl, aM_0] at y3
    obtain ⟨_, _, _, z4⟩ := y3 i ei
    by_cases e : i = a
    · rw [e] at i1 ⊢
      rw [nf _ (by decide) (by decide), nf _ (by decide) (by decide)]
      exact ⟨kp _ _ i1.1, kp _ _ i1.2⟩
    · rw [ne _ _ e, ne _ _ e]
      exact ⟨kp _ _ i1.1, kp _ _ i1.2⟩
theorem tset_l {a p : Nat} {X : Option ((Nat ⊕ Nat) × om_H)} (e : X = some (.inl p, h)) : tset G r a X = some (.inl p, h) := by rw [e]; rfl
theorem tset_r {a p : Nat} {X : Option ((Nat ⊕ Nat) × om_H)} (e : X = some (.inr p, h)) (k : ∃ k ∈ om_exk, kd h a = k + 1) : tset G r a X = some (.inr p, sR h 1378 a p) := by
  rw [e]
  unfold tset
  rw [xc_v, gd_pos k]
  unfold C_37_typeOf_202
  rw [gd_pos (show ∃ k ∈ om_exk, kd (sR h 1378 a p) a = k + 1 from k), fR_eq]
/-- the type is written, as a whole -/
theorem c_tset (nd : ndN N) {t : Xt} {zz : (Nat × Nat) ⊕ (Et × JS)} {dp a : Nat} {v : Nat ⊕ Nat} {X : Option ((Nat ⊕ Nat) × om_H)} (e : X = some (v, h1)) (ka : exO h a tot) (ra : alo ≤ a ∧ a < ahi) (hh : ahi ≤ H0) (O : JCQ G N cl tb l0 sc rest Gx io fo mo E jg Lb lo H0 t Γ s zz h us fs Dk ds dm Sl dp a alo ahi v h1 us1 fs1 Dk1 ds1 dm1) : ∃ (v : Nat ⊕ Nat) (h' : om_H) (us' fs' : List Nat) (Dk' : Nat → Prop) (ds' : List Nat) (dm' : Nat), tset G r a X = some (v, h') ∧ JCO G N cl tb l0 sc rest Gx io fo mo E jg Lb lo H0 t Γ s zz h us fs Dk ds dm Sl dp a alo ahi v h' us' fs' Dk' ds' dm' := by
  obtain ⟨o1, o2⟩ := O
  cases zz with
  | inl kp =>
    obtain ⟨a', f1, f2⟩ := o1 kp.1 kp.2 rfl
    subst f1
    refine ⟨_, h1, us1, fs1, Dk1, ds1, dm1, tset_l e, fun k p w => ?_, fun e s' w => by cases w⟩
    have w' := Sum.inl.inj w
    rw [w'] at f2
    exact ⟨a', rfl, f2⟩
  | inr pp =>
    obtain ⟨x, Sl1, tg, lb, T, ev, el, er, f1, f2, f3, f4, f5, f6, f7⟩ := o2 pp.1 pp.2 rfl
    subst f1
    have X0 := CX_hS f2
    have k1 : kd h1 a = kd h a := X0.2.1 _ ka.1
    have kex : ∃ k ∈ om_exk, kd h1 a = k + 1 := by rw [k1]; exact exO_k ka
    obtain ⟨g1, g2⟩ := XJ_fin (un := ()) (f := 1378) (v := x) nd f2.2.1.1 f2.2.1.2 f2.2.2.1.2 f2.2.2.2.2.2 hh (.inl rfl) ⟨Nat.lt_of_lt_of_le ka.1 X0.1, by rw [k1]; exact ka.2.1.1, by rw [k1]; exact ka.2.1.2.1⟩ f4 ⟨⟨by rw [fR_eq]; exact f5, by rw [fR_ne (by decide), f6]; rfl⟩, f7⟩ ra
    have A := CX_trans f2 g2 (by omega) (by omega)
    refine ⟨_, sR h1 1378 a x, us1, fs1, Dk1, ds1, dm1, tset_r e kex, fun k p w => (by cases w), fun e' s' w => ?_⟩
    have w' := Sum.inr.inj w
    rw [w'] at f3 A
    have f3' : e' = en tg lb T .leaf ev el er := f3
    refine ⟨x, Sl1, rfl, A, ?_, ?_, ?_⟩
    · rw [f3']; exact g1
    · rw [f3']; exact CX_ty g2 _ _ f5
    · rw [f3']; rfl
end LJR
