set_option maxRecDepth 100000
/-! THE COMPONENT's judge: exs before and behind judging; one step after another -/
/-- nothing is known of an ex yet -/
noncomputable def Ph0 (h : om_H) : Xt → Nat → Nat → Nat → Prop
  | .leaf, _, _, _ => False
  | .inner t _ _ _ _, md, m, a => ((md = 0 ∨ ¬ aO t md m) ∧ ¬ (t = 10 ∧ md = 1 ∧ kd h (aX h t md m a) = 28) → fR h 1382 (aX h t md m a) = 0) ∧ (t = 10 → fR h 1482 (aN h (aX h t md m a)) = 0)
/-- the type that an ex is used at -/
def eCt : Et → Ty
  | .leaf => .leaf
  | .inner _ a _ _ _ => match a.2.2.1 with
    | .leaf => a.2.1
    | .inner k w u l r => .inner k w u l r
/-- not cast -/
def eC0 : Et → Prop
  | .leaf => False
  | .inner _ a _ _ _ => a.2.2.1 = .leaf
/-- the reasons of a name that is judged -/
def rsJ (h : om_H) (Sl : Nat → Prop) (nm : Nat) (evs : List Nat) : Prop := (evs = [] ∧ fR h 1482 nm = 0) ∨ (evs ≠ [] ∧ fR h 1482 nm ≠ 0 ∧ Sl (fR h 1482 nm) ∧ fR h 1482 nm < hz h ∧ kd h (fR h 1482 nm) = 42 ∧ ll h (fR h 1482 nm) = evs)
/-- what judging has written -/
noncomputable def PhJ (N : List (List Int)) (cl : Nat → Nat) (rest : List (Nat × List Nat)) (io : Nat → Nat) (E : JE) (lo H0 : Nat) (Sl : Nat → Prop) (h : om_H) (us : List Nat) (Dk : Nat → Prop) (ds : List Nat) (dm : Nat) : Et → Nat → Nat → Nat → Prop
  | .leaf, _, _, _ => False
  | .inner t x _ l _, md, m, a => ((md = 0 ∨ (md = 2 ∧ ¬ aO t md m)) → tyC h N cl (UU us rest) x.2.1 (fR h 1378 (aX h t md m a)) ∧ tyC h N cl (UU us rest) x.2.2.1 (fR h 1382 (aX h t md m a))) ∧ (t = 10 → ∃ evs, rsJ h Sl (aN h (aX h t md m a)) evs ∧ evLs N cl rest io E lo h us Dk ds dm x.2.2.2 evs ∧ (∀ y ∈ evs, H0 ≤ y) ∧ btX h N cl (UU us rest) x.1) ∧ (t = 12 → ∀ i, (ll h (fR h 1494 (aX h t md m a)))[aM h 1494 (md == 1) m (aX h t md m a) - 1]? = some i → tyC h N cl (UU us rest) (eTy l) (fR h 1510 i) ∧ tyC h N cl (UU us rest) (eCt l) (fR h 1514 i))
/-- how many exs; how many types -/
def xnN : Xt → Nat
  | .leaf => 0
  | .inner _ _ _ l r => 1 + xnN l + xnN r
def jcC (E : JE) : Xt → Nat
  | .leaf => 0
  | .inner t lb _ l r => (if t = 10 then nCs E lb else 4) + jcC E l + jcC E r
/-- so far without a fault -/
def CX (G : om_G) (N : List (List Int)) (cl : Nat → Nat) (tb l0 sc : Nat) (rest : List (Nat × List Nat)) (Gx : Nat → Prop) (io fo mo : Nat → Nat) (E : JE) (jg Lb lo H0 : Nat) (h : om_H) (us fs : List Nat) (Dk : Nat → Prop) (ds : List Nat) (dm : Nat) (Sl : Nat → Prop) (s : JS) (alo ahi : Nat) (h1 : om_H) (us1 fs1 : List Nat) (Dk1 : Nat → Prop) (ds1 : List Nat) (dm1 : Nat) (Sl1 : Nat → Prop) (Γ1 : List Ty) (s1 : JS) (q z u n : Nat) : Prop := (∀ a, Sl a → Sl1 a) ∧ (JQ G N cl tb l0 sc rest Gx io E jg Lb h1 us1 fs1 Dk1 ds1 dm1 Sl1 Γ1 s1.1 ∧ JCE N cl fo mo E h1 (UU us1 rest) Sl1) ∧ (s.1 ≤ s1.1 ∧ s1.1 ≤ 300) ∧ KRm N cl tb l0 sc rest Gx Lb Sl alo ahi h us fs Dk ds dm h1 us1 fs1 Dk1 ds1 dm1 q z u n (s1.1 - s.1) ∧ tsD N cl rest s.2 s1.2 h1 us1 ∧ (lo ≤ dm1 ∧ H0 ≤ hz h1)
section LCX
variable {G : om_G} {N : List (List Int)} {cl : Nat → Nat} {tb l0 sc jg Lb : Nat} {rest : List (Nat × List Nat)} {Sl Sl1 Sl2 Gx U U' : Nat → Prop} {io fo mo : Nat → Nat} {E : JE} {B lo H0 : Nat} {Γ Γ1 Γ2 : List Ty} {tot q z u n q1 z1 u1 n1 alo ahi alo1 ahi1 : Nat} {s s1 s2 : JS} {h : om_H} {us fs : List Nat} {Dk : Nat → Prop} {ds : List Nat} {dm : Nat} {h1 : om_H} {us1 fs1 : List Nat} {Dk1 : Nat → Prop} {ds1 : List Nat} {dm1 : Nat} {h2 : om_H} {us2 fs2 : List Nat} {Dk2 : Nat → Prop} {ds2 : List Nat} {dm2 : Nat}
theorem JCE_more (m : ∀ a, Sl a → Sl1 a) (H : JCE N cl fo mo E h U Sl) : JCE N cl fo mo E h U Sl1 := by
  refine ⟨fun i f e => ?_, fun i k e => ?_⟩
  · obtain ⟨a1, ⟨a4, a5⟩, ⟨g1, ⟨g2, g2'⟩, g3⟩, a7⟩ := H.1 i f e
    exact ⟨a1, ⟨m _ a4, a5⟩, ⟨g1, ⟨m _ g2, g2'⟩, g3⟩, a7⟩
  · obtain ⟨a1, a2, ⟨a6, a7⟩, a8⟩ := H.2 i k e
    exact ⟨a1, a2, ⟨m _ a6, a7⟩, a8⟩
theorem CX_refl (H : JQ G N cl tb l0 sc rest Gx io E jg Lb h us fs Dk ds dm Sl Γ s.1) (C : JCE N cl fo mo E h (UU us rest) Sl) (h300 : s.1 ≤ 300) (hl : lo ≤ dm ∧ H0 ≤ hz h) : CX G N cl tb l0 sc rest Gx io fo mo E jg Lb lo H0 h us fs Dk ds dm Sl s alo ahi h us fs Dk ds dm Sl Γ s 0 0 0 0 := ⟨fun _ w => w, ⟨H, C⟩, ⟨Nat.le_refl _, h300⟩, KR_KJ (KJ_refl H.1.2.1) (Nat.zero_le _), tsD_refl, hl⟩
theorem KR_less (m : ∀ a, Sl a → Sl1 a) {d : Nat} (K : KRm N cl tb l0 sc rest Gx Lb Sl1 alo ahi h us fs Dk ds dm h1 us1 fs1 Dk1 ds1 dm1 q z u n d) : KRm N cl tb l0 sc rest Gx Lb Sl alo ahi h us fs Dk ds dm h1 us1 fs1 Dk1 ds1 dm1 q z u n d := ⟨KJ_mono K.1 m (Nat.le_refl _) (Nat.le_refl _), K.2⟩
theorem CX_trans (A : CX G N cl tb l0 sc rest Gx io fo mo E jg Lb lo H0 h us fs Dk ds dm Sl s alo ahi h1 us1 fs1 Dk1 ds1 dm1 Sl1 Γ1 s1 q z u n) (C : CX G N cl tb l0 sc rest Gx io fo mo E jg Lb lo H0 h1 us1 fs1 Dk1 ds1 dm1 Sl1 s1 alo1 ahi1 h2 us2 fs2 Dk2 ds2 dm2 Sl2 Γ2 s2 q1 z1 u1 n1) (r1 : alo ≤ alo1) (r2 : ahi1 ≤ ahi) : CX G N cl tb l0 sc rest Gx io fo mo E jg Lb lo H0 h us fs Dk ds dm Sl s alo ahi h2 us2 fs2 Dk2 ds2 dm2 Sl2 Γ2 s2 (q + q1) (z + z1) (u + u1) (n + n1) := by
  obtain ⟨a1, a2, a3, a4, a5, a6⟩ := A
  obtain ⟨c1, c2, c3, c4, c5, c6⟩ := C
  exact ⟨fun a w => c1 a (a1 a w), c2, ⟨by omega, c3.2⟩, KR_le (KR_trans a4 (KR_less a1 (KR_mono c4 r1 r2))) (Nat.le_refl _) (Nat.le_refl _) (Nat.le_refl _) (Nat.le_refl _) (by omega), tsD_trans a5 (KJ_ty c4.1) c5, c6⟩
theorem CX_le (A : CX G N cl tb l0 sc rest Gx io fo mo E jg Lb lo H0 h us fs Dk ds dm Sl s alo ahi h1 us1 fs1 Dk1 ds1 dm1 Sl1 Γ1 s1 q z u n) (l1 : q ≤ q1) (l2 : z ≤ z1) (l3 : u ≤ u1) (l4 : n ≤ n1) : CX G N cl tb l0 sc rest Gx io fo mo E jg Lb lo H0 h us fs Dk ds dm Sl s alo ahi h1 us1 fs1 Dk1 ds1 dm1 Sl1 Γ1 s1 q1 z1 u1 n1 := ⟨A.1, A.2.1, A.2.2.1, KR_le A.2.2.2.1 l1 l2 l3 l4 (Nat.le_refl _), A.2.2.2.2⟩
theorem CX_mono (A : CX G N cl tb l0 sc rest Gx io fo mo E jg Lb lo H0 h us fs Dk ds dm Sl s alo1 ahi1 h1 us1 fs1 Dk1 ds1 dm1 Sl1 Γ1 s1 q z u n) (r1 : alo ≤ alo1) (r2 : ahi1 ≤ ahi) : CX G N cl tb l0 sc rest Gx io fo mo E jg Lb lo H0 h us fs Dk ds dm Sl s alo ahi h1 us1 fs1 Dk1 ds1 dm1 Sl1 Γ1 s1 q z u n := ⟨A.1, A.2.1, A.2.2.1, KR_mono A.2.2.2.1 r1 r2, A.2.2.2.2⟩
/-- and then a fault -/
theorem CX_F {k p a : Nat} (A : CX G N cl tb l0 sc rest Gx io fo mo E jg Lb lo H0 h us fs Dk ds dm Sl s alo ahi h1 us1 fs1 Dk1 ds1 dm1 Sl1 Γ1 s1 q z u n) (F : JF G N cl tb l0 sc rest Gx Lb Sl1 alo1 ahi1 h1 us1 fs1 Dk1 ds1 dm1 h2 us2 fs2 Dk2 ds2 dm2 q1 z1 u1 n1 s1.1 k p a) (r1 : alo ≤ alo1) (r2 : ahi1 ≤ ahi) : JF G N cl tb l0 sc rest Gx Lb Sl alo ahi h us fs Dk ds dm h2 us2 fs2 Dk2 ds2 dm2 (q + q1) (z + z1) (u + u1) (n + n1) s.1 k p a := JF_trans A.2.2.2.1 A.2.2.1 ⟨⟨F.1.1, PoolC_less A.1 F.1.2⟩, F.2.1, KR_less A.1 (KR_mono F.2.2 r1 r2)⟩
theorem CX_R {Q M : Nat} (A : CX G N cl tb l0 sc rest Gx io fo mo E jg Lb lo H0 h us fs Dk ds dm Sl s alo ahi h1 us1 fs1 Dk1 ds1 dm1 Sl1 Γ1 s1 q z u n) (R : RmJ us fs ds dm s.1 Q M) (h1' : q + q1 ≤ Q) (h2' : n + n1 ≤ M) : RmJ us1 fs1 ds1 dm1 s1.1 q1 n1 := RmJ_next (RmJ_le R h1' h2') A.2.2.2.1 A.2.2.1
theorem CX_hS (A : CX G N cl tb l0 sc rest Gx io fo mo E jg Lb lo H0 h us fs Dk ds dm Sl s alo ahi h1 us1 fs1 Dk1 ds1 dm1 Sl1 Γ1 s1 q z u n) : hS Sl h h1 := KJ_hS A.2.2.2.1.1
theorem CX_ty (A : CX G N cl tb l0 sc rest Gx io fo mo E jg Lb lo H0 h us fs Dk ds dm Sl s alo ahi h1 us1 fs1 Dk1 ds1 dm1 Sl1 Γ1 s1 q z u n) : ∀ T a, tyC h N cl (UU us rest) T a → tyC h1 N cl (UU us1 rest) T a := KJ_ty A.2.2.2.1.1
theorem CX_eq (A : CX G N cl tb l0 sc rest Gx io fo mo E jg Lb lo H0 h us fs Dk ds dm Sl s alo ahi h1 us1 fs1 Dk1 ds1 dm1 Sl1 Γ1 s1 q z u n) {a : Nat} (ha : a < hz h) (k : dyK (kd h a)) (o : a < alo ∨ ahi ≤ a) : eqA a h h1 := A.2.2.2.1.1.2.1.2.1 a ha k o
/-- a step of types -/
theorem CX_KF (H : JQ G N cl tb l0 sc rest Gx io E jg Lb h us fs Dk ds dm Sl Γ s.1) (C : JCE N cl fo mo E h (UU us rest) Sl) (K : KF N cl tb l0 rest h us fs h1 us1 fs1 q z u) (F : FnQ G h1 N cl tb l0 sc us1 fs1 rest Sl io E.2.2.1 E.2.2.2.1 E.2.2.2.2 s1.1) (hs : s.1 ≤ s1.1 ∧ s1.1 ≤ 300) (hq : q ≤ q1 + 142 * (s1.1 - s.1)) (D : tsD N cl rest s.2 s1.2 h1 us1) (hl : lo ≤ dm ∧ H0 ≤ hz h) : CX G N cl tb l0 sc rest Gx io fo mo E jg Lb lo H0 h us fs Dk ds dm Sl s alo ahi h1 us1 fs1 Dk ds dm Sl Γ s1 q1 z u 0 := by
  obtain ⟨K1, Q1⟩ := JQ_KF (alo := alo) (ahi := ahi) H K F.1
  exact ⟨fun _ w => w, ⟨Q1 _ F, JCE_keep (KJ_hS K1) (KJ_ty K1) C⟩, hs, KR_KJ K1 hq, D, ⟨hl.1, Nat.le_trans hl.2 (KJ_hS K1).1⟩⟩
/-- a step of types that counts nothing -/
theorem CX_KF0 (H : JQ G N cl tb l0 sc rest Gx io E jg Lb h us fs Dk ds dm Sl Γ s.1) (C : JCE N cl fo mo E h (UU us rest) Sl) (K : KF N cl tb l0 rest h us fs h1 us1 fs1 q z u) (F : FnQ G h1 N cl tb l0 sc us1 fs1 rest Sl io E.2.2.1 E.2.2.2.1 E.2.2.2.2 s.1) (h300 : s.1 ≤ 300) (hl : lo ≤ dm ∧ H0 ≤ hz h) : CX G N cl tb l0 sc rest Gx io fo mo E jg Lb lo H0 h us fs Dk ds dm Sl s alo ahi h1 us1 fs1 Dk ds dm Sl Γ s q z u 0 := CX_KF H C K F ⟨Nat.le_refl _, h300⟩ (by omega) tsD_refl hl
/-- a step that leaves the types -/
theorem CX_KJ (H : JQ G N cl tb l0 sc rest Gx io E jg Lb h1 us fs Dk ds dm Sl Γ1 s.1) (C : JCE N cl fo mo E h (UU us rest) Sl) (K : KJ N cl tb l0 sc rest Gx Lb Sl alo ahi h us fs Dk ds dm h1 us fs Dk ds dm 0 z u) (h300 : s.1 ≤ 300) (hl : lo ≤ dm ∧ H0 ≤ hz h) : CX G N cl tb l0 sc rest Gx io fo mo E jg Lb lo H0 h us fs Dk ds dm Sl s alo ahi h1 us fs Dk ds dm Sl Γ1 s 0 z u 0 := ⟨fun _ w => w, ⟨H, JCE_keep (KJ_hS K) (KJ_ty K) C⟩, ⟨Nat.le_refl _, h300⟩, KR_KJ K (by omega), tsD_refl, ⟨hl.1, Nat.le_trans hl.2 (KJ_hS K).1⟩⟩
/-- a field of an ex -/
theorem CX_sR (nd : ndN N) (H : JQ G N cl tb l0 sc rest Gx io E jg Lb h us fs Dk ds dm Sl Γ s.1) (C : JCE N cl fo mo E h (UU us rest) Sl) (h300 : s.1 ≤ 300) (hl : lo ≤ dm ∧ H0 ≤ hz h) {f a x : Nat} (hf : f ∉ SRf) (ha : a < hz h) (hk : dyK (kd h a)) (hj : kd h a ≠ 37) : CX G N cl tb l0 sc rest Gx io fo mo E jg Lb lo H0 h us fs Dk ds dm Sl s a (a + 1) (sR h f a x) us fs Dk ds dm Sl Γ s 0 0 0 0 := by
  obtain ⟨w1, w2⟩ := JQ_sR (x := x) nd H hf ha hk hj
  exact CX_KJ w1 C w2 h300 hl
/-- unjudged exs stay -/
theorem Ph0_keep (A : CX G N cl tb l0 sc rest Gx io fo mo E jg Lb lo H0 h us fs Dk ds dm Sl s alo1 ahi1 h1 us1 fs1 Dk1 ds1 dm1 Sl1 Γ1 s1 q z u n) {t : Xt} {d dp md m a : Nat} (o : ahi ≤ alo1 ∨ ahi1 ≤ alo) (hm : md ≠ 0 → a < hz h ∧ (kd h a = 30 ∨ kd h a = 32)) (H : XCg id (Ph0 h) G h N cl (UU us rest) Sl fo mo t d dp md m a alo ahi) : XCg id (Ph0 h1) G h1 N cl (UU us1 rest) Sl1 fo mo t d dp md m a alo ahi := by
  have X := CX_hS A
  refine XCg_keep X A.1 (CX_ty A) alo ahi ahi (fun t x l r md m a hm g1 g2 _ g10 _ φ => ?_) t d dp md m a alo ahi (Nat.le_refl _) (Nat.le_refl _) hm (.inl (.inr (Nat.le_refl _))) H
  have ea := aX_keep (t := t) (m := m) X hm
  have e := CX_eq A g1.2.2 (by unfold dyK; omega) (by omega)
  obtain ⟨φ1, φ2⟩ := φ
  refine ⟨fun w => ?_, fun w => ?_⟩
  · rw [ea, e.1] at w
    rw [ea, e.2.2.1]; exact φ1 w
  · obtain ⟨z1, z2, z3, z4⟩ := g10 w
    have e' := CX_eq A z3 (by unfold dyK; omega) (by omega)
    rw [ea, aN_keep X g1.2.2, e'.2.2.1]; exact φ2 w
/-- judged exs stay -/
theorem PhJ_node (P : PoolC G h tb Sl Dk ds dm) (A : CX G N cl tb l0 sc rest Gx io fo mo E jg Lb lo H0 h us fs Dk ds dm Sl s alo1 ahi1 h1 us1 fs1 Dk1 ds1 dm1 Sl1 Γ1 s1 q z u n) (hl : lo ≤ ds.length ∧ ahi1 ≤ H0) {t md m a : Nat} {x : XL × Ty × Ty × List Dc} {l r : Et} (hm : md ≠ 0 → a < hz h ∧ (kd h a = 30 ∨ kd h a = 32)) (hb : aX h t md m a < hz h) (e1 : (md = 0 ∨ (md = 2 ∧ ¬ aO t md m)) → fR h1 1378 (aX h t md m a) = fR h 1378 (aX h t md m a) ∧ fR h1 1382 (aX h t md m a) = fR h 1382 (aX h t md m a)) (e2 : t = 10 → fR h1 1482 (aN h (aX h t md m a)) = fR h 1482 (aN h (aX h t md m a))) (e3 : t = 12 → (Sl (fR h 1494 (aX h t md m a)) ∧ fR h 1494 (aX h t md m a) < hz h ∧ fR h1 1494 (aX h t md m a) = fR h 1494 (aX h t md m a)) ∧ ∀ i, (ll h (fR h 1494 (aX h t md m a)))[aM h 1494 (md == 1) m (aX h t md m a) - 1]? = some i → fR h1 1510 i = fR h 1510 i ∧ fR h1 1514 i = fR h 1514 i) (φ : PhJ N cl rest io E lo H0 Sl h us Dk ds dm (.inner t x () l r) md m a) : PhJ N cl rest io E lo H0 Sl1 h1 us1 Dk1 ds1 dm1 (.inner t x () l r) md m a := by
  have X := CX_hS A
  have kp := CX_ty A
  have ea := aX_keep (t := t) (m := m) X hm
  obtain ⟨φ1, φ2, φ3⟩ := φ
  unfold PhJ
  dsimp only
  rw [ea, aN_keep X hb]
  generalize aX h t md m a = b at *
  refine ⟨fun w => ?_, fun w => ?_, fun w i ei => ?_⟩
  · obtain ⟨y1, y2⟩ := e1 w
    rw [y1, y2]
    exact ⟨kp _ _ (φ1 w).1, kp _ _ (φ1 w).2⟩
  · obtain ⟨evs, r1, r2, r3, rB⟩ := φ2 w
    refine ⟨evs, ?_, ⟨r2.1, fun i y D f1 f2 => evC_keep P A.2.2.2.1.1 (.inr (Nat.le_trans hl.2 (r3 y (List.mem_of_getElem? f1)))) hl.1 (r2.2 i y D f1 f2)⟩, r3, btX_keep kp rB⟩
    unfold rsJ
    rw [e2 w]
    rcases r1 with v | ⟨v1, v2, v3, v4, v5, v6⟩
    · exact .inl v
    · exact .inr ⟨v1, v2, A.1 _ v3, Nat.lt_of_lt_of_le v4 X.1, by rw [X.2.1 _ v4]; exact v5, by rw [X.2.2.2.2 _ v4 v3]; exact v6⟩
  · obtain ⟨⟨y1, y2, y3⟩, y4⟩ := e3 w
    have eM : aM h1 1494 (md == 1) m b = aM h 1494 (md == 1) m b := aM_keep X y3 ⟨y1, y2⟩
    rw [eM, y3, X.2.2.2.2 _ y2 y1] at ei
    obtain ⟨y5, y6⟩ := y4 i ei
    rw [y5, y6]
    exact ⟨kp _ _ (φ3 w i ei).1, kp _ _ (φ3 w i ei).2⟩
theorem PhJ_keep (P : PoolC G h tb Sl Dk ds dm) (A : CX G N cl tb l0 sc rest Gx io fo mo E jg Lb lo H0 h us fs Dk ds dm Sl s alo1 ahi1 h1 us1 fs1 Dk1 ds1 dm1 Sl1 Γ1 s1 q z u n) (hl : lo ≤ ds.length ∧ ahi1 ≤ H0) {t : Et} {d dp md m a : Nat} (o : ahi ≤ alo1 ∨ ahi1 ≤ alo) (hm : md ≠ 0 → a < hz h ∧ (kd h a = 30 ∨ kd h a = 32)) (H : XCg Prod.fst (PhJ N cl rest io E lo H0 Sl h us Dk ds dm) G h N cl (UU us rest) Sl fo mo t d dp md m a alo ahi) : XCg Prod.fst (PhJ N cl rest io E lo H0 Sl1 h1 us1 Dk1 ds1 dm1) G h1 N cl (UU us1 rest) Sl1 fo mo t d dp md m a alo ahi := by
  have X := CX_hS A
  refine XCg_keep X A.1 (CX_ty A) alo ahi ahi (fun t x l r md m a hm g1 g2 g3 g10 _ φ => ?_) t d dp md m a alo ahi (Nat.le_refl _) (Nat.le_refl _) hm (.inl (.inr (Nat.le_refl _))) H
  have e := CX_eq A g1.2.2 (by unfold dyK; omega) (by omega)
  refine PhJ_node P A hl hm g1.2.2 (fun _ => ⟨e.2.2.1 _, e.2.2.1 _⟩) (fun w => ?_) (fun w => ?_) φ
  · obtain ⟨z1, z2, z3, z4⟩ := g10 w
    exact (CX_eq A z3 (by unfold dyK; omega) (by omega)).2.2.1 _
  obtain ⟨y1, y2, y3⟩ := g3 w
  refine ⟨⟨y1, y2, e.2.2.1 _⟩, fun i ei => ?_⟩
  obtain ⟨z1, z2, z3, z4⟩ := y3 i ei
  have ei' := CX_eq A z3 (by unfold dyK; omega) (by omega)
  exact ⟨ei'.2.2.1 _, ei'.2.2.1 _⟩
end LCX
