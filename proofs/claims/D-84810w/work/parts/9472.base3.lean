set_option maxRecDepth 100000
/-! BETWEEN FINDERS: exs stay; a judge's step; a new judge -/
section LBJ
variable {G : om_G} {N : List (List Int)} {cl : Nat → Nat} {tb l0 : Nat} {rest : List (Nat × List Nat)} {ss : List (Nat × List GVs)} {s : Nat × List GVs} {Sl Sl1 Gx W : Nat → Prop} {io fo mo : Nat → Nat} {ab : List (Option Nat)} {ins : List INs} {E : JE} {h h1 : om_H} {us fs us1 fs1 : List Nat} {Dk Dk1 : Nat → Prop} {ds ds1 : List Nat} {dm dm1 q z u tot tot1 alo ahi lo H0 Lb : Nat}
theorem KB_less (m : ∀ a, Sl a → Sl1 a) (A : KB N cl tb rest ss Sl1 Gx W h us fs Dk ds dm h1 us1 fs1 Dk1 ds1 dm1 q z u) : KB N cl tb rest ss Sl Gx W h us fs Dk ds dm h1 us1 fs1 Dk1 ds1 dm1 q z u := by
  obtain ⟨a1, a0, ad, au, ⟨a3, a3', a3b, a3c⟩, a4⟩ := A
  exact ⟨hS_less m a1, a0, ad, au, ⟨a3, a3', a3b, fun a ha w => a3c a ha (m a w)⟩, a4⟩
theorem KB_eq (K : KB N cl tb rest ss Sl Gx W h us fs Dk ds dm h1 us1 fs1 Dk1 ds1 dm1 q z u) {a : Nat} (ha : a < hz h) (k : dyK (kd h a)) (n : ¬ W a) : eqA a h h1 := by
  unfold dyK at k
  exact K.2.2.2.2.1.2.1 a ha (fun w => by omega) (fun w => by omega) (fun w => by omega) (fun w => by omega) (fun w => by omega) (fun _ => n) (by omega)
/-- unjudged exs stay -/
theorem Ph0_KB (K : KB N cl tb rest ss Sl Gx W h us fs Dk ds dm h1 us1 fs1 Dk1 ds1 dm1 q z u) (m1 : ∀ a, Sl a → Sl1 a) (nW : ∀ a, alo ≤ a → a < ahi → dyK (kd h a) → ¬ W a) {t : Xt} {d dp md m a : Nat} (hm : md ≠ 0 → a < hz h ∧ (kd h a = 30 ∨ kd h a = 32)) (H : XCg id (Ph0 h) G h N cl (UU us rest) Sl fo mo t d dp md m a alo ahi) : XCg id (Ph0 h1) G h1 N cl (UU us1 rest) Sl1 fo mo t d dp md m a alo ahi := by
  have X := K.1
  refine XCg_keep X m1 K.2.2.2.2.2.2.2.1 alo ahi ahi (fun t x l r md m a hm g1 g2 _ g10 _ φ => ?_) t d dp md m a alo ahi (Nat.le_refl _) (Nat.le_refl _) hm (.inl (.inr (Nat.le_refl _))) H
  have ea := aX_keep (t := t) (m := m) X hm
  have dk : dyK (kd h (aX h t md m a)) := by unfold dyK; omega
  have e := KB_eq K g1.2.2 dk (nW _ g1.1 g1.2.1 dk)
  obtain ⟨φ1, φ2⟩ := φ
  refine ⟨fun w => ?_, fun w => ?_⟩
  · rw [ea, e.1] at w
    rw [ea, e.2.2.1]; exact φ1 w
  · obtain ⟨z1, z2, z3, z4⟩ := g10 w
    have dk' : dyK 28 := by unfold dyK; omega
    rw [← z4] at dk'
    have e' := KB_eq K z3 dk' (nW _ z1 z2 dk')
    rw [ea, aN_keep X g1.2.2, e'.2.2.1]; exact φ2 w
theorem evC_KB {D : Dc} {y : Nat} (P : PoolC G h tb Sl Dk ds dm) (K : KB N cl tb rest ss Sl Gx W h us fs Dk ds dm h1 us1 fs1 Dk1 ds1 dm1 q z u) (o : ¬ W y) (hlo : lo ≤ ds.length) (C : evC N cl rest io E lo h us Dk ds dm D y) : evC N cl rest io E lo h1 us1 Dk1 ds1 dm1 D y := by
  obtain ⟨⟨c1, c2⟩, c3⟩ := C
  have e := KB_eq K c1 (by rw [c2]; unfold dyK; omega) o
  have kp := K.2.2.2.2.2.2.2.1
  refine ⟨⟨Nat.lt_of_lt_of_le c1 K.1.1, by rw [e.1]; exact c2⟩, ?_⟩
  rw [e.2.2.1, e.2.2.1, e.2.2.1]
  rcases c3 with ⟨d, d0, d1, d2, d3, d4⟩ | ⟨T, V, d1, d2, d3, d4⟩
  · exact .inl ⟨d, d0, d1, d2, d3, DcX_KB P K hlo d4.1, d4.2⟩
  · exact .inr ⟨T, V, d1, d2, kp _ _ d3, kp _ _ d4⟩
/-- judged exs stay -/
theorem PhJ_KB (P : PoolC G h tb Sl Dk ds dm) (K : KB N cl tb rest ss Sl Gx W h us fs Dk ds dm h1 us1 fs1 Dk1 ds1 dm1 q z u) (m1 : ∀ a, Sl a → Sl1 a) (nW : ∀ a, alo ≤ a → a < ahi → dyK (kd h a) → ¬ W a) (hl : lo ≤ ds.length ∧ ∀ y, H0 ≤ y → ¬ W y) {t : Et} {d dp md m a : Nat} (hm : md ≠ 0 → a < hz h ∧ (kd h a = 30 ∨ kd h a = 32)) (H : XCg Prod.fst (PhJ N cl rest io E lo H0 Sl h us Dk ds dm) G h N cl (UU us rest) Sl fo mo t d dp md m a alo ahi) : XCg Prod.fst (PhJ N cl rest io E lo H0 Sl1 h1 us1 Dk1 ds1 dm1) G h1 N cl (UU us1 rest) Sl1 fo mo t d dp md m a alo ahi := by
  have X := K.1
  have kp := K.2.2.2.2.2.2.2.1
  refine XCg_keep X m1 kp alo ahi ahi (fun t x l r md m a hm g1 g2 g3 g10 _ φ => ?_) t d dp md m a alo ahi (Nat.le_refl _) (Nat.le_refl _) hm (.inl (.inr (Nat.le_refl _))) H
  have dk : dyK (kd h (aX h t md m a)) := by unfold dyK; omega
  have e := KB_eq K g1.2.2 dk (nW _ g1.1 g1.2.1 dk)
  have ea := aX_keep (t := t) (m := m) X hm
  have eN := aN_keep X g1.2.2
  obtain ⟨φ1, φ2, φ3⟩ := φ
  unfold PhJ
  dsimp only
  rw [ea, eN]
  generalize aX h t md m a = b at *
  refine ⟨fun w => ?_, fun w => ?_, fun w i ei => ?_⟩
  · rw [e.2.2.1, e.2.2.1]
    exact ⟨kp _ _ (φ1 w).1, kp _ _ (φ1 w).2⟩
  · obtain ⟨evs, r1, r2, r3, rB⟩ := φ2 w
    obtain ⟨z1, z2, z3, z4⟩ := g10 w
    have dk' : dyK 28 := by unfold dyK; omega
    rw [← z4] at dk'
    have e' := KB_eq K z3 dk' (nW _ z1 z2 dk')
    refine ⟨evs, ?_, ⟨r2.1, fun i y D f1 f2 => evC_KB P K (hl.2 y (r3 y (List.mem_of_getElem? f1))) hl.1 (r2.2 i y D f1 f2)⟩, r3, btX_keep kp rB⟩
    unfold rsJ
    rw [e'.2.2.1]
    rcases r1 with v | ⟨v1, v2, v3, v4, v5, v6⟩
    · exact .inl v
    · exact .inr ⟨v1, v2, m1 _ v3, Nat.lt_of_lt_of_le v4 X.1, by rw [X.2.1 _ v4]; exact v5, by rw [X.2.2.2.2 _ v4 v3]; exact v6⟩
  · obtain ⟨y1, y2, y3⟩ := g3 w
    have eM : aM h1 1494 (md == 1) m b = aM h 1494 (md == 1) m b := aM_keep X (e.2.2.1 _) ⟨y1, y2⟩
    rw [eM, e.2.2.1, X.2.2.2.2 _ y2 y1] at ei
    obtain ⟨z1, z2, z3, z4⟩ := y3 i ei
    have dk' : dyK 31 := by unfold dyK; omega
    rw [← z4] at dk'
    have ei' := KB_eq K z3 dk' (nW _ z1 z2 dk')
    rw [ei'.2.2.1, ei'.2.2.1]
    exact ⟨kp _ _ (φ3 w i ei).1, kp _ _ (φ3 w i ei).2⟩
/-- A JUDGE's STEP, for all scopes -/
theorem BQ_KJ (H : BQ G h N cl tb us fs rest Sl Gx io ab ins ss Dk ds dm tot) (hs : s ∈ ss) (e210 : fR h 210 l0 = s.1) (hW : ∀ a, alo ≤ a → a < ahi → W a) (K : KJ N cl tb l0 s.1 rest (fun x => x ∈ ll h (fR h 166 s.1)) Lb Sl alo ahi h us fs Dk ds dm h1 us1 fs1 Dk1 ds1 dm1 q z u) : KB N cl tb rest ss Sl Gx W h us fs Dk ds dm h1 us1 fs1 Dk1 ds1 dm1 q z (u + 4 * lc h1 Lb) ∧ ∀ Sl1 tot1, (∀ a, Sl a → Sl1 a) → HvQ G h1 N cl tb l0 s.1 us1 fs1 rest Sl1 (fun x => x ∈ ll h (fR h 166 s.1)) io ab ins s.2 Dk1 ds1 dm1 tot1 → BQ G h1 N cl tb us1 fs1 rest Sl1 Gx io ab ins ss Dk1 ds1 dm1 tot1 := by
  obtain ⟨T, g, PG, t128, P, Sc, A⟩ := H
  obtain ⟨⟨z1, u1, KG1, rz, ru, _⟩, ⟨rwk, dy, sk⟩, dl⟩ := K
  obtain ⟨a1, a0, ad, au, ⟨a3, a3'⟩, a4, a5, a6, a7, p1, p2, p3, p4⟩ := KG1
  have el : ∀ t ∈ ss, fR h1 166 t.1 = fR h 166 t.1 ∧ ll h1 (fR h 166 t.1) = ll h (fR h 166 t.1) := fun t ht => GVC_ll (Sc t ht).1 a1
  have lt : ∀ t ∈ ss, ∀ x ∈ ll h (fR h 166 t.1), x < hz h ∧ kd h x = 22 := fun t ht x hx => GVC_22 (Sc t ht).1 hx
  have ex : ∀ t ∈ ss, t ≠ s → ∀ x ∈ ll h (fR h 166 t.1), fR h1 1358 x = fR h 1358 x ∧ (fR h 1358 x ≠ 0 → eqA (fR h 1358 x) h h1) := fun t ht n x hx => by
    obtain ⟨x1, x2⟩ := lt t ht x hx
    refine ⟨rwk.1 x x1 x2 (fun w => n ((A.2 t ht s hs x hx x w).1 rfl)), fun n0 => ?_⟩
    obtain ⟨w1, w2⟩ := ((Sc t ht).2.1.2.2.1 x hx).resolve_left n0
    exact rwk.2.2.1 _ w1 w2 (fun y hy => ⟨lt s hs y hy, fun e => n ((A.2 t ht s hs x hx y hy).1 ((A.2 t ht s hs x hx y hy).2 n0 e.symm))⟩)
  have rk : ∀ t ∈ ss, t ≠ s → RwC h1 cl ab t.1 t.2 Dk1 ds1 ∧ rwS h t.1 ≤ rwS h1 t.1 := fun t ht n => RwC_keep P (Sc t ht).1 (Sc t ht).2.1 a1 (fun _ => Dlv_n a0) ad (ex t ht n)
  have sm : rwZ h ss + rwS h1 s.1 ≤ rwZ h1 ss + rwS h s.1 := sum_one (f := fun t : Nat × List GVs => rwS h t.1) (f' := fun t : Nat × List GVs => rwS h1 t.1) A.1 (fun t ht n => (rk t ht n).2) hs
  have big : ∀ t ∈ ss, ∀ x ∈ ll h (fR h 166 t.1), fR h 1358 x = 0 ∨ fR h 1358 x < hz h := fun t ht x hx => ((Sc t ht).2.1.2.2.1 x hx).imp id And.left
  refine ⟨⟨a1, a0, ad, au, ⟨a3, fun a ha c3 c9 c34 c56 c36 cW ck => ?_, ⟨fun x x1 x2 n => rwk.1 x x1 x2 (fun w => n ((Sc s hs).2.2 x w)), fun x _ x1 x2 => ?_, fun a ha k w => rwk.2.2.1 a ha k (fun x hx => w x ((Sc s hs).2.2 x hx))⟩, sk⟩, a4, a5, a7, ⟨p1, p2, dl⟩, by omega, by omega⟩, fun Sl1 tot1 m1 Q => ?_⟩
  · by_cases w : dyK (kd h a)
    · refine dy a ha w ?_
      by_cases v : alo ≤ a ∧ a < ahi
      · exact absurd (hW a v.1 v.2) (cW (.inr w))
      · omega
    · refine a3' a ha c3 (fun v e => c9 v s hs (by rw [e]; exact e210)) c34 c56 c36 ?_
      unfold dyK at w
      omega
  · by_cases w : x ∈ ll h (fR h 166 s.1)
    · exact rwk.2.1 x w x1 x2
    · exact .inl (rwk.1 x x1 x2 w)
  obtain ⟨F1, P1, R1, Hg1⟩ := Q
  refine ⟨F1.1, F1.2.2.1, F1.2.2.2.1, F1.2.2.2.2.2.2, P1, fun t ht => ⟨GVC_more m1 (GVC_hS a1 a7 (Sc t ht).1), ?_, fun x hx => ?_⟩, A.1, fun t ht t' ht' x hx x' hx' => ?_⟩
  · by_cases n : t = s
    · rw [n]; exact R1
    · exact (rk t ht n).1
  · rw [(el t ht).1, (el t ht).2] at hx
    exact (Sc t ht).2.2 x hx
  · have hx0 := hx
    have hx0' := hx'
    rw [(el t ht).1, (el t ht).2] at hx
    rw [(el t' ht').1, (el t' ht').2] at hx'
    have AA := A.2 t ht t' ht' x hx x' hx'
    refine ⟨AA.1, fun n e => ?_⟩
    obtain ⟨x1, x2⟩ := lt t ht x hx
    obtain ⟨y1, y2⟩ := lt t' ht' x' hx'
    by_cases w : t = s
    · by_cases w' : t' = s
      · rw [w] at hx0
        rw [w'] at hx0'
        exact R1.2.1 x x' hx0 hx0' n e
      · have e' := (ex t' ht' w' x' hx').1
        rw [w] at hx
        rcases rwk.2.1 x hx x1 x2 with v | v
        · exact AA.2 (by rw [← v]; exact n) (by rw [← v, ← e']; exact e)
        · have := big t' ht' x' hx'
          omega
    · have e' := (ex t ht w x hx).1
      by_cases w' : t' = s
      · rw [w'] at hx'
        rcases rwk.2.1 x' hx' y1 y2 with v | v
        · exact AA.2 (by rw [← e']; exact n) (by rw [← v, ← e']; exact e)
        · have := big t ht x hx
          omega
      · have e2 := (ex t' ht' w' x' hx').1
        exact AA.2 (by rw [← e']; exact n) (by rw [← e2, ← e']; exact e)
/-- A NEW JUDGE (jg is made already), for a finder that is there -/
theorem c_jini (l9 : kd h l0 = 9 ∧ l0 < hz h) {jg : Nat} (hj : kd h jg = 37 ∧ jg < hz h) : ∃ h1, C_37_init G jg l0 h = some h1 ∧ (∀ a, a < hz h → a ≠ jg → eqA a h h1) ∧ (kd h1 jg = 37 ∧ (∀ f, fI h1 f jg = fI h f jg) ∧ (∀ f, f ≠ 1646 → f ≠ 1650 → f ≠ 1654 → fR h1 f jg = fR h f jg) ∧ an h1 jg = an h jg ∧ (∀ k, aI h1 jg k = aI h jg k) ∧ ∀ k, aR h1 jg k = aR h jg k) ∧ (fR h1 1646 jg = l0 ∧ fR h1 1650 jg = fR h 214 l0 ∧ fR h1 1654 jg = hz h) ∧ (hz h1 = hz h + 1 ∧ hu h1 = hu h + 3) ∧ kd h1 (hz h) = 42 ∧ ll h1 (hz h) = [] ∧ lc h1 (hz h) = 0 := by
  obtain ⟨n1, n2⟩ := new_L G h
  have kj : kd (mkL h 0 0 0) jg = 37 := by rw [mkL_kd, if_neg (by omega)]; exact hj.1
  have k9 : kd (mkL h 0 0 0) l0 = 9 := by rw [mkL_kd, if_neg (by omega)]; exact l9.1
  have e214 : fR (mkL h 0 0 0) 214 l0 = fR h 214 l0 := mkL_fR l9.2
  refine ⟨sR (sR (sR (mkL h 0 0 0) 1654 jg (hz h)) 1646 jg l0) 1650 jg (fR h 214 l0), ?_, fun a ha n => ⟨?_, fun f => ?_, fun f => ?_, rfl, fun i => rfl, fun i => rfl, ?_, ?_⟩, ⟨kj, fun f => mkL_fI (g := h) (c := 0) (n := 0) (u := 0) hj.2, fun f n1 n2 n3 => ?_, rfl, fun _ => rfl, fun _ => rfl⟩, ⟨?_, fR_eq, ?_⟩, ⟨rfl, rfl⟩, ?_, ?_, ?_⟩
  · unfold C_37_init
    rw [gd_pos ⟨hj.1, n1⟩, n2, Option.bind_some, gd_pos ⟨kj, kj, k9⟩, e214]
  · show kd (mkL h 0 0 0) a = _
    rw [mkL_kd, if_neg (by omega)]
  · show fI (mkL h 0 0 0) f a = _
    exact mkL_fI ha
  · rw [fR_na n, fR_na n, fR_na n]
    exact mkL_fR ha
  · show ll (mkL h 0 0 0) a = _
    rw [mkL_ll, if_neg (by omega)]
  · show lc (mkL h 0 0 0) a = _
    rw [mkL_lc, if_neg (by omega)]
  · rw [fR_ne (by omega), fR_ne (by omega), fR_ne (by omega)]
    exact mkL_fR hj.2
  · rw [fR_ne (by decide)]; exact fR_eq
  · rw [fR_ne (by decide), fR_ne (by decide)]; exact fR_eq
  · show kd (mkL h 0 0 0) (hz h) = 42
    rw [mkL_kd, if_pos rfl]
  · show ll (mkL h 0 0 0) (hz h) = []
    rw [mkL_ll, if_pos rfl]
  · show lc (mkL h 0 0 0) (hz h) = 0
    rw [mkL_lc, if_pos rfl]
end LBJ
