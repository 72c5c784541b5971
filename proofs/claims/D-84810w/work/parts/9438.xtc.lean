set_option maxRecDepth 100000
/-! EXS THAT ARE KNOWN, AS TREES: signs in a row; all exs -/
section LXC
variable {G : om_G} {A : Nat} {S : List Int} {b m : Nat} {N : List (List Int)} {cs : List Nat} {rest : List (Nat × List Nat)} {fo : List Nat} {F : FT} {mo : List (List Nat)} {Ms : List FT} {fo' mo' : Nat → Nat} {E : JE} {Sl : Nat → Prop} {y0 z0 : Nat} {h : om_H} {us : List Nat} {σ : tS} {n d k lo hi alo ahi a v : Nat}
/-- the first m of a chain, as a tree -/
def XOc (G : om_G) (N : List (List Int)) (cl : Nat → Nat) (U Sl : Nat → Prop) (fo mo : Nat → Nat) (E : JE) (h : om_H) (σ : tS) (n : Nat) (t : Xt) (d k m lo mid alo am a l : Nat) : Prop := XTg id (Fx σ) σ n t lo mid l ∧ (∀ alo' am', alo' ≤ alo → am ≤ am' → am' ≤ hz h → XCg id (Ph0 h) G h N cl U Sl fo mo t d (k + 2) 2 m a alo' am') ∧ xok E t d ∧ (xsz t ≤ 3 * (mid - lo) ∧ xnN t ≤ 2 * (mid - lo)) ∧ (xbd t ≤ 2 * (k + 1) ∧ xrd t ≤ k + 1) ∧ xU t + ctP σ lo ≤ ctP σ mid
/-- the lists of a chain -/
def chL (G : om_G) (h : om_H) (Sl : Nat → Prop) (a : Nat) : Prop := (kd h a = 32 ∧ a < hz h) ∧ (Sl (fR h 1522 a) ∧ fR h 1522 a < hz h ∧ kd h (fR h 1522 a) = 42) ∧ (Sl (fR h 1526 a) ∧ fR h 1526 a < hz h ∧ kd h (fR h 1526 a) = 42) ∧ (ll h (fR h 1522 a)).length = (ll h (fR h 1526 a)).length ∧ (ll h (fR h 1522 a)).length ≤ 4200 ∧ (2 ≤ (ll h (fR h 1522 a)).length → ∀ y ∈ ll h (fR h 1526 a), okS G y)
theorem sg_ok (hI : intO G) {k : Int} (hk : k = 17 ∨ k = 60 ∨ k = 43 ∨ k = 45 ∨ k = 42) {y : Nat} (e : y = om_cA G (300 + (sgv k + 128).toNat)) : ∃ sg : Nat, (sg : Int) = sgv k ∧ sg < 128 ∧ y = om_cA G (300 + (sg + 128)) ∧ (okS G y → sg ≠ 60 ∧ sg ≠ 61) := by
  have hs : 0 ≤ sgv k ∧ sgv k < 128 := by
    unfold sgv
    split <;> omega
  refine ⟨(sgv k).toNat, by omega, by omega, by rw [e]; congr 1; omega, fun ⟨k', q1, q2⟩ => ?_⟩
  rw [e] at q2
  have := hI.1 _ _ (by omega) (by omega) q2
  omega
/-- one more sign -/
theorem xc_step (X : XH G A S b m N fo F mo Ms fo' mo' E Sl y0 z0 h σ n) (IH : XI G A S b N cs rest fo F mo Ms fo' mo' E Sl y0 z0 h us σ n k) {Ψ : xP} (uL : chL G h Sl a) {mm l mid hi' am ahi' s : Nat} {x : Nat × Nat} {t : Xt} (ra : alo ≤ a ∧ a < am) (h27 : hi' ≤ 2700) (hA : ahi' ≤ hz h) (hy : y0 ≤ am) (ex : ((ll h (fR h 1522 a)).zip (ll h (fR h 1526 a)))[mm]? = some x) (H : XOc G N (clF cs) (UU us rest) Sl fo' mo' E h σ n t d k mm lo mid alo am a l) (w : signR G S b σ Ψ (XS G A S b h σ (Psi1 S b N cs rest fo F mo Ms z0 h us σ n) k d) mid hi' am ahi' l x s) : ∃ t', XOc G N (clF cs) (UU us rest) Sl fo' mo' E h σ n t' d k (mm + 1) lo hi' alo ahi' a s ∧ ∃ lb l r j, t' = xn 18 lb l r ∧ lb.1 = tokq S j ∧ ga σ 542 s = ((b + j : Nat) : Int) := by
  obtain ⟨q1, q2, q3, q4, q5, q6⟩ := H
  obtain ⟨w1, w2, k18, w4, j, nx, ej, tk, ey, e50, B, _⟩ := w
  have ib := XTg_in q1
  have ib2 := XS_in _ _ _ _ _ _ _ _ B
  have zx := List.getElem?_zip_eq_some.mp ex
  have xl := (List.getElem?_eq_some_iff.mp zx.1).1
  have o1 : aO 18 2 (mm + 1) := .inr (.inr ⟨rfl, rfl, by omega⟩)
  have eX : aX h 18 2 (mm + 1) a = a := by unfold aX; rw [if_pos o1]
  have eH : ∀ {z : Nat}, aH h 18 2 (mm + 1) a z = z := by intro z; unfold aH; rw [if_pos (.inl o1)]
  have eD : ∀ {z : Nat}, aD 18 2 (mm + 1) z = z := by intro z; unfold aD; rw [if_pos o1]
  have eM : aM h 1522 (2 == 2) (mm + 1) a = mm + 1 := by unfold aM; rw [if_pos ⟨rfl, by omega⟩]
  obtain ⟨sg, s1, s2, s3, s4⟩ := sg_ok X.2.2.2.2 tk ey
  have jm := TT_lt X.1.1 (j := j) (by omega)
  have t0 := X.1.1.1 j (by omega)
  have bm := X.1.1.2.1
  obtain ⟨r, O⟩ := IH _ _ _ _ _ _ _ B (by omega) (by omega) (by omega)
  obtain ⟨x1, x2, x3, x4, x5, x6⟩ := O
  have e61 : (ga σ 470 (b + j) = 60 ∨ ga σ 470 (b + j) = 17) ↔ (sg = 60 ∨ sg = 61) := by
    rw [t0.1]
    unfold sgv at s1
    split at s1 <;> omega
  refine ⟨xn 18 (tokq S j, sg, 0, 0, 0, []) t r, ⟨?_, fun alo' am' c1 c2 c3 => ?_, ?_, ⟨?_, ?_⟩, ⟨?_, ?_⟩, ?_⟩, _, _, _, j, rfl, rfl, ej⟩
  · rw [XTg_e]
    unfold XTb
    rw [if_neg (by decide), if_neg (by decide), if_neg (by decide), if_neg (by decide), if_neg (by decide), if_neg (by decide), if_pos rfl]
    exact ⟨by omega, k18, ⟨fun z => by omega, fun z => by omega, fun z => by omega, fun _ => ⟨b + j, ej, by omega, by rw [t0.1]; exact s1, by rw [t0.1]; exact tk⟩, fun a ha => absurd ha List.not_mem_nil, fun z => by omega⟩, w2, tk_place X.1.1 ej (by omega), ⟨b + j, ej, by omega, e61⟩, mid, l, nx, w4, e50, q1, x1⟩
  · rw [XCg_e]
    unfold XCb
    rw [eX, eH, eD, eM, if_neg (by decide), if_neg (by decide), if_neg (by decide), if_neg (by decide), if_pos rfl]
    refine ⟨⟨by omega, by omega, .inl o1, c3, fun z => by omega, fun _ => .inl rfl, by omega⟩, by omega, ⟨fun z => ?_, fun z => by omega⟩, uL.1.1, fun z => absurd ⟨rfl, by omega⟩ z, x.1, am, ⟨uL.2.1, uL.2.2.1, ⟨uL.2.2.2.1, by omega, by omega, uL.2.2.2.2.1⟩, by rw [Nat.add_sub_cancel]; exact zx.1, ⟨s2, by rw [Nat.add_sub_cancel, zx.2, s3]; rfl⟩, fun h2 => s4 (uL.2.2.2.2.2 h2 x.2 (List.mem_of_getElem? zx.2))⟩, by omega, q2 alo' am c1 (Nat.le_refl _) (by omega), x2 am am' (Nat.le_refl _) (by omega) c3⟩
    rcases z.1 with z1 | z1
    · omega
    · exact absurd o1 z1
  · rw [xok_e]
    unfold xokB
    rw [if_neg (by decide), if_neg (by decide), if_neg (by decide), if_neg (by decide), if_neg (by decide), if_neg (by decide), if_pos rfl]
    exact ⟨q3, x3⟩
  · show 1 + 2 * 0 + xsz t + xsz r ≤ _
    omega
  · show 1 + xnN t + xnN r ≤ _
    omega
  · show (if (18 : Nat) = 14 ∨ (18 : Nat) = 15 then 1 else if (18 : Nat) = 17 then 2 else 0) + max (xbd t) (xbd r) ≤ _
    rw [if_neg (by omega), if_neg (by omega)]
    omega
  · show (if (18 : Nat) = 12 ∨ (18 : Nat) = 13 ∨ (18 : Nat) = 18 then max (xrd t) (1 + xrd r) else _) ≤ _
    rw [if_pos (.inr (.inr rfl))]
    omega
  · show (if (18 : Nat) = 10 ∧ _ then 1 else 0) + xU t + xU r + _ ≤ _
    rw [if_neg (fun z => by omega)]
    have := ctP_mono (σ := σ) (a := s) (b := hi') (by omega)
    omega
/-- all signs -/
theorem xc_all (X : XH G A S b m N fo F mo Ms fo' mo' E Sl y0 z0 h σ n) (IH : XI G A S b N cs rest fo F mo Ms fo' mo' E Sl y0 z0 h us σ n k) {Ψ : xP} (uL : chL G h Sl a) : ∀ (ys : List (Nat × Nat)) (mm l mid hi' am ahi' top : Nat) (t : Xt), spineR (signR G S b σ Ψ (XS G A S b h σ (Psi1 S b N cs rest fo F mo Ms z0 h us σ n) k d)) ys l mid hi' am ahi' top → (∃ P, (ll h (fR h 1522 a)).zip (ll h (fR h 1526 a)) = P ++ ys ∧ P.length = mm) → alo ≤ a ∧ a < am → hi' ≤ 2700 → ahi' ≤ hz h → y0 ≤ am → XOc G N (clF cs) (UU us rest) Sl fo' mo' E h σ n t d k mm lo mid alo am a l → ∃ t', XOc G N (clF cs) (UU us rest) Sl fo' mo' E h σ n t' d k (mm + ys.length) lo hi' alo ahi' a top ∧ (ys ≠ [] → ∃ lb l r j, t' = xn 18 lb l r ∧ lb.1 = tokq S j ∧ ga σ 542 top = ((b + j : Nat) : Int)) ∧ (ys = [] → t' = t ∧ top = l)
  | [], mm, l, mid, hi', am, ahi', top, t, w, _, ra, h27, hA, hy, H => by
    obtain ⟨w1, w2, w3⟩ := w
    subst w1 w2
    obtain ⟨q1, q2, q3⟩ := H
    exact ⟨t, ⟨q1, fun alo' am' c1 c2 c3 => q2 alo' am' c1 (by omega) c3, q3⟩, fun z => absurd rfl z, fun _ => ⟨rfl, rfl⟩⟩
  | x :: ys, mm, l, mid, hi', am, ahi', top, t, w, ⟨P, e1, e2⟩, ra, h27, hA, hy, H => by
    obtain ⟨mid', amid', s, w1, w2⟩ := w
    have hin : inI (signR G S b σ Ψ (XS G A S b h σ (Psi1 S b N cs rest fo F mo Ms z0 h us σ n) k d)) := fun lo hi alo ahi l x s hw => ⟨hw.1, hw.2.1, by
      obtain ⟨_, _, _, _, j, nx, _, _, _, _, B, _⟩ := hw
      have := XS_in _ _ _ _ _ _ _ _ B
      omega⟩
    have sr := spineR_in hin w2
    have r1 := hin _ _ _ _ _ _ _ w1
    have ex : ((ll h (fR h 1522 a)).zip (ll h (fR h 1526 a)))[mm]? = some x := by rw [e1, List.getElem?_append_right (by omega), e2, Nat.sub_self]; rfl
    obtain ⟨t1, H1, f1⟩ := xc_step X IH uL ra (by omega) (by omega) hy ex H w1
    obtain ⟨t2, H2, f2, f3⟩ := xc_all X IH uL ys (mm + 1) s mid' hi' amid' ahi' top t1 w2 ⟨P ++ [x], by rw [e1, List.append_assoc]; rfl, by rw [List.length_append, e2]; rfl⟩ (by omega) h27 hA (by omega) H1
    refine ⟨t2, by rw [List.length_cons, show mm + (ys.length + 1) = mm + 1 + ys.length by omega]; exact H2, fun _ => ?_, fun z => by cases z⟩
    cases ys with
    | nil =>
      obtain ⟨g1, g2⟩ := f3 rfl
      rw [g1, g2]
      exact f1
    | cons y ys => exact f2 (by intro z; cases z)
/-- signs in a row -/
theorem xt_32 (X : XH G A S b m N fo F mo Ms fo' mo' E Sl y0 z0 h σ n) (IH : XI G A S b N cs rest fo F mo Ms fo' mo' E Sl y0 z0 h us σ n k) (i1 : lo ≤ v ∧ v < hi) (i2 : alo ≤ a ∧ a < ahi) (h27 : hi ≤ 2700) (hA : ahi ≤ hz h) (hy : y0 ≤ alo) (w : X32 G S b h σ (Psi1 S b N cs rest fo F mo Ms z0 h us σ n d) (XS G A S b h σ (Psi1 S b N cs rest fo F mo Ms z0 h us σ n) k d) lo hi alo ahi a v) : ∃ t, XO G N (clF cs) (UU us rest) Sl fo' mo' E h σ n t d (k + 1) lo hi alo ahi a v := by
  obtain ⟨k32, rL1, Lk1, rL2, Lk2, el, ⟨Lne, oks⟩, j, nh, mid, a1, a2, a3, a4, W, r1, r2, r3, sp, r4, ej, p72, P⟩ := w
  have f82 : fR h 1382 a = 0 := P.1 (by decide)
  have ib := XS_in _ _ _ _ _ _ _ _ W
  have hin : inI (signR G S b σ (Psi1 S b N cs rest fo F mo Ms z0 h us σ n d) (XS G A S b h σ (Psi1 S b N cs rest fo F mo Ms z0 h us σ n) k d)) := fun lo hi alo ahi l x s hw => ⟨hw.1, hw.2.1, by
    obtain ⟨_, _, _, _, j, nx, _, _, _, _, B, _⟩ := hw
    have := XS_in _ _ _ _ _ _ _ _ B
    omega⟩
  have sr := spineR_in hin sp
  have slen : ∀ (ys : List (Nat × Nat)) (l lo hi alo ahi top : Nat), spineR (signR G S b σ (Psi1 S b N cs rest fo F mo Ms z0 h us σ n d) (XS G A S b h σ (Psi1 S b N cs rest fo F mo Ms z0 h us σ n) k d)) ys l lo hi alo ahi top → ys.length + lo ≤ hi := by
    intro ys
    induction ys with
    | nil => intro l lo hi alo ahi top w; have := w.2.1; simp; omega
    | cons y ys ih =>
      intro l lo hi alo ahi top w
      obtain ⟨mid, amid, s, w1, w2⟩ := w
      have := hin _ _ _ _ _ _ _ w1
      have := ih _ _ _ _ _ _ w2
      rw [List.length_cons]
      omega
  have yl := slen _ _ _ _ _ _ _ sp
  have zl : ((ll h (fR h 1522 a)).zip (ll h (fR h 1526 a))).length = (ll h (fR h 1522 a)).length := by rw [List.length_zip]; omega
  have L0 : 0 < (ll h (fR h 1522 a)).length := List.length_pos_iff.mpr Lne
  have uL : chL G h Sl a := ⟨⟨k32, by omega⟩, ⟨X.2.1.1 _ (by omega) (by omega) Lk1 Lne, by omega, Lk1⟩, ⟨X.2.1.1 _ (by omega) (by omega) Lk2 (fun z => by rw [z] at el; exact Lne (List.length_eq_zero_iff.mp el)), by omega, Lk2⟩, el, by omega, oks⟩
  obtain ⟨t0, O⟩ := IH _ _ _ _ _ _ _ W (by omega) (by omega) (by omega)
  have H0 : XOc G N (clF cs) (UU us rest) Sl fo' mo' E h σ n t0 d k 0 lo mid alo a3 a nh := by
    obtain ⟨o1, o2, o3, o4, o5, o6⟩ := O
    refine ⟨o1, fun alo' am' c1 c2 c3 => ?_, o3, o4, by omega, o6⟩
    cases t0 with
    | leaf => exact (XTg_l o1).elim
    | inner t lb u l r =>
      cases u
      have O' := o2 alo' a (by omega) r2 (by omega)
      have no : ¬ aO t 2 0 := by intro z; omega
      have eX : aX h t 2 0 a = fR h 1518 a := by unfold aX; rw [if_neg no, if_neg (by decide)]
      exact XCg_unhead eX no ⟨fun z => by omega, fun _ => .inr rfl, by omega⟩ (fun z => by omega) (fun _ z => by omega) ⟨by omega, c3⟩ (fun q => ⟨fun _ => by rw [eX]; have := q.1 ⟨.inl rfl, fun z => by omega⟩; rw [aX_0] at this; exact this, fun z => by rw [eX]; have := q.2 z; rw [aX_0] at this; exact this⟩) O'
  obtain ⟨t, H, f1, f2⟩ := xc_all X IH uL _ 0 nh mid hi a3 a4 v t0 sp ⟨[], rfl, rfl⟩ (by omega) h27 (by omega) (by omega) H0
  obtain ⟨h1, h2, h3, h4, h5, h6⟩ := H
  refine ⟨t, h1, fun alo' ahi' c1 c2 c3 => ?_, h3, h4, h5, h6⟩
  obtain ⟨lb, l, r, j', et, e1, ej'⟩ := f1 (fun z => by rw [z] at zl; simp at zl; omega)
  have ejj : j' = j := by omega
  have O := h2 alo' ahi' c1 (by omega) c3
  rw [et] at O ⊢
  rw [Nat.zero_add, zl] at O
  have o1 : aO 18 2 (ll h (fR h 1522 a)).length := .inr (.inr ⟨rfl, rfl, L0⟩)
  have eX : aX h 18 2 (ll h (fR h 1522 a)).length a = a := by unfold aX; rw [if_pos o1]
  have eH : aH h 18 2 (ll h (fR h 1522 a)).length a ahi' = ahi' := by unfold aH; rw [if_pos (.inl o1)]
  have eD : aD 18 2 (ll h (fR h 1522 a)).length (k + 2) = k + 2 := by unfold aD; rw [if_pos o1]
  have eM : aM h 1522 (2 == 2) (ll h (fR h 1522 a)).length a = (ll h (fR h 1522 a)).length := by unfold aM; rw [if_pos ⟨rfl, L0⟩]
  have eM0 : aM h 1522 (0 == 2) 0 a = (ll h (fR h 1522 a)).length := aM_0
  rw [XCg_e] at O ⊢
  unfold XCb at O ⊢
  rw [eX, eH, eD, eM, if_neg (by decide), if_neg (by decide), if_neg (by decide), if_neg (by decide), if_pos rfl] at O
  rw [aX_0, aH_0, aD_0, eM0, if_neg (by decide), if_neg (by decide), if_neg (by decide), if_neg (by decide), if_pos rfl]
  obtain ⟨⟨g1, g2, g3, g4, g5⟩, g6, g7, g8⟩ := O
  exact ⟨⟨g1, g2, .inl (.inl rfl), g4, fun z => by omega, fun z => by omega, by omega⟩, g6, ⟨fun _ => by rw [aX_0]; exact f82, fun z => by omega⟩, g8.1, fun _ => by rw [p72]; show _ = ((id lb).1 : Int); rw [show (id lb).1 = tokq S j' from e1, ejj], g8.2.2⟩
/-- ALL EXS THAT ARE KNOWN ARE TREES -/
theorem xs_tree (X : XH G A S b m N fo F mo Ms fo' mo' E Sl y0 z0 h σ n) : ∀ k, XI G A S b N cs rest fo F mo Ms fo' mo' E Sl y0 z0 h us σ n k
  | 0 => fun d lo hi alo ahi a v w _ _ _ => w.elim
  | k + 1 => fun d lo hi alo ahi a v w h27 hA hy => by
    have IH := xs_tree X k
    obtain ⟨i1, i2, i3, i4, w⟩ := w
    rcases w with w | w | w | w | w | w | w | w
    · exact xt_11 X ⟨i1, i2⟩ ⟨i3, i4⟩ h27 hA w
    · exact xt_10 X ⟨i1, i2⟩ ⟨i3, i4⟩ h27 hA w
    · exact xt_14 X IH ⟨i1, i2⟩ ⟨i3, i4⟩ h27 hA hy w
    · exact xt_15 X IH ⟨i1, i2⟩ ⟨i3, i4⟩ h27 hA hy w
    · exact xt_16 X IH ⟨i1, i2⟩ ⟨i3, i4⟩ h27 hA hy w
    · exact xt_17 X IH ⟨i1, i2⟩ ⟨i3, i4⟩ h27 hA hy w
    · exact xt_30 X IH ⟨i1, i2⟩ ⟨i3, i4⟩ h27 hA hy w
    · exact xt_32 X IH ⟨i1, i2⟩ ⟨i3, i4⟩ h27 hA hy w
end LXC
