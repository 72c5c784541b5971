set_option maxRecDepth 100000
/-! EXS THAT ARE KNOWN, AS TREES: uses -/
section LXU
variable {G : om_G} {A : Nat} {S : List Int} {b m : Nat} {N : List (List Int)} {cs : List Nat} {rest : List (Nat × List Nat)} {fo : List Nat} {F : FT} {mo : List (List Nat)} {Ms : List FT} {fo' mo' : Nat → Nat} {E : JE} {Sl : Nat → Prop} {y0 z0 : Nat} {h : om_H} {us : List Nat} {σ : tS} {n d k lo hi alo ahi a v : Nat}
/-- the first m items of a use, as a tree -/
def XOu (G : om_G) (N : List (List Int)) (cl : Nat → Nat) (U Sl : Nat → Prop) (fo mo : Nat → Nat) (E : JE) (h : om_H) (σ : tS) (n : Nat) (t : Xt) (d k m lo mid alo am a l pl : Nat) : Prop := XTg id (Fx σ) σ n t lo mid l ∧ (∀ alo' am', alo' ≤ alo → am ≤ am' → am' ≤ hz h → XCg id (Ph0 h) G h N cl U Sl fo mo t d (k + 2) 1 m a alo' am') ∧ xok E t d ∧ (xsz t ≤ 3 * (mid - lo) ∧ xnN t ≤ 2 * (mid - lo)) ∧ (xbd t ≤ 2 * (k + 1) ∧ xrd t ≤ k + 1) ∧ xU t + ctP σ lo ≤ ctP σ mid ∧ gPl id t = pl
theorem XO_pl {cl : Nat → Nat} {U : Nat → Prop} {fo mo : Nat → Nat} {t : Xt} (H : XO G N cl U Sl fo mo E h σ n t d k lo hi alo ahi a v) (hA : ahi ≤ hz h) : fI h 1372 a = (gPl id t : Int) ∧ (24 ≤ kd h a ∧ kd h a ≤ 32 ∧ kd h a ≠ 31) := by
  cases t with
  | leaf => exact (XTg_l H.1).elim
  | inner t lb u l r =>
    have e := (XCg_ex (H.2.1 alo ahi (Nat.le_refl _) (Nat.le_refl _) hA)).1
    exact ⟨e.2.2, e.2.1⟩
/-- the list of a use's items -/
def usL (h : om_H) (Sl : Nat → Prop) (a : Nat) : Prop := (kd h a = 30 ∧ a < hz h) ∧ (Sl (fR h 1494 a) ∧ fR h 1494 a < hz h ∧ kd h (fR h 1494 a) = 42) ∧ (ll h (fR h 1494 a)).length ≤ 4200
/-- one more item -/
theorem xu_step (X : XH G A S b m N fo F mo Ms fo' mo' E Sl y0 z0 h σ n) (IH : XI G A S b N cs rest fo F mo Ms fo' mo' E Sl y0 z0 h us σ n k) {Ψ : xP} (uL : usL h Sl a) {mm l mid hi' am ahi' x s pl : Nat} {t : Xt} (ra : alo ≤ a ∧ a < am) (h27 : hi' ≤ 2700) (hA : ahi' ≤ hz h) (hy : y0 ≤ am) (ex : (ll h (fR h 1494 a))[mm]? = some x) (H : XOu G N (clF cs) (UU us rest) Sl fo' mo' E h σ n t d k mm lo mid alo am a l pl) (w : itemR S b h σ Ψ (XS G A S b h σ (Psi1 S b N cs rest fo F mo Ms z0 h us σ n) k d) mid hi' am ahi' l x s) : ∃ t', XOu G N (clF cs) (UU us rest) Sl fo' mo' E h σ n t' d k (mm + 1) lo hi' alo ahi' a s pl ∧ ∃ lb l r, t' = xn 12 lb l r ∧ lb.1 = pl ∨ t' = xn 13 lb l r ∧ lb.1 = pl := by
  obtain ⟨q1, q2, q3, q4, q5, q6, q7⟩ := H
  obtain ⟨w1, w2, w3, w4, w5, w6, w7⟩ := w
  have ib := XTg_in q1
  have xl := (List.getElem?_eq_some_iff.mp ex).1
  have aO1 : ∀ {t : Nat}, t = 12 ∨ t = 13 → aO t 1 (mm + 1) := fun ht => .inr (.inl ⟨rfl, ht, by omega⟩)
  have eX : ∀ {t : Nat}, t = 12 ∨ t = 13 → aX h t 1 (mm + 1) a = a := fun ht => by unfold aX; rw [if_pos (aO1 ht)]
  have eH : ∀ {t z : Nat}, t = 12 ∨ t = 13 → aH h t 1 (mm + 1) a z = z := fun ht => by unfold aH; rw [if_pos (.inl (aO1 ht))]
  have eD : ∀ {t z : Nat}, t = 12 ∨ t = 13 → aD t 1 (mm + 1) z = z := fun ht => by unfold aD; rw [if_pos (aO1 ht)]
  have eM : aM h 1494 (1 == 1) (mm + 1) a = mm + 1 := by unfold aM; rw [if_pos ⟨rfl, by omega⟩]
  have it : itC h Sl a (mm + 1) x := ⟨uL.2.1, ⟨by omega, by omega, uL.2.2⟩, by rw [Nat.add_sub_cancel]; exact ex, by have := X.2.1.2.2; omega, by omega, w3⟩
  rcases w7 with ⟨ne, a2, k12, n0, e50, B, r2, p04, _⟩ | ⟨j, a2, k13, f98, f02, ej, ⟨p04, tk⟩, r2, _⟩
  · have ib2 := XS_in _ _ _ _ _ _ _ _ B
    obtain ⟨r, O⟩ := IH _ _ _ _ _ _ _ B (by omega) (by omega) (by omega)
    have pr := (XO_pl O (by omega)).1
    obtain ⟨x1, x2, x3, x4, x5, x6⟩ := O
    refine ⟨xn 12 (pl, 0, 0, 0, 0, []) t r, ⟨?_, fun alo' am' c1 c2 c3 => ?_, ?_, ⟨?_, ?_⟩, ⟨?_, ?_⟩, ?_, rfl⟩, _, _, _, .inl ⟨rfl, rfl⟩⟩
    · rw [XTg_e]
      unfold XTb
      rw [if_neg (by decide), if_neg (by decide), if_pos rfl]
      exact ⟨by omega, k12, ⟨fun z => by omega, fun z => by omega, fun z => by omega, fun z => by omega, fun a ha => absurd ha List.not_mem_nil, fun z => by omega⟩, w5, q7.symm, mid, l, ne, w6, e50, q1, x1⟩
    · rw [XCg_e]
      unfold XCb
      rw [eX (.inl rfl), eH (.inl rfl), eD (.inl rfl), eM, if_neg (by decide), if_neg (by decide), if_pos rfl]
      refine ⟨⟨by omega, by omega, .inl (aO1 (.inl rfl)), c3, fun _ => .inr (.inl rfl), fun z => by omega, by omega⟩, by omega, ⟨fun z => ?_, fun z => by omega⟩, uL.1.1, q7.symm, fun z => absurd ⟨rfl, by omega⟩ z, x, am, a2, it, n0, by rw [p04]; exact pr, ⟨by omega, by omega, r2, by omega⟩, q2 alo' am c1 (Nat.le_refl _) (by omega), x2 am a2 (Nat.le_refl _) (Nat.le_refl _) (by omega)⟩
      rcases z.1 with z1 | z1
      · omega
      · exact absurd (aO1 (.inl rfl)) z1
    · rw [xok_e]
      unfold xokB
      rw [if_neg (by decide), if_neg (by decide), if_pos rfl]
      exact ⟨q3, x3⟩
    · show 1 + 2 * 0 + xsz t + xsz r ≤ _
      omega
    · show 1 + xnN t + xnN r ≤ _
      omega
    · show (if (12 : Nat) = 14 ∨ (12 : Nat) = 15 then 1 else if (12 : Nat) = 17 then 2 else 0) + max (xbd t) (xbd r) ≤ _
      rw [if_neg (by omega), if_neg (by omega)]
      omega
    · show (if (12 : Nat) = 12 ∨ (12 : Nat) = 13 ∨ (12 : Nat) = 18 then max (xrd t) (1 + xrd r) else _) ≤ _
      rw [if_pos (.inl rfl)]
      omega
    · show (if (12 : Nat) = 10 ∧ _ then 1 else 0) + xU t + xU r + _ ≤ _
      rw [if_neg (fun z => by omega)]
      have := ctP_mono (σ := σ) (a := s) (b := hi') (by omega)
      omega
  · refine ⟨xn 13 (pl, tokq S j, 0, 0, 0, []) t .leaf, ⟨?_, fun alo' am' c1 c2 c3 => ?_, ?_, ⟨?_, ?_⟩, ⟨?_, ?_⟩, ?_, rfl⟩, _, _, _, .inr ⟨rfl, rfl⟩⟩
    · rw [XTg_e]
      unfold XTb
      rw [if_neg (by decide), if_neg (by decide), if_neg (by decide), if_pos rfl]
      exact ⟨by omega, k13, ⟨fun z => by omega, fun z => by omega, fun z => by omega, fun z => by omega, fun a ha => absurd ha List.not_mem_nil, fun z => by omega⟩, w5, q7.symm, tk_place X.1.1 ej tk, mid, l, w4, w6, q1⟩
    · rw [XCg_e]
      unfold XCb
      rw [eX (.inr rfl), eH (.inr rfl), eD (.inr rfl), eM, if_neg (by decide), if_neg (by decide), if_neg (by decide), if_pos rfl]
      refine ⟨⟨by omega, by omega, .inl (aO1 (.inr rfl)), c3, fun _ => .inr (.inr (.inl rfl)), fun z => by omega, by omega⟩, by omega, ⟨fun z => ?_, fun z => by omega⟩, uL.1.1, q7.symm, fun z => absurd ⟨rfl, by omega⟩ z, x, am, it, f98, p04, ⟨by omega, by omega⟩, q2 alo' am c1 (Nat.le_refl _) (by omega)⟩
      rcases z.1 with z1 | z1
      · omega
      · exact absurd (aO1 (.inr rfl)) z1
    · rw [xok_e]
      unfold xokB
      rw [if_neg (by decide), if_neg (by decide), if_neg (by decide), if_pos rfl]
      exact q3
    · show 1 + 2 * 0 + xsz t + 0 ≤ _
      omega
    · show 1 + xnN t + 0 ≤ _
      omega
    · show (if (13 : Nat) = 14 ∨ (13 : Nat) = 15 then 1 else if (13 : Nat) = 17 then 2 else 0) + max (xbd t) 0 ≤ _
      rw [if_neg (by omega), if_neg (by omega)]
      omega
    · show (if (13 : Nat) = 12 ∨ (13 : Nat) = 13 ∨ (13 : Nat) = 18 then max (xrd t) (1 + 0) else _) ≤ _
      rw [if_pos (.inr (.inl rfl))]
      omega
    · show (if (13 : Nat) = 10 ∧ _ then 1 else 0) + xU t + 0 + _ ≤ _
      rw [if_neg (fun z => by omega)]
      have := ctP_mono (σ := σ) (a := mid) (b := hi') (by omega)
      omega
/-- all items -/
theorem xu_all (X : XH G A S b m N fo F mo Ms fo' mo' E Sl y0 z0 h σ n) (IH : XI G A S b N cs rest fo F mo Ms fo' mo' E Sl y0 z0 h us σ n k) {Ψ : xP} (uL : usL h Sl a) {pl : Nat} : ∀ (ys : List Nat) (mm l mid hi' am ahi' top : Nat) (t : Xt), spineR (itemR S b h σ Ψ (XS G A S b h σ (Psi1 S b N cs rest fo F mo Ms z0 h us σ n) k d)) ys l mid hi' am ahi' top → (∃ P, ll h (fR h 1494 a) = P ++ ys ∧ P.length = mm) → alo ≤ a ∧ a < am → hi' ≤ 2700 → ahi' ≤ hz h → y0 ≤ am → XOu G N (clF cs) (UU us rest) Sl fo' mo' E h σ n t d k mm lo mid alo am a l pl → ∃ t', XOu G N (clF cs) (UU us rest) Sl fo' mo' E h σ n t' d k (mm + ys.length) lo hi' alo ahi' a top pl ∧ (ys ≠ [] → ∃ lb l r, t' = xn 12 lb l r ∧ lb.1 = pl ∨ t' = xn 13 lb l r ∧ lb.1 = pl) ∧ (ys = [] → t' = t)
  | [], mm, l, mid, hi', am, ahi', top, t, w, _, ra, h27, hA, hy, H => by
    obtain ⟨w1, w2, w3⟩ := w
    subst w1 w2
    obtain ⟨q1, q2, q3⟩ := H
    exact ⟨t, ⟨q1, fun alo' am' c1 c2 c3 => q2 alo' am' c1 (by omega) c3, q3⟩, fun z => absurd rfl z, fun _ => rfl⟩
  | x :: ys, mm, l, mid, hi', am, ahi', top, t, w, ⟨P, e1, e2⟩, ra, h27, hA, hy, H => by
    obtain ⟨mid', amid', s, w1, w2⟩ := w
    have sr := spineR_in (fun lo hi alo ahi l x s (hw : itemR S b h σ Ψ (XS G A S b h σ (Psi1 S b N cs rest fo F mo Ms z0 h us σ n) k d) lo hi alo ahi l x s) => ⟨hw.2.2.2.1, hw.2.2.2.2.1, by have := hw.1; have := hw.2.1; omega⟩) w2
    have r1 : am < amid' := by have := w1.1; have := w1.2.1; omega
    have ex : (ll h (fR h 1494 a))[mm]? = some x := by rw [e1, List.getElem?_append_right (by omega), e2, Nat.sub_self]; rfl
    obtain ⟨t1, H1, f1⟩ := xu_step X IH uL ra (by omega) (by omega) hy ex H w1
    obtain ⟨t2, H2, f2, f3⟩ := xu_all X IH uL ys (mm + 1) s mid' hi' amid' ahi' top t1 w2 ⟨P ++ [x], by rw [e1, List.append_assoc]; rfl, by rw [List.length_append, e2]; rfl⟩ (by omega) h27 hA (by omega) H1
    refine ⟨t2, by rw [List.length_cons, show mm + (ys.length + 1) = mm + 1 + ys.length by omega]; exact H2, fun _ => ?_, fun z => by cases z⟩
    cases ys with
    | nil => rw [f3 rfl]; exact f1
    | cons y ys => exact f2 (by intro z; cases z)
/-- a use -/
theorem xt_30 (X : XH G A S b m N fo F mo Ms fo' mo' E Sl y0 z0 h σ n) (IH : XI G A S b N cs rest fo F mo Ms fo' mo' E Sl y0 z0 h us σ n k) (i1 : lo ≤ v ∧ v < hi) (i2 : alo ≤ a ∧ a < ahi) (h27 : hi ≤ 2700) (hA : ahi ≤ hz h) (hy : y0 ≤ alo) (w : X30 A S b h σ (Psi1 S b N cs rest fo F mo Ms z0 h us σ n d) (XS G A S b h σ (Psi1 S b N cs rest fo F mo Ms z0 h us σ n) k d) lo hi alo ahi a v) : ∃ t, XO G N (clF cs) (UU us rest) Sl fo' mo' E h σ n t d (k + 1) lo hi alo ahi a v := by
  obtain ⟨k30, rL, ⟨Lk, Lne⟩, p72, nh, mid, a1, a2, a3, a4, xs, ys, eL, r1, r2, r3, sp, r4, hd', P⟩ := w
  have f82 : fR h 1382 a = 0 := P.1 (by decide)
  have slen : ∀ {I : Nat → Nat → Nat → Nat → Nat → Nat → Nat → Prop} (_ : ∀ lo hi alo ahi l x s, I lo hi alo ahi l x s → lo ≤ s ∧ s + 1 = hi) (ys : List Nat) (l lo hi alo ahi top : Nat), spineR I ys l lo hi alo ahi top → ys.length + lo ≤ hi := by
    intro I hI ys
    induction ys with
    | nil => intro l lo hi alo ahi top w; have := w.2.1; simp; omega
    | cons y ys ih =>
      intro l lo hi alo ahi top w
      obtain ⟨mid, amid, s, w1, w2⟩ := w
      have := hI _ _ _ _ _ _ _ w1
      have := ih _ _ _ _ _ _ w2
      rw [List.length_cons]
      omega
  have yl := slen (fun lo hi alo ahi l x s hw => ⟨hw.2.2.2.1, hw.2.2.2.2.1⟩) _ _ _ _ _ _ _ sp
  have sr := spineR_in (fun lo hi alo ahi l x s (hw : itemR S b h σ (Psi1 S b N cs rest fo F mo Ms z0 h us σ n d) (XS G A S b h σ (Psi1 S b N cs rest fo F mo Ms z0 h us σ n) k d) lo hi alo ahi l x s) => ⟨hw.2.2.2.1, hw.2.2.2.2.1, by have := hw.1; have := hw.2.1; omega⟩) sp
  -- the head
  have HD : ∃ t0 pl, XOu G N (clF cs) (UU us rest) Sl fo' mo' E h σ n t0 d k xs.length lo mid alo a3 a nh pl ∧ fI h 1372 (fR h 1490 a) = (pl : Int) ∧ xs.length ≤ mid ∧ (ys = [] → ∃ lb : XL, t0 = xn 10 lb .leaf .leaf ∧ lb.1 = pl ∧ xs.length = lb.2.2.2.2.2.length ∧ lb.2.2.2.2.2 ≠ [] ∧ NmL N (clF cs) (UU us rest) Sl fo' mo' E h σ n lb d lo mid (fR h 1490 a) nh ∧ (a1 ≤ fR h 1490 a ∧ fR h 1490 a < a2) ∧ ∀ (i : Nat) (p : Ty × Nat), lb.2.2.2.2.2[i]? = some p → ∃ x, xs[i]? = some x ∧ (x < hz h ∧ kd h x = 31) ∧ fI h 1504 x = (p.2 : Int)) := by
    rcases hd' with ⟨ex, W, r5⟩ | W
    · subst ex
      have ib := XS_in _ _ _ _ _ _ _ _ W
      have yne : ys ≠ [] := fun z => Lne (by rw [eL, z]; rfl)
      obtain ⟨t0, O⟩ := IH _ _ _ _ _ _ _ W (by omega) (by omega) (by omega)
      obtain ⟨pp, kk⟩ := XO_pl O (by omega)
      refine ⟨t0, gPl id t0, ?_, pp, Nat.zero_le _, fun z => absurd z yne⟩
      obtain ⟨o1, o2, o3, o4, o5, o6⟩ := O
      refine ⟨o1, fun alo' am' c1 c2 c3 => ?_, o3, o4, by omega, o6, rfl⟩
      cases t0 with
      | leaf => exact (XTg_l o1).elim
      | inner t lb u l r =>
        cases u
        have O' := o2 alo' a (by omega) r5 (by omega)
        by_cases c28 : t = 10 ∧ kd h (fR h 1490 a) = 28
        · obtain ⟨t10, k28⟩ := c28
          subst t10
          have O2 := O'
          rw [XCg_e] at O2
          unfold XCb at O2
          rw [aX_0, aH_0, aD_0, if_pos rfl] at O2
          obtain ⟨_, g2, g3, g4, g5, g6⟩ := O2
          have eN : aN h (fR h 1490 a) = fR h 1490 a := by unfold aN; rw [if_neg (by omega)]
          rw [eN] at g4
          unfold atC at g6
          rw [if_neg (by omega)] at g6
          have e0 : lb.2.2.2.2.2 = [] := by
            rcases g6.2 with z | z
            · exact z.2
            · omega
          have no : ¬ aO 10 1 0 := by intro z; omega
          have eX : aX h 10 1 0 a = fR h 1490 a := by unfold aX; rw [if_neg no, if_pos rfl]
          have eH : aH h 10 1 0 a am' = am' := by unfold aH; rw [if_pos (.inr ⟨rfl, rfl, k28⟩)]
          have eD : aD 10 1 0 (k + 2) = k + 1 := by unfold aD; rw [if_neg no]; rfl
          rw [XCg_e]
          unfold XCb
          rw [List.length_nil, eX, eH, eD, if_pos rfl, eN]
          refine ⟨⟨by omega, by omega, .inr (by omega), c3, fun _ => .inl rfl, fun z => by omega, by omega⟩, g2, ⟨fun z => absurd ⟨rfl, rfl, by rw [eX]; exact k28⟩ z.2, fun _ => by rw [eX]; have := g3.2 rfl; rw [aX_0] at this; exact this⟩, g4, ⟨by omega, by omega⟩, ?_⟩
          unfold atC
          rw [if_pos ⟨rfl, k28⟩]
          refine ⟨by show 0 = lb.2.2.2.2.2.length; rw [e0]; rfl, ⟨X.2.1.1 _ (by omega) (by omega) Lk Lne, by omega, Lk, by rw [eL]; simp; omega⟩, fun i p e => ?_⟩
          have e' : lb.2.2.2.2.2[i]? = some p := e
          rw [e0] at e'
          cases e'
        · have no : ¬ aO t 1 0 := by intro z; omega
          have eX : aX h t 1 0 a = fR h 1490 a := by unfold aX; rw [if_neg no, if_pos rfl]
          exact XCg_unhead eX no ⟨fun _ => .inr (.inr (.inr rfl)), fun z => by omega, by omega⟩ (fun z => c28 ⟨z.1, z.2.2⟩) (fun _ _ => rfl) ⟨by omega, c3⟩ (fun q => ⟨fun _ => by show fR h 1382 (aX h t 1 0 a) = 0; rw [eX]; have := q.1 ⟨.inl rfl, fun z => by omega⟩; rw [aX_0] at this; exact this, fun z => by show fR h 1482 (aN h (aX h t 1 0 a)) = 0; rw [eX]; have := q.2 z; rw [aX_0] at this; exact this⟩) O'
    · have ib := W
      obtain ⟨lb, ⟨ne, xl⟩, L, p72', f82', its, x27⟩ := nm_ats X (by omega) (by omega) W
      obtain ⟨i3, i4, i5, i6, _, k10, ev, _⟩ := ib
      obtain ⟨q1, q2, q3, q4⟩ := nm_tw L ⟨i3, i4, by omega⟩ k10 ev
      have xll : ∀ i x : Nat, xs[i]? = some x → (ll h (fR h 1494 a))[i]? = some x := fun i x e => by
        rw [eL, List.getElem?_append_left (List.getElem?_eq_some_iff.mp e).1]
        exact e
      refine ⟨xn 10 lb .leaf .leaf, lb.1, ⟨q1, fun alo' am' c1 c2 c3 => ?_, q2, q3, ⟨Nat.zero_le _, ?_⟩, q4, rfl⟩, p72', x27, fun _ => ⟨lb, rfl, rfl, xl, ne, L, ⟨i5, i6⟩, its⟩⟩
      · exact nm_cu L rfl xl ⟨⟨X.2.1.1 _ (by omega) (by omega) Lk Lne, by omega, Lk, by rw [eL, List.length_append]; omega⟩, fun i p e => by
            obtain ⟨x, x1, x2, x3⟩ := its i p e
            exact ⟨x, xll i x x1, x2, x3⟩⟩ (by omega)
      · show (if (10 : Nat) = 12 ∨ (10 : Nat) = 13 ∨ (10 : Nat) = 18 then _ else if (10 : Nat) = 0 then _ else 1 + max 0 0) ≤ k + 1
        rw [if_neg (by omega), if_neg (by omega)]
        omega
  obtain ⟨t0, pl, H0, p90, x27, nil'⟩ := HD
  have uL : usL h Sl a := ⟨⟨k30, by omega⟩, ⟨X.2.1.1 _ (by omega) (by omega) Lk Lne, by omega, Lk⟩, by rw [eL, List.length_append]; omega⟩
  obtain ⟨t, H, f1, f2⟩ := xu_all X IH uL ys xs.length nh mid hi a3 a4 v t0 sp ⟨xs, eL, rfl⟩ (by omega) h27 (by omega) (by omega) H0
  obtain ⟨h1, h2, h3, h4, h5, h6, h7⟩ := H
  refine ⟨t, h1, fun alo' ahi' c1 c2 c3 => ?_, h3, h4, h5, h6⟩
  by_cases yn : ys = []
  · obtain ⟨lb, et, e1, e2, e3, L, rh, its⟩ := nil' yn
    rw [f2 yn, et]
    have eL' : ll h (fR h 1494 a) = xs := by rw [eL, yn, List.append_nil]
    exact nm_cw L k30 rfl (by rw [p72, p90, e1]) f82 e3 (by rw [eL', e2]) ⟨⟨uL.2.1.1, uL.2.1.2.1, Lk, uL.2.2⟩, fun i p e => by rw [eL']; exact its i p e⟩ (by omega)
  · have yl0 : 0 < ys.length := List.length_pos_iff.mpr yn
    obtain ⟨lb, l, r, c⟩ := f1 yn
    have cv : ∀ t', (t' = 12 ∨ t' = 13) → t = xn t' lb l r → lb.1 = pl → XCg id (Ph0 h) G h N (clF cs) (UU us rest) Sl fo' mo' t d (k + 2) 0 0 a alo' ahi' := fun t' ht et e1 => by
      have O := h2 alo' ahi' c1 (by omega) c3
      rw [et] at O ⊢
      have mm : xs.length + ys.length = (ll h (fR h 1494 a)).length := by rw [eL, List.length_append]
      have o1 : aO t' 1 (xs.length + ys.length) := .inr (.inl ⟨rfl, ht, by omega⟩)
      have eX : aX h t' 1 (xs.length + ys.length) a = a := by unfold aX; rw [if_pos o1]
      have eH : aH h t' 1 (xs.length + ys.length) a ahi' = ahi' := by unfold aH; rw [if_pos (.inl o1)]
      have eD : aD t' 1 (xs.length + ys.length) (k + 2) = k + 2 := by unfold aD; rw [if_pos o1]
      have eM : aM h 1494 (1 == 1) (xs.length + ys.length) a = (ll h (fR h 1494 a)).length := by unfold aM; rw [if_pos ⟨rfl, by omega⟩, mm]
      have eM0 : aM h 1494 (0 == 1) 0 a = (ll h (fR h 1494 a)).length := aM_0
      rw [XCg_e] at O ⊢
      unfold XCb at O ⊢
      rw [eX, eH, eD] at O
      rw [aX_0, aH_0, aD_0]
      obtain ⟨⟨g1, g2, g3, g4, g5⟩, g6, g7, g8⟩ := O
      have p' : fI h 1372 a = (lb.1 : Int) := by rw [p72, p90, e1]
      refine ⟨⟨g1, g2, .inl (.inl rfl), g4, fun z => by omega, fun z => by omega, by omega⟩, g6, ⟨fun _ => by rw [aX_0]; exact f82, fun z => by omega⟩, ?_⟩
      rcases ht with ht | ht
      · subst ht
        rw [if_neg (by decide), if_neg (by decide), if_pos rfl, eM] at g8
        rw [if_neg (by decide), if_neg (by decide), if_pos rfl, eM0]
        exact ⟨g8.1, g8.2.1, fun _ => p', g8.2.2.2⟩
      · subst ht
        rw [if_neg (by decide), if_neg (by decide), if_neg (by decide), if_pos rfl, eM] at g8
        rw [if_neg (by decide), if_neg (by decide), if_neg (by decide), if_pos rfl, eM0]
        exact ⟨g8.1, g8.2.1, fun _ => p', g8.2.2.2⟩
    rcases c with ⟨et, e1⟩ | ⟨et, e1⟩
    · exact cv 12 (.inl rfl) et e1
    · exact cv 13 (.inr rfl) et e1
end LXU
