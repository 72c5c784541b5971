set_option maxRecDepth 100000
/-! EXS IN THE COMPONENT stay -/
section LXK
variable {g' : Prop}
variable {L : Type} {lab : L → XL} {Φ Φ' : Std.DTreeMap.Internal.Impl L (fun _ => Unit) → Nat → Nat → Nat → Prop} {G : om_G} {h h' : om_H} {N : List (List Int)} {cl : Nat → Nat} {U U' Sl Sl' : Nat → Prop} {fo mo : Nat → Nat}
theorem aX_keep (X : hSg g' Sl h h') {t md m a : Nat} (hm : md ≠ 0 → a < hz h ∧ (kd h a = 30 ∨ kd h a = 32)) : aX h' t md m a = aX h t md m a := by
  unfold aX
  by_cases m0 : md = 0
  · rw [if_pos (.inl m0), if_pos (.inl m0)]
  · obtain ⟨h1, h2⟩ := hm m0
    have s := (X.2.2.1 a h1 (by rcases h2 with w | w <;> (rw [w]; decide))).2
    rw [s 1490 (by decide), s 1518 (by decide)]
theorem aH_le {t md m a ahi : Nat} (o : aO t md m ∨ a < ahi) : aH h t md m a ahi ≤ ahi := by
  unfold aH
  split
  · exact Nat.le_refl _
  · rename_i n
    rcases o with w | w
    · exact absurd (.inl w) n
    · omega
theorem XCg_rng {t : Std.DTreeMap.Internal.Impl L (fun _ => Unit)} {d dp md m a alo ahi : Nat} (H : XCg lab Φ G h N cl U Sl fo mo t d dp md m a alo ahi) : alo < ahi ∧ ahi ≤ hz h := by
  cases t with
  | leaf => exact (XCg_l H).elim
  | inner t x u l r =>
    rw [XCg_e] at H
    unfold XCb at H
    obtain ⟨⟨h1, h2, h3, h4, _⟩, _⟩ := H
    have := aH_le (h := h) (a := a) h3
    exact ⟨by omega, h4⟩
theorem itC_keep (X : hSg g' Sl h h') (ms : ∀ a, Sl a → Sl' a) {a M i : Nat} (ha : a < hz h ∧ kd h a = 30) (H : itC h Sl a M i) : itC h' Sl' a M i ∧ fR h' 1498 i = fR h 1498 i ∧ fI h' 1504 i = fI h 1504 i := by
  obtain ⟨⟨a1, a2, a3⟩, a4, a5, ⟨a6, a7, a8⟩⟩ := H
  have s := (X.2.2.1 a ha.1 (by rw [ha.2]; decide)).2 1494 (by decide)
  have si := X.2.2.1 i a7 (by rw [a8]; decide)
  have el := X.2.2.2.2 _ a2 a1
  unfold itC
  rw [s, el]
  exact ⟨⟨⟨ms _ a1, Nat.lt_of_lt_of_le a2 X.1, by rw [X.2.1 _ a2]; exact a3⟩, a4, a5, ⟨a6, Nat.lt_of_lt_of_le a7 X.1, by rw [X.2.1 _ a7]; exact a8⟩⟩, si.2 1498 (by decide), si.1 1504 (by decide)⟩
theorem chC2_keep (X : hSg g' Sl h h') (ms : ∀ a, Sl a → Sl' a) {a M sg e : Nat} (ha : a < hz h ∧ kd h a = 32) (H : chC2 G h Sl a M sg e) : chC2 G h' Sl' a M sg e := by
  obtain ⟨⟨a1, a2, a3⟩, ⟨b1, b2, b3⟩, c⟩ := H
  have s := (X.2.2.1 a ha.1 (by rw [ha.2]; decide)).2
  unfold chC2
  rw [s 1522 (by decide), s 1526 (by decide), X.2.2.2.2 _ a2 a1, X.2.2.2.2 _ b2 b1]
  exact ⟨⟨ms _ a1, Nat.lt_of_lt_of_le a2 X.1, by rw [X.2.1 _ a2]; exact a3⟩, ⟨ms _ b1, Nat.lt_of_lt_of_le b2 X.1, by rw [X.2.1 _ b2]; exact b3⟩, c⟩
theorem nmC_keep (X : hSg g' Sl h h') (ms : ∀ a, Sl a → Sl' a) (kp : ∀ T a, tyC h N cl U T a → tyC h' N cl U' T a) {lb : XL} {d a : Nat} (ha : a < hz h) (H : nmC h N cl U Sl fo mo lb d a) : nmC h' N cl U' Sl' fo mo lb d a := by
  obtain ⟨⟨a1, a2, a3⟩, b, c⟩ := H
  have s := X.2.2.1 a ha (by rw [a1]; decide)
  unfold nmC
  rw [s.1 1372 (by decide), s.1 1464 (by decide), s.1 1476 (by decide), s.2 1454 (by decide), s.2 1470 (by decide), s.2 1474 (by decide), s.2 1458 (by decide), s.2 1462 (by decide)]
  refine ⟨⟨by rw [X.2.1 a ha]; exact a1, a2, wN_hS X a3⟩, b, ?_⟩
  rcases c with c | ⟨c0, ⟨c1, c2, c3, c4, c5⟩, ⟨d1, d2, d3, d4, d5⟩, e⟩
  · exact .inl c
  · refine .inr ⟨c0, ⟨c1, ms _ c2, Nat.lt_of_lt_of_le c3 X.1, by rw [X.2.1 _ c3]; exact c4, by rw [X.2.2.2.2 _ c3 c2]; exact c5⟩, ⟨d1, ms _ d2, Nat.lt_of_lt_of_le d3 X.1, by rw [X.2.1 _ d3]; exact d4, by rw [X.2.2.2.2 _ d3 d2]; exact d5⟩, fun i y p e1 e2 => ?_⟩
    rw [X.2.2.2.2 _ d3 d2] at e1
    exact kp _ _ (e i y p e1 e2)
theorem aH_keep (X : hSg g' Sl h h') {t md m a ahi : Nat} (hm : md ≠ 0 → a < hz h ∧ (kd h a = 30 ∨ kd h a = 32)) (hb : aX h t md m a < hz h) : aH h' t md m a ahi = aH h t md m a ahi := by
  by_cases o : aO t md m
  · unfold aH
    rw [if_pos (.inl o), if_pos (.inl o)]
  · by_cases m1 : md = 1
    · obtain ⟨h1, h2⟩ := hm (by omega)
      have e : aX h t md m a = fR h 1490 a := by unfold aX; rw [if_neg o, if_pos m1]
      have s := (X.2.2.1 a h1 (by rcases h2 with w | w <;> (rw [w]; decide))).2 1490 (by decide)
      unfold aH
      rw [s, X.2.1 _ (by rw [← e]; exact hb)]
    · unfold aH
      rw [if_neg (fun w => by rcases w with w | w; exact o w; exact m1 w.2.1), if_neg (fun w => by rcases w with w | w; exact o w; exact m1 w.2.1)]
theorem aN_keep (X : hSg g' Sl h h') {b : Nat} (hb : b < hz h) : aN h' b = aN h b := by
  unfold aN
  rw [X.2.1 b hb]
  by_cases k : kd h b = 30
  · rw [if_pos k, if_pos k, (X.2.2.1 b hb (by rw [k]; decide)).2 1490 (by decide)]
  · rw [if_neg k, if_neg k]
theorem itL_keep (X : hSg g' Sl h h') (ms : ∀ a, Sl a → Sl' a) {as : List (Ty × Nat)} {u : Nat} (hu : u < hz h ∧ (kd h u = 30 ∨ kd h u = 32)) (H : itL h Sl as u) : itL h' Sl' as u ∧ ll h' (fR h' 1494 u) = ll h (fR h 1494 u) := by
  obtain ⟨⟨a2, a3, a4, a4'⟩, a5⟩ := H
  have s := (X.2.2.1 u hu.1 (by rcases hu.2 with w | w <;> (rw [w]; decide))).2 1494 (by decide)
  have e := X.2.2.2.2 _ a3 a2
  unfold itL
  rw [s, e]
  refine ⟨⟨⟨ms _ a2, Nat.lt_of_lt_of_le a3 X.1, by rw [X.2.1 _ a3]; exact a4, a4'⟩, fun i p e => ?_⟩, rfl⟩
  obtain ⟨x, x1, ⟨x2, x3⟩, x4⟩ := a5 i p e
  exact ⟨x, x1, ⟨Nat.lt_of_lt_of_le x2 X.1, by rw [X.2.1 _ x2]; exact x3⟩, by rw [(X.2.2.1 x x2 (by rw [x3]; decide)).1 1504 (by decide)]; exact x4⟩
theorem atC_keep (X : hSg g' Sl h h') (ms : ∀ a, Sl a → Sl' a) {lb : XL} {b md m a : Nat} (hm : md ≠ 0 → a < hz h ∧ (kd h a = 30 ∨ kd h a = 32)) (hb : b < hz h) (H : atC h Sl lb b md m a) : atC h' Sl' lb b md m a := by
  have kb := X.2.1 b hb
  unfold atC at H ⊢
  rw [kb]
  by_cases q : md = 1 ∧ kd h b = 28
  · rw [if_pos q] at H ⊢
    exact ⟨H.1, (itL_keep X ms (hm (by omega)) H.2).1⟩
  · rw [if_neg q] at H ⊢
    refine ⟨H.1, H.2.imp id (fun w => ?_)⟩
    obtain ⟨w1, w2, w3, w4, w5⟩ := w
    have il := itL_keep X ms ⟨hb, .inl w1⟩ w5
    exact ⟨w1, by rw [(X.2.2.1 b hb (by rw [w1]; decide)).1 1372 (by decide)]; exact w2, w3, by rw [il.2]; exact w4, il.1⟩
theorem aM_keep (X : hSg g' Sl h h') {f : Nat} {p : Bool} {m a : Nat} (e : fR h' f a = fR h f a) (s : Sl (fR h f a) ∧ fR h f a < hz h) : aM h' f p m a = aM h f p m a := by
  unfold aM
  rw [e, X.2.2.2.2 _ s.2 s.1]
theorem XCg_lt {t : Std.DTreeMap.Internal.Impl L (fun _ => Unit)} {d dp md m a alo ahi : Nat} (H : XCg lab Φ G h N cl U Sl fo mo t d dp md m a alo ahi) : a < ahi ∧ (md = 0 → alo ≤ a) := by
  cases t with
  | leaf => exact (XCg_l H).elim
  | inner t x u l r =>
    rw [XCg_e] at H
    unfold XCb at H
    obtain ⟨⟨h1, h2, h3, h4, _⟩, _⟩ := H
    have := aH_le (h := h) (a := a) h3
    by_cases o : aO t md m
    · unfold aX at h1 h2
      rw [if_pos o] at h1 h2
      exact ⟨by omega, fun _ => h1⟩
    · rcases h3 with w | w
      · exact absurd w o
      · exact ⟨w, fun z => absurd (.inl z) o⟩
/-- one step: what else is known (Φ) may be known in another way -/
theorem XCb_keep (X : hSg g' Sl h h') (ms : ∀ a, Sl a → Sl' a) (kp : ∀ T a, tyC h N cl U T a → tyC h' N cl U' T a) {c t d dp md m a alo ahi : Nat} {x x' : L} {l r : Std.DTreeMap.Internal.Impl L (fun _ => Unit)} {W W' : Std.DTreeMap.Internal.Impl L (fun _ => Unit) → Nat → Nat → Nat → Nat → Nat → Nat → Nat → Prop} (el : lab x' = lab x) (hm : md ≠ 0 → a < hz h ∧ (kd h a = 30 ∨ kd h a = 32)) (hc : (c < alo ∨ ahi ≤ c) ∨ a = c) (hW : ∀ {t d dp md m a alo ahi}, W t d dp md m a alo ahi → alo < ahi ∧ a < ahi) (hΦ : (alo ≤ aX h t md m a ∧ aX h t md m a < ahi ∧ aX h t md m a < hz h) → (24 ≤ kd h (aX h t md m a) ∧ kd h (aX h t md m a) ≤ 32 ∧ kd h (aX h t md m a) ≠ 31) → (t = 12 → Sl (fR h 1494 (aX h t md m a)) ∧ fR h 1494 (aX h t md m a) < hz h ∧ ∀ i, (ll h (fR h 1494 (aX h t md m a)))[aM h 1494 (md == 1) m (aX h t md m a) - 1]? = some i → alo ≤ i ∧ i < ahi ∧ i < hz h ∧ kd h i = 31) → (t = 10 → alo ≤ aN h (aX h t md m a) ∧ aN h (aX h t md m a) < ahi ∧ aN h (aX h t md m a) < hz h ∧ kd h (aN h (aX h t md m a)) = 28) → (aX h t md m a = c → a = c ∧ aO t md m) → Φ (.inner t x () l r) md m a → Φ' (.inner t x' () l r) md m a) (hl : ∀ d dp md' m a' alo' ahi', alo ≤ alo' → ahi' ≤ ahi → (md' ≠ 0 → a' < hz h ∧ (kd h a' = 30 ∨ kd h a' = 32)) → ((c < alo' ∨ ahi' ≤ c) ∨ (md' ≠ 0 ∧ a' = c)) → W l d dp md' m a' alo' ahi' → W' l d dp md' m a' alo' ahi') (hr : ∀ d dp a' alo' ahi', alo ≤ alo' → ahi' ≤ ahi → (c < alo' ∨ ahi' ≤ c) → W r d dp 0 0 a' alo' ahi' → W' r d dp 0 0 a' alo' ahi') (hp : ∀ t' y u r1 r2, r = .inner t' y u r1 r2 → (∀ d dp a' alo' ahi', alo ≤ alo' → ahi' ≤ ahi → (c < alo' ∨ ahi' ≤ c) → W r1 d dp 0 0 a' alo' ahi' → W' r1 d dp 0 0 a' alo' ahi') ∧ ∀ d dp a' alo' ahi', alo ≤ alo' → ahi' ≤ ahi → (c < alo' ∨ ahi' ≤ c) → W r2 d dp 0 0 a' alo' ahi' → W' r2 d dp 0 0 a' alo' ahi') (H : XCb lab Φ G h N cl U Sl fo mo W t x l r d dp md m a alo ahi) : XCb lab Φ' G h' N cl U' Sl' fo mo W' t x' l r d dp md m a alo ahi := by
  unfold XCb at H ⊢
  have ea := aX_keep (t := t) (m := m) X hm
  obtain ⟨⟨h1, h2, h3, h4, hk⟩, hD, hφ, h5⟩ := H
  have hH := aH_le (h := h) (a := a) h3
  have hb : aX h t md m a < hz h := by omega
  have eH := aH_keep (ahi := ahi) X hm hb
  have eN := aN_keep X hb
  rw [ea, eH, eN, el]
  have oH : aO t md m → aX h t md m a = a := fun o => by unfold aX; rw [if_pos o]
  have nH : ¬ aO t md m → t ≠ 10 → aH h t md m a ahi = a := fun o n => by
    unfold aH
    rw [if_neg (fun w => by rcases w with w | w; exact o w; exact n w.1)]
  have cc : aX h t md m a = c → a = c ∧ aO t md m := fun e => by
    rcases hc with w | w
    · omega
    · by_cases o : aO t md m
      · exact ⟨w, o⟩
      · have m0 : md ≠ 0 := fun z => o (.inl z)
        by_cases n : t = 10 ∧ md = 1 ∧ kd h (fR h 1490 a) = 28
        · have e1 : aX h t md m a = fR h 1490 a := by unfold aX; rw [if_neg o, if_pos n.2.1]
          have k := n.2.2
          rw [← e1, e, ← w] at k
          have := (hm m0).2
          omega
        · have : aH h t md m a ahi = a := by
            unfold aH
            rw [if_neg (fun w => by rcases w with w | w; exact o w; exact n w)]
          omega
  have rg : t ≠ 10 → ∀ {p q : Nat}, (aX h t md m a < p ∨ q ≤ p) → q ≤ aH h t md m a ahi → aX h t md m a < p → (c < p ∨ q ≤ c) ∨ ((c < alo ∨ ahi ≤ c) ∧ True) := fun n {p q} _ hq hp' => by
    rcases hc with w | w
    · exact .inr ⟨w, trivial⟩
    · by_cases o : aO t md m
      · have := oH o
        exact .inl (.inl (by omega))
      · have := nH o n
        exact .inl (.inr (by omega))
  have rg2 : t ≠ 10 → ∀ {p q : Nat}, alo ≤ p → q ≤ aH h t md m a ahi → aX h t md m a < p → (c < p ∨ q ≤ c) := fun n {p q} hp0 hq hp' => by
    rcases rg n (.inl hp') hq hp' with w | w
    · exact w
    · have := w.1
      omega
  have rgl : t ≠ 10 → ∀ {q : Nat}, q ≤ aH h t md m a ahi → (c < alo ∨ q ≤ c) ∨ aX h t md m a = c := fun n {q} hq => by
    rcases hc with w | w
    · exact .inl (by omega)
    · by_cases o : aO t md m
      · exact .inr ((oH o).trans w)
      · have := nH o n
        exact .inl (.inr (by omega))
  generalize aX h t md m a = b at *
  generalize aH h t md m a ahi = hh at *
  have φ1 := hΦ ⟨h1, by omega, hb⟩
  refine ⟨⟨h1, h2, h3, Nat.le_trans h4 X.1, hk⟩, hD, ?_⟩
  have kdb := X.2.1 b hb
  have no : ∀ {P : Prop}, t ≠ 12 → (t = 12 → P) := fun n w => absurd w n
  have no10 : ∀ {P : Prop}, t ≠ 10 → (t = 10 → P) := fun n w => absurd w n
  by_cases t10 : t = 10
  · rw [if_pos t10] at h5 ⊢
    obtain ⟨nc, nr, na⟩ := h5
    have kb : kd h b = 28 ∨ kd h b = 30 := by
      by_cases q : kd h b = 30
      · exact .inr q
      · have k := nc.1.1
        unfold aN at k
        rw [if_neg q] at k
        exact .inl k
    have ln : aN h b < hz h := by omega
    exact ⟨φ1 (by omega) (no (by omega)) (fun _ => ⟨nr.1, by omega, ln, nc.1.1⟩) cc hφ, nmC_keep X ms kp ln nc, nr, atC_keep X ms hm hb na⟩
  rw [if_neg t10] at h5 ⊢
  have nn := no10 (P := alo ≤ aN h b ∧ aN h b < ahi ∧ aN h b < hz h ∧ kd h (aN h b) = 28) t10
  by_cases t11 : t = 11
  · rw [if_pos t11] at h5 ⊢
    obtain ⟨a0, a1, a2, a3⟩ := h5
    have s := X.2.2.1 b hb (by rw [a1]; decide)
    exact ⟨φ1 (by omega) (no (by omega)) nn cc hφ, a0, by rw [kdb]; exact a1, by rw [s.1 1372 (by decide)]; exact a2, by rw [s.1 1484 (by decide)]; exact a3⟩
  rw [if_neg t11] at h5 ⊢
  by_cases t12 : t = 12
  · rw [if_pos t12] at h5 ⊢
    obtain ⟨a1, a2, a3, i, am, a4, a5, a6, a7, ⟨a8, a8b, a8c, a8d⟩, a9, a10⟩ := h5
    have s := X.2.2.1 b hb (by rw [a1]; decide)
    obtain ⟨b1, b2, b3⟩ := itC_keep X ms ⟨hb, a1⟩ a5
    have eM : aM h' 1494 (md == 1) m b = aM h 1494 (md == 1) m b := aM_keep X (s.2 1494 (by decide)) ⟨a5.1.1, a5.1.2.1⟩
    have w9 := hW a9
    have cl' := rgl t10 (q := am) (by omega)
    rw [eM]
    refine ⟨φ1 (by omega) (fun _ => ⟨a5.1.1, a5.1.2.1, fun j ej => ?_⟩) nn cc hφ, by rw [kdb]; exact a1, a2, fun w => by rw [s.1 1372 (by decide)]; exact a3 w, i, am, a4, b1, by rw [b2]; exact a6, by rw [b3]; exact a7, ⟨a8, a8b, a8c, a8d⟩, hl _ _ _ _ _ _ _ (Nat.le_refl _) (by omega) (fun _ => ⟨hb, .inl a1⟩) (cl'.imp id (fun w => ⟨by decide, w⟩)) a9, by rw [b2]; exact hr _ _ _ _ _ (by omega) (by omega) (rg2 t10 (by omega) (by omega) (by omega)) a10⟩
    rw [a5.2.2.1] at ej
    rw [← Option.some.inj ej]
    exact ⟨by omega, by omega, a5.2.2.2.2.1, a5.2.2.2.2.2⟩
  rw [if_neg t12] at h5 ⊢
  by_cases t13 : t = 13
  · rw [if_pos t13] at h5 ⊢
    obtain ⟨a1, a2, a3, i, am, a5, a6, a7, a8, a9⟩ := h5
    have s := X.2.2.1 b hb (by rw [a1]; decide)
    obtain ⟨b1, b2, b3⟩ := itC_keep X ms ⟨hb, a1⟩ a5
    have eM : aM h' 1494 (md == 1) m b = aM h 1494 (md == 1) m b := aM_keep X (s.2 1494 (by decide)) ⟨a5.1.1, a5.1.2.1⟩
    have cl' := rgl t10 (q := am) (by omega)
    rw [eM]
    exact ⟨φ1 (by omega) (no (by omega)) nn cc hφ, by rw [kdb]; exact a1, a2, fun w => by rw [s.1 1372 (by decide)]; exact a3 w, i, am, b1, by rw [b2]; exact a6, by rw [b3]; exact a7, a8, hl _ _ _ _ _ _ _ (Nat.le_refl _) (by omega) (fun _ => ⟨hb, .inl a1⟩) (cl'.imp id (fun w => ⟨by decide, w⟩)) a9⟩
  rw [if_neg t13] at h5 ⊢
  by_cases t18 : t = 18
  · rw [if_pos t18] at h5 ⊢
    obtain ⟨a1, a3, e, am, a5, a5b, a6, a7⟩ := h5
    have s := X.2.2.1 b hb (by rw [a1]; decide)
    have b1 := chC2_keep X ms ⟨hb, a1⟩ a5
    have eM : aM h' 1522 (md == 2) m b = aM h 1522 (md == 2) m b := aM_keep X (s.2 1522 (by decide)) ⟨a5.1.1, a5.1.2.1⟩
    have w6 := hW a6
    have w7 := hW a7
    have cl' := rgl t10 (q := am) (by omega)
    rw [eM]
    exact ⟨φ1 (by omega) (no (by omega)) nn cc hφ, by rw [kdb]; exact a1, fun w => by rw [s.1 1372 (by decide)]; exact a3 w, e, am, b1, a5b, hl _ _ _ _ _ _ _ (Nat.le_refl _) (by omega) (fun _ => ⟨hb, .inr a1⟩) (cl'.imp id (fun w => ⟨by decide, w⟩)) a6, hr _ _ _ _ _ (by omega) (by omega) (rg2 t10 (by omega) (by omega) (by omega)) a7⟩
  rw [if_neg t18] at h5 ⊢
  obtain ⟨a0, a1, h6⟩ := h5
  by_cases t14 : t = 14
  · rw [if_pos t14] at h6 ⊢
    obtain ⟨b1, b2, b3, c1, c2, c3, c4, c5⟩ := h6
    have s := X.2.2.1 b hb (by rw [b1]; decide)
    exact ⟨φ1 (by omega) (no (by omega)) nn cc hφ, a0, by rw [s.1 1372 (by decide)]; exact a1, by rw [kdb]; exact b1, by rw [s.2 1394 (by decide)]; exact kp _ _ b2, by rw [s.2 1386 (by decide)]; exact wN_hS X b3, c1, c2, c3, c4, by rw [s.2 1398 (by decide)]; exact hl _ _ _ _ _ _ _ (by omega) (by omega) (fun w => absurd rfl w) (.inl (rg2 t10 (by omega) (by omega) (by omega))) c5⟩
  rw [if_neg t14] at h6 ⊢
  by_cases t15 : t = 15
  · rw [if_pos t15] at h6 ⊢
    obtain ⟨b1, b2, b3, c1, c2, c3, c4, ⟨c5a, c5b⟩, c5, c6, c7⟩ := h6
    have s := X.2.2.1 b hb (by rw [b1]; decide)
    exact ⟨φ1 (by omega) (no (by omega)) nn cc hφ, a0, by rw [s.1 1372 (by decide)]; exact a1, by rw [kdb]; exact b1, by rw [s.2 1410 (by decide)]; exact kp _ _ b2, by rw [s.2 1402 (by decide)]; exact wN_hS X b3, c1, c2, c3, c4, ⟨c5a, c5b⟩, c5, by rw [s.2 1414 (by decide)]; exact hl _ _ _ _ _ _ _ (by omega) (by omega) (fun w => absurd rfl w) (.inl (rg2 t10 (by omega) (by omega) (by omega))) c6, by rw [s.2 1418 (by decide)]; exact hr _ _ _ _ _ (by omega) (by omega) (rg2 t10 (by omega) (by omega) (by omega)) c7⟩
  rw [if_neg t15] at h6 ⊢
  cases r with
  | leaf => exact h6.elim
  | inner t' y u' r1 r2 =>
    obtain ⟨p1, p2⟩ := hp t' y u' r1 r2 rfl
    obtain ⟨tz, h7⟩ := h6
    by_cases t16 : t = 16
    · rw [if_pos t16] at h7
      obtain ⟨b1, c1, c2, c3, c4, c5, ⟨c6a, c6b, c6c⟩, c6, c7, c8, c9⟩ := h7
      have s := X.2.2.1 b hb (by rw [b1]; decide)
      refine ⟨φ1 (by omega) (no (by omega)) nn cc hφ, a0, by rw [s.1 1372 (by decide)]; exact a1, tz, ?_⟩
      rw [if_pos t16]
      exact ⟨by rw [kdb]; exact b1, c1, c2, c3, c4, c5, ⟨c6a, c6b, c6c⟩, c6, by rw [s.2 1422 (by decide)]; exact hl _ _ _ _ _ _ _ (by omega) (by omega) (fun w => absurd rfl w) (.inl (rg2 t10 (by omega) (by omega) (by omega))) c7, by rw [s.2 1426 (by decide)]; exact p1 _ _ _ _ _ (by omega) (by omega) (rg2 t10 (by omega) (by omega) (by omega)) c8, by rw [s.2 1430 (by decide)]; exact p2 _ _ _ _ _ (by omega) (by omega) (rg2 t10 (by omega) (by omega) (by omega)) c9⟩
    rw [if_neg t16] at h7
    by_cases t17 : t = 17
    · rw [if_pos t17] at h7
      obtain ⟨b1, b2, b3, c1, c2, c3, c4, c5, c6, ⟨c7a, c7b, c7c, c7d⟩, c8, c9, c10, c11⟩ := h7
      have s := X.2.2.1 b hb (by rw [b1]; decide)
      refine ⟨φ1 (by omega) (no (by omega)) nn cc hφ, a0, by rw [s.1 1372 (by decide)]; exact a1, tz, ?_⟩
      rw [if_neg t16, if_pos t17]
      exact ⟨by rw [kdb]; exact b1, by rw [s.2 1446 (by decide)]; exact wN_hS X b2, by rw [s.2 1450 (by decide)]; exact wN_hS X b3, c1, c2, c3, c4, c5, c6, ⟨c7a, c7b, c7c, c7d⟩, c8, by rw [s.2 1434 (by decide)]; exact hl _ _ _ _ _ _ _ (by omega) (by omega) (fun w => absurd rfl w) (.inl (rg2 t10 (by omega) (by omega) (by omega))) c9, by rw [s.2 1438 (by decide)]; exact p1 _ _ _ _ _ (by omega) (by omega) (rg2 t10 (by omega) (by omega) (by omega)) c10, by rw [s.2 1442 (by decide)]; exact p2 _ _ _ _ _ (by omega) (by omega) (rg2 t10 (by omega) (by omega) (by omega)) c11⟩
    rw [if_neg t17] at h7
    exact h7.elim
/-- exs stay: what else is known of them (Φ) is known of objects that lie from p on, below q, and that are not c (but for the first parts of c itself) -/
theorem XCg_keep (X : hSg g' Sl h h') (ms : ∀ a, Sl a → Sl' a) (kp : ∀ T a, tyC h N cl U T a → tyC h' N cl U' T a) (p q c : Nat) (hΦ : ∀ t x l r md m a, (md ≠ 0 → a < hz h ∧ (kd h a = 30 ∨ kd h a = 32)) → (p ≤ aX h t md m a ∧ aX h t md m a < q ∧ aX h t md m a < hz h) → (24 ≤ kd h (aX h t md m a) ∧ kd h (aX h t md m a) ≤ 32 ∧ kd h (aX h t md m a) ≠ 31) → (t = 12 → Sl (fR h 1494 (aX h t md m a)) ∧ fR h 1494 (aX h t md m a) < hz h ∧ ∀ i, (ll h (fR h 1494 (aX h t md m a)))[aM h 1494 (md == 1) m (aX h t md m a) - 1]? = some i → p ≤ i ∧ i < q ∧ i < hz h ∧ kd h i = 31) → (t = 10 → p ≤ aN h (aX h t md m a) ∧ aN h (aX h t md m a) < q ∧ aN h (aX h t md m a) < hz h ∧ kd h (aN h (aX h t md m a)) = 28) → (aX h t md m a = c → md ≠ 0 ∧ a = c ∧ aO t md m) → Φ (.inner t x () l r) md m a → Φ' (.inner t x () l r) md m a) : ∀ (t : Std.DTreeMap.Internal.Impl L (fun _ => Unit)) (d dp md m a alo ahi : Nat), p ≤ alo → ahi ≤ q → (md ≠ 0 → a < hz h ∧ (kd h a = 30 ∨ kd h a = 32)) → ((c < alo ∨ ahi ≤ c) ∨ (md ≠ 0 ∧ a = c)) → XCg lab Φ G h N cl U Sl fo mo t d dp md m a alo ahi → XCg lab Φ' G h' N cl U' Sl' fo mo t d dp md m a alo ahi := by
  refine tr_ind (fun _ _ _ _ _ _ _ _ _ _ _ H => (XCg_l H).elim) (fun t x u l r ihl ihr ihp => ?_)
  intro d dp md m a alo ahi hp hq hm hc H
  rw [XCg_e] at H ⊢
  have rr : alo ≤ aX h t md m a ∧ aX h t md m a < ahi := by
    unfold XCb at H
    obtain ⟨⟨h1, h2, h3, h4, _⟩, _⟩ := H
    have := aH_le (h := h) (a := a) h3
    exact ⟨h1, by omega⟩
  refine XCb_keep (W := XCg lab Φ G h N cl U Sl fo mo) (W' := XCg lab Φ' G h' N cl U' Sl' fo mo) X ms kp (c := c) rfl hm (hc.imp id (fun w => w.2)) (fun w => ⟨(XCg_rng w).1, (XCg_lt w).1⟩) (fun g1 g2 g3 g3' g4 => hΦ t x l r md m a hm ⟨by omega, by omega, g1.2.2⟩ g2 (fun w => ?_) (fun w => ?_) (fun w => ?_)) (fun d dp md' m a' alo' ahi' k1 k2 k3 k4 w => ihl d dp md' m a' alo' ahi' (by omega) (by omega) k3 k4 w) (fun d dp a' alo' ahi' k1 k2 k4 w => ihr d dp 0 0 a' alo' ahi' (by omega) (by omega) (fun z => absurd rfl z) (.inl k4) w) (fun t' y u r1 r2 er => ⟨fun d dp a' alo' ahi' k1 k2 k4 w => (ihp t' y u r1 r2 er).1 d dp 0 0 a' alo' ahi' (by omega) (by omega) (fun z => absurd rfl z) (.inl k4) w, fun d dp a' alo' ahi' k1 k2 k4 w => (ihp t' y u r1 r2 er).2 d dp 0 0 a' alo' ahi' (by omega) (by omega) (fun z => absurd rfl z) (.inl k4) w⟩) H
  · obtain ⟨y1, y2, y3⟩ := g3 w
    exact ⟨y1, y2, fun i ei => by have := y3 i ei; omega⟩
  · have := g3' w
    omega
  · obtain ⟨y1, y2⟩ := g4 w
    refine ⟨fun z => ?_, y1, y2⟩
    rcases hc with v | v
    · omega
    · exact v.1 z
end LXK
