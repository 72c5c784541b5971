set_option maxRecDepth 100000
/-! WHAT WAITS STAYS while insts' arrays are written (the third rule) -/
section LJE
variable {G : om_G} {N : List (List Int)} {cl : Nat → Nat} {tb pr : Nat} {rest : List (Nat × List Nat)} {ss : List (Nat × List GVs)} {Sl Sl0 : Nat → Prop} {io fo mo : Nat → Nat} {E : JE} {H0 nF nI : Nat} {h h1 : om_H} {us us1 : List Nat} {g : Prop}
theorem Ph0_eq (X : hSg g Sl h h1) (kp : ∀ T a, tyC h N cl (UU us rest) T a → tyC h1 N cl (UU us1 rest) T a) (eq : ∀ a, a < hz h → dyK (kd h a) → eqA a h h1) {t : Xt} {d dp md m a alo ahi : Nat} (hm : md ≠ 0 → a < hz h ∧ (kd h a = 30 ∨ kd h a = 32)) (H : XCg id (Ph0 h) G h N cl (UU us rest) Sl fo mo t d dp md m a alo ahi) : XCg id (Ph0 h1) G h1 N cl (UU us1 rest) Sl fo mo t d dp md m a alo ahi := by
  refine XCg_keep X (fun _ w => w) kp alo ahi ahi (fun t x l r md m a hm g1 g2 _ g10 _ φ => ?_) t d dp md m a alo ahi (Nat.le_refl _) (Nat.le_refl _) hm (.inl (.inr (Nat.le_refl _))) H
  have ea := aX_keep (t := t) (m := m) X hm
  have e := eq _ g1.2.2 (by unfold dyK; omega)
  obtain ⟨φ1, φ2⟩ := φ
  refine ⟨fun w => ?_, fun w => ?_⟩
  · rw [ea, e.1] at w
    rw [ea, e.2.2.1]; exact φ1 w
  · obtain ⟨z1, z2, z3, z4⟩ := g10 w
    have e' := eq _ z3 (by rw [z4]; unfold dyK; omega)
    rw [ea, aN_keep X g1.2.2, e'.2.2.1]; exact φ2 w
theorem FjC_eq {j : JB} {f : Nat} (X : hSg g Sl0 h h1) (kp : ∀ T a, tyC h N cl (UU us rest) T a → tyC h1 N cl (UU us1 rest) T a) (eq : ∀ a, a < hz h → dyK (kd h a) → eqA a h h1) (H : FjC G N cl rest ss fo mo E H0 Sl0 h us j f) : FjC G N cl rest ss fo mo E H0 Sl0 h1 us1 j f := by
  obtain ⟨⟨a1, a2, a3⟩, ⟨b1, b2, b3⟩, c, t, r, e⟩ := H
  have sf := X.2.2.1 _ a3 (by rw [a2]; decide)
  have e54 := sf.2 1554 (by decide)
  refine ⟨⟨by rw [sf.2 1542 (by decide)]; exact a1, by rw [X.2.1 _ a3]; exact a2, Nat.lt_of_lt_of_le a3 X.1⟩, ?_, ?_, by rw [sf.2 1550 (by decide)]; exact kp _ _ t, r, e⟩
  · rw [sf.2 1530 (by decide), X.2.1 _ b1, (X.2.2.1 _ b1 (by rw [b2]; decide)).1 1188 (by decide)]
    exact ⟨Nat.lt_of_lt_of_le b1 X.1, b2, b3⟩
  · rw [e54]
    exact Ph0_eq X kp eq (fun w => absurd rfl w) c
theorem LnW_eq {o wc : Nat} {d : INs} {y : LD} (X : hSg g Sl0 h h1) (kp : ∀ T a, tyC h N cl (UU us rest) T a → tyC h1 N cl (UU us1 rest) T a) (eq : ∀ a, a < hz h → dyK (kd h a) → eqA a h h1) (k18 : cl d.1 < hz h ∧ kd h (cl d.1) = 18) (H : LnW G N cl rest fo mo E H0 o wc d h us Sl0 y) : LnW G N cl rest fo mo E H0 o wc d h1 us1 Sl0 y := by
  obtain ⟨⟨⟨b1, b2, b3⟩, ⟨ms, mo', ⟨d1, d2, d3, d4, d5⟩, d6, d7, d8⟩, e1, ⟨f1, f2, f3⟩⟩, a2, a3, a4⟩ := H
  have sx := X.2.2.1 _ b1 (by rw [b2]; decide)
  have sc := X.2.2.1 _ k18.1 (by rw [k18.2]; decide)
  have sm := X.2.2.1 _ f1 (by rw [f2]; decide)
  have e1230 := sc.2 1230 (by decide)
  have l1230 := X.2.2.2.2 _ d2 d1
  refine ⟨⟨⟨Nat.lt_of_lt_of_le b1 X.1, by rw [X.2.1 _ b1]; exact b2, by rw [sx.2 1366 (by decide)]; exact b3⟩, ⟨ms, mo', ?_, fun k y ey => ?_, d7, d8⟩, by rw [sx.2 1362 (by decide)]; exact wN_hS X e1, ⟨Nat.lt_of_lt_of_le f1 X.1, by rw [X.2.1 _ f1]; exact f2, by rw [sm.2 1262 (by decide)]; exact kp _ _ f3⟩⟩, Ph0_eq X kp eq (fun w => absurd rfl w) a2, a3, a4⟩
  · rw [e1230, l1230, X.2.1 _ d2]
    exact ⟨d1, Nat.lt_of_lt_of_le d2 X.1, d3, d4, d5⟩
  · obtain ⟨q1, ⟨q2, q3, q4⟩, q5, q6⟩ := d6 k y ey
    have sk := X.2.2.1 _ q3 (by rw [q4]; decide)
    rw [e1230, l1230, X.2.1 _ q3, sk.2 1242 (by decide), sk.1 1252 (by decide)]
    exact ⟨q1, ⟨q2, Nat.lt_of_lt_of_le q3 X.1, q4⟩, wN_hS X q5, q6⟩
theorem IjC_eq {j : JB} {i : Nat} (X : hSg g Sl0 h h1) (kp : ∀ T a, tyC h N cl (UU us rest) T a → tyC h1 N cl (UU us1 rest) T a) (eq : ∀ a, a < hz h → dyK (kd h a) → eqA a h h1) (hL : fR h 1322 (io i) < hz h ∧ ll h1 (fR h 1322 (io i)) = ll h (fR h 1322 (io i)) ∧ lc h1 (fR h 1322 (io i)) = lc h (fR h 1322 (io i))) (H : IjC G N cl rest ss io fo mo E H0 Sl0 h us Sl j i) : IjC G N cl rest ss io fo mo E H0 Sl0 h1 us1 Sl j i := by
  obtain ⟨a1, IW, a3, ⟨L1, L2, L3, L4⟩, r, LW, rs⟩ := H
  obtain ⟨o1, o2, o3, o4⟩ := IW.1
  have so := X.2.2.1 _ o2 (by rw [o1]; decide)
  have e1322 := so.2 1322 (by decide)
  refine ⟨by rw [so.2 1286 (by decide)]; exact a1, InW_hS X (fun _ w => w) kp IW, by rw [so.1 1276 (by decide)]; exact a3, ?_, by rw [e1322]; exact r, fun y hy => ⟨LnW_eq X kp eq ⟨o4.2.1, o4.2.2.1⟩ (LW y hy).1, (LW y hy).2⟩, rs⟩
  rw [e1322, hL.2.1]
  exact ⟨L1, L2, L3, L4⟩
end LJE
