set_option maxRecDepth 100000
/-! HOW MANY BYTES ARE TOLD: what is judged -/
section LJL
variable {nm con fam cnm : Nat → List Int} {B : Nat} {E : JE}
theorem co_10 {a : XL × Ty × Ty × List Dc} {u : Unit} {l r : Et} : coL nm con fam cnm E (.inner 10 a u l r) = (nmB nm con fam cnm E.2.2.1 E.2.2.2.1 E.2.2.2.2 a.1 a.2.2.2).length := rfl
theorem co_11 {a : XL × Ty × Ty × List Dc} {u : Unit} {l r : Et} : coL nm con fam cnm E (.inner 11 a u l r) = (numB a.1.2.1).length := rfl
theorem co_12 {a : XL × Ty × Ty × List Dc} {u : Unit} {l r : Et} : coL nm con fam cnm E (.inner 12 a u l r) = exL nm con fam cnm E l + exL nm con fam cnm E r + 3 := by
  show (40 :: exB nm con fam cnm E.2.2.1 E.2.2.2.1 E.2.2.2.2 l [] ++ [32] ++ exB nm con fam cnm E.2.2.1 E.2.2.2.1 E.2.2.2.2 r [] ++ [41]).length = _
  unfold exL
  simp only [List.length_append, List.length_cons, List.length_nil]
  omega
theorem co_14 {a : XL × Ty × Ty × List Dc} {u : Unit} {l r : Et} : coL nm con fam cnm E (.inner 14 a u l r) = (nm a.1.2.2.2.1).length + (tyB nm con fam (lbT a.1)).length + exL nm con fam cnm E l + 3 := by
  show (92 :: nm a.1.2.2.2.1 ++ [58] ++ tyB nm con fam (lbT a.1) ++ [46] ++ exB nm con fam cnm E.2.2.1 E.2.2.2.1 E.2.2.2.2 l []).length = _
  unfold exL
  simp only [List.length_append, List.length_cons, List.length_nil]
  omega
theorem co_15 {a : XL × Ty × Ty × List Dc} {u : Unit} {l r : Et} : coL nm con fam cnm E (.inner 15 a u l r) = (nm a.1.2.2.2.1).length + (tyB nm con fam (lbT a.1)).length + exL nm con fam cnm E l + exL nm con fam cnm E r + 10 := by
  show ([108, 101, 116, 32] ++ nm a.1.2.2.2.1 ++ [58] ++ tyB nm con fam (lbT a.1) ++ [61] ++ exB nm con fam cnm E.2.2.1 E.2.2.2.1 E.2.2.2.2 l [] ++ [32, 105, 110, 32] ++ exB nm con fam cnm E.2.2.1 E.2.2.2.1 E.2.2.2.2 r []).length = _
  unfold exL
  simp only [List.length_append, List.length_cons, List.length_nil]
  omega
theorem co_16 {a a' : XL × Ty × Ty × List Dc} {u u' : Unit} {l c d : Et} : coL nm con fam cnm E (.inner 16 a u l (.inner 0 a' u' c d)) = exL nm con fam cnm E l + exL nm con fam cnm E c + exL nm con fam cnm E d + 15 := by
  show ([105, 102, 32] ++ exB nm con fam cnm E.2.2.1 E.2.2.2.1 E.2.2.2.2 l [] ++ [32, 116, 104, 101, 110, 32] ++ exB nm con fam cnm E.2.2.1 E.2.2.2.1 E.2.2.2.2 (.inner 0 a' u' c d) [32, 101, 108, 115, 101, 32]).length = _
  rw [exB_0]
  unfold exL
  simp only [List.length_append, List.length_cons, List.length_nil]
  omega
theorem co_17 {a a' : XL × Ty × Ty × List Dc} {u u' : Unit} {l c d : Et} : coL nm con fam cnm E (.inner 17 a u l (.inner 0 a' u' c d)) = (nm a.1.2.2.2.1).length + (nm a.1.2.2.2.2.1).length + exL nm con fam cnm E l + exL nm con fam cnm E c + exL nm con fam cnm E d + 25 := by
  show ([99, 97, 115, 101, 32] ++ exB nm con fam cnm E.2.2.1 E.2.2.2.1 E.2.2.2.2 l [] ++ [32, 111, 102, 32, 123, 110, 105, 108, 45, 62] ++ exB nm con fam cnm E.2.2.1 E.2.2.2.1 E.2.2.2.2 (.inner 0 a' u' c d) ([59, 99, 111, 110, 115, 32] ++ nm a.1.2.2.2.1 ++ [32] ++ nm a.1.2.2.2.2.1 ++ [45, 62]) ++ [125]).length = _
  rw [exB_0]
  unfold exL
  simp only [List.length_append, List.length_cons, List.length_nil]
  omega
theorem co_18 {a : XL × Ty × Ty × List Dc} {u : Unit} {l r : Et} : coL nm con fam cnm E (.inner 18 a u l r) ≤ exL nm con fam cnm E l + exL nm con fam cnm E r + 4 := by
  show (40 :: exB nm con fam cnm E.2.2.1 E.2.2.2.1 E.2.2.2.2 l [] ++ sgB a.1.2.1 ++ exB nm con fam cnm E.2.2.1 E.2.2.2.1 E.2.2.2.2 r [] ++ [41]).length ≤ _
  have h : (sgB a.1.2.1).length ≤ 2 := by
    unfold sgB
    split
    · exact Nat.le_refl _
    · exact Nat.le_succ _
  unfold exL
  simp only [List.length_append, List.length_cons, List.length_nil]
  omega
/-- HOW LONG WHAT IS JUDGED IS TOLD -/
theorem jd_len (L : lt10 nm con fam cnm) (J : JL E B) : ∀ (t : Xt) (Γ : List Ty) (s : JS) (b : Nat) (e : Et) (s' : JS), xok E t Γ.length → (∀ T ∈ Γ, tyOk E.2.2.2.1 T ∧ tsz T ≤ b) → 2700 ≤ b → b + xsz t ≤ 1000000 → xlD t → pT t → jd E t Γ s = some (.inr (e, s')) → LzR nm con fam cnm E s t e s' := by
  have tI : tOk1 E.2.2.2.1 tInt := ⟨tyOk_con (by decide) (by rw [if_neg (by decide)]) (by rw [if_neg (by decide)]), by decide⟩
  have tB : tOk1 E.2.2.2.1 tBool := ⟨tyOk_con (by decide) (by rw [if_neg (by decide)]) (by rw [if_neg (by decide)]), by decide⟩
  have ok_of : ∀ {t : Xt} {Γ : List Ty} {s : JS} {b : Nat} {e : Et} {s' : JS}, xok E t Γ.length → (∀ T ∈ Γ, tyOk E.2.2.2.1 T ∧ tsz T ≤ b) → 2700 ≤ b → b + xsz t ≤ 1000000 → jd E t Γ s = some (.inr (e, s')) → eOk E.2.2.2.1 (b + xsz t) e := fun {t Γ s b e s'} h1 h2 h3 h4 h5 => by
    obtain ⟨z, ez, hz⟩ := jd_ok J.1 t Γ s b h1 h2 h3 h4
    rw [ez] at h5
    exact (hz _ (Option.some.inj h5)).1
  refine tr_ind (fun _ _ _ _ _ h => by rw [xok] at h; exact h.elim) (fun t lb u l r ihl ihr ihp => ?_)
  intro Γ s b e s' H hΓ hb hb2 xl pt ej
  obtain ⟨⟨xl1, _⟩, xll, xlr⟩ := xl
  obtain ⟨pt1, ptl, ptr⟩ := pt
  have gle : ∀ {b' : Nat}, b ≤ b' → ∀ T ∈ Γ, tyOk E.2.2.2.1 T ∧ tsz T ≤ b' := fun h T hT => ⟨(hΓ T hT).1, Nat.le_trans (hΓ T hT).2 h⟩
  have e0 : xsz (.inner t lb u l r) = 1 + 2 * tsz (lbT lb) + xsz l + xsz r := rfl
  rw [e0] at hb2
  rw [xok_e] at H
  unfold xokB at H
  rw [jd_e] at ej
  unfold jdB at ej
  have en : xnN (.inner t lb u l r) = 1 + xnN l + xnN r := rfl
  unfold LzR
  rw [en]
  have nm1 := (L lb.2.2.2.1).1
  have nm2 := (L lb.2.2.2.2.1).1
  have tb := tyB_len (nm := nm) (con := con) (fam := fam) L (lbT lb)
  by_cases t10 : t = 10
  · rw [if_pos t10] at H ej
    obtain ⟨h1, T, ev, ee, h2⟩ := jnm_len L J H ej
    subst ee
    refine ⟨h1, ?_, 10, lb, T, ev, (), .leaf, .leaf, rfl, by decide⟩
    rw [co_10]
    show (nmB nm con fam cnm E.2.2.1 E.2.2.2.1 E.2.2.2.2 lb ev).length ≤ _
    omega
  rw [if_neg t10] at H ej
  by_cases t11 : t = 11
  · rw [if_pos t11] at ej
    injection Sum.inr.inj (Option.some.inj ej) with e1 e2
    rw [← e1, ← e2]
    refine ⟨Nat.le_refl _, ?_, 11, lb, tInt, [], (), .leaf, .leaf, rfl, by decide⟩
    rw [co_11]
    have := numB_len (v := lb.2.1)
    show (numB lb.2.1).length ≤ _
    omega
  rw [if_neg t11] at H ej
  replace xll := xll t10 t11
  replace xlr := xlr t10 t11
  replace ptl := ptl t10 t11
  replace ptr := ptr t10 t11
  by_cases t12 : t = 12
  · rw [if_pos t12] at H ej
    obtain ⟨⟨a, s1⟩, e1, ej⟩ := jbR ej
    obtain ⟨⟨f, v, s2⟩, e2, ej⟩ := jbR ej
    obtain ⟨⟨c, s3⟩, e3, ej⟩ := jbR ej
    obtain ⟨⟨d, s4⟩, e4, ej⟩ := jbR ej
    have O1 := ok_of H.1 hΓ hb (by omega) e1
    have K1 := ihl Γ s b a s1 H.1 hΓ hb (by omega) xll ptl e1
    obtain ⟨m1, m2, _⟩ := jf_len L J (by omega) O1 K1 e2
    have T2 := jf_tl J.1 (.inl rfl) (by omega) (by omega) O1 e2
    have O3 := ok_of H.2 hΓ hb (by omega) e3
    have K3 := ihr Γ s2 b c s3 H.2 hΓ hb (by omega) (xlr (by omega) (by omega)) (ptr (by omega) (by omega)) e3
    obtain ⟨m3, m4, _⟩ := jw_len L J K3 T2.2.2.1 O3 (by omega) e4
    injection Sum.inr.inj (Option.some.inj ej) with q1 q2
    have q2' : s4 = s' := q2
    rw [← q1, ← q2']
    have m3' : s2.1 ≤ s4.1 := m3
    have m1' : s.1 ≤ s2.1 := m1
    have m2' : exL nm con fam cnm E f ≤ 150000 * xnN l + 60000 * (s2.1 - s.1) + 8 := m2
    have m4' : exL nm con fam cnm E d ≤ 150000 * xnN r + 60000 * (s4.1 - s2.1) + 8 := m4
    refine ⟨by omega, ?_, 12, lb, _, [], (), _, _, rfl, by decide⟩
    rw [co_12]
    show exL nm con fam cnm E f + exL nm con fam cnm E d + 3 ≤ _
    omega
  rw [if_neg t12] at H ej
  by_cases t13 : t = 13
  · rw [if_pos t13] at H ej
    obtain ⟨⟨a, s1⟩, e1, ej⟩ := jbR ej
    cases Option.some.inj ej
  rw [if_neg t13] at H ej
  by_cases t14 : t = 14
  · rw [if_pos t14] at H ej
    obtain ⟨⟨a, s1⟩, e1, ej⟩ := jbR ej
    have lb27 := (lbT_27 (xl1 (by omega))).1
    have hΓ2 : ∀ T ∈ Γ ++ [lbT lb], tyOk E.2.2.2.1 T ∧ tsz T ≤ b + tsz (lbT lb) := fun T hT => by
      rcases List.mem_append.mp hT with h | h
      · exact gle (by omega) T h
      · rw [List.mem_singleton.mp h]; exact ⟨H.1, by omega⟩
    have hx : xok E l (Γ ++ [lbT lb]).length := by rw [List.length_append]; exact H.2
    have K1 := ihl (Γ ++ [lbT lb]) s (b + tsz (lbT lb)) a s1 hx hΓ2 (by omega) (by omega) xll ptl e1
    have K2 := (LzR_x K1).2
    injection Sum.inr.inj (Option.some.inj ej) with q1 q2
    have q2' : s1 = s' := q2
    rw [← q1, ← q2']
    refine ⟨K1.1, ?_, 14, lb, _, [], (), _, _, rfl, by decide⟩
    rw [co_14]
    show (nm lb.2.2.2.1).length + (tyB nm con fam (lbT lb)).length + exL nm con fam cnm E a + 3 ≤ _
    omega
  rw [if_neg t14] at H ej
  by_cases t15 : t = 15
  · rw [if_pos t15] at H ej
    obtain ⟨⟨a, s1⟩, e1, ej⟩ := jbR ej
    obtain ⟨⟨c, s2⟩, e2, ej⟩ := jbR ej
    obtain ⟨⟨d, s3⟩, e3, ej⟩ := jbR ej
    have lb27 := (lbT_27 (xl1 (by omega))).1
    have O1 := ok_of H.2.1 hΓ hb (by omega) e1
    have K1 := ihl Γ s b a s1 H.2.1 hΓ hb (by omega) xll ptl e1
    obtain ⟨m1, m2, _⟩ := jw_len L J K1 ⟨H.1, by omega⟩ O1 (by omega) e2
    have hΓ2 : ∀ T ∈ Γ ++ [lbT lb], tyOk E.2.2.2.1 T ∧ tsz T ≤ b + tsz (lbT lb) := fun T hT => by
      rcases List.mem_append.mp hT with h | h
      · exact gle (by omega) T h
      · rw [List.mem_singleton.mp h]; exact ⟨H.1, by omega⟩
    have hx : xok E r (Γ ++ [lbT lb]).length := by rw [List.length_append]; exact H.2.2
    have K3 := ihr (Γ ++ [lbT lb]) s2 (b + tsz (lbT lb)) d s3 hx hΓ2 (by omega) (by omega) (xlr (by omega) (by omega)) (ptr (by omega) (by omega)) e3
    have K4 := (LzR_x K3).2
    injection Sum.inr.inj (Option.some.inj ej) with q1 q2
    have q2' : s3 = s' := q2
    rw [← q1, ← q2']
    have m1' : s.1 ≤ s2.1 := m1
    have m2' : exL nm con fam cnm E c ≤ 150000 * xnN l + 60000 * (s2.1 - s.1) + 8 := m2
    have m3' : s2.1 ≤ s3.1 := K3.1
    have m4' : exL nm con fam cnm E d ≤ 150000 * xnN r + 60000 * (s3.1 - s2.1) := K4
    refine ⟨by omega, ?_, 15, lb, _, [], (), _, _, rfl, by decide⟩
    rw [co_15]
    show (nm lb.2.2.2.1).length + (tyB nm con fam (lbT lb)).length + exL nm con fam cnm E c + exL nm con fam cnm E d + 10 ≤ _
    omega
  rw [if_neg t15] at H ej
  by_cases t18 : t = 18
  · rw [if_pos t18] at H ej
    obtain ⟨⟨a, s1⟩, e1, ej⟩ := jbR ej
    obtain ⟨⟨c, s2⟩, e2, ej⟩ := jbR ej
    obtain ⟨⟨d, s3⟩, e3, ej⟩ := jbR ej
    obtain ⟨⟨f, s4⟩, e4, ej⟩ := jbR ej
    have O1 := ok_of H.1 hΓ hb (by omega) e1
    have K1 := ihl Γ s b a s1 H.1 hΓ hb (by omega) xll ptl e1
    obtain ⟨m1, m2, _⟩ := jw_len L J K1 tI O1 (by omega) e2
    have O3 := ok_of H.2 hΓ hb (by omega) e3
    have K3 := ihr Γ s2 b d s3 H.2 hΓ hb (by omega) (xlr (by omega) (by omega)) (ptr (by omega) (by omega)) e3
    obtain ⟨m3, m4, _⟩ := jw_len L J K3 tI O3 (by omega) e4
    injection Sum.inr.inj (Option.some.inj ej) with q1 q2
    have q2' : s4 = s' := q2
    rw [← q1, ← q2']
    have m1' : s.1 ≤ s2.1 := m1
    have m2' : exL nm con fam cnm E c ≤ 150000 * xnN l + 60000 * (s2.1 - s.1) + 8 := m2
    have m3' : s2.1 ≤ s4.1 := m3
    have m4' : exL nm con fam cnm E f ≤ 150000 * xnN r + 60000 * (s4.1 - s2.1) + 8 := m4
    refine ⟨by omega, ?_, 18, lb, _, [], (), _, _, rfl, by decide⟩
    refine Nat.le_trans co_18 ?_
    show exL nm con fam cnm E c + exL nm con fam cnm E f + 4 ≤ _
    omega
  rw [if_neg t18] at H ej
  cases r with
  | leaf => exact H.elim
  | inner t' lb' u' r1 r2 =>
    obtain ⟨i1, i2⟩ := ihp t' lb' u' r1 r2 rfl
    obtain ⟨_, xlr1, xlr2⟩ := xlr t13 t14
    obtain ⟨_, ptr1, ptr2⟩ := ptr t13 t14
    have x1 : xsz (.inner t' lb' u' r1 r2) = 1 + 2 * tsz (lbT lb') + xsz r1 + xsz r2 := rfl
    have x2 : xnN (.inner t' lb' u' r1 r2) = 1 + xnN r1 + xnN r2 := rfl
    rw [x1] at hb2
    rw [x2]
    simp only at H ej
    by_cases t16 : t = 16
    · have et' : t' = 0 := pt1 (.inl t16)
      subst et'
      rw [if_pos t16] at H ej
      obtain ⟨⟨a, s1⟩, e1, ej⟩ := jbR ej
      obtain ⟨⟨c, s2⟩, e2, ej⟩ := jbR ej
      obtain ⟨⟨d, s3⟩, e3, ej⟩ := jbR ej
      obtain ⟨⟨f, s4⟩, e4, ej⟩ := jbR ej
      obtain ⟨⟨g, s5⟩, e5, ej⟩ := jbR ej
      have O1 := ok_of H.1 hΓ hb (by omega) e1
      have K1 := ihl Γ s b a s1 H.1 hΓ hb (by omega) xll ptl e1
      obtain ⟨m1, m2, _⟩ := jw_len L J K1 tB O1 (by omega) e2
      have O3 := ok_of H.2.1 hΓ hb (by omega) e3
      have K3 := i1 Γ s2 b d s3 H.2.1 hΓ hb (by omega) (xlr1 (by decide) (by decide)) (ptr1 (by decide) (by decide)) e3
      have K3x := (LzR_x K3).2
      have O4 := ok_of H.2.2 hΓ hb (by omega) e4
      have K4 := i2 Γ s3 b f s4 H.2.2 hΓ hb (by omega) (xlr2 (by decide) (by decide) (by decide) (by decide)) (ptr2 (by decide) (by decide) (by decide) (by decide)) e4
      obtain ⟨m5, m6, _⟩ := jw_len L J K4 ⟨O3.1, by have := O3.2; omega⟩ O4 (by omega) e5
      injection Sum.inr.inj (Option.some.inj ej) with q1 q2
      have q2' : s5 = s' := q2
      rw [← q1, ← q2']
      have m1' : s.1 ≤ s2.1 := m1
      have m2' : exL nm con fam cnm E c ≤ 150000 * xnN l + 60000 * (s2.1 - s.1) + 8 := m2
      have m3' : s2.1 ≤ s3.1 := K3.1
      have m4' : exL nm con fam cnm E d ≤ 150000 * xnN r1 + 60000 * (s3.1 - s2.1) := K3x
      have m5' : s3.1 ≤ s5.1 := m5
      have m6' : exL nm con fam cnm E g ≤ 150000 * xnN r2 + 60000 * (s5.1 - s3.1) + 8 := m6
      refine ⟨by omega, ?_, 16, lb, _, [], (), _, _, rfl, by decide⟩
      rw [co_16]
      show exL nm con fam cnm E c + exL nm con fam cnm E d + exL nm con fam cnm E g + 15 ≤ _
      omega
    rw [if_neg t16] at H ej
    by_cases t17 : t = 17
    · have et' : t' = 0 := pt1 (.inr t17)
      subst et'
      rw [if_pos t17] at H ej
      obtain ⟨⟨a, s1⟩, e1, ej⟩ := jbR ej
      obtain ⟨⟨f, v, s2⟩, e2, ej⟩ := jbR ej
      obtain ⟨⟨d, s3⟩, e3, ej⟩ := jbR ej
      obtain ⟨⟨g, s4⟩, e4, ej⟩ := jbR ej
      obtain ⟨⟨k, s5⟩, e5, ej⟩ := jbR ej
      have O1 := ok_of H.1 hΓ hb (by omega) e1
      have K1 := ihl Γ s b a s1 H.1 hΓ hb (by omega) xll ptl e1
      obtain ⟨m1, m2, _⟩ := jf_len L J (by omega) O1 K1 e2
      have T2 := jf_tl J.1 (.inr ⟨rfl, rfl⟩) (by omega) (by omega) O1 e2
      have O3 := ok_of H.2.1 hΓ hb (by omega) e3
      have K3 := i1 Γ s2 b d s3 H.2.1 hΓ hb (by omega) (xlr1 (by decide) (by decide)) (ptr1 (by decide) (by decide)) e3
      have K3x := (LzR_x K3).2
      have hΓ2 : ∀ T ∈ Γ ++ [tL v, v], tyOk E.2.2.2.1 T ∧ tsz T ≤ b + xsz l := fun T hT => by
        rcases List.mem_append.mp hT with h | h
        · exact gle (by omega) T h
        · rcases List.mem_cons.mp h with h | h
          · rw [h]; exact ⟨T2.2.2.1.1, T2.2.2.2⟩
          · rw [List.mem_singleton.mp h]; exact ⟨T2.1.1, T2.2.1⟩
      have hx : xok E r2 (Γ ++ [tL v, v]).length := by rw [List.length_append]; exact H.2.2
      have O4 := ok_of hx hΓ2 (by omega) (by omega) e4
      have K4 := i2 (Γ ++ [tL v, v]) s3 (b + xsz l) g s4 hx hΓ2 (by omega) (by omega) (xlr2 (by decide) (by decide) (by decide) (by decide)) (ptr2 (by decide) (by decide) (by decide) (by decide)) e4
      obtain ⟨m5, m6, _⟩ := jw_len L J K4 ⟨O3.1, by have := O3.2; omega⟩ O4 (by omega) e5
      injection Sum.inr.inj (Option.some.inj ej) with q1 q2
      have q2' : s5 = s' := q2
      rw [← q1, ← q2']
      have m1' : s.1 ≤ s2.1 := m1
      have m2' : exL nm con fam cnm E f ≤ 150000 * xnN l + 60000 * (s2.1 - s.1) + 8 := m2
      have m3' : s2.1 ≤ s3.1 := K3.1
      have m4' : exL nm con fam cnm E d ≤ 150000 * xnN r1 + 60000 * (s3.1 - s2.1) := K3x
      have m5' : s3.1 ≤ s5.1 := m5
      have m6' : exL nm con fam cnm E k ≤ 150000 * xnN r2 + 60000 * (s5.1 - s3.1) + 8 := m6
      refine ⟨by omega, ?_, 17, lb, _, [], (), _, _, rfl, by decide⟩
      rw [co_17]
      show (nm lb.2.2.2.1).length + (nm lb.2.2.2.2.1).length + exL nm con fam cnm E f + exL nm con fam cnm E d + exL nm con fam cnm E k + 25 ≤ _
      omega
    rw [if_neg t17] at H
    exact H.elim
end LJL
