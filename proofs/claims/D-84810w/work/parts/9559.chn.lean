set_option maxRecDepth 100000
/-! INSIDE A CHAIN NOTHING IS CAST (plain) -/
def eN : Et → Prop
  | .leaf => True
  | .inner t _ _ l r => (t = 18 → chN l) ∧ (t ≠ 10 → t ≠ 11 → eN l) ∧ (t ≠ 10 → t ≠ 11 → t ≠ 14 → eN r)
def r18 : Et → Prop
  | .leaf => True
  | .inner t a _ _ _ => t = 18 → a.2.2.1 = .leaf ∧ (a.1.2.1 ≠ 60 → a.1.2.1 ≠ 61 → a.2.1 = tInt)
/-- pairs are pairs -/
def p0 : Xt → Prop
  | .leaf => True
  | .inner t _ _ _ _ => t = 0
def pT : Xt → Prop
  | .leaf => True
  | .inner t _ _ l r => (t = 16 ∨ t = 17 → p0 r) ∧ (t ≠ 10 → t ≠ 11 → pT l) ∧ (t ≠ 10 → t ≠ 11 → t ≠ 13 → t ≠ 14 → pT r)
section LCN
variable {E : JE}
theorem eN_cs {C : Ty} {e : Et} (H : eN e) : eN (eCs C e) := by
  cases e with
  | leaf => trivial
  | inner t a u l r => exact H
theorem jw_N {T : Ty} {e e' : Et} {s s' : JS} (h : jw E T e s = some (.inr (e', s'))) (H : eN e) : eN e' ∧ (tyE (eTy e) T = true → e' = e) := by
  unfold jw at h
  by_cases c : tyE (eTy e) T = true
  · rw [if_pos c] at h
    injection Sum.inr.inj (Option.some.inj h) with e1 e2
    rw [← e1]
    exact ⟨H, fun _ => rfl⟩
  · rw [if_neg c] at h
    cases q : oneP E.2.2.2.1 E.2.2.2.2 (0, s.1, s.2) (eTy e) T with
    | none => rw [q] at h; cases h
    | some a =>
    rw [q, Option.bind_some] at h
    cases a with
    | none => cases Option.some.inj h
    | some p =>
    obtain ⟨b, w⟩ := p
    simp only at h
    cases b with
    | false => rw [if_neg (by decide)] at h; cases Option.some.inj h
    | true =>
      rw [if_pos rfl] at h
      injection Sum.inr.inj (Option.some.inj h) with e1 e2
      rw [← e1]
      exact ⟨eN_cs H, fun z => absurd z c⟩
theorem jf_N {k w pl : Nat} {e e' : Et} {u : Ty} {s s' : JS} (h : jf E k w pl e s = some (.inr (e', u, s'))) (H : eN e) : eN e' := by
  unfold jf at h
  by_cases c : isK k w (eTy e) = true
  · rw [if_pos c] at h
    have e0 := Sum.inr.inj (Option.some.inj h)
    injection e0 with e1 e2
    rw [← e1]
    exact H
  · rw [if_neg c] at h
    cases q : wk 2 E.2.2.2.1 E.2.2.2.2 130 false 0 (0, s.1, s.2) (eTy e) with
    | none => rw [q] at h; cases h
    | some a =>
    rw [q, Option.bind_some] at h
    cases a with
    | none => cases Option.some.inj h
    | some p =>
    obtain ⟨v, w'⟩ := p
    simp only at h
    by_cases ck : isK k w v = true
    · rw [if_pos ck] at h
      have e0 := Sum.inr.inj (Option.some.inj h)
      injection e0 with e1 e2
      rw [← e1]
      exact eN_cs H
    · rw [if_neg ck] at h
      cases Option.some.inj h
/-- what is judged -/
theorem jd_N : ∀ (t : Xt) (Γ : List Ty) (s : JS) (e : Et) (s' : JS), pT t → jd E t Γ s = some (.inr (e, s')) → eN e ∧ r18 e := by
  refine tr_ind (fun _ _ _ _ _ h => by rw [jd] at h; cases h) (fun t lb u l r ihl ihr ihp => ?_)
  intro Γ s e s' hp ej
  obtain ⟨hp0, hpl, hpr⟩ := hp
  rw [jd_e] at ej
  unfold jdB at ej
  by_cases t10 : t = 10
  · rw [if_pos t10] at ej
    obtain ⟨p1, T, ev, ee, kk⟩ := jnm_kn (Q := fun _ => True) ej
    rw [ee]
    exact ⟨⟨fun z => absurd z (by decide), fun z => absurd rfl z, fun z => absurd rfl z⟩, fun z => absurd z (by decide)⟩
  rw [if_neg t10] at ej
  by_cases t11 : t = 11
  · rw [if_pos t11] at ej
    injection Sum.inr.inj (Option.some.inj ej) with e1 e2
    rw [← e1]
    exact ⟨⟨fun z => absurd z (by decide), fun _ z => absurd rfl z, fun _ z => absurd rfl z⟩, fun z => absurd z (by decide)⟩
  rw [if_neg t11] at ej
  replace hpl := hpl t10 t11
  replace hpr := hpr t10 t11
  by_cases t12 : t = 12
  · rw [if_pos t12] at ej
    obtain ⟨⟨a, s1⟩, e1, ej⟩ := jbR ej
    obtain ⟨⟨f, v, s2⟩, e2, ej⟩ := jbR ej
    obtain ⟨⟨c, s3⟩, e3, ej⟩ := jbR ej
    obtain ⟨⟨d, s4⟩, e4, ej⟩ := jbR ej
    injection Sum.inr.inj (Option.some.inj ej) with q1 q2
    rw [← q1]
    exact ⟨⟨fun z => absurd z (by decide), fun _ _ => jf_N e2 (ihl Γ s a s1 hpl e1).1, fun _ _ _ => (jw_N e4 (ihr Γ s2 c s3 (hpr (by omega) (by omega)) e3).1).1⟩, fun z => absurd z (by decide)⟩
  rw [if_neg t12] at ej
  by_cases t13 : t = 13
  · rw [if_pos t13] at ej
    obtain ⟨⟨a, s1⟩, e1, ej⟩ := jbR ej
    cases Option.some.inj ej
  rw [if_neg t13] at ej
  by_cases t14 : t = 14
  · rw [if_pos t14] at ej
    obtain ⟨⟨a, s1⟩, e1, ej⟩ := jbR ej
    injection Sum.inr.inj (Option.some.inj ej) with q1 q2
    rw [← q1]
    exact ⟨⟨fun z => absurd z (by decide), fun _ _ => (ihl _ s a s1 hpl e1).1, fun _ _ z => absurd rfl z⟩, fun z => absurd z (by decide)⟩
  rw [if_neg t14] at ej
  by_cases t15 : t = 15
  · rw [if_pos t15] at ej
    obtain ⟨⟨a, s1⟩, e1, ej⟩ := jbR ej
    obtain ⟨⟨c, s2⟩, e2, ej⟩ := jbR ej
    obtain ⟨⟨d, s3⟩, e3, ej⟩ := jbR ej
    injection Sum.inr.inj (Option.some.inj ej) with q1 q2
    rw [← q1]
    exact ⟨⟨fun z => absurd z (by decide), fun _ _ => (jw_N e2 (ihl Γ s a s1 hpl e1).1).1, fun _ _ _ => (ihr _ s2 d s3 (hpr (by omega) (by omega)) e3).1⟩, fun z => absurd z (by decide)⟩
  rw [if_neg t15] at ej
  by_cases t18 : t = 18
  · rw [if_pos t18] at ej
    obtain ⟨⟨a, s1⟩, e1, ej⟩ := jbR ej
    obtain ⟨⟨c, s2⟩, e2, ej⟩ := jbR ej
    obtain ⟨⟨d, s3⟩, e3, ej⟩ := jbR ej
    obtain ⟨⟨f, s4⟩, e4, ej⟩ := jbR ej
    injection Sum.inr.inj (Option.some.inj ej) with q1 q2
    rw [← q1]
    obtain ⟨na, ra⟩ := ihl Γ s a s1 hpl e1
    obtain ⟨nc, ic⟩ := jw_N e2 na
    refine ⟨⟨fun _ => ?_, fun _ _ => nc, fun _ _ _ => (jw_N e4 (ihr Γ s2 d s3 (hpr (by omega) (by omega)) e3).1).1⟩, fun _ => ⟨rfl, fun z1 z2 => if_neg (fun z => by
      rcases z with z | z
      · exact z1 z
      · exact z2 z)⟩⟩
    -- what lies left
    cases ha : a with
    | leaf =>
      rw [ha] at ic e2 ra
      cases hc : c with
      | leaf => trivial
      | inner tc xc uc lc' rc =>
        unfold jw at e2
        exfalso
        by_cases q : tyE (eTy .leaf) tInt = true
        · have := ic q
          rw [hc] at this
          cases this
        · rw [if_neg q] at e2
          cases q' : oneP E.2.2.2.1 E.2.2.2.2 (0, s1.1, s1.2) (eTy .leaf) tInt with
          | none => rw [q'] at e2; cases e2
          | some w =>
            rw [q', Option.bind_some] at e2
            cases w with
            | none => cases Option.some.inj e2
            | some p =>
              obtain ⟨b, w⟩ := p
              simp only at e2
              cases b with
              | false => rw [if_neg (by decide)] at e2; cases Option.some.inj e2
              | true =>
                rw [if_pos rfl] at e2
                injection Sum.inr.inj (Option.some.inj e2) with e1' _
                rw [hc] at e1'
                cases e1'
    | inner ta xa ua la raa =>
      rw [ha] at ra ic e2
      by_cases q : tyE (eTy (.inner ta xa ua la raa)) tInt = true
      · rw [ic q]
        exact fun z _ _ => (ra z).1
      · -- cast: then it is no chain of numbers
        unfold jw at e2
        rw [if_neg q] at e2
        cases q' : oneP E.2.2.2.1 E.2.2.2.2 (0, s1.1, s1.2) (eTy (.inner ta xa ua la raa)) tInt with
        | none => rw [q'] at e2; cases e2
        | some w =>
          rw [q', Option.bind_some] at e2
          cases w with
          | none => cases Option.some.inj e2
          | some p =>
            obtain ⟨b, w⟩ := p
            simp only at e2
            cases b with
            | false => rw [if_neg (by decide)] at e2; cases Option.some.inj e2
            | true =>
              rw [if_pos rfl] at e2
              injection Sum.inr.inj (Option.some.inj e2) with e1' _
              rw [← e1']
              intro z z1 z2
              exact absurd (tyE_iff.mpr ((ra z).2 z1 z2)) q
  rw [if_neg t18] at ej
  cases r with
  | leaf => cases ej
  | inner t' lb' u' r1 r2 =>
    obtain ⟨i1, i2⟩ := ihp t' lb' u' r1 r2 rfl
    obtain ⟨_, hpr1, hpr2⟩ := hpr t13 t14
    simp only at ej
    by_cases t16 : t = 16
    · have z0 : t' = 0 := hp0 (.inl t16)
      subst z0
      rw [if_pos t16] at ej
      obtain ⟨⟨a, s1⟩, e1, ej⟩ := jbR ej
      obtain ⟨⟨c, s2⟩, e2, ej⟩ := jbR ej
      obtain ⟨⟨d, s3⟩, e3, ej⟩ := jbR ej
      obtain ⟨⟨f, s4⟩, e4, ej⟩ := jbR ej
      obtain ⟨⟨g, s5⟩, e5, ej⟩ := jbR ej
      injection Sum.inr.inj (Option.some.inj ej) with q1 q2
      rw [← q1]
      exact ⟨⟨fun z => absurd z (by decide), fun _ _ => (jw_N e2 (ihl Γ s a s1 hpl e1).1).1, fun _ _ _ => ⟨fun z => absurd z (by decide), fun _ _ => (i1 Γ s2 d s3 (hpr1 (by decide) (by decide)) e3).1, fun _ _ _ => (jw_N e5 (i2 Γ s3 f s4 (hpr2 (by decide) (by decide) (by decide) (by decide)) e4).1).1⟩⟩, fun z => absurd z (by decide)⟩
    rw [if_neg t16] at ej
    by_cases t17 : t = 17
    · have z0 : t' = 0 := hp0 (.inr t17)
      subst z0
      rw [if_pos t17] at ej
      obtain ⟨⟨a, s1⟩, e1, ej⟩ := jbR ej
      obtain ⟨⟨f, v, s2⟩, e2, ej⟩ := jbR ej
      obtain ⟨⟨d, s3⟩, e3, ej⟩ := jbR ej
      obtain ⟨⟨g, s4⟩, e4, ej⟩ := jbR ej
      obtain ⟨⟨k, s5⟩, e5, ej⟩ := jbR ej
      injection Sum.inr.inj (Option.some.inj ej) with q1 q2
      rw [← q1]
      exact ⟨⟨fun z => absurd z (by decide), fun _ _ => jf_N e2 (ihl Γ s a s1 hpl e1).1, fun _ _ _ => ⟨fun z => absurd z (by decide), fun _ _ => (i1 Γ s2 d s3 (hpr1 (by decide) (by decide)) e3).1, fun _ _ _ => (jw_N e5 (i2 _ s3 g s4 (hpr2 (by decide) (by decide) (by decide) (by decide)) e4).1).1⟩⟩, fun z => absurd z (by decide)⟩
    rw [if_neg t17] at ej
    cases ej
end LCN
