set_option maxRecDepth 100000
/-! WHAT WAS JUDGED CAN BE TOLD: exs (plain) -/
/-- a judged ex is of the same form -/
def eSm : Et → Xt → Prop
  | .inner t a _ l r, .inner t' b _ l' r' => t = t' ∧ a.1 = b ∧ (t ≠ 10 → t ≠ 11 → eSm l l') ∧ (t ≠ 10 → t ≠ 11 → t ≠ 14 → eSm r r')
  | _, _ => False
section LJ2
variable {Q : Ty → Prop} {E : JE} {B : Nat}
theorem eK_cs {C : Ty} {e : Et} (H : eK E Q e) (hC : csK E Q (eTy e) C) : eK E Q (eCs C e) := by
  cases e with
  | leaf => trivial
  | inner t a u l r => exact ⟨fun h => ⟨(H.1 h).1, (H.1 h).2.1, hC, (H.1 h).2.2.2⟩, H.2⟩
theorem eSm_cs {C : Ty} {e : Et} {t : Xt} (H : eSm e t) : eSm (eCs C e) t := by
  cases e with
  | leaf => exact H
  | inner t' a u l r =>
    cases t with
    | leaf => exact H
    | inner t2 b u2 l2 r2 => exact H
/-- what came of a step -/
def KnR (E : JE) (Q : Ty → Prop) (s : JS) (t : Xt) (e : Et) (s' : JS) : Prop := preS s s' ∧ eSm e t ∧ ((∀ X ∈ s'.2, Q X) → eK E Q e)
theorem jw_kn {T : Ty} {t : Xt} {e e' : Et} {s0 s s' : JS} (H : KnR E Q s0 t e s) (okT : tOk1 E.2.2.2.1 T) (h : jw E T e s = some (.inr (e', s'))) : KnR E Q s0 t e' s' ∧ eTy e' = eTy e := by
  obtain ⟨h1, h2, h3⟩ := H
  unfold jw at h
  by_cases c : tyE (eTy e) T = true
  · rw [if_pos c] at h
    injection Sum.inr.inj (Option.some.inj h) with e1 e2
    rw [← e1, ← e2]
    exact ⟨⟨h1, h2, h3⟩, rfl⟩
  · rw [if_neg c] at h
    cases q : oneP E.2.2.2.1 E.2.2.2.2 (0, s.1, s.2) (eTy e) T with
    | none => rw [q] at h; cases h
    | some a =>
    rw [q, Option.bind_some] at h
    cases a with
    | none => cases Option.some.inj h
    | some p =>
    obtain ⟨b, w⟩ := p
    simp only at h
    cases b with
    | false => rw [if_neg (by decide)] at h; cases Option.some.inj h
    | true =>
      rw [if_pos rfl] at h
      injection Sum.inr.inj (Option.some.inj h) with e1 e2
      obtain ⟨⟨D, d⟩, k⟩ := one_kn (Q := Q) (Nat.zero_le _) q
      have d' : w.2.2 = s.2 ++ D := d
      rw [← e1, ← e2]
      refine ⟨⟨preS_trans h1 ⟨D, d'⟩, eSm_cs h2, fun hq => ?_⟩, eTy_Cs.1⟩
      have hq' : ∀ X ∈ w.2.2, Q X := hq
      exact eK_cs (h3 (fun X hX => hq' X (by rw [d']; exact List.mem_append_left _ hX))) (.inr ⟨okT, fun z => c (tyE_iff.mpr z), k rfl hq'⟩)
theorem jf_kn (J : JOk E B) {k w pl b : Nat} {t : Xt} {e e' : Et} {u : Ty} {s0 s s' : JS} (hb2 : b ≤ 1000000) (He : eOk E.2.2.2.1 b e) (H : KnR E Q s0 t e s) (h : jf E k w pl e s = some (.inr (e', u, s'))) : KnR E Q s0 t e' s' ∧ eTy e' = eTy e := by
  obtain ⟨h1, h2, h3⟩ := H
  unfold jf at h
  by_cases c : isK k w (eTy e) = true
  · rw [if_pos c] at h
    have e0 := Sum.inr.inj (Option.some.inj h)
    injection e0 with e1 e2
    injection e2 with e2 e3
    rw [← e1, ← e3]
    exact ⟨⟨h1, h2, h3⟩, rfl⟩
  · rw [if_neg c] at h
    cases q : wk 2 E.2.2.2.1 E.2.2.2.2 130 false 0 (0, s.1, s.2) (eTy e) with
    | none => rw [q] at h; cases h
    | some a =>
    rw [q, Option.bind_some] at h
    cases a with
    | none => cases Option.some.inj h
    | some p =>
    obtain ⟨v, w'⟩ := p
    simp only at h
    by_cases ck : isK k w v = true
    · rw [if_pos ck] at h
      have e0 := Sum.inr.inj (Option.some.inj h)
      injection e0 with e1 e2
      injection e2 with e2 e3
      obtain ⟨⟨D, d⟩, kn⟩ := knT_wk2 (Q := Q) q
      obtain ⟨y1, y2, y3⟩ := nP_wk (Nat.zero_le _) q
      have y2' : w'.1 ≤ 60 := y2
      have y3' : nP E.2.2.2.1 E.2.2.2.2 130 (eTy e) ≤ 60 * (w'.1 - 0) := y3
      have d' : w'.2.2 = s.2 ++ D := d
      obtain ⟨⟨wu, nu, oku⟩, zu⟩ := wk_tsz J.1.1 J.1.2.1 J.1.2.2.1 (by have := J.1.2.2.2.1; omega) J.1.2.2.2.2 (by have := He.2; omega) He.1.2.1 He.1.1 He.1.2.2 q
      rw [if_neg (by decide)] at zu
      rw [← e1, ← e3]
      refine ⟨⟨preS_trans h1 ⟨D, d'⟩, eSm_cs h2, fun hq => ?_⟩, eTy_Cs.1⟩
      have hq' : ∀ X ∈ w'.2.2, Q X := hq
      exact eK_cs (h3 (fun X hX => hq' X (by rw [d']; exact List.mem_append_left _ hX))) (.inr ⟨⟨⟨nu, wu, oku⟩, by omega⟩, fun z => c (by rw [z]; exact ck), fun _ => ⟨v, kn hq', fun z => absurd rfl z, .inl rfl, by omega⟩⟩)
    · rw [if_neg ck] at h
      cases Option.some.inj h
theorem jbR {α β : Type} {x : Option ((Nat × Nat) ⊕ α)} {f : α → Option ((Nat × Nat) ⊕ β)} {b : β} (e : jb x f = some (.inr b)) : ∃ a, x = some (.inr a) ∧ f a = some (.inr b) := by
  rcases jb_cs e with ⟨kp, _, z⟩ | h
  · cases z
  · exact h
/-- the type of a form -/
theorem jf_tl (J : JOk E B) {k w pl b : Nat} {e e' : Et} {u : Ty} {s s' : JS} (hk : k = 3 ∨ (k = 1 ∧ w = 2)) (hb : 2700 ≤ b) (hb2 : b ≤ 1000000) (He : eOk E.2.2.2.1 b e) (h : jf E k w pl e s = some (.inr (e', u, s'))) : tOk1 E.2.2.2.1 u ∧ tsz u ≤ b ∧ tOk1 E.2.2.2.1 (tL u) ∧ tsz (tL u) ≤ b := by
  obtain ⟨z, ez, hz⟩ := jf_ok (k := k) (w := w) (pl := pl) (s := s) J hb hb2 ⟨He, rfl⟩
  rw [ez] at h
  obtain ⟨_, h1, h2, h3⟩ := hz _ (Option.some.inj h)
  have h1' : tyOk E.2.2.2.1 u := h1
  have h2' : tsz u ≤ b := h2
  obtain ⟨x, l, r, eu⟩ := isK_iff h3
  have eu' : u = .inner k w x l r := eu
  subst eu'
  have z' : tsz (.inner k w x l r) = 1 + tsz l + tsz r := rfl
  obtain ⟨p1, _⟩ := tyOk_parts h1' (by omega)
  exact ⟨⟨h1', by omega⟩, h2', ⟨p1, by show tsz l ≤ _; omega⟩, by show tsz l ≤ _; omega⟩
/-- EXS THAT ARE JUDGED CAN BE TOLD -/
theorem jd_kn (J : JOk E B) : ∀ (t : Xt) (Γ : List Ty) (s : JS) (b : Nat) (e : Et) (s' : JS), xok E t Γ.length → (∀ T ∈ Γ, tyOk E.2.2.2.1 T ∧ tsz T ≤ b) → 2700 ≤ b → b + xsz t ≤ 1000000 → jd E t Γ s = some (.inr (e, s')) → KnR E Q s t e s' := by
  have tI : tOk1 E.2.2.2.1 tInt := ⟨tyOk_con (by decide) (by rw [if_neg (by decide)]) (by rw [if_neg (by decide)]), by decide⟩
  have tB : tOk1 E.2.2.2.1 tBool := ⟨tyOk_con (by decide) (by rw [if_neg (by decide)]) (by rw [if_neg (by decide)]), by decide⟩
  have ok_of : ∀ {t : Xt} {Γ : List Ty} {s : JS} {b : Nat} {e : Et} {s' : JS}, xok E t Γ.length → (∀ T ∈ Γ, tyOk E.2.2.2.1 T ∧ tsz T ≤ b) → 2700 ≤ b → b + xsz t ≤ 1000000 → jd E t Γ s = some (.inr (e, s')) → eOk E.2.2.2.1 (b + xsz t) e := fun {t Γ s b e s'} h1 h2 h3 h4 h5 => by
    obtain ⟨z, ez, hz⟩ := jd_ok J t Γ s b h1 h2 h3 h4
    rw [ez] at h5
    exact (hz _ (Option.some.inj h5)).1
  refine tr_ind (fun _ _ _ _ _ h => by rw [xok] at h; exact h.elim) (fun t lb u l r ihl ihr ihp => ?_)
  intro Γ s b e s' H hΓ hb hb2 ej
  -- its type
  have root := ok_of H hΓ hb hb2 ej
  have rt : tOk1 E.2.2.2.1 (eTy e) := ⟨root.1, by have := root.2; omega⟩
  have gle : ∀ {b' : Nat}, b ≤ b' → ∀ T ∈ Γ, tyOk E.2.2.2.1 T ∧ tsz T ≤ b' := fun h T hT => ⟨(hΓ T hT).1, Nat.le_trans (hΓ T hT).2 h⟩
  have e0 : xsz (.inner t lb u l r) = 1 + 2 * tsz (lbT lb) + xsz l + xsz r := rfl
  rw [e0] at hb2
  rw [xok_e] at H
  unfold xokB at H
  rw [jd_e] at ej
  unfold jdB at ej
  by_cases t10 : t = 10
  · rw [if_pos t10] at ej
    obtain ⟨p1, T, ev, ee, kk⟩ := jnm_kn (Q := Q) ej
    rw [ee] at rt ⊢
    exact ⟨p1, ⟨t10.symm, rfl, fun z => absurd rfl z, fun z => absurd rfl z⟩, fun hq => ⟨fun _ => ⟨by decide, rt, .inl rfl, fun _ => kk hq⟩, ⟨fun z => absurd rfl z, fun z => absurd rfl z⟩, trivial, trivial⟩⟩
  rw [if_neg t10] at H ej
  by_cases t11 : t = 11
  · rw [if_pos t11] at ej
    injection Sum.inr.inj (Option.some.inj ej) with e1 e2
    rw [← e1] at rt ⊢
    rw [← e2]
    exact ⟨preS_refl _, ⟨t11.symm, rfl, fun _ z => absurd rfl z, fun _ z => absurd rfl z⟩, fun hq => ⟨fun _ => ⟨by decide, rt, .inl rfl, fun z => absurd z (by decide)⟩, ⟨fun _ z => absurd rfl z, fun _ z => absurd rfl z⟩, trivial, trivial⟩⟩
  rw [if_neg t11] at H ej
  by_cases t12 : t = 12
  · rw [if_pos t12] at H ej
    obtain ⟨⟨a, s1⟩, e1, ej⟩ := jbR ej
    obtain ⟨⟨f, v, s2⟩, e2, ej⟩ := jbR ej
    obtain ⟨⟨c, s3⟩, e3, ej⟩ := jbR ej
    obtain ⟨⟨d, s4⟩, e4, ej⟩ := jbR ej
    have O1 := ok_of H.1 hΓ hb (by omega) e1
    have K1 := ihl Γ s b a s1 H.1 hΓ hb (by omega) e1
    obtain ⟨K2, y2⟩ := jf_kn J (by omega) O1 K1 e2
    have T2 := jf_tl J (.inl rfl) (by omega) (by omega) O1 e2
    have O3 := ok_of H.2 hΓ hb (by omega) e3
    have K3 := ihr Γ s2 b c s3 H.2 hΓ hb (by omega) e3
    obtain ⟨K4, y4⟩ := jw_kn K3 T2.2.2.1 e4
    injection Sum.inr.inj (Option.some.inj ej) with q1 q2
    have q2' : s4 = s' := q2
    rw [← q1] at rt ⊢
    rw [← q2']
    exact ⟨preS_trans K2.1 K4.1, ⟨t12.symm, rfl, fun _ _ => K2.2.1, fun _ _ _ => K4.2.1⟩, fun hq => ⟨fun _ => ⟨by decide, rt, .inl rfl, fun z => absurd z (by decide)⟩, ⟨fun _ _ => by rw [y2]; exact O1.1.1, fun _ _ _ _ _ => by rw [y4]; exact O3.1.1⟩, K2.2.2 (preS_all K4.1 hq), K4.2.2 hq⟩⟩
  rw [if_neg t12] at H ej
  by_cases t13 : t = 13
  · rw [if_pos t13] at H ej
    obtain ⟨⟨a, s1⟩, e1, ej⟩ := jbR ej
    cases Option.some.inj ej
  rw [if_neg t13] at H ej
  by_cases t14 : t = 14
  · rw [if_pos t14] at H ej
    obtain ⟨⟨a, s1⟩, e1, ej⟩ := jbR ej
    have hΓ2 : ∀ T ∈ Γ ++ [lbT lb], tyOk E.2.2.2.1 T ∧ tsz T ≤ b + tsz (lbT lb) := fun T hT => by
      rcases List.mem_append.mp hT with h | h
      · exact gle (by omega) T h
      · rw [List.mem_singleton.mp h]; exact ⟨H.1, by omega⟩
    have hx : xok E l (Γ ++ [lbT lb]).length := by rw [List.length_append]; exact H.2
    have O1 := ok_of hx hΓ2 (by omega) (by omega) e1
    have K1 := ihl (Γ ++ [lbT lb]) s (b + tsz (lbT lb)) a s1 hx hΓ2 (by omega) (by omega) e1
    injection Sum.inr.inj (Option.some.inj ej) with q1 q2
    have q2' : s1 = s' := q2
    rw [← q1] at rt ⊢
    rw [← q2']
    exact ⟨K1.1, ⟨t14.symm, rfl, fun _ _ => K1.2.1, fun _ _ z => absurd rfl z⟩, fun hq => ⟨fun _ => ⟨by decide, rt, .inl rfl, fun z => absurd z (by decide)⟩, ⟨fun _ _ => O1.1.1, fun _ _ z => absurd rfl z⟩, K1.2.2 hq, trivial⟩⟩
  rw [if_neg t14] at H ej
  by_cases t15 : t = 15
  · rw [if_pos t15] at H ej
    obtain ⟨⟨a, s1⟩, e1, ej⟩ := jbR ej
    obtain ⟨⟨c, s2⟩, e2, ej⟩ := jbR ej
    obtain ⟨⟨d, s3⟩, e3, ej⟩ := jbR ej
    have O1 := ok_of H.2.1 hΓ hb (by omega) e1
    have K1 := ihl Γ s b a s1 H.2.1 hΓ hb (by omega) e1
    obtain ⟨K2, y2⟩ := jw_kn K1 ⟨H.1, by omega⟩ e2
    have hΓ2 : ∀ T ∈ Γ ++ [lbT lb], tyOk E.2.2.2.1 T ∧ tsz T ≤ b + tsz (lbT lb) := fun T hT => by
      rcases List.mem_append.mp hT with h | h
      · exact gle (by omega) T h
      · rw [List.mem_singleton.mp h]; exact ⟨H.1, by omega⟩
    have hx : xok E r (Γ ++ [lbT lb]).length := by rw [List.length_append]; exact H.2.2
    have O3 := ok_of hx hΓ2 (by omega) (by omega) e3
    have K3 := ihr (Γ ++ [lbT lb]) s2 (b + tsz (lbT lb)) d s3 hx hΓ2 (by omega) (by omega) e3
    injection Sum.inr.inj (Option.some.inj ej) with q1 q2
    have q2' : s3 = s' := q2
    rw [← q1] at rt ⊢
    rw [← q2']
    exact ⟨preS_trans K2.1 K3.1, ⟨t15.symm, rfl, fun _ _ => K2.2.1, fun _ _ _ => K3.2.1⟩, fun hq => ⟨fun _ => ⟨by decide, rt, .inl rfl, fun z => absurd z (by decide)⟩, ⟨fun _ _ => by rw [y2]; exact O1.1.1, fun _ _ _ _ _ => O3.1.1⟩, K2.2.2 (preS_all K3.1 hq), K3.2.2 hq⟩⟩
  rw [if_neg t15] at H ej
  by_cases t18 : t = 18
  · rw [if_pos t18] at H ej
    obtain ⟨⟨a, s1⟩, e1, ej⟩ := jbR ej
    obtain ⟨⟨c, s2⟩, e2, ej⟩ := jbR ej
    obtain ⟨⟨d, s3⟩, e3, ej⟩ := jbR ej
    obtain ⟨⟨f, s4⟩, e4, ej⟩ := jbR ej
    have O1 := ok_of H.1 hΓ hb (by omega) e1
    have K1 := ihl Γ s b a s1 H.1 hΓ hb (by omega) e1
    obtain ⟨K2, y2⟩ := jw_kn K1 tI e2
    have O3 := ok_of H.2 hΓ hb (by omega) e3
    have K3 := ihr Γ s2 b d s3 H.2 hΓ hb (by omega) e3
    obtain ⟨K4, y4⟩ := jw_kn K3 tI e4
    injection Sum.inr.inj (Option.some.inj ej) with q1 q2
    have q2' : s4 = s' := q2
    rw [← q1] at rt ⊢
    rw [← q2']
    exact ⟨preS_trans K2.1 K4.1, ⟨t18.symm, rfl, fun _ _ => K2.2.1, fun _ _ _ => K4.2.1⟩, fun hq => ⟨fun _ => ⟨by decide, rt, .inl rfl, fun z => absurd z (by decide)⟩, ⟨fun _ _ => by rw [y2]; exact O1.1.1, fun _ _ _ _ _ => by rw [y4]; exact O3.1.1⟩, K2.2.2 (preS_all K4.1 hq), K4.2.2 hq⟩⟩
  rw [if_neg t18] at H ej
  cases r with
  | leaf => exact H.elim
  | inner t' lb' u' r1 r2 =>
    obtain ⟨i1, i2⟩ := ihp t' lb' u' r1 r2 rfl
    have x1 : xsz (.inner t' lb' u' r1 r2) = 1 + 2 * tsz (lbT lb') + xsz r1 + xsz r2 := rfl
    rw [x1] at hb2
    simp only at H ej
    by_cases t16 : t = 16
    · rw [if_pos t16] at H ej
      obtain ⟨⟨a, s1⟩, e1, ej⟩ := jbR ej
      obtain ⟨⟨c, s2⟩, e2, ej⟩ := jbR ej
      obtain ⟨⟨d, s3⟩, e3, ej⟩ := jbR ej
      obtain ⟨⟨f, s4⟩, e4, ej⟩ := jbR ej
      obtain ⟨⟨g, s5⟩, e5, ej⟩ := jbR ej
      have O1 := ok_of H.1 hΓ hb (by omega) e1
      have K1 := ihl Γ s b a s1 H.1 hΓ hb (by omega) e1
      obtain ⟨K2, y2⟩ := jw_kn K1 tB e2
      have O3 := ok_of H.2.1 hΓ hb (by omega) e3
      have K3 := i1 Γ s2 b d s3 H.2.1 hΓ hb (by omega) e3
      have O4 := ok_of H.2.2 hΓ hb (by omega) e4
      have K4 := i2 Γ s3 b f s4 H.2.2 hΓ hb (by omega) e4
      obtain ⟨K5, y5⟩ := jw_kn K4 ⟨O3.1, by have := O3.2; omega⟩ e5
      injection Sum.inr.inj (Option.some.inj ej) with q1 q2
      have q2' : s5 = s' := q2
      rw [← q1] at rt ⊢
      rw [← q2']
      exact ⟨preS_trans (preS_trans K2.1 K3.1) K5.1, ⟨t16.symm, rfl, fun _ _ => K2.2.1, fun _ _ _ => ⟨rfl, rfl, fun _ _ => K3.2.1, fun _ _ _ => K5.2.1⟩⟩, fun hq => ⟨fun _ => ⟨by decide, rt, .inl rfl, fun z => absurd z (by decide)⟩, ⟨fun _ _ => by rw [y2]; exact O1.1.1, fun _ _ _ z => absurd rfl z⟩, K2.2.2 (preS_all (preS_trans K3.1 K5.1) hq), fun z => absurd rfl z, ⟨fun _ _ => O3.1.1, fun _ _ _ _ _ => by rw [y5]; exact O4.1.1⟩, K3.2.2 (preS_all K5.1 hq), K5.2.2 hq⟩⟩
    rw [if_neg t16] at H ej
    by_cases t17 : t = 17
    · rw [if_pos t17] at H ej
      obtain ⟨⟨a, s1⟩, e1, ej⟩ := jbR ej
      obtain ⟨⟨f, v, s2⟩, e2, ej⟩ := jbR ej
      obtain ⟨⟨d, s3⟩, e3, ej⟩ := jbR ej
      obtain ⟨⟨g, s4⟩, e4, ej⟩ := jbR ej
      obtain ⟨⟨k, s5⟩, e5, ej⟩ := jbR ej
      have O1 := ok_of H.1 hΓ hb (by omega) e1
      have K1 := ihl Γ s b a s1 H.1 hΓ hb (by omega) e1
      obtain ⟨K2, y2⟩ := jf_kn J (by omega) O1 K1 e2
      have T2 := jf_tl J (.inr ⟨rfl, rfl⟩) (by omega) (by omega) O1 e2
      have O3 := ok_of H.2.1 hΓ hb (by omega) e3
      have K3 := i1 Γ s2 b d s3 H.2.1 hΓ hb (by omega) e3
      have hΓ2 : ∀ T ∈ Γ ++ [tL v, v], tyOk E.2.2.2.1 T ∧ tsz T ≤ b + xsz l := fun T hT => by
        rcases List.mem_append.mp hT with h | h
        · exact gle (by omega) T h
        · rcases List.mem_cons.mp h with h | h
          · rw [h]; exact ⟨T2.2.2.1.1, T2.2.2.2⟩
          · rw [List.mem_singleton.mp h]; exact ⟨T2.1.1, T2.2.1⟩
      have hx : xok E r2 (Γ ++ [tL v, v]).length := by rw [List.length_append]; exact H.2.2
      have O4 := ok_of hx hΓ2 (by omega) (by omega) e4
      have K4 := i2 (Γ ++ [tL v, v]) s3 (b + xsz l) g s4 hx hΓ2 (by omega) (by omega) e4
      obtain ⟨K5, y5⟩ := jw_kn K4 ⟨O3.1, by have := O3.2; omega⟩ e5
      injection Sum.inr.inj (Option.some.inj ej) with q1 q2
      have q2' : s5 = s' := q2
      rw [← q1] at rt ⊢
      rw [← q2']
      exact ⟨preS_trans (preS_trans K2.1 K3.1) K5.1, ⟨t17.symm, rfl, fun _ _ => K2.2.1, fun _ _ _ => ⟨rfl, rfl, fun _ _ => K3.2.1, fun _ _ _ => K5.2.1⟩⟩, fun hq => ⟨fun _ => ⟨by decide, rt, .inl rfl, fun z => absurd z (by decide)⟩, ⟨fun _ _ => by rw [y2]; exact O1.1.1, fun _ _ _ _ z => absurd rfl z⟩, K2.2.2 (preS_all (preS_trans K3.1 K5.1) hq), fun z => absurd rfl z, ⟨fun _ _ => O3.1.1, fun _ _ _ _ _ => by rw [y5]; exact O4.1.1⟩, K3.2.2 (preS_all K5.1 hq), K5.2.2 hq⟩⟩
    rw [if_neg t17] at H
    exact H.elim
end LJ2
