set_option maxRecDepth 100000
/-! HEADS OF TYPES, all through what is judged -/
/-- what is known of the program's types -/
def JHe (E : JE) (H : Nat → Nat → Prop) (B : Nat) : Prop := InH H E.2.2.2.1 E.2.2.2.2 B ∧ (∀ f ∈ E.1, allH H f.2.2) ∧ (∀ m, some m ∈ E.2.1 → allH H m.2.2) ∧ ∀ k w, k ≠ 2 → H k w
section LJH
variable {E : JE} {H : Nat → Nat → Prop} {B : Nat}
theorem eH_cs {C : Ty} {e : Et} (h : eH H e) (hC : allH H C) : eH H (eCs C e) := by
  cases e with
  | leaf => trivial
  | inner t a u l r => exact ⟨⟨h.1.1, hC, h.1.2.2⟩, h.2⟩
theorem jw_H {T : Ty} {e e' : Et} {s s' : JS} (h : jw E T e s = some (.inr (e', s'))) (hT : allH H T) (he : eH H e) : eH H e' ∧ eTy e' = eTy e := by
  unfold jw at h
  by_cases c : tyE (eTy e) T = true
  · rw [if_pos c] at h
    injection Sum.inr.inj (Option.some.inj h) with e1 e2
    rw [← e1]
    exact ⟨he, rfl⟩
  · rw [if_neg c] at h
    cases q : oneP E.2.2.2.1 E.2.2.2.2 (0, s.1, s.2) (eTy e) T with
    | none => rw [q] at h; cases h
    | some a =>
    rw [q, Option.bind_some] at h
    cases a with
    | none => cases Option.some.inj h
    | some p =>
    obtain ⟨b, w⟩ := p
    simp only at h
    cases b with
    | false => rw [if_neg (by decide)] at h; cases Option.some.inj h
    | true =>
      rw [if_pos rfl] at h
      injection Sum.inr.inj (Option.some.inj h) with e1 e2
      rw [← e1]
      exact ⟨eH_cs he hT, eTy_Cs.1⟩
theorem allH_p {T : Ty} (h : allH H T) : allH H (tL T) ∧ allH H (tR' T) := by
  cases T with
  | leaf => exact ⟨trivial, trivial⟩
  | inner k w u l r => exact ⟨h.2.1, h.2.2⟩
theorem jf_H (I : InH H E.2.2.2.1 E.2.2.2.2 B) {k w pl b : Nat} {e e' : Et} {u : Ty} {s s' : JS} (hb : b ≤ 1000000) (He : eOk E.2.2.2.1 b e) (ht : allH H (eTy e)) (he : eH H e) (h : jf E k w pl e s = some (.inr (e', u, s'))) : eH H e' ∧ allH H u := by
  unfold jf at h
  by_cases c : isK k w (eTy e) = true
  · rw [if_pos c] at h
    have e0 := Sum.inr.inj (Option.some.inj h)
    injection e0 with e1 e2
    injection e2 with e2 e3
    rw [← e1, ← e2]
    exact ⟨he, ht⟩
  · rw [if_neg c] at h
    cases q : wk 2 E.2.2.2.1 E.2.2.2.2 130 false 0 (0, s.1, s.2) (eTy e) with
    | none => rw [q] at h; cases h
    | some a =>
    rw [q, Option.bind_some] at h
    cases a with
    | none => cases Option.some.inj h
    | some p =>
    obtain ⟨v, w'⟩ := p
    simp only at h
    by_cases ck : isK k w v = true
    rotate_left
    · rw [if_neg ck] at h
      cases Option.some.inj h
    rw [if_pos ck] at h
    have e0 := Sum.inr.inj (Option.some.inj h)
    injection e0 with e1 e2
    injection e2 with e2 e3
    obtain ⟨_, kn⟩ := knT_wk2 (Q := fun _ => True) q
    have kn := kn (fun _ _ => trivial)
    have gv := (kn_good I (by decide) kn He.1.1 ⟨He.1.2.1, He.1.2.2, by have := He.2; omega, ht⟩).1.2.2.2
    rw [← e1, ← e2]
    exact ⟨eH_cs he gv, gv⟩
/-- which type a name is of -/
theorem jnm_T {lb : XL} {Γ : List Ty} {s s' : JS} {e : Et} (h : jnm E lb Γ s = some (.inr (e, s'))) : ∃ T ev, e = en 10 lb T .leaf ev .leaf .leaf ∧ ((lb.2.1 = 0 ∧ Γ[lb.2.2.1]? = some T) ∨ (lb.2.1 ≠ 0 ∧ T = jnT E lb.2.1 lb.2.2.1 (lb.2.2.2.2.2.map Prod.fst))) := by
  unfold jnm at h
  by_cases k0 : lb.2.1 = 0
  · rw [if_pos k0] at h
    cases ql : lb.2.2.2.2.2 with
    | cons a l => rw [ql] at h; cases Option.some.inj h
    | nil =>
      rw [ql] at h
      simp only at h
      cases qg : Γ[lb.2.2.1]? with
      | none => rw [qg] at h; cases h
      | some T =>
        rw [qg] at h
        injection Sum.inr.inj (Option.some.inj h) with e1 e2
        exact ⟨T, [], e1.symm, .inl ⟨k0, rfl⟩⟩
  rw [if_neg k0] at h
  by_cases c1 : lb.2.2.2.2.2.length < jnN E lb.2.1 lb.2.2.1
  · rw [if_pos c1] at h
    cases Option.some.inj h
  rw [if_neg c1] at h
  cases qa : lb.2.2.2.2.2[jnN E lb.2.1 lb.2.2.1]? with
  | some a => rw [qa] at h; cases Option.some.inj h
  | none =>
  rw [qa] at h
  simp only at h
  by_cases c2 : jnN E lb.2.1 lb.2.2.1 ≠ 0 ∧ ¬ tszW (jnT E lb.2.1 lb.2.2.1 (lb.2.2.2.2.2.map Prod.fst)) ≤ 60
  · rw [if_pos c2] at h
    cases Option.some.inj h
  rw [if_neg c2] at h
  obtain ⟨⟨ev, s1⟩, e1, e2⟩ := jbR h
  injection Sum.inr.inj (Option.some.inj e2) with e3 e4
  exact ⟨_, ev, e3.symm, .inr ⟨k0, rfl⟩⟩
theorem jnT_H (J : JHe E H B) {k i : Nat} {ts : List Ty} (ht : ∀ T ∈ ts, allH H T) : allH H (jnT E k i ts) := by
  obtain ⟨_, jf, jm, hk⟩ := J
  have g0 : ∀ j : Nat, allH H (ts[j]?.getD .leaf) := fun j => by
    cases q : ts[j]? with
    | none => trivial
    | some T => exact ht T (List.mem_of_getElem? q)
  have sz : ∀ (ws : List Nat), ∀ p ∈ ws.zip ts, allH H p.2 := fun ws p hp => ht p.2 (List.of_mem_zip hp).2
  unfold jnT
  by_cases k1 : k = 1
  · rw [if_pos k1]
    cases q : E.1[i]? with
    | none => trivial
    | some f =>
      show allH H (if f.1 = [] then f.2.2 else sbT (f.1.zip ts) f.2.2)
      have hf := jf f (List.mem_of_getElem? q)
      by_cases c : f.1 = []
      · rw [if_pos c]; exact hf
      · rw [if_neg c]; exact tOn_sb (sz f.1) hf
  rw [if_neg k1]
  by_cases k2 : k = 2
  · rw [if_pos k2]
    cases q : (E.2.1[i]?).bind id with
    | none => trivial
    | some m =>
      show allH H (sbT ([m.2.1].zip ts) m.2.2)
      refine tOn_sb (sz _) (jm m ?_)
      cases q2 : E.2.1[i]? with
      | none => rw [q2] at q; cases q
      | some o =>
        rw [q2] at q
        have : o = some m := q
        rw [← this]
        exact List.mem_of_getElem? q2
  rw [if_neg k2]
  have a := g0 0
  have b := g0 1
  have h1 : ∀ w, H 1 w := fun w => hk 1 w (by decide)
  have h3 : H 3 0 := hk 3 0 (by decide)
  unfold btT
  split
  · exact ⟨h1 _, a, trivial⟩
  · split
    · exact ⟨h3, a, h3, ⟨h1 _, a, trivial⟩, ⟨h1 _, a, trivial⟩⟩
    · split
      · exact ⟨h3, a, h3, b, ⟨h1 _, a, b⟩⟩
      · split
        · exact ⟨h3, ⟨h1 _, a, b⟩, a⟩
        · split
          · exact ⟨h3, ⟨h1 _, a, b⟩, b⟩
          · exact ⟨h1 _, trivial, trivial⟩
/-- what came of judging -/
def HdR (H : Nat → Nat → Prop) (e : Et) : Prop := allH H (eTy e) ∧ eH H e
theorem jd_H (J0 : JOk E B) (J : JHe E H B) : ∀ (t : Xt) (Γ : List Ty) (s : JS) (b : Nat) (e : Et) (s' : JS), xok E t Γ.length → (∀ T ∈ Γ, (tyOk E.2.2.2.1 T ∧ tsz T ≤ b) ∧ allH H T) → 2700 ≤ b → b + xsz t ≤ 1000000 → xlD t → xlQ (allH H) t → pT t → jd E t Γ s = some (.inr (e, s')) → HdR H e := by
  have hk := J.2.2.2
  have aI : allH H tInt := ⟨hk 1 0 (by decide), trivial, trivial⟩
  have aB : allH H tBool := ⟨hk 1 1 (by decide), trivial, trivial⟩
  have ok_of : ∀ {t : Xt} {Γ : List Ty} {s : JS} {b : Nat} {e : Et} {s' : JS}, xok E t Γ.length → (∀ T ∈ Γ, (tyOk E.2.2.2.1 T ∧ tsz T ≤ b) ∧ allH H T) → 2700 ≤ b → b + xsz t ≤ 1000000 → jd E t Γ s = some (.inr (e, s')) → eOk E.2.2.2.1 (b + xsz t) e := fun {t Γ s b e s'} h1 h2 h3 h4 h5 => by
    obtain ⟨z, ez, hz⟩ := jd_ok J0 t Γ s b h1 (fun T hT => (h2 T hT).1) h3 h4
    rw [ez] at h5
    exact (hz _ (Option.some.inj h5)).1
  refine tr_ind (fun _ _ _ _ _ h => by rw [xok] at h; exact h.elim) (fun t lb u l r ihl ihr ihp => ?_)
  intro Γ s b e s' Hx hΓ hb hb2 xd xq pt ej
  obtain ⟨pt1, ptl, ptr⟩ := pt
  obtain ⟨⟨_, xd2, _⟩, xdl, xdr⟩ := xd
  obtain ⟨xq1, xq2, xql, xqr⟩ := xq
  have gle : ∀ {b' : Nat}, b ≤ b' → ∀ T ∈ Γ, (tyOk E.2.2.2.1 T ∧ tsz T ≤ b') ∧ allH H T := fun h T hT => ⟨⟨(hΓ T hT).1.1, Nat.le_trans (hΓ T hT).1.2 h⟩, (hΓ T hT).2⟩
  have e0 : xsz (.inner t lb u l r) = 1 + 2 * tsz (lbT lb) + xsz l + xsz r := rfl
  rw [e0] at hb2
  rw [xok_e] at Hx
  unfold xokB at Hx
  rw [jd_e] at ej
  unfold jdB at ej
  have lbA : t = 14 ∨ t = 15 → ∀ p ∈ lb.2.2.2.2.2, allH H p.1 := fun w p hp => by
    obtain ⟨q, eq⟩ := xd2 w
    have h := xq2 w
    unfold lbT at h
    rw [eq] at h hp
    rw [List.mem_singleton.mp hp]
    exact h
  by_cases t10 : t = 10
  · rw [if_pos t10] at Hx ej
    obtain ⟨T, ev, ee, hT⟩ := jnm_T ej
    have hTH : allH H T := by
      rcases hT with ⟨_, g⟩ | ⟨_, g⟩
      · exact (hΓ T (List.mem_of_getElem? g)).2
      · rw [g]
        refine jnT_H J (fun T' hT' => ?_)
        obtain ⟨p, p1, p2⟩ := List.mem_map.mp hT'
        rw [← p2]
        exact xq1 t10 p p1
    rw [ee]
    exact ⟨hTH, ⟨⟨hTH, trivial, fun _ => xq1 t10⟩, trivial, trivial⟩⟩
  rw [if_neg t10] at Hx ej
  by_cases t11 : t = 11
  · rw [if_pos t11] at ej
    injection Sum.inr.inj (Option.some.inj ej) with e1 e2
    rw [← e1]
    exact ⟨aI, ⟨⟨aI, trivial, fun z => by omega⟩, trivial, trivial⟩⟩
  rw [if_neg t11] at Hx ej
  replace xdl := xdl t10 t11
  replace xdr := xdr t10 t11
  replace xql := xql t10 t11
  replace xqr := xqr t10 t11
  replace ptl := ptl t10 t11
  replace ptr := ptr t10 t11
  by_cases t12 : t = 12
  · rw [if_pos t12] at Hx ej
    obtain ⟨⟨a, s1⟩, e1, ej⟩ := jbR ej
    obtain ⟨⟨f, v, s2⟩, e2, ej⟩ := jbR ej
    obtain ⟨⟨c, s3⟩, e3, ej⟩ := jbR ej
    obtain ⟨⟨d, s4⟩, e4, ej⟩ := jbR ej
    have O1 := ok_of Hx.1 hΓ hb (by omega) e1
    have K1 := ihl Γ s b a s1 Hx.1 hΓ hb (by omega) xdl xql ptl e1
    obtain ⟨K2, u2⟩ := jf_H J.1 (by omega) O1 K1.1 K1.2 e2
    have K3 := ihr Γ s2 b c s3 Hx.2 hΓ hb (by omega) (xdr (by omega) (by omega)) (xqr (by omega) (by omega)) (ptr (by omega) (by omega)) e3
    obtain ⟨K4, y4⟩ := jw_H e4 (allH_p u2).1 K3.2
    injection Sum.inr.inj (Option.some.inj ej) with q1 q2
    rw [← q1]
    exact ⟨(allH_p u2).2, ⟨⟨(allH_p u2).2, trivial, fun z => by omega⟩, K2, K4⟩⟩
  rw [if_neg t12] at Hx ej
  by_cases t13 : t = 13
  · rw [if_pos t13] at Hx ej
    obtain ⟨⟨a, s1⟩, e1, ej⟩ := jbR ej
    cases Option.some.inj ej
  rw [if_neg t13] at Hx ej
  by_cases t14 : t = 14
  · rw [if_pos t14] at Hx ej
    obtain ⟨⟨a, s1⟩, e1, ej⟩ := jbR ej
    have lh := xq2 (.inl t14)
    have hΓ2 : ∀ T ∈ Γ ++ [lbT lb], (tyOk E.2.2.2.1 T ∧ tsz T ≤ b + tsz (lbT lb)) ∧ allH H T := fun T hT => by
      rcases List.mem_append.mp hT with h | h
      · exact gle (by omega) T h
      · rw [List.mem_singleton.mp h]; exact ⟨⟨Hx.1, by omega⟩, lh⟩
    have hx : xok E l (Γ ++ [lbT lb]).length := by rw [List.length_append]; exact Hx.2
    have K1 := ihl (Γ ++ [lbT lb]) s (b + tsz (lbT lb)) a s1 hx hΓ2 (by omega) (by omega) xdl xql ptl e1
    injection Sum.inr.inj (Option.some.inj ej) with q1 q2
    rw [← q1]
    have aT : allH H (tArr (lbT lb) (eTy a)) := ⟨hk 3 0 (by decide), lh, K1.1⟩
    exact ⟨aT, ⟨⟨aT, trivial, fun _ => lbA (.inl t14)⟩, K1.2, trivial⟩⟩
  rw [if_neg t14] at Hx ej
  by_cases t15 : t = 15
  · rw [if_pos t15] at Hx ej
    obtain ⟨⟨a, s1⟩, e1, ej⟩ := jbR ej
    obtain ⟨⟨c, s2⟩, e2, ej⟩ := jbR ej
    obtain ⟨⟨d, s3⟩, e3, ej⟩ := jbR ej
    have lh := xq2 (.inr t15)
    have K1 := ihl Γ s b a s1 Hx.2.1 hΓ hb (by omega) xdl xql ptl e1
    obtain ⟨K2, y2⟩ := jw_H e2 lh K1.2
    have hΓ2 : ∀ T ∈ Γ ++ [lbT lb], (tyOk E.2.2.2.1 T ∧ tsz T ≤ b + tsz (lbT lb)) ∧ allH H T := fun T hT => by
      rcases List.mem_append.mp hT with h | h
      · exact gle (by omega) T h
      · rw [List.mem_singleton.mp h]; exact ⟨⟨Hx.1, by omega⟩, lh⟩
    have hx : xok E r (Γ ++ [lbT lb]).length := by rw [List.length_append]; exact Hx.2.2
    have K3 := ihr (Γ ++ [lbT lb]) s2 (b + tsz (lbT lb)) d s3 hx hΓ2 (by omega) (by omega) (xdr (by omega) (by omega)) (xqr (by omega) (by omega)) (ptr (by omega) (by omega)) e3
    injection Sum.inr.inj (Option.some.inj ej) with q1 q2
    rw [← q1]
    exact ⟨K3.1, ⟨⟨K3.1, trivial, fun _ => lbA (.inr t15)⟩, K2, K3.2⟩⟩
  rw [if_neg t15] at Hx ej
  by_cases t18 : t = 18
  · rw [if_pos t18] at Hx ej
    obtain ⟨⟨a, s1⟩, e1, ej⟩ := jbR ej
    obtain ⟨⟨c, s2⟩, e2, ej⟩ := jbR ej
    obtain ⟨⟨d, s3⟩, e3, ej⟩ := jbR ej
    obtain ⟨⟨f, s4⟩, e4, ej⟩ := jbR ej
    have K1 := ihl Γ s b a s1 Hx.1 hΓ hb (by omega) xdl xql ptl e1
    obtain ⟨K2, y2⟩ := jw_H e2 aI K1.2
    have K3 := ihr Γ s2 b d s3 Hx.2 hΓ hb (by omega) (xdr (by omega) (by omega)) (xqr (by omega) (by omega)) (ptr (by omega) (by omega)) e3
    obtain ⟨K4, y4⟩ := jw_H e4 aI K3.2
    injection Sum.inr.inj (Option.some.inj ej) with q1 q2
    rw [← q1]
    have aT : allH H (if lb.2.1 = 60 ∨ lb.2.1 = 61 then tBool else tInt) := by
      split
      · exact aB
      · exact aI
    exact ⟨aT, ⟨⟨aT, trivial, fun z => by omega⟩, K2, K4⟩⟩
  rw [if_neg t18] at Hx ej
  cases r with
  | leaf => exact Hx.elim
  | inner t' lb' u' r1 r2 =>
    obtain ⟨i1, i2⟩ := ihp t' lb' u' r1 r2 rfl
    obtain ⟨_, xd1, xd3⟩ := xdr t13 t14
    obtain ⟨_, _, xq3, xq4⟩ := xqr t13 t14
    obtain ⟨_, pt2, pt3⟩ := ptr t13 t14
    have x1 : xsz (.inner t' lb' u' r1 r2) = 1 + 2 * tsz (lbT lb') + xsz r1 + xsz r2 := rfl
    rw [x1] at hb2
    simp only at Hx ej
    by_cases t16 : t = 16
    · have et' : t' = 0 := pt1 (.inl t16)
      subst et'
      rw [if_pos t16] at Hx ej
      obtain ⟨⟨a, s1⟩, e1, ej⟩ := jbR ej
      obtain ⟨⟨c, s2⟩, e2, ej⟩ := jbR ej
      obtain ⟨⟨d, s3⟩, e3, ej⟩ := jbR ej
      obtain ⟨⟨f, s4⟩, e4, ej⟩ := jbR ej
      obtain ⟨⟨g, s5⟩, e5, ej⟩ := jbR ej
      have K1 := ihl Γ s b a s1 Hx.1 hΓ hb (by omega) xdl xql ptl e1
      obtain ⟨K2, y2⟩ := jw_H e2 aB K1.2
      have K3 := i1 Γ s2 b d s3 Hx.2.1 hΓ hb (by omega) (xd1 (by decide) (by decide)) (xq3 (by decide) (by decide)) (pt2 (by decide) (by decide)) e3
      have K4 := i2 Γ s3 b f s4 Hx.2.2 hΓ hb (by omega) (xd3 (by decide) (by decide) (by decide) (by decide)) (xq4 (by decide) (by decide) (by decide) (by decide)) (pt3 (by decide) (by decide) (by decide) (by decide)) e4
      obtain ⟨K5, y5⟩ := jw_H e5 K3.1 K4.2
      injection Sum.inr.inj (Option.some.inj ej) with q1 q2
      rw [← q1]
      exact ⟨K3.1, ⟨⟨K3.1, trivial, fun z => by omega⟩, K2, ⟨⟨trivial, trivial, fun z => by omega⟩, K3.2, K5⟩⟩⟩
    rw [if_neg t16] at Hx ej
    by_cases t17 : t = 17
    · have et' : t' = 0 := pt1 (.inr t17)
      subst et'
      rw [if_pos t17] at Hx ej
      obtain ⟨⟨a, s1⟩, e1, ej⟩ := jbR ej
      obtain ⟨⟨f, v, s2⟩, e2, ej⟩ := jbR ej
      obtain ⟨⟨d, s3⟩, e3, ej⟩ := jbR ej
      obtain ⟨⟨g, s4⟩, e4, ej⟩ := jbR ej
      obtain ⟨⟨k, s5⟩, e5, ej⟩ := jbR ej
      have O1 := ok_of Hx.1 hΓ hb (by omega) e1
      have K1 := ihl Γ s b a s1 Hx.1 hΓ hb (by omega) xdl xql ptl e1
      obtain ⟨K2, u2⟩ := jf_H J.1 (by omega) O1 K1.1 K1.2 e2
      have T2 := jf_tl J0 (.inr ⟨rfl, rfl⟩) (by omega) (by omega) O1 e2
      have K3 := i1 Γ s2 b d s3 Hx.2.1 hΓ hb (by omega) (xd1 (by decide) (by decide)) (xq3 (by decide) (by decide)) (pt2 (by decide) (by decide)) e3
      have hΓ2 : ∀ T ∈ Γ ++ [tL v, v], (tyOk E.2.2.2.1 T ∧ tsz T ≤ b + xsz l) ∧ allH H T := fun T hT => by
        rcases List.mem_append.mp hT with h | h
        · exact gle (by omega) T h
        · rcases List.mem_cons.mp h with h | h
          · rw [h]; exact ⟨⟨T2.2.2.1.1, T2.2.2.2⟩, (allH_p u2).1⟩
          · rw [List.mem_singleton.mp h]; exact ⟨⟨T2.1.1, T2.2.1⟩, u2⟩
      have hx : xok E r2 (Γ ++ [tL v, v]).length := by rw [List.length_append]; exact Hx.2.2
      have K4 := i2 (Γ ++ [tL v, v]) s3 (b + xsz l) g s4 hx hΓ2 (by omega) (by omega) (xd3 (by decide) (by decide) (by decide) (by decide)) (xq4 (by decide) (by decide) (by decide) (by decide)) (pt3 (by decide) (by decide) (by decide) (by decide)) e4
      obtain ⟨K5, y5⟩ := jw_H e5 K3.1 K4.2
      injection Sum.inr.inj (Option.some.inj ej) with q1 q2
      rw [← q1]
      exact ⟨K3.1, ⟨⟨K3.1, trivial, fun z => by omega⟩, K2, ⟨⟨trivial, trivial, fun z => by omega⟩, K3.2, K5⟩⟩⟩
    rw [if_neg t17] at Hx
    exact Hx.elim
/-- judged and wanted -/
theorem JdE_H (J0 : JOk E B) (J : JHe E H B) {t : Xt} {T : Ty} {s s' : JS} {e : Et} (X : ExL E t) (xq : xlQ (allH H) t) (hT : allH H T) (h : JdE E t T s e s') : eH H e := by
  obtain ⟨e0, s1, h1, h2⟩ := h
  have K := jd_H J0 J t [] s 2700 e0 s1 X.1 (fun T hT => absurd hT List.not_mem_nil) (Nat.le_refl _) X.2.1 X.2.2.1 xq X.2.2.2 h1
  exact (jw_H h2 hT K.2).1
end LJH
