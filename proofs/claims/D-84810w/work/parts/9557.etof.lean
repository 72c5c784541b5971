set_option maxRecDepth 100000
/-! JUDGED EXS CAN BE TOLD, in the component -/
/-- what is known of an ex's labels, and of its reasons -/
def eP (ins : List INs) (evT : Dc → Prop) : Et → Prop
  | .leaf => True
  | .inner t a _ l r => (t = 10 ∨ t = 14 ∨ t = 15 → ∀ p ∈ a.1.2.2.2.2.2, tyOk ins p.1 ∧ tsz p.1 ≤ 1000000 ∧ tdp p.1 < 70) ∧ (t = 14 ∨ t = 15 → ∃ p, a.1.2.2.2.2.2[0]? = some p) ∧ (t = 11 → a.1.2.1 ≤ 2147483647) ∧ (t = 10 → ∀ D ∈ a.2.2.2, evT D) ∧ (t = 18 → chN l) ∧ (t ≠ 10 → t ≠ 11 → eP ins evT l) ∧ (t ≠ 10 → t ≠ 11 → t ≠ 14 → eP ins evT r)
/-- its cast -/
def eCa : Et → Ty
  | .leaf => .leaf
  | .inner _ a _ _ _ => a.2.2.1
/-- a property of heads, all through an ex's types -/
def eH (H : Nat → Nat → Prop) : Et → Prop
  | .leaf => True
  | .inner t a _ l r => (allH H a.2.1 ∧ allH H a.2.2.1 ∧ (t = 10 ∨ t = 14 ∨ t = 15 → ∀ p ∈ a.1.2.2.2.2.2, allH H p.1)) ∧ eH H l ∧ eH H r
section LET
variable {G : om_G} {h : om_H} {N : List (List Int)} {cl : Nat → Nat} {U Sl : Nat → Prop} {fo mo : Nat → Nat} {nm con fam : Nat → List Int} {E : JE} {evR : Dc → Nat → Prop} {evT' : Dc → Prop}
theorem eCt_ca {e : Et} (z : eCa e ≠ .leaf) : eCt e = eCa e := by
  cases e with
  | leaf => exact absurd rfl z
  | inner t x u l r =>
    have z' : x.2.2.1 ≠ .leaf := z
    show (match x.2.2.1 with | .leaf => x.2.1 | .inner k w u l r => .inner k w u l r) = x.2.2.1
    cases q : x.2.2.1 with
    | leaf => exact absurd q z'
    | inner k w u l r => rfl
set_option maxHeartbeats 1000000 in
/-- JUDGED EXS CAN BE TOLD -/
theorem eT_of {H : Nat → Nat → Prop} (hty : ∀ T a, tyC h N cl U T a → wfT T → allH H T → tOc N cl nm con fam h T) : ∀ (n : Nat) (e : Et), esz e ≤ n → ∀ (d dp md m a alo ahi : Nat), XCt G N cl U Sl fo mo h evR e d dp md m a alo ahi → eK E (QC h N cl U) e → eTy e ≠ .leaf → eP E.2.2.2.1 evT' e → eH H e → (md = 1 → eCa e ≠ .leaf → (∃ a1, tyC h N cl U (eTy e) a1) ∧ ∃ a2, tyC h N cl U (eCa e) a2) → (md = 2 → 0 < m → chN e ∧ 2 ≤ (ll h (fR h 1522 a)).length) → eT N cl nm con fam h (kn2C h N cl U E.2.2.2.1 E.2.2.2.2 nm con fam) evT' e
  | _, .leaf, _, _, _, _, _, _, _, _, X, _, _, _, _, _, _ => (XCg_l X).elim
  | 0, .inner t x u l r, hn, _, _, _, _, _, _, _, _, _, _, _, _, _, _ => by
    have : 1 + esz l + esz r ≤ 0 := hn
    omega
  | n + 1, .inner t x u l r, hn, d, dp, md, m, a, alo, ahi, X, K, ty, P, HH, h1, h2 => by
    obtain ⟨⟨hh1, hh2, hh3⟩, hhl, hhr⟩ := HH
    have hn' : 1 + esz l + esz r ≤ n + 1 := hn
    obtain ⟨K1, ⟨Kl, Kr⟩, eKl, eKr⟩ := K
    obtain ⟨t13, okT, cs, _⟩ := K1 ty
    obtain ⟨p1, p2, p3, p4, p5, p6, p7⟩ := P
    have X' := X
    unfold XCt at X'
    rw [XCg_e] at X'
    unfold XCb PhT at X'
    obtain ⟨⟨_, _, _, _, b5⟩, _, ⟨φ1, φ2, φ3⟩, X'⟩ := X'
    -- the cast
    have cst : t ≠ 0 → x.2.2.1 ≠ .leaf → kn2C h N cl U E.2.2.2.1 E.2.2.2.2 nm con fam x.2.1 x.2.2.1 ∧ x.2.1 ≠ x.2.2.1 := fun _ c => by
      rcases cs with z | ⟨okC, ne, one⟩
      · exact absurd z c
      have tc : (∃ a1, tyC h N cl U x.2.1 a1) ∧ ∃ a2, tyC h N cl U x.2.2.1 a2 := by
        by_cases m1 : md = 1
        · exact h1 m1 c
        by_cases o : md = 0 ∨ (md = 2 ∧ ¬ aO t md m)
        · exact ⟨⟨_, (φ1 o).1⟩, ⟨_, (φ1 o).2⟩⟩
        · exfalso
          have m2 : md = 2 := by
            have := b5.2.2
            have : md ≠ 0 := fun z => o (.inl z)
            omega
          have oo : aO t md m := Classical.byContradiction (fun z => o (.inr ⟨m2, z⟩))
          have t18 : t = 18 ∧ 0 < m := by
            rcases oo with w | w | w
            · omega
            · omega
            · exact w.2
          obtain ⟨c1, c2⟩ := h2 m2 t18.2
          rw [if_neg (by omega), if_neg (by omega), if_neg (by omega), if_neg (by omega), if_pos t18.1] at X'
          obtain ⟨_, _, e', am, cc, _⟩ := X'
          have ea : aX h t md m a = a := if_pos oo
          rw [ea] at cc
          have sg := cc.2.2.2.2.2 c2
          exact c (c1 t18.1 sg.1 sg.2)
      obtain ⟨⟨a1, ca⟩, ⟨a2, cb⟩⟩ := tc
      exact ⟨kn2_one one okT.1.1 okC.1.1 ⟨okT.1.2.1, okT.1.2.2, okT.2, hty _ _ ca okT.1.2.1 hh1⟩ ⟨okC.1.2.1, okC.1.2.2, okC.2, hty _ _ cb okC.1.2.1 hh2⟩ cb (fun z => absurd z ne), ne⟩
    have go : ∀ (e : Et), esz e < 1 + esz l + esz r → ∀ (d dp md m a alo ahi : Nat), XCt G N cl U Sl fo mo h evR e d dp md m a alo ahi → eK E (QC h N cl U) e → eTy e ≠ .leaf → eP E.2.2.2.1 evT' e → eH H e → (md = 1 → eCa e ≠ .leaf → (∃ a1, tyC h N cl U (eTy e) a1) ∧ ∃ a2, tyC h N cl U (eCa e) a2) → (md = 2 → 0 < m → chN e ∧ 2 ≤ (ll h (fR h 1522 a)).length) → eT N cl nm con fam h (kn2C h N cl U E.2.2.2.1 E.2.2.2.2 nm con fam) evT' e := fun e he => eT_of hty n e (by omega)
    by_cases t10 : t = 10
    · rw [if_pos t10] at X'
      refine ⟨cst, t13, fun _ => ⟨fun p hp => ?_, p4 t10⟩, fun z => by omega, fun z => by omega, fun z => by omega, fun z => absurd t10 z, fun z => absurd t10 z⟩
      obtain ⟨nmc, _, _⟩ := X'
      obtain ⟨q1, q2, q3⟩ := p1 (.inl t10) p hp
      refine ⟨q1.1, q1.2.1, q3, ?_⟩
      rcases nmc.2.2 with ⟨z, _⟩ | ⟨_, _, ⟨_, _, _, _, c5⟩, c6⟩
      · rw [z] at hp
        cases hp
      · obtain ⟨i, hi, ei⟩ := List.getElem_of_mem hp
        have e1 : x.1.2.2.2.2.2[i]? = some p := by rw [List.getElem?_eq_getElem hi, ei]
        exact hty _ _ (c6 i _ p (List.getElem?_eq_getElem (by omega)) e1) q1.2.1 (hh3 (by omega) p hp)
    rw [if_neg t10] at X'
    by_cases t11 : t = 11
    · exact ⟨cst, t13, fun z => absurd z t10, p3, fun z => by omega, fun z => by omega, fun _ z => absurd t11 z, fun _ z => absurd t11 z⟩
    rw [if_neg t11] at X'
    have tl := Kl t10 t11
    have pl := p6 t10 t11
    by_cases t12 : t = 12
    · rw [if_pos t12] at X'
      obtain ⟨_, _, _, i, am, a1, ic, _, _, _, Xl, Xr⟩ := X'
      have φi := φ3 t12 i ic.2.2.1
      have Tl := go l (by omega) _ _ 1 _ _ _ _ Xl eKl tl pl hhl (fun _ c => ⟨⟨_, φi.1⟩, ⟨_, by rw [← eCt_ca c]; exact φi.2⟩⟩) (fun z => by omega)
      have Tr := go r (by omega) _ _ 0 _ _ _ _ Xr eKr (Kr t10 t11 (by omega) (by omega) (by omega)) (p7 t10 t11 (by omega)) hhr (fun z => by omega) (fun z => by omega)
      exact ⟨cst, t13, fun z => absurd z t10, fun z => absurd z t11, fun z => by omega, fun z => by omega, fun _ _ => Tl, fun _ _ _ => Tr⟩
    rw [if_neg t12, if_neg t13] at X'
    by_cases t18 : t = 18
    · rw [if_pos t18] at X'
      obtain ⟨_, _, e', am, cc, _, Xl, Xr⟩ := X'
      have mm := cc.2.2.1
      have Tl := go l (by omega) _ _ 2 _ _ _ _ Xl eKl tl pl hhl (fun z => by omega) (fun _ w => ⟨p5 t18, by omega⟩)
      have Tr := go r (by omega) _ _ 0 _ _ _ _ Xr eKr (Kr t10 t11 (by omega) (by omega) (by omega)) (p7 t10 t11 (by omega)) hhr (fun z => by omega) (fun z => by omega)
      exact ⟨cst, t13, fun z => absurd z t10, fun z => absurd z t11, fun z => by omega, p5, fun _ _ => Tl, fun _ _ _ => Tr⟩
    rw [if_neg t18] at X'
    obtain ⟨_, _, X'⟩ := X'
    have lbk : (t = 14 ∨ t = 15) → ∀ a', tyC h N cl U (lbT x.1) a' → tyG N cl nm con fam h (lbT x.1) := fun z a' c => by
      obtain ⟨p, ep⟩ := p2 z
      have el : lbT x.1 = p.1 := by unfold lbT; rw [ep]; rfl
      obtain ⟨q1, q2, q3⟩ := p1 (by omega) p (List.mem_of_getElem? ep)
      rw [el] at c ⊢
      exact ⟨q1.1, q1.2.1, q3, hty _ _ c q1.2.1 (hh3 (by omega) p (List.mem_of_getElem? ep))⟩
    by_cases t14 : t = 14
    · rw [if_pos t14] at X'
      obtain ⟨_, cT, _, a1, a2, _, _, Xl⟩ := X'
      have Tl := go l (by omega) _ _ 0 _ _ _ _ Xl eKl tl pl hhl (fun z => by omega) (fun z => by omega)
      exact ⟨cst, t13, fun z => absurd z t10, fun z => absurd z t11, fun z => lbk z _ cT, fun z => absurd z t18, fun _ _ => Tl, fun _ _ z => absurd t14 z⟩
    rw [if_neg t14] at X'
    by_cases t15 : t = 15
    · rw [if_pos t15] at X'
      obtain ⟨_, cT, _, a1, a2, a3, _, _, _, Xl, Xr⟩ := X'
      have Tl := go l (by omega) _ _ 0 _ _ _ _ Xl eKl tl pl hhl (fun z => by omega) (fun z => by omega)
      have Tr := go r (by omega) _ _ 0 _ _ _ _ Xr eKr (Kr t10 t11 t14 (by omega) (by omega)) (p7 t10 t11 t14) hhr (fun z => by omega) (fun z => by omega)
      exact ⟨cst, t13, fun z => absurd z t10, fun z => absurd z t11, fun z => lbk z _ cT, fun z => absurd z t18, fun _ _ => Tl, fun _ _ _ => Tr⟩
    rw [if_neg t15] at X'
    cases r with
    | leaf => exact X'.elim
    | inner t' x' u' r1 r2 =>
    obtain ⟨z0, X'⟩ := X'
    subst z0
    have pr := p7 t10 t11 t14
    obtain ⟨_, ⟨Kr1, Kr2⟩, eK1, eK2⟩ := id eKr
    have y1 := Kr1 (by decide) (by decide)
    have y2 := Kr2 (by decide) (by decide) (by decide) (by decide) (by decide)
    have q1 := pr.2.2.2.2.2.1 (by decide) (by decide)
    have q2 := pr.2.2.2.2.2.2 (by decide) (by decide) (by decide)
    rw [esz_lt] at go hn'
    have fin : eT N cl nm con fam h (kn2C h N cl U E.2.2.2.1 E.2.2.2.2 nm con fam) evT' l → eT N cl nm con fam h (kn2C h N cl U E.2.2.2.1 E.2.2.2.2 nm con fam) evT' r1 → eT N cl nm con fam h (kn2C h N cl U E.2.2.2.1 E.2.2.2.2 nm con fam) evT' r2 → eT N cl nm con fam h (kn2C h N cl U E.2.2.2.1 E.2.2.2.2 nm con fam) evT' (.inner t x u l (.inner 0 x' u' r1 r2)) := fun A B C => ⟨cst, t13, fun z => absurd z t10, fun z => absurd z t11, fun z => by omega, fun z => absurd z t18, fun _ _ => A, fun _ _ _ => ⟨fun z => absurd rfl z, by decide, fun z => by omega, fun z => by omega, fun z => by omega, fun z => by omega, fun _ _ => B, fun _ _ _ => C⟩⟩
    by_cases t16 : t = 16
    · rw [if_pos t16] at X'
      obtain ⟨_, a1, a2, a3, a4, _, _, _, X1, X2, X3⟩ := X'
      exact fin (go l (by omega) _ _ 0 _ _ _ _ X1 eKl tl pl hhl (fun z => by omega) (fun z => by omega)) (go r1 (by omega) _ _ 0 _ _ _ _ X2 eK1 y1 q1 hhr.2.1 (fun z => by omega) (fun z => by omega)) (go r2 (by omega) _ _ 0 _ _ _ _ X3 eK2 y2 q2 hhr.2.2 (fun z => by omega) (fun z => by omega))
    rw [if_neg t16] at X'
    by_cases t17 : t = 17
    · rw [if_pos t17] at X'
      obtain ⟨_, _, _, a1, a2, a3, a4, a5, _, _, _, X1, X2, X3⟩ := X'
      exact fin (go l (by omega) _ _ 0 _ _ _ _ X1 eKl tl pl hhl (fun z => by omega) (fun z => by omega)) (go r1 (by omega) _ _ 0 _ _ _ _ X2 eK1 y1 q1 hhr.2.1 (fun z => by omega) (fun z => by omega)) (go r2 (by omega) _ _ 0 _ _ _ _ X3 eK2 y2 q2 hhr.2.2 (fun z => by omega) (fun z => by omega))
    rw [if_neg t17] at X'
    exact X'.elim
end LET
