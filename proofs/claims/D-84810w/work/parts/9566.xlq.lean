set_option maxRecDepth 100000
/-! WHAT IS KNOWN OF LABELS, out of both programs; a judged ex with its labels, in the twin -/
/-- a property of the types in labels -/
def xlQ (Q : Ty → Prop) : Xt → Prop
  | .leaf => True
  | .inner t lb _ l r => (t = 10 → ∀ p ∈ lb.2.2.2.2.2, Q p.1) ∧ (t = 14 ∨ t = 15 → Q (lbT lb)) ∧ (t ≠ 10 → t ≠ 11 → xlQ Q l) ∧ (t ≠ 10 → t ≠ 11 → t ≠ 13 → t ≠ 14 → xlQ Q r)
theorem xlQ_mono {Q Q' : Ty → Prop} (m : ∀ T, Q T → Q' T) : ∀ {t : Xt}, xlQ Q t → xlQ Q' t
  | .leaf, _ => trivial
  | .inner _ _ _ _ _, ⟨a, b, c, d⟩ => ⟨fun z p hp => m _ (a z p hp), fun z => m _ (b z), fun z1 z2 => xlQ_mono m (c z1 z2), fun z1 z2 z3 z4 => xlQ_mono m (d z1 z2 z3 z4)⟩
section LXQ
variable {σ : tS} {n : Nat}
theorem XTq_xl : ∀ (t : Xt) (lo hi v : Nat), XTg id (Fx σ) σ n t lo hi v → (xlD t ∧ pT t) ∧ xlQ (QN σ n) t := by
  refine tr_ind (fun _ _ _ H => by rw [XTg] at H; exact H.elim) (fun t lb u l r ihl ihr ihp => ?_)
  intro lo hi v H
  rw [XTg_e] at H
  unfold XTb at H
  obtain ⟨_, h538, ⟨f11, _, _, _, lbd, l0⟩, h4⟩ := H
  have e1 : (t ≠ 0 → lbD lb) ∧ (t = 14 ∨ t = 15 → ∃ p, lb.2.2.2.2.2 = [p]) ∧ (t = 11 → lb.2.1 < 1000000) := ⟨fun _ => lbd, fun w => l0 (by rw [h538]; omega), fun w => by
    obtain ⟨k, _, _, _, k4⟩ := f11 (by rw [h538, w]; rfl)
    exact k4⟩
  by_cases t10 : t = 10
  · rw [if_pos t10] at h4
    obtain ⟨_, _, _, _, os, ch, ol, oT⟩ := h4
    refine ⟨⟨⟨e1, fun z => absurd t10 z, fun z => absurd t10 z⟩, ⟨fun z => by omega, fun z => absurd t10 z, fun z => absurd t10 z⟩⟩, ⟨fun _ p hp => ?_, fun z => by omega, fun z => absurd t10 z, fun z => absurd t10 z⟩⟩
    obtain ⟨i, hi', ei⟩ := List.getElem_of_mem hp
    have ol' : os.length = lb.2.2.2.2.2.length := ol
    have ep : lb.2.2.2.2.2[i]? = some p := by rw [List.getElem?_eq_getElem hi', ei]
    have := oT i (os[i]'(by omega)) p (List.getElem?_eq_getElem (by omega)) ep
    exact ⟨_, this.2.2⟩
  rw [if_neg t10] at h4
  by_cases t11 : t = 11
  · exact ⟨⟨⟨e1, fun _ z => absurd t11 z, fun _ z => absurd t11 z⟩, ⟨fun z => by omega, fun _ z => absurd t11 z, fun _ z => absurd t11 z⟩⟩, ⟨fun z => absurd z t10, fun z => by omega, fun _ z => absurd t11 z, fun _ z => absurd t11 z⟩⟩
  rw [if_neg t11] at h4
  by_cases t12 : t = 12
  · rw [if_pos t12] at h4
    obtain ⟨_, _, m, x, y, _, _, hl, hr⟩ := h4
    obtain ⟨⟨a1, a2⟩, a3⟩ := ihl _ _ _ hl
    obtain ⟨⟨b1, b2⟩, b3⟩ := ihr _ _ _ hr
    exact ⟨⟨⟨e1, fun _ _ => a1, fun _ _ _ _ => b1⟩, ⟨fun z => by omega, fun _ _ => a2, fun _ _ _ _ => b2⟩⟩, ⟨fun z => absurd z t10, fun z => by omega, fun _ _ => a3, fun _ _ _ _ => b3⟩⟩
  rw [if_neg t12] at h4
  by_cases t13 : t = 13
  · rw [if_pos t13] at h4
    obtain ⟨_, _, _, m, x, _, _, hl⟩ := h4
    obtain ⟨⟨a1, a2⟩, a3⟩ := ihl _ _ _ hl
    exact ⟨⟨⟨e1, fun _ _ => a1, fun _ _ z => absurd t13 z⟩, ⟨fun z => by omega, fun _ _ => a2, fun _ _ z => absurd t13 z⟩⟩, ⟨fun z => absurd z t10, fun z => by omega, fun _ _ => a3, fun _ _ z => absurd t13 z⟩⟩
  rw [if_neg t13] at h4
  by_cases t14 : t = 14
  · rw [if_pos t14] at h4
    obtain ⟨_, _, cT, m, x, _, _, hl⟩ := h4
    obtain ⟨⟨a1, a2⟩, a3⟩ := ihl _ _ _ hl
    exact ⟨⟨⟨e1, fun _ _ => a1, fun _ _ _ z => absurd t14 z⟩, ⟨fun z => by omega, fun _ _ => a2, fun _ _ _ z => absurd t14 z⟩⟩, ⟨fun z => absurd z t10, fun _ => ⟨_, cT⟩, fun _ _ => a3, fun _ _ _ z => absurd t14 z⟩⟩
  rw [if_neg t14] at h4
  by_cases t15 : t = 15
  · rw [if_pos t15] at h4
    obtain ⟨_, _, cT, m, m', x, y, _, _, _, hl, hr⟩ := h4
    obtain ⟨⟨a1, a2⟩, a3⟩ := ihl _ _ _ hl
    obtain ⟨⟨b1, b2⟩, b3⟩ := ihr _ _ _ hr
    exact ⟨⟨⟨e1, fun _ _ => a1, fun _ _ _ _ => b1⟩, ⟨fun z => by omega, fun _ _ => a2, fun _ _ _ _ => b2⟩⟩, ⟨fun z => absurd z t10, fun _ => ⟨_, cT⟩, fun _ _ => a3, fun _ _ _ _ => b3⟩⟩
  rw [if_neg t15] at h4
  by_cases t18 : t = 18
  · rw [if_pos t18] at h4
    obtain ⟨_, _, _, m, x, y, _, _, hl, hr⟩ := h4
    obtain ⟨⟨a1, a2⟩, a3⟩ := ihl _ _ _ hl
    obtain ⟨⟨b1, b2⟩, b3⟩ := ihr _ _ _ hr
    exact ⟨⟨⟨e1, fun _ _ => a1, fun _ _ _ _ => b1⟩, ⟨fun z => by omega, fun _ _ => a2, fun _ _ _ _ => b2⟩⟩, ⟨fun z => absurd z t10, fun z => by omega, fun _ _ => a3, fun _ _ _ _ => b3⟩⟩
  rw [if_neg t18] at h4
  cases r with
  | leaf => exact h4.elim
  | inner t' lb' u' r1 r2 =>
    obtain ⟨i1, i2⟩ := ihp t' lb' u' r1 r2 rfl
    obtain ⟨_, _, z0, h4⟩ := h4
    have fin : ∀ {x y z lo1 hi1 lo2 hi2 lo3 hi3 : Nat}, XTg id (Fx σ) σ n l lo1 hi1 x → XTg id (Fx σ) σ n r1 lo2 hi2 y → XTg id (Fx σ) σ n r2 lo3 hi3 z → (xlD (.inner t lb u l (.inner t' lb' u' r1 r2)) ∧ pT (.inner t lb u l (.inner t' lb' u' r1 r2))) ∧ xlQ (QN σ n) (.inner t lb u l (.inner t' lb' u' r1 r2)) := fun {x y z lo1 hi1 lo2 hi2 lo3 hi3} hl h1 h2 => by
      obtain ⟨⟨a1, a2⟩, a3⟩ := ihl _ _ _ hl
      obtain ⟨⟨b1, b2⟩, b3⟩ := i1 _ _ _ h1
      obtain ⟨⟨c1, c2⟩, c3⟩ := i2 _ _ _ h2
      exact ⟨⟨⟨e1, fun _ _ => a1, fun _ _ _ _ => ⟨⟨fun w => absurd z0 w, fun w => by omega, fun w => by omega⟩, fun _ _ => b1, fun _ _ _ _ => c1⟩⟩, ⟨fun _ => z0, fun _ _ => a2, fun _ _ _ _ => ⟨fun w => by omega, fun _ _ => b2, fun _ _ _ _ => c2⟩⟩⟩, ⟨fun z => absurd z t10, fun z => by omega, fun _ _ => a3, fun _ _ _ _ => ⟨fun w => by omega, fun w => by omega, fun _ _ => b3, fun _ _ _ _ => c3⟩⟩⟩
    by_cases t16 : t = 16
    · rw [if_pos t16] at h4
      obtain ⟨m, m', x, y, z, _, _, _, hl, h1, h2⟩ := h4
      exact fin hl h1 h2
    rw [if_neg t16] at h4
    by_cases t17 : t = 17
    · rw [if_pos t17] at h4
      obtain ⟨m, m', x, y, z, _, _, _, hl, h1, h2⟩ := h4
      exact fin hl h1 h2
    rw [if_neg t17] at h4
    exact h4.elim
theorem nat_int {a b : Nat} {c : Int} (h1 : c = (a : Int)) (h2 : c = (b : Int)) : a = b := by omega
/-- judged and labelled: both at once -/
theorem XTf_of : ∀ (e : Et) (t : Xt) (lo hi v lo' hi' : Nat), eSm e t → XTg Prod.fst (Pe σ n) σ n e lo hi v → XTg id (Fx σ) σ n t lo' hi' v → XTg Prod.fst (Pf σ n) σ n e lo hi v := by
  refine tr_ind (fun t _ _ _ _ _ s _ _ => by cases t <;> exact s.elim) (fun t a u l r ihl ihr ihp => ?_)
  intro x lo hi v lo' hi' sm H H'
  cases x with
  | leaf => exact sm.elim
  | inner t2 b u2 l2 r2 =>
  obtain ⟨et, eb, sl, sr⟩ := sm
  subst et
  subst eb
  rw [XTg_e] at H H' ⊢
  unfold XTb at H H' ⊢
  obtain ⟨h1, h2, h3, h4⟩ := H
  obtain ⟨_, _, g3, g4⟩ := H'
  refine ⟨h1, h2, ⟨h3, g3⟩, ?_⟩
  by_cases t10 : t = 10
  · rw [if_pos t10] at h4 ⊢
    exact h4
  rw [if_neg t10] at h4 g4 ⊢
  by_cases t11 : t = 11
  · rw [if_pos t11] at h4 ⊢
    exact h4
  rw [if_neg t11] at h4 g4 ⊢
  by_cases t12 : t = 12
  · rw [if_pos t12] at h4 g4 ⊢
    obtain ⟨a1, a2, m, x, y, a3, a4, a5, a6⟩ := h4
    obtain ⟨_, _, m', x', y', b3, b4, b5, b6⟩ := g4
    rw [← nat_int a3 b3] at b5
    rw [← nat_int a4 b4] at b6
    exact ⟨a1, a2, m, x, y, a3, a4, ihl _ _ _ _ _ _ (sl t10 t11) a5 b5, ihr _ _ _ _ _ _ (sr t10 t11 (by omega)) a6 b6⟩
  rw [if_neg t12] at h4 g4 ⊢
  by_cases t13 : t = 13
  · rw [if_pos t13] at h4 g4 ⊢
    obtain ⟨a1, a2, a3, m, x, a4, a5, a6⟩ := h4
    obtain ⟨_, _, _, m', x', _, b5, b6⟩ := g4
    rw [← nat_int a5 b5] at b6
    exact ⟨a1, a2, a3, m, x, a4, a5, ihl _ _ _ _ _ _ (sl t10 t11) a6 b6⟩
  rw [if_neg t13] at h4 g4 ⊢
  by_cases t14 : t = 14
  · rw [if_pos t14] at h4 g4 ⊢
    obtain ⟨a1, a2, a3, m, x, a4, a5, a6⟩ := h4
    obtain ⟨_, _, _, m', x', _, b5, b6⟩ := g4
    rw [← nat_int a5 b5] at b6
    exact ⟨a1, a2, a3, m, x, a4, a5, ihl _ _ _ _ _ _ (sl t10 t11) a6 b6⟩
  rw [if_neg t14] at h4 g4 ⊢
  by_cases t15 : t = 15
  · rw [if_pos t15] at h4 g4 ⊢
    obtain ⟨a1, a2, a3, m, m2, x, y, a4, a5, a6, a7, a8⟩ := h4
    obtain ⟨_, _, _, m', m2', x', y', _, b5, b6, b7, b8⟩ := g4
    rw [← nat_int a5 b5] at b7
    rw [← nat_int a6 b6] at b8
    exact ⟨a1, a2, a3, m, m2, x, y, a4, a5, a6, ihl _ _ _ _ _ _ (sl t10 t11) a7 b7, ihr _ _ _ _ _ _ (sr t10 t11 t14) a8 b8⟩
  rw [if_neg t15] at h4 g4 ⊢
  by_cases t18 : t = 18
  · rw [if_pos t18] at h4 g4 ⊢
    obtain ⟨a1, a2, a0, m, x, y, a3, a4, a5, a6⟩ := h4
    obtain ⟨_, _, _, m', x', y', b3, b4, b5, b6⟩ := g4
    rw [← nat_int a3 b3] at b5
    rw [← nat_int a4 b4] at b6
    exact ⟨a1, a2, a0, m, x, y, a3, a4, ihl _ _ _ _ _ _ (sl t10 t11) a5 b5, ihr _ _ _ _ _ _ (sr t10 t11 t14) a6 b6⟩
  rw [if_neg t18] at h4 g4 ⊢
  cases r with
  | leaf => exact h4.elim
  | inner t' a' u' r1 r2' =>
  cases r2 with
  | leaf => exact g4.elim
  | inner t2' b' u2' s1 s2 =>
    obtain ⟨i1, i2⟩ := ihp t' a' u' r1 r2' rfl
    obtain ⟨p1, p2, p3, p4⟩ := sr t10 t11 t14
    obtain ⟨c1, c2, z0, h4⟩ := h4
    obtain ⟨_, _, _, g4⟩ := g4
    have q1 := p3 (by omega) (by omega)
    have q2 := p4 (by omega) (by omega) (by omega)
    by_cases t16 : t = 16
    · rw [if_pos t16] at h4 g4
      obtain ⟨m, m', x, y, z, a1, a2, a3, a4, a5, a6⟩ := h4
      obtain ⟨k, k', x', y', z', b1, b2, b3, b4, b5, b6⟩ := g4
      rw [← nat_int a1 b1] at b4
      rw [← nat_int a2 b2] at b5
      rw [← nat_int a3 b3] at b6
      refine ⟨c1, c2, z0, ?_⟩
      rw [if_pos t16]
      exact ⟨m, m', x, y, z, a1, a2, a3, ihl _ _ _ _ _ _ (sl t10 t11) a4 b4, i1 _ _ _ _ _ _ q1 a5 b5, i2 _ _ _ _ _ _ q2 a6 b6⟩
    rw [if_neg t16] at h4 g4
    by_cases t17 : t = 17
    · rw [if_pos t17] at h4 g4
      obtain ⟨m, m', x, y, z, a1, a2, a3, a4, a5, a6⟩ := h4
      obtain ⟨k, k', x', y', z', b1, b2, b3, b4, b5, b6⟩ := g4
      rw [← nat_int a1 b1] at b4
      rw [← nat_int a2 b2] at b5
      rw [← nat_int a3 b3] at b6
      refine ⟨c1, c2, z0, ?_⟩
      rw [if_neg t16, if_pos t17]
      exact ⟨m, m', x, y, z, a1, a2, a3, ihl _ _ _ _ _ _ (sl t10 t11) a4 b4, i1 _ _ _ _ _ _ q1 a5 b5, i2 _ _ _ _ _ _ q2 a6 b6⟩
    rw [if_neg t17] at h4
    exact h4.elim
end LXQ
/-- names of labels are names -/
def eNm (N : List (List Int)) : Et → Prop
  | .leaf => True
  | .inner t a _ l r => (t = 10 ∨ t = 14 ∨ t = 15 ∨ t = 17 → ∃ L, N[a.1.2.2.2.1]? = some L) ∧ (t = 17 → ∃ L, N[a.1.2.2.2.2.1]? = some L) ∧ (t ≠ 10 → t ≠ 11 → eNm N l) ∧ (t ≠ 10 → t ≠ 11 → t ≠ 13 → t ≠ 14 → eNm N r)
/-- types of labels are there in the component; all that is told of is there -/
def eQ (Q : Ty → Prop) : Et → Prop
  | .leaf => True
  | .inner t a _ l r => (t = 10 → ∀ p ∈ a.1.2.2.2.2.2, Q p.1) ∧ (t = 14 ∨ t = 15 → Q (lbT a.1)) ∧ (t ≠ 10 → t ≠ 11 → eQ Q l) ∧ (t ≠ 10 → t ≠ 11 → t ≠ 13 → t ≠ 14 → eQ Q r)
section LXN
variable {Φ : Et → Nat → Nat → Nat → Prop} {G : om_G} {h : om_H} {N : List (List Int)} {cl : Nat → Nat} {U Sl : Nat → Prop} {fo mo : Nat → Nat}
theorem XC_lb : ∀ (e : Et) (d dp md m a alo ahi : Nat), XCg Prod.fst Φ G h N cl U Sl fo mo e d dp md m a alo ahi → eNm N e ∧ eQ (QC h N cl U) e := by
  refine tr_ind (fun _ _ _ _ _ _ _ H => (XCg_l H).elim) (fun t x u l r ihl ihr ihp => ?_)
  intro d dp md m a alo ahi H
  rw [XCg_e] at H
  unfold XCb at H
  obtain ⟨_, _, _, h4⟩ := H
  by_cases t10 : t = 10
  · rw [if_pos t10] at h4
    obtain ⟨nmc, _, _⟩ := h4
    refine ⟨⟨fun _ => ?_, fun z => by omega, fun z => absurd t10 z, fun z => absurd t10 z⟩, ⟨fun _ p hp => ?_, fun z => by omega, fun z => absurd t10 z, fun z => absurd t10 z⟩⟩
    · obtain ⟨L, e, _⟩ := nmc.1.2.2.2
      exact ⟨L, e⟩
    · rcases nmc.2.2 with ⟨z, _⟩ | ⟨_, _, ⟨_, _, _, _, c5⟩, c6⟩
      · rw [z] at hp
        cases hp
      · obtain ⟨i, hi, ei⟩ := List.getElem_of_mem hp
        have e1 : x.1.2.2.2.2.2[i]? = some p := by rw [List.getElem?_eq_getElem hi, ei]
        exact ⟨_, c6 i _ p (List.getElem?_eq_getElem (by omega)) e1⟩
  rw [if_neg t10] at h4
  by_cases t11 : t = 11
  · exact ⟨⟨fun z => by omega, fun z => by omega, fun _ z => absurd t11 z, fun _ z => absurd t11 z⟩, ⟨fun z => absurd z t10, fun z => by omega, fun _ z => absurd t11 z, fun _ z => absurd t11 z⟩⟩
  rw [if_neg t11] at h4
  by_cases t12 : t = 12
  · rw [if_pos t12] at h4
    obtain ⟨_, _, _, i, am, a1, _, _, _, _, Xl, Xr⟩ := h4
    obtain ⟨a1, a2⟩ := ihl _ _ _ _ _ _ _ Xl
    obtain ⟨b1, b2⟩ := ihr _ _ _ _ _ _ _ Xr
    exact ⟨⟨fun z => by omega, fun z => by omega, fun _ _ => a1, fun _ _ _ _ => b1⟩, ⟨fun z => absurd z t10, fun z => by omega, fun _ _ => a2, fun _ _ _ _ => b2⟩⟩
  rw [if_neg t12] at h4
  by_cases t13 : t = 13
  · rw [if_pos t13] at h4
    obtain ⟨_, _, _, i, am, _, _, _, _, Xl⟩ := h4
    obtain ⟨a1, a2⟩ := ihl _ _ _ _ _ _ _ Xl
    exact ⟨⟨fun z => by omega, fun z => by omega, fun _ _ => a1, fun _ _ z => absurd t13 z⟩, ⟨fun z => absurd z t10, fun z => by omega, fun _ _ => a2, fun _ _ z => absurd t13 z⟩⟩
  rw [if_neg t13] at h4
  by_cases t18 : t = 18
  · rw [if_pos t18] at h4
    obtain ⟨_, _, e', am, _, _, Xl, Xr⟩ := h4
    obtain ⟨a1, a2⟩ := ihl _ _ _ _ _ _ _ Xl
    obtain ⟨b1, b2⟩ := ihr _ _ _ _ _ _ _ Xr
    exact ⟨⟨fun z => by omega, fun z => by omega, fun _ _ => a1, fun _ _ _ _ => b1⟩, ⟨fun z => absurd z t10, fun z => by omega, fun _ _ => a2, fun _ _ _ _ => b2⟩⟩
  rw [if_neg t18] at h4
  obtain ⟨_, _, h4⟩ := h4
  by_cases t14 : t = 14
  · rw [if_pos t14] at h4
    obtain ⟨_, cT, W, a1, a2, _, _, Xl⟩ := h4
    obtain ⟨L, eL, _⟩ := W.2
    obtain ⟨a1, a2⟩ := ihl _ _ _ _ _ _ _ Xl
    exact ⟨⟨fun _ => ⟨L, eL⟩, fun z => by omega, fun _ _ => a1, fun _ _ _ z => absurd t14 z⟩, ⟨fun z => absurd z t10, fun _ => ⟨_, cT⟩, fun _ _ => a2, fun _ _ _ z => absurd t14 z⟩⟩
  rw [if_neg t14] at h4
  by_cases t15 : t = 15
  · rw [if_pos t15] at h4
    obtain ⟨_, cT, W, a1, a2, a3, _, _, _, Xl, Xr⟩ := h4
    obtain ⟨L, eL, _⟩ := W.2
    obtain ⟨a1, a2⟩ := ihl _ _ _ _ _ _ _ Xl
    obtain ⟨b1, b2⟩ := ihr _ _ _ _ _ _ _ Xr
    exact ⟨⟨fun _ => ⟨L, eL⟩, fun z => by omega, fun _ _ => a1, fun _ _ _ _ => b1⟩, ⟨fun z => absurd z t10, fun _ => ⟨_, cT⟩, fun _ _ => a2, fun _ _ _ _ => b2⟩⟩
  rw [if_neg t15] at h4
  cases r with
  | leaf => exact h4.elim
  | inner t' x' u' r1 r2 =>
    obtain ⟨i1, i2⟩ := ihp t' x' u' r1 r2 rfl
    obtain ⟨z0, h4⟩ := h4
    by_cases t16 : t = 16
    · rw [if_pos t16] at h4
      obtain ⟨_, a1, a2, a3, a4, _, _, _, X1, X2, X3⟩ := h4
      obtain ⟨a1, a2⟩ := ihl _ _ _ _ _ _ _ X1
      obtain ⟨b1, b2⟩ := i1 _ _ _ _ _ _ _ X2
      obtain ⟨c1, c2⟩ := i2 _ _ _ _ _ _ _ X3
      exact ⟨⟨fun z => by omega, fun z => by omega, fun _ _ => a1, fun _ _ _ _ => ⟨fun z => by omega, fun z => by omega, fun _ _ => b1, fun _ _ _ _ => c1⟩⟩, ⟨fun z => absurd z t10, fun z => by omega, fun _ _ => a2, fun _ _ _ _ => ⟨fun z => by omega, fun z => by omega, fun _ _ => b2, fun _ _ _ _ => c2⟩⟩⟩
    rw [if_neg t16] at h4
    by_cases t17 : t = 17
    · rw [if_pos t17] at h4
      obtain ⟨_, W1, W2, a1, a2, a3, a4, a5, _, _, _, X1, X2, X3⟩ := h4
      obtain ⟨L1, eL1, _⟩ := W1.2
      obtain ⟨L2, eL2, _⟩ := W2.2
      obtain ⟨a1, a2⟩ := ihl _ _ _ _ _ _ _ X1
      obtain ⟨b1, b2⟩ := i1 _ _ _ _ _ _ _ X2
      obtain ⟨c1, c2⟩ := i2 _ _ _ _ _ _ _ X3
      exact ⟨⟨fun _ => ⟨L1, eL1⟩, fun _ => ⟨L2, eL2⟩, fun _ _ => a1, fun _ _ _ _ => ⟨fun z => by omega, fun z => by omega, fun _ _ => b1, fun _ _ _ _ => c1⟩⟩, ⟨fun z => absurd z t10, fun z => by omega, fun _ _ => a2, fun _ _ _ _ => ⟨fun z => by omega, fun z => by omega, fun _ _ => b2, fun _ _ _ _ => c2⟩⟩⟩
    rw [if_neg t17] at h4
    exact h4.elim
end LXN
