set_option maxRecDepth 100000
/-! WHAT CAN BE TOLD: labels and reasons, for both -/
/-- a label's types, for telling -/
def lbG (ins : List INs) (H : Nat → Nat → Prop) (Qc : Ty → Prop) (lb : XL) : Prop := ∀ p ∈ lb.2.2.2.2.2, (tyOk ins p.1 ∧ tsz p.1 ≤ 2700 ∧ tdp p.1 < 70) ∧ Qc p.1 ∧ allH H p.1
/-- labels, all through -/
def eG (ins : List INs) (H : Nat → Nat → Prop) (Qc : Ty → Prop) : Et → Prop
  | .leaf => True
  | .inner t a _ l r => (t = 10 ∨ t = 14 ∨ t = 15 → lbG ins H Qc a.1) ∧ (t = 14 ∨ t = 15 → ∃ p, a.1.2.2.2.2.2 = [p]) ∧ ((t = 11 → a.1.2.1 < 1000000) ∧ (t = 16 ∨ t = 17 → ∃ a' u' r1 r2, r = .inner 0 a' u' r1 r2)) ∧ (t ≠ 10 → t ≠ 11 → eG ins H Qc l) ∧ (t ≠ 10 → t ≠ 11 → t ≠ 14 → eG ins H Qc r)
section LEG
variable {E : JE} {H : Nat → Nat → Prop} {Qc Q : Ty → Prop} {evT' : Dc → Prop}
theorem eG_of : ∀ (e : Et) (t : Xt) (d : Nat), eSm e t → xok E t d → xlD t → pT t → eQ Qc e → eH H e → eK E Q e → eTy e ≠ .leaf → eG E.2.2.2.1 H Qc e := by
  refine tr_ind (fun _ _ _ _ _ _ _ _ _ _ => trivial) (fun t a u l r ihl ihr ihp => ?_)
  intro x d sm ok xd pt eq eh ek ty
  cases x with
  | leaf => exact sm.elim
  | inner t2 b u2 l2 r2 =>
  obtain ⟨et, eb, sl, sr⟩ := sm
  subst et
  subst eb
  obtain ⟨⟨xd1, xd2, xd3⟩, xdl, xdr⟩ := xd
  obtain ⟨eq1, eq2, eql, eqr⟩ := eq
  obtain ⟨⟨_, _, eh3⟩, ehl, ehr⟩ := eh
  obtain ⟨pt1, ptl, ptr⟩ := pt
  obtain ⟨k1, ⟨kl, kr⟩, ekl, ekr⟩ := ek
  have t13 := (k1 ty).1
  rw [xok_e] at ok
  unfold xokB at ok
  have d27 : t ≠ 0 → ∀ p ∈ a.1.2.2.2.2.2, tsz p.1 ≤ 2700 ∧ tdp p.1 < 70 := fun w p hp => by
    obtain ⟨q1, q2⟩ := xd1 w p hp
    exact ⟨q1, by omega⟩
  by_cases t10 : t = 10
  · rw [if_pos t10] at ok
    refine ⟨fun _ p hp => ⟨⟨(ok.2 p hp).1, d27 (by omega) p hp⟩, eq1 t10 p hp, eh3 (.inl t10) p hp⟩, fun w => xd2 w, ⟨xd3, fun z => by omega⟩, fun z => absurd t10 z, fun z => absurd t10 z⟩
  rw [if_neg t10] at ok
  by_cases t11 : t = 11
  · exact ⟨fun z => by omega, fun w => xd2 w, ⟨xd3, fun z => by omega⟩, fun _ z => absurd t11 z, fun _ z => absurd t11 z⟩
  rw [if_neg t11] at ok
  have lb45 : (t = 14 ∨ t = 15) → tyOk E.2.2.2.1 (lbT a.1) → lbG E.2.2.2.1 H Qc a.1 := fun w okT p hp => by
    obtain ⟨q, eq⟩ := xd2 w
    have e1 : lbT a.1 = q.1 := by unfold lbT; rw [eq]; rfl
    have h2 := eq2 w
    have hp' := hp
    rw [eq] at hp'
    rw [e1] at okT h2
    rw [List.mem_singleton.mp hp'] at hp ⊢
    exact ⟨⟨okT, d27 (by omega) q hp⟩, h2, eh3 (.inr w) q hp⟩
  replace xdl := xdl t10 t11
  replace xdr := xdr t10 t11
  replace eql := eql t10 t11
  replace eqr := eqr t10 t11
  replace sl := sl t10 t11
  replace sr := sr t10 t11
  replace ptl := ptl t10 t11
  replace ptr := ptr t10 t11
  replace kl := kl t10 t11
  replace kr := kr t10 t11
  by_cases t12 : t = 12
  · rw [if_pos t12] at ok
    exact ⟨fun z => by omega, fun w => xd2 w, ⟨xd3, fun z => by omega⟩, fun _ _ => ihl _ _ sl ok.1 xdl ptl eql ehl ekl kl, fun _ _ _ => ihr _ _ (sr (by omega)) ok.2 (xdr (by omega) (by omega)) (ptr (by omega) (by omega)) (eqr (by omega) (by omega)) ehr ekr (kr (by omega) (by omega) (by omega))⟩
  rw [if_neg t12] at ok
  rw [if_neg t13] at ok
  by_cases t14 : t = 14
  · rw [if_pos t14] at ok
    exact ⟨fun _ => lb45 (.inl t14) ok.1, fun w => xd2 w, ⟨xd3, fun z => by omega⟩, fun _ _ => ihl _ _ sl ok.2 xdl ptl eql ehl ekl kl, fun _ _ z => absurd t14 z⟩
  rw [if_neg t14] at ok
  by_cases t15 : t = 15
  · rw [if_pos t15] at ok
    exact ⟨fun _ => lb45 (.inr t15) ok.1, fun w => xd2 w, ⟨xd3, fun z => by omega⟩, fun _ _ => ihl _ _ sl ok.2.1 xdl ptl eql ehl ekl kl, fun _ _ _ => ihr _ _ (sr t14) ok.2.2 (xdr t13 t14) (ptr t13 t14) (eqr t13 t14) ehr ekr (kr t14 (by omega) (by omega))⟩
  rw [if_neg t15] at ok
  by_cases t18 : t = 18
  · rw [if_pos t18] at ok
    exact ⟨fun z => by omega, fun w => xd2 w, ⟨xd3, fun z => by omega⟩, fun _ _ => ihl _ _ sl ok.1 xdl ptl eql ehl ekl kl, fun _ _ _ => ihr _ _ (sr t14) ok.2 (xdr t13 t14) (ptr t13 t14) (eqr t13 t14) ehr ekr (kr t14 (by omega) (by omega))⟩
  rw [if_neg t18] at ok
  cases r2 with
  | leaf => exact ok.elim
  | inner t2' b' u2' s1 s2 =>
  cases r with
  | leaf => exact (sr t14).elim
  | inner t' a' u' r1 r2' =>
    obtain ⟨i1, i2⟩ := ihp t' a' u' r1 r2' rfl
    obtain ⟨p1, p2, p3, p4⟩ := sr t14
    obtain ⟨_, xd4, xd5⟩ := xdr t13 t14
    obtain ⟨_, pt4, pt5⟩ := ptr t13 t14
    obtain ⟨_, _, eq4, eq5⟩ := eqr t13 t14
    obtain ⟨_, eh4, eh5⟩ := ehr
    obtain ⟨_, ⟨k4, k5⟩, ek4, ek5⟩ := ekr
    simp only at ok
    by_cases t16 : t = 16
    · rw [if_pos t16] at ok
      have z0 : t2' = 0 := pt1 (.inl t16)
      have z1 : t' = 0 := by omega
      subst z1
      refine ⟨fun z => by omega, fun w => xd2 w, ⟨xd3, fun _ => ⟨_, _, _, _, rfl⟩⟩, fun _ _ => ihl _ _ sl ok.1 xdl ptl eql ehl ekl kl, fun _ _ _ => ⟨fun z => by omega, fun z => by omega, ⟨fun z => by omega, fun z => by omega⟩, fun _ _ => ?_, fun _ _ _ => ?_⟩⟩
      · exact i1 _ _ (p3 (by omega) (by omega)) ok.2.1 (xd4 (by omega) (by omega)) (pt4 (by omega) (by omega)) (eq4 (by omega) (by omega)) eh4 ek4 (k4 (by omega) (by omega))
      · exact i2 _ _ (p4 (by omega) (by omega) (by omega)) ok.2.2 (xd5 (by omega) (by omega) (by omega) (by omega)) (pt5 (by omega) (by omega) (by omega) (by omega)) (eq5 (by omega) (by omega) (by omega) (by omega)) eh5 ek5 (k5 (by omega) (by omega) (by omega) (by omega) (by omega))
    rw [if_neg t16] at ok
    by_cases t17 : t = 17
    · rw [if_pos t17] at ok
      have z0 : t2' = 0 := pt1 (.inr t17)
      have z1 : t' = 0 := by omega
      subst z1
      refine ⟨fun z => by omega, fun w => xd2 w, ⟨xd3, fun _ => ⟨_, _, _, _, rfl⟩⟩, fun _ _ => ihl _ _ sl ok.1 xdl ptl eql ehl ekl kl, fun _ _ _ => ⟨fun z => by omega, fun z => by omega, ⟨fun z => by omega, fun z => by omega⟩, fun _ _ => ?_, fun _ _ _ => ?_⟩⟩
      · exact i1 _ _ (p3 (by omega) (by omega)) ok.2.1 (xd4 (by omega) (by omega)) (pt4 (by omega) (by omega)) (eq4 (by omega) (by omega)) eh4 ek4 (k4 (by omega) (by omega))
      · exact i2 _ _ (p4 (by omega) (by omega) (by omega)) ok.2.2 (xd5 (by omega) (by omega) (by omega) (by omega)) (pt5 (by omega) (by omega) (by omega) (by omega)) (eq5 (by omega) (by omega) (by omega) (by omega)) eh5 ek5 (k5 (by omega) (by omega) (by omega) (by omega) (by omega))
    rw [if_neg t17] at ok
    exact ok.elim
/-- for the component -/
theorem eP_of {ins : List INs} (hev : ∀ lb ev, lbG ins H Qc lb → nmK2 E Q lb ev → ∀ D ∈ ev, evT' D) : ∀ (e : Et), eG ins H Qc e → eN e → eK E Q e → eTy e ≠ .leaf → eP ins evT' e := by
  refine tr_ind (fun _ _ _ _ => trivial) (fun t a u l r ihl ihr ihp => ?_)
  intro eg en ek ty
  obtain ⟨g1, g2, ⟨g3, g16⟩, gl, gr⟩ := eg
  obtain ⟨n1, nl, nr⟩ := en
  obtain ⟨k1, ⟨kl, kr⟩, ekl, ekr⟩ := ek
  obtain ⟨t13, okT, cs, kn⟩ := k1 ty
  refine ⟨fun w p hp => ?_, fun w => ?_, fun w => by have := g3 w; omega, fun w D hD => hev _ _ (g1 (.inl w)) (kn w) D hD, n1, fun t10 t11 => ihl (gl t10 t11) (nl t10 t11) ekl (kl t10 t11), fun t10 t11 t14 => ?_⟩
  · obtain ⟨⟨q1, q2, q3⟩, _⟩ := g1 w p hp
    exact ⟨q1, by omega, q3⟩
  · obtain ⟨p, ep⟩ := g2 w
    exact ⟨p, by rw [ep]; rfl⟩
  · by_cases c : t = 16 ∨ t = 17
    · obtain ⟨a', u', r1, r2, er⟩ := g16 c
      subst er
      obtain ⟨i1, i2⟩ := ihp 0 a' u' r1 r2 rfl
      obtain ⟨_, _, _, g4, g5⟩ := gr t10 t11 t14
      obtain ⟨_, n4, n5⟩ := nr t10 t11 t14
      obtain ⟨_, ⟨k4, k5⟩, ek4, ek5⟩ := ekr
      exact ⟨fun z => by omega, fun z => by omega, fun z => by omega, fun z => by omega, fun z => by omega, fun _ _ => i1 (g4 (by decide) (by decide)) (n4 (by decide) (by decide)) ek4 (k4 (by decide) (by decide)), fun _ _ _ => i2 (g5 (by decide) (by decide) (by decide)) (n5 (by decide) (by decide) (by decide)) ek5 (k5 (by decide) (by decide) (by decide) (by decide) (by decide))⟩
    · exact ihr (gr t10 t11 t14) (nr t10 t11 t14) ekr (kr t10 t11 t14 (fun z => c (.inl z)) (fun z => c (.inr z)))
theorem allH_and {A B C : Nat → Nat → Prop} (m : ∀ k w, A k w → B k w → C k w) : ∀ {T : Ty}, allH A T → allH B T → allH C T
  | .leaf, _, _ => trivial
  | .inner _ _ _ _ _, ⟨a, b, c⟩, ⟨a', b', c'⟩ => ⟨m _ _ a a', allH_and m b b', allH_and m c c'⟩
/-- for the twin -/
theorem eO_of {σ : tS} {ins : List INs} {N : List (List Int)} {cl : Nat → Nat} {nm con fam : Nat → List Int} {h : om_H} {k2 : Ty → Ty → Prop} (hO : ∀ k w, hdC N cl nm con fam h k w → H k w → hdO nm con fam σ k w) (hN : ∀ (w : Nat) (L : List Int), N[w]? = some L → nmT σ w (nm w)) (hk2 : ∀ T V, k2 T V → tOc N cl nm con fam h T ∧ tOc N cl nm con fam h V) : ∀ (e : Et), eT N cl nm con fam h k2 evT' e → eG ins H Qc e → eNm N e → eH H e → eO σ ins nm con fam e := by
  refine tr_ind (fun _ _ _ _ => trivial) (fun t a u l r ihl ihr ihp => ?_)
  intro et eg en eh
  obtain ⟨⟨h1, h2, _⟩, hl, hr⟩ := eh
  obtain ⟨e1, e13, e10, _, e45, _, el, er⟩ := et
  obtain ⟨g1, g2, ⟨g3, g16⟩, gl, gr⟩ := eg
  obtain ⟨n1, n2, nl, nr⟩ := en
  have nmw : t = 10 ∨ t = 14 ∨ t = 15 ∨ t = 17 → nmT σ a.1.2.2.2.1 (nm a.1.2.2.2.1) := fun w => by
    obtain ⟨L, eL⟩ := n1 w
    exact hN _ L eL
  refine ⟨fun z w => ?_, fun w => ⟨nmw (by omega), fun p hp => ⟨(g1 w p hp).1, ?_⟩⟩, fun w => ?_, fun w => ⟨nmw (by omega), ?_⟩, fun t10 t11 => ihl (el t10 t11) (gl t10 t11) (nl t10 t11) hl, fun t10 t11 t14 => ?_⟩
  · obtain ⟨q1, q2⟩ := hk2 _ _ (e1 z w).1
    exact ⟨allH_and hO q1 h1, allH_and hO q2 h2⟩
  · by_cases c : t = 10
    · exact allH_and hO ((e10 c).1 p hp).2.2.2 (g1 w p hp).2.2
    · obtain ⟨q, eq⟩ := g2 (by omega)
      have e2 : lbT a.1 = q.1 := by unfold lbT; rw [eq]; rfl
      have e3 := (e45 (by omega)).2.2.2
      rw [e2] at e3
      have g4 := (g1 w p hp).2.2
      rw [eq] at hp
      rw [List.mem_singleton.mp hp] at g4 ⊢
      exact allH_and hO e3 g4
  · obtain ⟨p, ep⟩ := g2 w
    exact ⟨(e45 w).1, p, by rw [ep]; rfl⟩
  · obtain ⟨L, eL⟩ := n2 w
    exact hN _ L eL
  · exact ihr (er t10 t11 t14) (gr t10 t11 t14) (nr t10 t11 e13 t14) hr
end LEG
