set_option maxRecDepth 100000
/-! THE COMPONENT'S PROVER: what it has, its steps -/
/-- what there is while proofs are made -/
def PvE (G : om_G) (h : om_H) (N : List (List Int)) (cl : Nat → Nat) (tb l0 sc : Nat) (us fs : List Nat) (rest : List (Nat × List Nat)) (Sl : Nat → Prop) (io : Nat → Nat) (ab : List (Option Nat)) (ins : List INs) (gv : List GVs) (pv Lp u : Nat) : Prop := FnC G h N cl tb l0 sc us fs rest Sl io ab ins gv 0 0 (0, 0, []) ∧ PvI G h pv l0 Lp u ∧ Lp ≠ fR h 122 tb ∧ ¬ Sl Lp
/-- a step of the prover -/
def KV (N : List (List Int)) (cl : Nat → Nat) (tb l0 pv Lp : Nat) (rest : List (Nat × List Nat)) (us fs : List Nat) (h : om_H) (u : Nat) (h' : om_H) (u' : Nat) : Prop := hT (fun y => DT h tb fs y ∨ y = l0 ∨ y = pv ∨ y = Lp ∨ kd h y = 39) h h' ∧ (∀ T a, tyC h N cl (UU us rest) T a → tyC h' N cl (UU us rest) T a) ∧ (u ≤ u' ∧ (∃ d, ll h' Lp = ll h Lp ++ d ∧ (ll h Lp).length + d.length ≤ max (ll h Lp).length u') ∧ ∀ i y, i < u → (ll h Lp)[i]? = some y → eqA y h h') ∧ (((∀ f, f ≠ 216 → f ≠ 220 → fI h' f l0 = fI h f l0) ∧ ∀ f, fR h' f l0 = fR h f l0) ∧ (∀ f, f ≠ 124 → f ≠ 128 → fI h' f tb = fI h f tb) ∧ (∀ f, fR h' f tb = fR h f tb) ∧ (∀ f, f ≠ 172 → fI h' f pv = fI h f pv) ∧ ∀ f, fR h' f pv = fR h f pv) ∧ hz h' + 2 * (ll h Lp).length ≤ hz h + 2 * (ll h' Lp).length ∧ hu h' + 4 * lc h Lp + 4 * lc h (fR h 122 tb) + 6 * (ll h Lp).length ≤ hu h + 4 * lc h' Lp + 4 * lc h' (fR h 122 tb) + 6 * (ll h' Lp).length
section LPV
variable {G : om_G} {h h1 h2 : om_H} {N : List (List Int)} {cl : Nat → Nat} {tb l0 sc pv Lp u u1 u2 : Nat} {us fs : List Nat} {rest : List (Nat × List Nat)} {Sl U : Nat → Prop} {io : Nat → Nat} {ab : List (Option Nat)} {ins : List INs} {gv : List GVs} {nm con fam : Nat → List Int}
theorem KV_refl : KV N cl tb l0 pv Lp rest us fs h u h u := ⟨hT_refl _ _, fun _ _ c => c, ⟨Nat.le_refl _, ⟨[], by simp, by simp; omega⟩, fun _ _ _ _ => eqA_refl _ _⟩, ⟨⟨fun _ _ _ => rfl, fun _ => rfl⟩, fun _ _ _ => rfl, fun _ => rfl, fun _ _ => rfl, fun _ => rfl⟩, Nat.le_refl _, Nat.le_refl _⟩
theorem KV_trans (E : PvE G h N cl tb l0 sc us fs rest Sl io ab ins gv pv Lp u) (A : KV N cl tb l0 pv Lp rest us fs h u h1 u1) (B : KV N cl tb l0 pv Lp rest us fs h1 u1 h2 u2) : KV N cl tb l0 pv Lp rest us fs h u h2 u2 := by
  obtain ⟨a1, a2, ⟨a3, ⟨d, a4, a5⟩, a6⟩, ⟨⟨a7, a8⟩, a9, a10, a11, a12⟩, a13, a14⟩ := A
  obtain ⟨b1, b2, ⟨b3, ⟨d', b4, b5⟩, b6⟩, ⟨⟨b7, b8⟩, b9, b10, b11, b12⟩, b13, b14⟩ := B
  have e122 : fR h1 122 tb = fR h 122 tb := a10 122
  have e134 : fR h1 134 tb = fR h 134 tb := a10 134
  refine ⟨hT_trans a1 b1 (fun y hy w => ?_), fun T a c => b2 T a (a2 T a c), ⟨by omega, ⟨d ++ d', by rw [b4, a4, List.append_assoc], ?_⟩, fun i y hi ey => ?_⟩, ⟨⟨fun f g1 g2 => (b7 f g1 g2).trans (a7 f g1 g2), fun f => (b8 f).trans (a8 f)⟩, fun f g1 g2 => (b9 f g1 g2).trans (a9 f g1 g2), fun f => (b10 f).trans (a10 f), fun f g1 => (b11 f g1).trans (a11 f g1), fun f => (b12 f).trans (a12 f)⟩, ?_, ?_⟩
  · unfold DT at w ⊢
    rw [e122, e134] at w
    rcases w with w | w | w | w | w
    · exact .inl w
    · exact .inr (.inl w)
    · exact .inr (.inr (.inl w))
    · exact .inr (.inr (.inr (.inl w)))
    · exact .inr (.inr (.inr (.inr (by rw [← a1.2.2.1 y hy]; exact w))))
  · rw [a4, List.length_append] at b5
    rw [List.length_append]
    omega
  · have il := (List.getElem?_eq_some_iff.mp ey).1
    exact eqA_trans (a6 i y hi ey) (b6 i y (by omega) (by rw [a4, List.getElem?_append_left il]; exact ey))
  · rw [b4, a4] at b13 ⊢
    rw [a4] at a13
    simp only [List.length_append] at a13 b13 ⊢
    omega
  · rw [e122] at b14
    rw [b4, a4] at b14 ⊢
    rw [a4] at a14
    simp only [List.length_append] at a14 b14 ⊢
    omega
/-- kinds that are never written -/
theorem KV_eq (E : PvE G h N cl tb l0 sc us fs rest Sl io ab ins gv pv Lp u) (A : KV N cl tb l0 pv Lp rest us fs h u h1 u1) {a : Nat} (ha : a < hz h) (hk : kd h a ≠ 3 ∧ kd h a ≠ 42 ∧ kd h a ≠ 56 ∧ kd h a ≠ 34 ∧ kd h a ≠ 9 ∧ kd h a ≠ 6 ∧ kd h a ≠ 39) : eqA a h h1 := A.1.2.2.2 a ha (fun w => by
  obtain ⟨F, P, _⟩ := E
  rcases w with w | w | w | w | w
  · have := DT_kd F.1 w
    omega
  · rw [w, F.2.1.1.1] at hk; omega
  · rw [w, P.1.1.1] at hk; omega
  · rw [w, P.2.1.1.2.1] at hk; omega
  · omega)
theorem hdC_KV (E : PvE G h N cl tb l0 sc us fs rest Sl io ab ins gv pv Lp u) (A : KV N cl tb l0 pv Lp rest us fs h u h1 u1) {k w : Nat} (H : hdC N cl nm con fam h k w) : hdC N cl nm con fam h1 k w := ⟨H.1, H.2.1, fun z => by
  obtain ⟨⟨b1, b2, b3, b4⟩, b5⟩ := H.2.2 z
  have c1 := KV_eq E A b1 (by omega)
  have k17 := b5.1
  have k50 := b5.2.1
  have c2 := KV_eq E A b3 (by omega)
  have c3 := KV_eq E A b4 (by omega)
  have hz1 := A.1.1
  rw [c1.2.2.1]
  exact ⟨⟨by omega, by rw [c1.1]; exact b2, by omega, by rw [c2.2.2.1]; omega⟩, wb_keep b5 c2.1 c3.1 c2.2.1 c2.2.2.1 c3.2.2.2.1 c3.2.2.2.2.1⟩⟩
theorem tOc_KV (E : PvE G h N cl tb l0 sc us fs rest Sl io ab ins gv pv Lp u) (A : KV N cl tb l0 pv Lp rest us fs h u h1 u1) : ∀ {T : Ty}, tOc N cl nm con fam h T → tOc N cl nm con fam h1 T
  | .leaf, _ => trivial
  | .inner _ _ _ _ _, ⟨a, d, e⟩ => ⟨hdC_KV E A a, tOc_KV E A d, tOc_KV E A e⟩
/-- proofs that are in use stay -/
theorem PrC_KV (E : PvE G h N cl tb l0 sc us fs rest Sl io ab ins gv pv Lp u) (A : KV N cl tb l0 pv Lp rest us fs h u h1 u1) : ∀ {k p : Nat} {L : List Int}, PrC G N cl (UU us rest) nm con fam Lp u h k p L → PrC G N cl (UU us rest) nm con fam Lp u1 h1 k p L
  | 0, _, _, H => H
  | k + 1, p, L, ⟨⟨i, i1, i2⟩, kp, H⟩ => by
    obtain ⟨a3, ⟨d, a4, a5⟩, a6⟩ := A.2.2.1
    have e := a6 i p i1 i2
    have eR := e.2.2.1
    have il := (List.getElem?_eq_some_iff.mp i2).1
    refine ⟨⟨i, by omega, by rw [a4, List.getElem?_append_left il]; exact i2⟩, by rw [e.1]; exact kp, ?_⟩
    rw [eR, eR, eR, eR, eR]
    rcases H with ⟨a, T, b, c, d, e'⟩ | ⟨a, i, T, ⟨b1, b2, b3, b4⟩, c, d, e', f⟩ | ⟨a, g, b, c, d⟩ | ⟨a, L1, b, c⟩ | ⟨a, L1, L2, b, c, d⟩ | ⟨a, kk, w, x, l, r, L1, L2, b, c, d, e', f⟩
    · exact .inl ⟨a, T, b, tOc_KV E A c, A.2.1 _ _ d, e'⟩
    · have c1 := KV_eq E A b4 (by omega)
      exact .inr (.inl ⟨a, i, T, ⟨by rw [c1.1]; exact b1, by rw [c1.2.1]; exact b2, b3, Nat.lt_of_lt_of_le b4 A.1.1⟩, c, tOc_KV E A d, A.2.1 _ _ e', f⟩)
    · exact .inr (.inr (.inl ⟨a, g, by rw [e.2.1]; exact b, c, d⟩))
    · exact .inr (.inr (.inr (.inl ⟨a, L1, PrC_KV E A b, c⟩)))
    · exact .inr (.inr (.inr (.inr (.inl ⟨a, L1, L2, PrC_KV E A b, PrC_KV E A c, d⟩))))
    · refine .inr (.inr (.inr (.inr (.inr ⟨a, kk, w, x, l, r, L1, L2, A.2.1 _ _ b, hdC_KV E A c, PrC_KV E A d, ?_, f⟩))))
      rcases e' with e' | ⟨e', L3, e1, e2⟩
      · exact .inl e'
      · exact .inr ⟨e', L3, PrC_KV E A e1, e2⟩
theorem DT_L (T : TB G h N cl tb us fs rest) {y : Nat} (k : kd h y = 42) (n : y ≠ fR h 122 tb) : ¬ DT h tb fs y := fun hy => by
  obtain ⟨⟨_, ⟨c1, c2, c3, c4⟩, c5⟩, ⟨p1, p2, p3, p4, p5⟩, _⟩ := id T
  simp only at c1 c2
  rcases hy with z | z | z | z
  · rw [z, c1.2.2] at k; omega
  · exact n z
  · rw [z, c2.2.1] at k; omega
  · have := (p5 y (List.mem_append_right _ z)).1
    omega
/-- a step of the finder -/
theorem PvE_KF (E : PvE G h N cl tb l0 sc us fs rest Sl io ab ins gv pv Lp u) (K : KF N cl tb l0 rest h us fs h1 us fs 0 0 0) (F1 : FnC G h1 N cl tb l0 sc us fs rest Sl io ab ins gv 0 0 (0, 0, [])) : PvE G h1 N cl tb l0 sc us fs rest Sl io ab ins gv pv Lp u ∧ KV N cl tb l0 pv Lp rest us fs h u h1 u := by
  obtain ⟨F, ⟨⟨⟨p1, p2⟩, p3, p4⟩, ⟨p5, p6, p7⟩, p8, p9⟩, n1, n2⟩ := E
  have T := F.1
  have k9 := F.2.1.1.1
  have nD : ∀ y, y < hz h → (kd h y = 6 ∨ kd h y = 39 ∨ y = Lp) → eqA y h h1 := fun y hy hk => K.1.2.2.2 y hy (fun w => by
    rcases w with w | w
    · rcases hk with hk | hk | hk
      · have kw := DT_kd T w
        omega
      · have kw := DT_kd T w
        omega
      · rw [hk] at w
        exact DT_L T p5.2.1 n1 w
    · rcases hk with hk | hk | hk
      · rw [w, k9] at hk; omega
      · rw [w, k9] at hk; omega
      · have := p5.2.1
        rw [← hk, w, k9] at this; omega)
  have ep := nD pv p2 (.inl p1)
  have eL := nD Lp p5.1 (.inr (.inr rfl))
  have lL := eL.2.2.2.2.2.2.1
  have cL := eL.2.2.2.2.2.2.2
  obtain ⟨k1, _, _, _, ⟨k2, k3⟩, ⟨k4, k5⟩, k6, ⟨_, _, k7, k8⟩⟩ := id K
  have okL : okV G h1 Lp := okV_hT p5 K.1 (fun w => by
    rcases w with w | w
    · exact DT_L T p5.2.1 n1 w
    · have := p5.2.1
      rw [w, k9] at this; omega)
  refine ⟨⟨F1, ⟨⟨⟨by rw [ep.1]; exact p1, Nat.lt_of_lt_of_le p2 K.1.1⟩, by rw [ep.2.2.1]; exact p3, by rw [ep.2.2.1]; exact p4⟩, ⟨okL, by rw [lL]; exact p6, fun y hy => by
    rw [lL] at hy
    obtain ⟨q1, q2, q3⟩ := p7 y hy
    exact ⟨q1, Nat.lt_of_lt_of_le q2 K.1.1, by rw [K.1.2.2.1 y q2]; exact q3⟩⟩, by rw [ep.2.1]; exact p8, by rw [lL]; exact p9⟩, by rw [k3]; exact n1, n2⟩, hT_mono k1 (fun y _ w => w.elim .inl (fun z => .inr (.inl z))), k6, ⟨Nat.le_refl _, ⟨[], by rw [lL]; simp, by simp; omega⟩, fun i y hi ey => ?_⟩, ⟨⟨k4, k5⟩, k2, k3, fun f _ => ep.2.1 f, ep.2.2.1⟩, ?_, ?_⟩
  · obtain ⟨q1, q2, q3⟩ := p7 y (List.mem_of_getElem? ey)
    exact nD y q2 (.inr (.inl q3))
  · rw [lL]; omega
  · rw [lL, cL]; omega
/-- a proof is made -/
theorem PvE_prf (nd : ndN N) (E : PvE G h N cl tb l0 sc us fs rest Sl io ab ins gv pv Lp u) (h8 : u ≤ 20000) (hl : (ll h Lp).length ≤ 20000) {why t a b : Nat} : ∃ y h1, C_5_proof G pv why t a b h = some (y, h1) ∧ PvE G h1 N cl tb l0 sc us fs rest Sl io ab ins gv pv Lp (u + 1) ∧ KV N cl tb l0 pv Lp rest us fs h u h1 (u + 1) ∧ (ll h1 Lp)[u]? = some y ∧ (y ≠ 0 ∧ kd h1 y = 39 ∧ y < hz h1) ∧ pfF h1 y why t a b := by
  obtain ⟨F, P, n1, n2⟩ := id E
  obtain ⟨⟨⟨p1, p2⟩, p3, p4⟩, ⟨p5, p6, p7⟩, p8, p9⟩ := id P
  obtain ⟨y, h1, c1, P1, ⟨c2, d, c3, c4⟩, c5, X, ⟨c6, c7⟩, c8⟩ := c_prf (why := why) (t := t) (a := a) (b := b) P h8 hl
  have T := F.1
  have k9 := F.2.1.1.1
  have y39 : y < hz h → kd h y = 39 := fun w => (p7 y (List.mem_of_getElem? (c8 w))).2.2
  have Dk : ∀ z, z < hz h → (z = pv ∨ z = Lp ∨ z = y) → kd h z = 6 ∨ kd h z = 42 ∨ kd h z = 39 := fun z hz' w => by
    rcases w with w | w | w
    · rw [w]; exact .inl p1
    · rw [w]; exact .inr (.inl p5.2.1)
    · exact .inr (.inr (by rw [w] at hz' ⊢; exact y39 hz'))
  have X' : hT (fun z => (z = pv ∨ z = Lp ∨ z = y) ∧ z < hz h) h h1 := ⟨X.1, X.2.1, X.2.2.1, fun z hz' nz => X.2.2.2 z hz' (fun w => nz ⟨w, hz'⟩)⟩
  have T1 : TB G h1 N cl tb us fs rest := TB_hT T nd X' (fun z w _ => by
    have := Dk z w.2 w.1
    refine ⟨by omega, by omega, by omega, fun e => ?_⟩
    rcases w.1 with w1 | w1 | w1
    · have k122 := T.2.1.1.2.1
      rw [← e, w1, p1] at k122; omega
    · exact n1 (by rw [← w1]; exact e)
    · have k122 := T.2.1.1.2.1
      have := y39 (by rw [← w1]; exact w.2)
      rw [← e, w1] at k122; omega) (fun z w => by
    have := Dk z w.2 w.1
    exact ⟨by omega, by omega, fun e => by omega⟩)
  have tbl := TB_3 T
  have etb := X.2.2.2 tb tbl.2.2 (fun w => by have := Dk tb tbl.2.2 w; omega)
  have el0 := X.2.2.2 l0 F.2.1.1.2.1 (fun w => by have := Dk l0 F.2.1.1.2.1 w; omega)
  have k122 := T.2.1.1
  have e122 := X.2.2.2 _ k122.1 (fun w => by
    rcases w with w | w | w
    · have := k122.2.1
      rw [w, p1] at this; omega
    · exact n1 w.symm
    · have := k122.2.1
      have q := y39 (by rw [← w]; exact k122.1)
      rw [w] at this; omega)
  have kp : ∀ T a, tyC h N cl (UU us rest) T a → tyC h1 N cl (UU us rest) T a := fun X0 a0 c0 => tyC_hT (D := fun z => (z = pv ∨ z = Lp ∨ z = y) ∧ z < hz h) X' (fun z w => by
    have := Dk z w.2 w.1
    exact ⟨by omega, by omega, fun e => by omega⟩) (fun z w w' => by
    have u34 := (TB_U34 T w).1
    have := Dk z w'.2 w'.1
    omega) (fun _ w => w) (fun _ _ z => z) c0
  have hSS : hS Sl h h1 := hS_hT X' (fun z hz' w => by
    have q := Dk z hz' w.1
    refine ⟨fun m => ?_, by omega, by omega, by omega, fun sl => ?_⟩
    · simp only [List.mem_cons, List.not_mem_nil, or_false] at m
      omega
    · rcases w.1 with w1 | w1 | w1
      · have := (F.2.2.1.2.2.1 z sl).2
        rw [w1, p1] at this; omega
      · exact n2 (by rw [← w1]; exact sl)
      · have := (F.2.2.1.2.2.1 z sl).2
        have := y39 (by rw [← w1]; exact hz')
        rw [← w1] at this; omega)
  have F1 : FnC G h1 N cl tb l0 sc us fs rest Sl io ab ins gv 0 0 (0, 0, []) := FnC_nextG F hSS kp T1 (el0.2.1 227) el0.2.2.1 (etb.2.2.1 122) (by rw [el0.2.1]; exact F.2.2.2.2.2.1) (fun z => by omega)
  have yin : y ∈ ll h1 Lp := List.mem_of_getElem? c2
  obtain ⟨y0, y1, y2⟩ := P1.2.1.2.2 y yin
  have e172 : ∀ f, f ≠ 172 → fI h1 f pv = fI h f pv := c_prf_pv P c1
  have eRp : ∀ f, fR h1 f pv = fR h f pv := c_prf_pvR P c1
  refine ⟨y, h1, c1, ⟨F1, P1, by rw [etb.2.2.1]; exact n1, n2⟩, ⟨hT_mono X' (fun z hz' w => ?_), kp, ⟨by omega, ⟨d, c3, c4⟩, fun i z hi ez => ?_⟩, ⟨⟨fun f _ _ => el0.2.1 f, el0.2.2.1⟩, fun f _ _ => etb.2.1 f, etb.2.2.1, e172, eRp⟩, c6, ?_⟩, c2, ⟨y0, y2, y1⟩, c5⟩
  · rcases w.1 with w1 | w1 | w1
    · exact .inr (.inr (.inl w1))
    · exact .inr (.inr (.inr (.inl w1)))
    · exact .inr (.inr (.inr (.inr (by rw [w1] at hz' ⊢; exact y39 hz'))))
  · obtain ⟨q1, q2, q3⟩ := p7 z (List.mem_of_getElem? ez)
    refine X.2.2.2 z q2 (fun w => ?_)
    rcases w with w | w | w
    · rw [w, p1] at q3; omega
    · rw [w, p5.2.1] at q3; omega
    · have il := (List.getElem?_eq_some_iff.mp ez).1
      have il1 := (List.getElem?_eq_some_iff.mp c2).1
      have ez1 : (ll h1 Lp)[i]? = some y := by rw [c3, List.getElem?_append_left il, ez, w]
      have := (List.getElem?_inj (List.getElem?_eq_some_iff.mp ez1).1 P1.2.1.2.1).mp (ez1.trans c2.symm)
      omega
  · rw [e122.2.2.2.2.2.2.2]
    omega
end LPV
