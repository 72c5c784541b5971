set_option maxRecDepth 100000
section LN2
variable {G : om_G} {A t : Nat} {N : List (List Int)} {S : List Int} {b m K : Nat} {nc p : Int} {i M : Nat} {h h' : om_H} {σ τ : tS} {rT : tS → Option (Int × tS)} {rC : Nat → om_H → Option ((Nat ⊕ Nat) × om_H)}
variable {ib Mb u L hd : Nat} {σb : tS} {hb : om_H} {xs os : List Nat} {P : Nat → Nat → tS → om_H → Int → Nat → Prop} {o : Int}
theorem nameO_keepN {a w j : Nat} (o : nameO h A S a w j) (K : ∀ x, x = a ∨ x = w → kd h' x = kd h x ∧ (∀ f, fI h' f x = fI h f x) ∧ (∀ f, f ≠ 1458 → fR h' f x = fR h f x)) : nameO h' A S a w j := by
  obtain ⟨o1, o2, o3, o4, o5, o6, o7, o8, o9, o10, o11⟩ := o
  obtain ⟨k1, k2, k3⟩ := K a (.inl rfl)
  obtain ⟨e1, e2, e3⟩ := K w (.inr rfl)
  exact ⟨by rw [k1]; exact o1, by rw [k2]; exact o2, by rw [k3 _ (by decide)]; exact o3, ⟨by rw [e1]; exact o4.1, by rw [e3 _ (by decide)]; exact o4.2.1, by rw [e2]; exact o4.2.2.1, by rw [e2]; exact o4.2.2.2⟩, by rw [k3 _ (by decide)]; exact o5, by rw [k2]; exact o6, by rw [k2]; exact o7, by rw [k3 _ (by decide)]; exact o8, by rw [k3 _ (by decide)]; exact o9, by rw [k3 _ (by decide)]; exact o10, by rw [k3 _ (by decide)]; exact o11⟩
theorem atsR_snoc {alo ahi alo' ahi' x y : Nat} (K : ∀ x, alo ≤ x → x < ahi → kd h x = 31 → (alo' ≤ x ∧ x < ahi') ∧ kd h' x = 31 ∧ fR h' 1498 x = fR h 1498 x ∧ fR h' 1502 x = fR h 1502 x ∧ fI h' 1504 x = fI h 1504 x) (c1 : alo' ≤ x) (c2 : x < ahi') (c3 : atIt S b h' τ x y) : ∀ {xs os : List Nat}, (∀ o ∈ os, ga τ 542 o = ga σ 542 o) → atsR S b h σ alo ahi xs os → atsR S b h' τ alo' ahi' (xs ++ [x]) (os ++ [y])
  | [], [], _, _ => ⟨c1, c2, c3, trivial⟩
  | z :: xs, o :: os, q, ⟨d1, d2, ⟨f1, f2, f3, j, f4, f5⟩, r⟩ => by
    obtain ⟨⟨k1, k2⟩, k3, k4, k5, k6⟩ := K z d1 d2 f1
    exact ⟨k1, k2, ⟨k3, by rw [k4]; exact f2, by rw [k5]; exact f3, j, by rw [q o List.mem_cons_self]; exact f4, by rw [k6]; exact f5⟩, atsR_snoc K c1 c2 c3 (fun o ho => q o (List.mem_cons_of_mem _ ho)) r⟩
  | [], _ :: _, _, r => r.elim
  | _ :: _, [], _, r => r.elim
theorem atsR_len {alo ahi : Nat} : ∀ {xs os : List Nat}, atsR S b h σ alo ahi xs os → xs.length = os.length
  | [], [], _ => rfl
  | x :: xs, o :: os, r => by simp [atsR_len r.2.2.2]
  | [], _ :: _, r => r.elim
  | _ :: _, [], r => r.elim
/-- a name's @s are being read -/
def U1 (G : om_G) (A : Nat) (S : List Int) (b K z0 Mb u L hd M : Nat) (σ : tS) (h : om_H) (os xs : List Nat) (o : Int) : Prop :=
  (z0 ≤ hd ∧ hd < u ∧ hd < L ∧ u < hz h ∧ u ≠ L ∧ Mb < M) ∧ (kd h u = 30 ∧ fR h 1490 u = hd ∧ fR h 1494 u = L ∧ fR h 1382 u = 0) ∧ okV G h L ∧ ll h L = xs ∧ NA A S b h σ Mb M z0 (hz h) u L hd os xs ∧ lastOf os o (ga σ 546 Mb) ∧ (os ≠ [] → okV G h (fR h 1458 hd)) ∧ (os = [] → ∃ ah, ah ≤ u ∧ ah ≤ L ∧ X0 G A S b h σ K Mb M z0 ah hd Mb)
def U1B (ib Mb : Nat) (hb : om_H) (i M : Nat) (h : om_H) (L hd : Nat) : Prop := ib < i ∧ M + 1 ≤ Mb + 2 * (i - ib) ∧ hz h + 7 + 8 * (ll h L).length ≤ hz hb + 20 * (i - ib) ∧ hu h + 295 * (ll h L).length + 98 ≤ hu hb + 300 * (i - ib) + 4 * lc h L + (if fR h 1458 hd = 0 then 0 else 4 * lc h (fR h 1458 hd))
/-- as a use -/
theorem U1_UC (U : U1 G A S b K (hz hb) Mb u L hd M σ h os xs o) : UC G A S b K (hz hb) Mb u L hd Mb M (hz h) Mb M (hz h) σ h xs [] := by
  obtain ⟨w1, w2, w3, w4, w5, w6, w7, w8⟩ := U
  have hL := w3.1
  refine ⟨by omega, w2, w3, by rw [w4]; simp, ?_, rfl, rfl, Nat.le_refl _⟩
  by_cases c : os = []
  · obtain ⟨ah, q1, q2, q3⟩ := w8 c
    refine .inl ⟨?_, ah, q3, q1, q2⟩
    obtain ⟨j, w, cc, v1, v2, v3, v4, v5, v6, v7, v8, v9, v10⟩ := w5
    have := atsR_len v9
    rw [c] at this
    exact List.eq_nil_of_length_eq_zero this
  · exact .inr ⟨rfl, w1.2.2.2.2.2, os, c, w5⟩
theorem U1_UB (U : U1 G A S b K (hz hb) Mb u L hd M σ h os xs o) (B : U1B ib Mb hb i M h L hd) : UB ib Mb hb i M h L := by
  obtain ⟨w1, w2, w3, w4, w5, w6, w7, w8⟩ := U
  obtain ⟨b1, b2, b3, b4⟩ := B
  refine ⟨b1, b2, b3, ?_⟩
  obtain ⟨j, w, cc, v1, v2, v3, v4, v5, v6, v7, v8, v9, v10, v11, v12⟩ := w5
  have hl := atsR_len v9
  rcases v12 with ⟨q1, q2, q3⟩ | ⟨q1, q2, q3, q4, q5⟩
  · rw [if_pos q2] at b4
    omega
  · have z := (w7 q1).2.2.2.1
    have z2 := (atW_in q5).2.2.2
    have z3 : 1 ≤ os.length := by
      cases os with
      | nil => exact absurd rfl q1
      | cons => simp
    rw [if_neg (by omega)] at b4
    rw [w4] at b4 ⊢
    omega
set_option maxHeartbeats 1000000 in
/-- one more @ of a name -/
theorem U_one (hG : om_okG G) (hn : 0 ≤ nc ∧ nc ≤ 20) (ht : t < hz hb) (H : At G A t N S b m i nc M σ h) (Q : lnk t ib Mb σb hb i M σ h) (h84 : Mb + 3 * (m - ib) + 60 ≤ 8400) (U : U1 G A S b K (hz hb) Mb u L hd M σ h os xs o) (B : U1B ib Mb hb i M h L hd) (c : tokk S i = 64) (l1 : Int)
    (go : ∀ (i' M' : Nat) (σ' : tS) (h' : om_H) (os' xs' : List Nat) (o' : Int), i < i' → At G A t N S b m i' nc M' σ' h' → lnk t ib Mb σb hb i' M' σ' h' → U1 G A S b K (hz hb) Mb u L hd M' σ' h' os' xs' o' → U1B ib Mb hb i' M' h' L hd → ll h' L ≠ [] → RO G A t N S b m ib nc Mb σb hb P (TL rT l1 (1, (Mb : Int), o', σ')) (CL G rC t hd u (1, h'))) :
    RO G A t N S b m ib nc Mb σb hb P (TL rT l1 (1, (Mb : Int), o, σ)) (CL G rC t hd u (1, h)) := by
  have hi := At_i H
  have X0' : hz hb ≤ hz h := Q.2.2.2.1.1
  obtain ⟨b1, b2⟩ := UB_84 (U1_UB U B) hi h84 X0'
  obtain ⟨B1, B2, B3, B4⟩ := B
  obtain ⟨w1, w2, w3, w4, w5, w6, w7, w8⟩ := U
  clear w8
  obtain ⟨j0, w0, cc, v1, v2, v3, v4, v5, v6, v7, v8, v9, v10, v11, v12⟩ := w5
  obtain ⟨h1, p1, p2, p3⟩ := (c_passes2 hG H.2.1 (v := 64) (by omega)).1 (by rw [show sc 64 = 64 by decide]; exact c)
  obtain ⟨T1, D0⟩ := Tst_at H.1 (by omega)
  have H0 := At_onlyT H p3 p2 T1
  have z1 : hz h1 = hz h := p3.2.2.2.2.2.2.2.2.1
  have y1 : hu h1 = hu h := p3.2.2.2.2.2.2.2.2.2.1
  have Q1 := lnk_only Q p3 D0
  have hi1 := At_i H0
  have hL := w3.1
  rw [TL_at H.1 c, CL_at hG H.2.1 c hd u 1 p1]
  have hpw : os.Pairwise (· < ·) := by
    rcases v12 with ⟨q1, _⟩ | ⟨_, _, _, _, q⟩
    · rw [q1]; exact List.Pairwise.nil
    · exact atW_pw q
  refine RO_bind 1 Q1 (by omega) h84 hi1 (RelT_RO (B := 2 * (20 - nc).toNat + 1) (by omega) (piece_rel hG (type_all hG hn) (typeF30 hn) H0.1 H0.2.1 H0.2.2 (by omega))) (fun j M' τ h2 v w q1 H1 D1 X1 m1 P1 => ?_) (fun p v τ M' T1 T2 T3 T4 => by
    rw [if_pos (by decide)]
    refine TF_node T1 T2 T3 T4 (fun x τ M1 T1 T2 T3 T4 => ?_)
    obtain ⟨υ, u1, u2, u3⟩ := link_useF (x := x) w6 (fun y hy => ⟨(v8 y hy).1, by have := (v8 y hy).2.1; omega⟩) (by omega) T1
    rw [u1]
    simp only [Option.bind_some]
    rw [TL_F u2]
    exact TF_end u2 (nd_trans T2 u3 (Nat.le_refl _)))
  obtain ⟨nT, k, rfl, g2, W2, g3, g4, g5, g6, g7⟩ := P1
  have hj := At_i H1
  have Wi := WR_in W2
  obtain ⟨τ3, e1, e2, e3, e4, e5⟩ := t_node H1.1 (by omega) 19 ((b + i : Nat) : Int) (nT : Int) (-1) (-1) (-1)
  rw [if_pos (by decide), e1, if_neg (by decide)]
  simp only [Option.bind_some]
  have D3 := nd_trans (nd_trans D0 D1 (Nat.le_refl _)) e4 m1
  obtain ⟨υ, l1', l2, l3, l4, l5, l6, l7⟩ := link_use (nT := M') (M' := M' + 1) D3 w1.2.2.2.2.2 (by omega) (by omega) e3.2.2.2.2.2.2 (fun x hx => ⟨(v8 x hx).1, (v8 x hx).2.1⟩) hpw v7 w6
  rw [l1']
  simp only [Option.bind_some]
  clear l1' e1
  have hL1 : ll h1 = ll h := p3.2.2.2.2.2.2.1
  have hL2 : lc h1 = lc h := p3.2.2.2.2.2.2.2.1
  -- the heap
  have X2 : hx t h h2 := hx_trans (hx_onlyT p3) X1
  have kw : kd h2 w = 20 := W2.2.2.2.2.1
  have khd : kd h2 hd = 28 := by rw [X2.2.2.1 hd (by omega)]; exact v1.1
  have r0 : fR h2 1458 hd = fR h 1458 hd := X2.2.2.2.2.1 _ _ (by omega) (by omega)
  have O2 : fR h2 1458 hd ≠ 0 → okV G h2 (fR h2 1458 hd) ∧ (ll h2 (fR h2 1458 hd)).length ≤ 100000 := by
    intro z
    rw [r0] at z ⊢
    rcases v12 with ⟨_, q, _⟩ | ⟨q1', q2, q3, q4, q5⟩
    · exact absurd q z
    · refine ⟨okV_hx (w7 q1') X2, ?_⟩
      rw [X2.2.2.2.2.2.2.2.2.1 _ q3, (atW_in q5).2.2.2, ← atsR_len v9, ← w4]
      exact b1
  obtain ⟨h3, n1, n2, n3, n4, n5⟩ := name_more khd (by omega) (.inl ⟨Wi.2.2.2, by omega, by omega⟩) O2
  rw [gd_pos ⟨.inr khd, khd⟩, n1]
  simp only [Option.bind_some]
  have hLAL : fR h3 1458 hd ≠ L ∧ (fR h3 1458 hd < hz h → cc ≤ fR h3 1458 hd) := by
    rcases n5 with ⟨a1, a2, a3⟩ | ⟨a1, a2, a3⟩
    · omega
    · rw [r0] at a1 a2
      rcases v12 with ⟨_, q, _⟩ | ⟨q1', q2, q3, q4, q5⟩
      · exact absurd q a1
      · omega
  have O3 : okV G h3 L := by
    have O := okV_hx w3 X2
    obtain ⟨c0, c1, c2, c3, c4, c5, c6, c7, c8, c9⟩ := n2
    obtain ⟨o0, o1, o2, o3, o4⟩ := O
    have l8 := c8 L (by omega) (Ne.symm hLAL.1)
    have l9 := c9 L (by omega) (Ne.symm hLAL.1)
    exact ⟨by omega, by rw [c2 L (by omega)]; exact o1, by rw [l8, l9]; exact o2, by rw [l8, l9]; exact o3, fun y hy => objY_mono c0 c2 (o4 y (by rw [l8] at hy; exact hy))⟩
  have hLL : ll h3 L = xs := by rw [n2.2.2.2.2.2.2.2.2.1 L (by omega) (Ne.symm hLAL.1), X2.2.2.2.2.2.2.2.2.1 L hL, w4]
  have hLC : lc h3 L = lc h L := by rw [n2.2.2.2.2.2.2.2.2.2 L (by omega) (Ne.symm hLAL.1), X2.2.2.2.2.2.2.2.2.2 L hL]
  obtain ⟨h3', h4, i1, i2, i3, i4, i5, i6, i7, i8, i9, i10, i11, i12, i13, i14⟩ := item_add (e := 0) (w := 0) (q := (tokq S i : Int)) O3 (by rw [hLL, ← w4]; exact b1)
  have ku3 : kd h3 u = 30 := by rw [n2.2.2.1 u (by omega), X2.2.2.1 u (by omega)]; exact w2.1
  have ru3 : ∀ f, fR h3 f u = fR h f u := fun f => by rw [n2.2.2.2.2.1 f u (by omega) (fun z => by omega), X2.2.2.2.2.1 f u (by omega) (by omega)]
  rw [gd_pos ⟨ku3, i2⟩, i1, ru3 1494, w2.2.2.1]
  simp only [Option.bind_some]
  rw [gd_pos i3, i4]
  simp only [Option.bind_some]
  have zr : hz h2 ≤ hz h3 := n2.1
  -- what is as it was, from h to h4
  have kk : ∀ a, a < hz h → kd h4 a = kd h a := fun a q => by rw [i5.2.2.1 a (by omega), n2.2.2.1 a (by omega), X2.2.2.1 a q]
  have ff : ∀ f a, a < hz h → a ≠ t → fI h4 f a = fI h f a := fun f a q r => by rw [i5.2.2.2.1 f a (by omega), n2.2.2.2.1 f a (by omega), X2.2.2.2.1 f a q r]
  have rr : ∀ f a, a < hz h → a ≠ t → ¬ (f = 1458 ∧ a = hd) → fR h4 f a = fR h f a := fun f a q r s => by rw [i5.2.2.2.2.1 f a (by omega), n2.2.2.2.2.1 f a (by omega) s, X2.2.2.2.2.1 f a q r]
  have rLA : fR h4 1458 hd = fR h3 1458 hd := i5.2.2.2.2.1 _ _ (by omega)
  have lA : ll h4 (fR h3 1458 hd) = ll h3 (fR h3 1458 hd) := i5.2.2.2.2.2.2.2.2.1 _ n3.1 hLAL.1
  have cA : lc h4 (fR h3 1458 hd) = lc h3 (fR h3 1458 hd) := i5.2.2.2.2.2.2.2.2.2 _ n3.1 hLAL.1
  have hl4 : ll h4 L = xs ++ [hz h3] := by rw [i7, hLL]
  have hl4n : (ll h4 L).length = xs.length + 1 := by rw [hl4]; simp
  have hxl : (ll h L).length = xs.length := by rw [w4]
  have hzA : hz h ≤ hz h4 := by omega
  have hne0 : fR h3 1458 hd ≠ 0 := by
    rcases n5 with ⟨a1, a2, a3⟩ | ⟨a1, a2, a3⟩
    · omega
    · rw [a2]; exact a1
  have huA : hu h3 + (if fR h 1458 hd = 0 then 0 else 4 * lc h (fR h 1458 hd)) ≤ hu h2 + 4 * lc h4 (fR h3 1458 hd) := by
    rw [cA]
    rcases n5 with ⟨a1, a2, a3, a4⟩ | ⟨a1, a2, a3, a4⟩
    · rw [if_pos (by omega)]; omega
    · rw [r0] at a1 a2 a4
      rw [if_neg a1, a2]
      rcases v12 with ⟨_, q, _⟩ | ⟨q1', q2, q3, q4, q5⟩
      · exact absurd q a1
      · rw [X2.2.2.2.2.2.2.2.2.2 _ q3] at a4
        exact a4
  have U' : U1 G A S b K (hz hb) Mb u L hd (M' + 1) υ h4 (os ++ [M']) (xs ++ [hz h3]) (M' : Int) := by
    have hM' : M ≤ M' := m1
    have ga1 : ∀ f ∈ PA, f ≠ 546 → f ≠ 562 → ∀ x, x < M' → ga υ f x = ga τ f x := fun f hf c1 c2 x hx => by rw [l4 f hf c1 c2, e4.2 f hf x hx]
    have gaM : ∀ f ∈ PA, f ≠ 546 → f ≠ 562 → ∀ x, x < M → ga υ f x = ga σ f x := fun f hf c1 c2 x hx => by rw [l4 f hf c1 c2, D3.2 f hf x hx]
    have nos : M' ∉ os := fun z => by have := (v8 M' z).2.1; omega
    refine ⟨by omega, ?_, i6, hl4, ?_, .inr ⟨os, M', rfl, rfl⟩, fun _ => ?_, fun z => by simp at z⟩
    · rw [kk u (by omega), rr _ u (by omega) (by omega) (by omega), rr _ u (by omega) (by omega) (by omega), rr _ u (by omega) (by omega) (by omega)]
      exact w2
    · refine ⟨j0, w0, cc, nameO_keepN v1 (fun x e => ?_), v2, by omega, by omega, by rw [gaM 538 (by simp) (by decide) (by decide) Mb (by omega)]; exact v5, by rw [gaM 542 (by simp) (by decide) (by decide) Mb (by omega)]; exact v6, l2, fun y hy => ?_, ?_, v10, ⟨v11.1, by omega⟩, .inr ⟨by simp, ?_⟩⟩
      · have hx' : x < hz h ∧ x ≠ t := by rcases e with rfl | rfl <;> omega
        exact ⟨kk x hx'.1, fun f => ff f x hx'.1 hx'.2, fun f hf => rr f x hx'.1 hx'.2 (fun z => hf z.1)⟩
      · rcases List.mem_append.mp hy with hy | hy
        · have := v8 y hy
          exact ⟨this.1, by omega, by rw [gaM 538 (by simp) (by decide) (by decide) y this.2.1]; exact this.2.2⟩
        · have : y = M' := by simpa using hy
          rw [this]
          exact ⟨by omega, by omega, by rw [l4 538 (by simp) (by decide) (by decide)]; exact e3.1⟩
      · refine atsR_snoc (fun x d1 d2 d3 => ⟨⟨d1, by omega⟩, by rw [kk x d2]; exact d3, ?_, ?_, ff _ x d2 (by omega)⟩) (by omega) (by omega) ⟨i8, i9, i10, i, ?_, i11, by omega⟩ (fun y hy => gaM 542 (by simp) (by decide) (by decide) y (v8 y hy).2.1) v9
        · exact rr _ x d2 (by omega) (by omega)
        · exact rr _ x d2 (by omega) (by omega)
        · rw [l4 542 (by simp) (by decide) (by decide)]; exact e3.2.1
      · have hkA : ∀ a, hz h ≤ a → a < hz h2 → kd h4 a = kd h2 a ∧ (∀ f, fI h4 f a = fI h2 f a) ∧ (∀ f, fR h4 f a = fR h2 f a) ∧ ll h4 a = ll h2 a ∧ lc h4 a = lc h2 a := by
          intro a d e
          have a1 : a ≠ fR h3 1458 hd := by
            rcases n5 with ⟨a1, a2, a3⟩ | ⟨a1, a2, a3⟩
            · omega
            · rcases v12 with ⟨_, q, _⟩ | ⟨q1', q2, q3, q4, q5⟩
              · exact absurd (r0.trans q) a1
              · rw [a2, r0]; omega
          exact ⟨by rw [i5.2.2.1 a (by omega), n2.2.2.1 a e], fun f => by rw [i5.2.2.2.1 f a (by omega), n2.2.2.2.1 f a e], fun f => by rw [i5.2.2.2.2.1 f a (by omega), n2.2.2.2.2.1 f a e (by omega)], by rw [i5.2.2.2.2.2.2.2.2.1 a (by omega) (by omega), n2.2.2.2.2.2.2.2.2.1 a e a1], by rw [i5.2.2.2.2.2.2.2.2.2 a (by omega) (by omega), n2.2.2.2.2.2.2.2.2.2 a e a1]⟩
        have W4 : WR A S b h4 υ 59 M M' (hz h) (hz h2) w nT := by
          rw [z1] at W2
          refine WR_keep W2 hkA ⟨fun f hf c1 x d e => ?_, fun x d e c1 => ?_⟩
          · by_cases c46 : f = 546
            · rw [c46, l5 x (by omega), e4.2 546 (by simp) x e]
            · exact ga1 f hf c46 c1 x e
          · rw [l6 x (fun z => by have := (v8 x z).2.1; omega), e4.2 562 (by simp) x e]
        have g546 : ga υ 546 M' = (nT : Int) := by rw [l5 M' (by omega)]; exact e3.2.2.1
        rw [rLA]
        refine ⟨?_, by have := n3.1; omega, by rw [i5.2.2.1 _ n3.1]; exact n3.2.1, ?_⟩
        · by_cases q : fR h3 1458 hd < hz h
          · exact hLAL.2 q
          · omega
        · rw [lA]
          rcases v12 with ⟨q1', q2', q3'⟩ | ⟨q1', q2, q3, q4, q5⟩
          · rcases n5 with ⟨a1, a2, a3, a4⟩ | ⟨a1, a2, a3, a4⟩
            · rw [q1', a2, a3, ← q3']
              exact atW_app (ws := []) (os := []) (amid := cc) ⟨rfl, Nat.le_refl _⟩ (by omega) (.inr (Nat.le_refl _)) (by omega) W4 g546
            · exact absurd (r0.trans q2') a1
          · rcases n5 with ⟨a1, a2, a3, a4⟩ | ⟨a1, a2, a3, a4⟩
            · rw [r0] at a1; omega
            · rw [r0] at a2 a3
              rw [a2, a3, X2.2.2.2.2.2.2.2.2.1 _ q3]
              refine atW_app (amid := hz h) (atW_keepT q5 (fun a d e f => ?_) (fun f hf c1 x d e => ?_) (fun x d e c1 => ?_)) (Nat.le_refl _) (.inl q3) (by omega) W4 g546
              · exact ⟨kk a e, fun f => ff f a e (by omega), fun f => rr f a e (by omega) (by omega), by rw [i5.2.2.2.2.2.2.2.2.1 a (by omega) (by omega), n2.2.2.2.2.2.2.2.2.1 a (by omega) (by rw [a2]; exact f), X2.2.2.2.2.2.2.2.2.1 a e], by rw [i5.2.2.2.2.2.2.2.2.2 a (by omega) (by omega), n2.2.2.2.2.2.2.2.2.2 a (by omega) (by rw [a2]; exact f), X2.2.2.2.2.2.2.2.2.2 a e]⟩
              · by_cases c46 : f = 546
                · rw [c46, l5 x (by omega), D3.2 546 (by simp) x e]
                · exact gaM f hf c46 c1 x e
              · rw [l6 x c1, D3.2 562 (by simp) x e]
    · rw [rLA]
      exact okV_hxL n3 hLAL.1 i5
  have hAt : At G A t N S b m j nc (M' + 1) υ h4 := by
    have A1 : fr PF PA τ3 υ := fr_mono l7 (by simp) (by simp)
    have T4 : Tst υ N S b m j nc (M' + 1) := ⟨TT_fr A1 e2.1, by rw [l3]; exact e2.2.1, e2.2.2.1, by rw [l3]; exact e2.2.2.2.1, by rw [l3]; exact e2.2.2.2.2.1, by rw [l3]; exact e2.2.2.2.2.2⟩
    have t1 := At_t H1
    have t2 := At_A H1
    have H3 : At G A t N S b m j nc (M' + 1) υ h3 := by
      obtain ⟨c0, c1, c2, c3, c4, c5, c6, c7, c8, c9⟩ := n2
      refine ⟨T4, Cst_gen H1.2.1 (c2 _ t1) (by rw [H1.2.2]; exact c2 _ t2) (by rw [H1.2.2]; exact c5 _ t2) (fun p => by rw [H1.2.2]; exact c6 _ p t2) (fun f => c3 f _ t1) (fun f => c4 f _ t1 (by omega)) c0, by rw [c4 _ _ t1 (by omega)]; exact H1.2.2⟩
    exact hxL_At H3 i5
  have X4 : hx t hb h4 := by
    have X3 : hx t hb h3 := by
      obtain ⟨c0, c1, c2, c3, c4, c5, c6, c7, c8, c9⟩ := n2
      obtain ⟨d0, d1, d2, d3, d4, d5, d6, d7, d8, d9⟩ := hx_trans Q.2.2.2.1 X2
      have hA : hz hb ≤ fR h3 1458 hd := by
        by_cases q : fR h3 1458 hd < hz h
        · have := hLAL.2 q; omega
        · omega
      exact ⟨by omega, by omega, fun a q => by rw [c2 a (by omega)]; exact d2 a q, fun f a q r => by rw [c3 f a (by omega)]; exact d3 f a q r, fun f a q r => by rw [c4 f a (by omega) (by omega)]; exact d4 f a q r, fun a q => by rw [c5 a (by omega)]; exact d5 a q, fun a i q => by rw [c6 a i (by omega)]; exact d6 a i q, fun a i q => by rw [c7 a i (by omega)]; exact d7 a i q, fun a q => by rw [c8 a (by omega) (by omega)]; exact d8 a q, fun a q => by rw [c9 a (by omega) (by omega)]; exact d9 a q⟩
    exact hxL_hx X3 i5 (by omega)
  have D4 : nd σb υ Mb := by
    refine nd_trans Q.2.1 ⟨fr_trans D3.1 (fr_mono l7 (by simp) (by simp)), fun f hf z d => ?_⟩ (Nat.le_refl _)
    by_cases c46 : f = 546
    · rw [c46, l5 z (by omega), D3.2 546 (by simp) z (by omega)]
    · by_cases c62 : f = 562
      · rw [c62, l6 z (fun q => by have := (v8 z q).1; omega), D3.2 562 (by simp) z (by omega)]
      · rw [l4 f hf c46 c62, D3.2 f hf z (by omega)]
  have lcA : 4 * lc h4 L ≤ 8 * (xs.length + 1) + 40 := by have := i6.2.2.2.1; rw [hl4n] at this; omega
  have lcB : lc h4 (fR h3 1458 hd) ≤ 2 * (xs.length + 1) + 10 := by
    rw [cA]
    have q := n3.2.2.2.1
    rcases n5 with ⟨a1, a2, a3, a4⟩ | ⟨a1, a2, a3, a4⟩
    · rw [a2, a3] at q
      rw [a2]
      simp at q
      omega
    · rcases v12 with ⟨q1', q2', q3'⟩ | ⟨q1', q2, q3, q4, q5⟩
      · exact absurd (r0.trans q2') a1
      · rw [a2, a3, r0, X2.2.2.2.2.2.2.2.2.1 _ q3, List.length_append, (atW_in q5).2.2.2, ← atsR_len v9] at q
        rw [a2, r0]
        exact q
  refine go j (M' + 1) υ h4 (os ++ [M']) (xs ++ [hz h3]) (M' : Int) (by omega) hAt ⟨by omega, D4, by have := Q.2.2.1; omega, X4, by omega, by omega⟩ U' ⟨by omega, by omega, by rw [hl4n]; omega, ?_⟩ (by rw [hl4]; simp)
  rw [hl4n, rLA, if_neg hne0]
  omega
end LN2
