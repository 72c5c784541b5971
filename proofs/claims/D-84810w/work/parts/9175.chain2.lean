set_option maxRecDepth 100000
section LC2
variable {G : om_G} {A t : Nat} {N : List (List Int)} {S : List Int} {b m K : Nat} {nc p : Int} {i M : Nat} {h h' : om_H} {σ τ : tS} {rT fT : tS → Option (Int × tS)} {rC fC : Nat → om_H → Option ((Nat ⊕ Nat) × om_H)}
variable {ib Mb a L1 L2 hd nh mh a3 top : Nat} {σb : tS} {hb : om_H} {P : Nat → Nat → tS → om_H → Int → Nat → Prop} {fl : Bool}
def CB (ib Mb : Nat) (hb : om_H) (i M : Nat) (h : om_H) (L1 L2 : Nat) : Prop := ib < i ∧ M + 1 ≤ Mb + 2 * (i - ib) ∧ hz h + 7 + 8 * (ll h L1).length ≤ hz hb + 20 * (i - ib) ∧ hu h + 88 + 300 * (ll h L1).length ≤ hu hb + 300 * (i - ib) + 4 * lc h L1 + 4 * lc h L2
/-- one more sign and what stands right of it -/
theorem chain_step (SR : RXall G A t N S b m K nc fT fC) (SF : RFall N S b m nc 1 fT) (ht : t < hz hb) (h84 : Mb + 3 * (m - ib) + 60 ≤ 8400) (H : At G A t N S b m (i + 1) nc M σ h) (Q : lnk t ib Mb σb hb (i + 1) M σ h) (U : CC fl G A S b K (hz hb) Mb a L1 L2 hd nh mh a3 top M (hz h) σ h) (B : CB ib Mb hb i M h L1 L2) (hk : tokk S i = 17 ∨ tokk S i = 60 ∨ tokk S i = 43 ∨ tokk S i = 45 ∨ tokk S i = 42) {v : Int} (hv : (v ≠ 256 → v = sgv (tokk S i)) ∧ (v = 256 → sgv (tokk S i) = 61)) (hs : (fl = false ∧ okS G (om_cA G (300 + (sgv (tokk S i) + 128).toNat))) ∨ (fl = true ∧ ll h L1 = []))
    {kT : Int × tS → Option (Int × tS)} {kC : om_H → Option ((Nat ⊕ Nat) × om_H)} (kF : ∀ (p x : Int) (τ : tS) (M : Nat), Tfl τ N S b m p nc M → kT (x, τ) = some (x, τ))
    (go : ∀ (j M' : Nat) (σ' : tS) (h' : om_H) (top' : Nat), i < j → At G A t N S b m j nc M' σ' h' → lnk t ib Mb σb hb j M' σ' h' → CC fl G A S b K (hz hb) Mb a L1 L2 hd nh mh a3 top' M' (hz h') σ' h' → CB ib Mb hb j M' h' L1 L2 → ll h' L1 ≠ [] → RO G A t N S b m ib nc Mb σb hb P (kT ((top' : Int), σ')) (kC h')) :
    RO G A t N S b m ib nc Mb σb hb P ((fT σ).bind fun p2 => (T_node 18 ((b + i : Nat) : Int) (top : Int) p2.1 (-1) (-1) p2.2).bind fun p3 => kT (p3.1, p3.2)) (xc (fC t h) (fun t h => some (.inl t, h)) (fun w h2 => (C_0_link G t a w v (tokq S i : Int) h2).bind fun p4 => kC p4)) := by
  have hi := At_i H
  obtain ⟨B1, B2, B3, B4⟩ := B
  have Z1 := U.1
  refine RO_bind 1 Q (by omega) h84 hi (SR _ _ _ _ H (by omega)) (fun j M' τ h2 v' w q1 H1 D1 X1 m1 P1 => ?_) (fun p v τ M' T1 T2 T3 T4 => TF_node T1 T2 T3 T4 (fun x τ M1 T1 T2 T3 T4 => by rw [kF _ _ _ _ T1]; exact TF_end T1 T2))
  obtain ⟨nT, rfl, g2, W2, g3, g4, g5, g6⟩ := P1
  have hj := At_i H1
  have U1 := CC_hx U ht X1 D1
  obtain ⟨τ3, e1, e2, e3, e4, e5⟩ := t_node H1.1 (by omega) 18 ((b + i : Nat) : Int) (top : Int) (nT : Int) (-1) (-1)
  rw [e1]
  simp only [Option.bind_some]
  have l1 : ll h2 L1 = ll h L1 := X1.2.2.2.2.2.2.2.2.1 L1 U.2.2.1.1
  have c1 : lc h2 L1 = lc h L1 := X1.2.2.2.2.2.2.2.2.2 L1 U.2.2.1.1
  have c2 : lc h2 L2 = lc h L2 := X1.2.2.2.2.2.2.2.2.2 L2 U.2.2.2.1.1
  have X0' := Q.2.2.2.1.1
  obtain ⟨h5, k1, k2, k3, k4, k5, k6, k7⟩ := CC_link (N := N) (m := m) (nc := nc) U1 W2 (by rw [l1]; omega) e4 m1 e3 hk hv (by rw [l1]; exact hs) ht (hx_trans Q.2.2.2.1 X1)
  rw [k1]
  simp only [Option.bind_some]
  have hl5 : (ll h5 L1).length = (ll h L1).length + 1 := by rw [k5, l1]; simp
  have o1 := k2.2.2.1.2.2.2.1
  have o2 := k2.2.2.2.1.2.2.2.1
  have o3 := k2.2.2.2.2.1
  refine go j (M' + 1) τ3 h5 M' (by omega) (k4 H1 e2) ⟨by omega, nd_trans (nd_trans Q.2.1 D1 Q.2.2.1) e4 (by have := Q.2.2.1; omega), by have := Q.2.2.1; omega, k3, by omega, ?_⟩ k2 ⟨by omega, by omega, by rw [hl5]; omega, by rw [hl5]; omega⟩ (by rw [k5]; simp)
  rw [← o3, hl5] at o2
  rw [hl5] at o1
  omega
/-- the end of a chain -/
theorem chain_fin (H : At G A t N S b m i nc M σ h) (Q : lnk t ib Mb σb hb i M σ h) (U : CC fl G A S b K (hz hb) Mb a L1 L2 hd nh mh a3 top M (hz h) σ h) (B : CB ib Mb hb i M h L1 L2) (hne : ll h L1 ≠ []) : RO G A t N S b m ib nc Mb σb hb (PX G A S b (K + 1) ib Mb hb) (some ((top : Int), σ)) (some (.inr a, h)) := by
  obtain ⟨B1, B2, B3, B4⟩ := B
  have X := CC_end U hne
  have it := CC_top U
  have hl : 1 ≤ (ll h L1).length := by
    cases e : ll h L1 with
    | nil => exact absurd e hne
    | cons x r => simp
  have o1 := U.2.2.1.2.2.2.1
  have o2 := U.2.2.2.1.2.2.2.1
  have o3 := U.2.2.2.2.1
  exact .inl ⟨i, M, σ, h, _, _, rfl, rfl, by omega, H, Q.2.1, Q.2.2.2.1, Q.2.2.1, top, rfl, B1, X, by omega, B2, by omega, by omega⟩
/-- a chain is begun -/
theorem chain_start (ht : t < hz hb) {w nT : Nat} (H : At G A t N S b m i nc M σ h) (Q : lnk t ib Mb σb hb i M σ h) (W : X0 G A S b h σ K Mb M (hz hb) (hz h) w nT) (B : ib < i ∧ M + 1 ≤ Mb + 2 * (i - ib) ∧ hz h + 10 ≤ hz hb + 20 * (i - ib) ∧ hu h + 100 ≤ hu hb + 300 * (i - ib)) : ∃ h1 h2, C_32_init G (hz h) (nO h 32 6) = some h1 ∧ kd (nO h 32 6) (hz h) = 32 ∧ kd h1 (hz h) = 32 ∧ (∀ f, fI h1 f t = fI h f t) ∧ kd h1 t = kd h t ∧ h2 = sR h1 1518 (hz h) w ∧ At G A t N S b m i nc M σ h2 ∧ lnk t ib Mb σb hb i M σ h2 ∧ CC fl G A S b K (hz hb) Mb (hz h) (hz h + 1) (hz h + 2) w nT M (hz h2) nT M (hz h2) σ h2 ∧ CB ib Mb hb i M h2 (hz h + 1) (hz h + 2) ∧ ll h2 (hz h + 1) = [] := by
  have t1 := At_t H
  obtain ⟨h1, h2, c1, c2, c3, c4, c5, c6, c7, c8, c9, c10, c11, c12, c13, c14, c15, c16⟩ := chain_begin (G := G) t1 w
  have X0' := Q.2.2.2.1.1
  refine ⟨h1, h2, c1, c2, c3, c4, c5, c6, ⟨H.1, Cst_sameT H.2.1 c7 ⟨c15, c16⟩, by rw [c16]; exact H.2.2⟩, ⟨Q.1, Q.2.1, Q.2.2.1, hx_trans Q.2.2.2.1 c7, by omega, by omega⟩, ⟨by omega, c8, c9, c10, by rw [c11, c12], ⟨hz h, X0_keep W (hx_hk c7 (Nat.le_refl _) ht) (fun _ _ _ _ _ => rfl), by omega⟩, ?_, fun z => absurd c11 z, .inl (fun y hy => by rw [c12] at hy; cases hy)⟩, ⟨B.1, B.2.1, by rw [c11]; simp; omega, by rw [c11]; simp; omega⟩, c11⟩
  rw [c11]
  exact ⟨rfl, rfl, Nat.le_refl _⟩
/-! products -/
noncomputable def TLp (r : tS → Option (Int × tS)) (x : Int × tS) : Option (Int × tS) := (om_loop (T_product_5s r) x).bind fun y2 => some (y2.1, y2.2)
noncomputable def CLp (G : om_G) (r : Nat → om_H → Option ((Nat ⊕ Nat) × om_H)) (t a : Nat) (x : om_H) : Option ((Nat ⊕ Nat) × om_H) := (om_loop (C_0_readProduct_29s G r t a) x).bind (Sum.elim (fun v4 => some (.inr a, v4)) (fun v4 => some v4))
theorem TLp_F (H : Tfl σ N S b m p nc M) (x : Int) : TLp rT (x, σ) = some (x, σ) := by
  unfold TLp
  rw [om_loop_eq]
  unfold T_product_5s
  rw [t_takesF H]
  rfl
theorem TLp_end (H : Tst σ N S b m i nc M) (c : tokk S i ≠ 42) (x : Int) : TLp rT (x, σ) = some (x, σ) := by
  unfold TLp
  rw [om_loop_eq]
  unfold T_product_5s
  rw [(t_takes H (k := 42) (by decide)).2 c]
  rfl
theorem TLp_in (H : Tst σ N S b m i nc M) {τ : tS} (e : T_takes 42 σ = some (1, τ)) (T : Tst τ N S b m (i + 1) nc M) (x : Int) : TLp rT (x, σ) = (T_use rT τ).bind fun p2 => (T_node 18 ((b + i : Nat) : Int) x p2.1 (-1) (-1) p2.2).bind fun p3 => TLp rT (p3.1, p3.2) := by
  have h4 := H.1.2.1
  have hi := T.2.2.1
  have e2 : w32 (gs τ 432 - 1) = ((b + i : Nat) : Int) := by rw [T.2.1, w32_s (by omega) (by omega)]; omega
  unfold TLp
  rw [om_loop_eq]
  unfold T_product_5s
  simp only [e, Option.bind_some]
  rw [if_neg (by decide)]
  simp only [e2, Option.bind_assoc, Option.bind_some, Sum.elim_inl]
theorem CLp_end (hG : om_okG G) (H : Cst G h t S i nc) (c : tokk S i ≠ 42) (a : Nat) : CLp G rC t a h = some (.inr a, h) := by
  unfold CLp
  rw [om_loop_eq]
  unfold C_0_readProduct_29s
  rw [gd_pos (Cst_kd H), c_isSign hG H (by omega), show sc 42 = 42 by decide, if_neg c]
  rfl
theorem CLp_in (hG : om_okG G) (H : Cst G h t S i nc) (c : tokk S i = 42) (a : Nat) {h1 : om_H} (e : C_14_advance G t h = some h1) : CLp G rC t a h = xc (C_0_readUse G rC t h1) (fun t h => some (.inl t, h)) (fun w h2 => (C_0_link G t a w 42 (tokq S i : Int) h2).bind fun p4 => CLp G rC t a p4) := by
  unfold CLp
  rw [om_loop_eq]
  unfold C_0_readProduct_29s
  rw [gd_pos (Cst_kd H), c_isSign hG H (by omega), show sc 42 = 42 by decide, if_pos c]
  simp only [Option.bind_some]
  rw [if_neg (by decide), gd_pos (Cst_kd H), e, Cst_q H]
  simp only [xc_bind, gd_bind, Option.bind_assoc, Option.bind_some, Sum.elim_inl, Sum.elim_inr]
theorem prod_loop (hG : om_okG G) (hn : 0 ≤ nc ∧ nc ≤ 20) (R : RXall G A t N S b m K nc rT rC) (RF : RFall N S b m nc 1 rT) (ht : t < hz hb) (h84 : Mb + 3 * (m - ib) + 60 ≤ 8400) : ∀ (d i M : Nat) (σ : tS) (h : om_H) (top : Nat), m - i < d → At G A t N S b m i nc M σ h → lnk t ib Mb σb hb i M σ h → CC false G A S b (K + 2) (hz hb) Mb a L1 L2 hd nh mh a3 top M (hz h) σ h → CB ib Mb hb i M h L1 L2 → (ll h L1 ≠ [] ∨ tokk S i = 42) → RO G A t N S b m ib nc Mb σb hb (PX G A S b (K + 3) ib Mb hb) (TLp rT ((top : Int), σ)) (CLp G rC t a h) := by
  intro d
  induction d with
  | zero =>
    intro i M σ h top hd'
    exact absurd hd' (Nat.not_lt_zero _)
  | succ d ih =>
    intro i M σ h top hd' H Q U B hne
    by_cases c : tokk S i = 42
    · obtain ⟨τ, e1, e2, e3⟩ := (t_takes H.1 (k := 42) (by decide)).1 c
      obtain ⟨h1, f1, f2, f3⟩ := c_next H.2.1 (by omega)
      have z1 : hz h1 = hz h := f3.2.2.2.2.2.2.2.2.1
      have y1 : hu h1 = hu h := f3.2.2.2.2.2.2.2.2.2.1
      have l1 : ll h1 = ll h := f3.2.2.2.2.2.2.1
      have c1 : lc h1 = lc h := f3.2.2.2.2.2.2.2.1
      rw [TLp_in H.1 e1 e2, CLp_in hG H.2.1 c a f1]
      refine chain_step (fT := T_use rT) (fC := C_0_readUse G rC) (fun i M σ h H hM => use_rel hG hn R RF H hM) (useF RF) ht h84 (At_onlyT H f3 f2 e2) (lnk_only Q f3 e3) (by rw [z1]; exact CC_hx U ht (hx_onlyT f3) e3) (by unfold CB; rw [z1, y1, l1, c1]; exact B) (.inr (.inr (.inr (.inr c)))) ⟨fun _ => by rw [c]; rfl, fun z => absurd z (by decide)⟩ (.inl ⟨rfl, 42, .inl rfl, by rw [c]; rfl⟩) (fun p x τ M T => TLp_F T x) (fun j M' σ' h' top' q H' Q' U' B' n' => ih j M' σ' h' top' (by have := At_i H'; omega) H' Q' U' B' (.inl n'))
    · rw [TLp_end H.1 c, CLp_end hG H.2.1 c]
      refine chain_fin H Q U B ?_
      rcases hne with q | q
      · exact q
      · exact absurd q c
theorem product_rel (hG : om_okG G) (hn : 0 ≤ nc ∧ nc ≤ 20) (R : RXall G A t N S b m K nc rT rC) (RF : RFall N S b m nc 1 rT) : RXall G A t N S b m (K + 3) nc (T_product rT) (C_0_readProduct G rC) := by
  intro i M σ h H h84
  have ht := At_t H
  have hi := At_i H
  show RO G A t N S b m i nc M σ h (PX G A S b (K + 3) i M h) ((T_use rT σ).bind fun p1 => TLp rT (p1.1, p1.2)) _
  unfold C_0_readProduct
  refine RO_bind 0 lnk_refl (by omega) h84 hi (use_rel hG hn R RF H h84) (fun j M' τ h' v w q1 H1 D1 X1 m1 P1 => ?_) (fun p v τ M' T1 T2 T3 T4 => by rw [TLp_F T1]; exact TF_end T1 T2)
  obtain ⟨nT, rfl, g2, W2, g3, g4, g5, g6⟩ := P1
  have hj := At_i H1
  rw [gd_pos (At_kd H1), c_isSign hG H1.2.1 (by omega), show sc 42 = 42 by decide]
  simp only [Option.bind_some]
  by_cases c : tokk S j = 42
  · rw [if_pos (by rw [if_pos c]; decide)]
    obtain ⟨h1, h2, c1, c2, c3, c4, c5, c6, c7, c8, c9, c10, c11⟩ := chain_start (fl := false) ht H1 ⟨q1, D1, m1, X1, by omega, by omega⟩ W2 ⟨g2, g4, g5, g6⟩
    rw [gd_pos c2, c1]
    simp only [Option.bind_some]
    rw [gd_pos c3, ← c6]
    exact prod_loop hG hn R RF ht h84 (m - j + 1) j M' τ h2 nT (by omega) c7 c8 c9 c10 (.inr c)
  · rw [if_neg (by rw [if_neg c]; decide), TLp_end H1.1 c]
    exact .inl ⟨j, M', τ, h', _, _, rfl, rfl, by omega, H1, D1, X1, by omega, nT, rfl, by omega, XR_more W2, by omega, by omega, by omega, by omega⟩
theorem productF (RF : RFall N S b m nc 1 rT) : RFall N S b m nc 1 (T_product rT) := by
  intro p M σ H hM
  obtain ⟨x, τ, M1, e1, e2, e3, e4, e5⟩ := useF RF p M σ H hM
  refine ⟨x, τ, M1, ?_, e2, e3, e4, e5⟩
  show ((T_use rT σ).bind fun p1 => TLp rT (p1.1, p1.2)) = _
  rw [e1]
  exact TLp_F e2 x
end LC2
