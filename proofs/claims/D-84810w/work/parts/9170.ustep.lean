set_option maxRecDepth 100000
section LU3
variable {G : om_G} {A t : Nat} {N : List (List Int)} {S : List Int} {b m K : Nat} {nc p : Int} {i M : Nat} {h : om_H} {σ : tS} {rT : tS → Option (Int × tS)} {rC : Nat → om_H → Option ((Nat ⊕ Nat) × om_H)}
/-- the bounds of a use -/
def UB (ib Mb : Nat) (hb : om_H) (i M : Nat) (h : om_H) (L : Nat) : Prop := ib < i ∧ M + 1 ≤ Mb + 2 * (i - ib) ∧ hz h + 7 + 8 * (ll h L).length ≤ hz hb + 20 * (i - ib) ∧ hu h + 95 * (ll h L).length + 98 ≤ hu hb + 300 * (i - ib) + 4 * lc h L
variable {ib Mb u L hd nh mh a3 top : Nat} {σb : tS} {hb : om_H} {xs ys : List Nat} {P : Nat → Nat → tS → om_H → Int → Nat → Prop}
theorem UB_84 {m : Nat} (U : UB ib Mb hb i M h L) (hi : i ≤ m) (h84 : Mb + 3 * (m - ib) + 60 ≤ 8400) (X : hz hb ≤ hz h) : (ll h L).length ≤ 100000 ∧ M + 3 * (m - i) + 60 ≤ 8400 := by
  obtain ⟨u1, u2, u3, u4⟩ := U
  omega
theorem lnk_hxL {i0 M0 : Nat} {σ0 : tS} {h0 h' : om_H} (Q : lnk t i0 M0 σ0 h0 i M σ h) (X : hxL L h h') (hL : hz h0 ≤ L) (z : hz h' ≤ hz h0 + 20 * (i - i0)) (y : hu h' ≤ hu h0 + 300 * (i - i0)) : lnk t i0 M0 σ0 h0 i M σ h' := ⟨Q.1, Q.2.1, Q.2.2.1, hxL_hx Q.2.2.2.1 X hL, z, y⟩
theorem lnk_nd {i0 M0 M' : Nat} {σ0 τ : tS} {h0 : om_H} (Q : lnk t i0 M0 σ0 h0 i M σ h) (D : nd σ τ M) (hM : M ≤ M') : lnk t i0 M0 σ0 h0 i M' τ h := ⟨Q.1, nd_trans Q.2.1 D Q.2.2.1, by have := Q.2.2.1; omega, Q.2.2.2.1, Q.2.2.2.2.1, Q.2.2.2.2.2⟩
/-- one more atom -/
theorem U_atom (hG : om_okG G) (ht : t < hz hb) (R : RXall G A t N S b m K nc rT rC) (RF : RFall N S b m nc 1 rT) (H : At G A t N S b m i nc M σ h) (Q : lnk t ib Mb σb hb i M σ h) (h84 : Mb + 3 * (m - ib) + 60 ≤ 8400) (U : UC G A S b (K + 1) (hz hb) Mb u L hd nh mh a3 top M (hz h) σ h xs ys) (B : UB ib Mb hb i M h L) (c : isA S i) (l1 f o : Int)
    (go : ∀ (i' M' : Nat) (σ' : tS) (h' : om_H) (top' : Nat) (ys' : List Nat), i < i' → At G A t N S b m i' nc M' σ' h' → lnk t ib Mb σb hb i' M' σ' h' → UC G A S b (K + 1) (hz hb) Mb u L hd nh mh a3 top' M' (hz h') σ' h' xs ys' → UB ib Mb hb i' M' h' L → ll h' L ≠ [] → RO G A t N S b m ib nc Mb σb hb P (TL rT l1 (0, (top' : Int), o, σ')) (CL G rC t hd u (0, h'))) :
    RO G A t N S b m ib nc Mb σb hb P (TL rT l1 (f, (top : Int), o, σ)) (CL G rC t hd u (f, h)) := by
  have hi := At_i H
  have X0 : hz hb ≤ hz h := Q.2.2.2.1.1
  obtain ⟨b1, b2⟩ := UB_84 B hi h84 X0
  have B' := B
  obtain ⟨B1, B2, B3, B4⟩ := B'
  rw [TL_atom H.1 c, CL_atom hG H.2.1 c]
  refine RO_bind 1 Q (by omega) h84 hi (atom_rel hG R RF H b2) (fun j M' τ h' v w q1 H1 D1 X1 m1 P1 => ?_) (fun p v τ M' T1 T2 T3 T4 => TF_node T1 T2 T3 T4 (fun x τ M1 T1 T2 T3 T4 => by rw [TL_F T1]; exact TF_end T1 T2))
  obtain ⟨nT, rfl, g2, W2, g3, g4, g5, g6⟩ := P1
  have hj := At_i H1
  have U1 := UC_hx U ht X1 D1
  have Wi := XR_in _ _ _ _ _ _ _ W2
  obtain ⟨τ3, e1, e2, e3, e4, e5⟩ := t_node H1.1 (by omega) 12 l1 (top : Int) (nT : Int) (-1) (-1)
  rw [e1]
  simp only [Option.bind_some]
  have hLL : ll h' L = ll h L := by rw [U1.2.2.2.1, U.2.2.2.1]
  have hLC : lc h' L = lc h L := X1.2.2.2.2.2.2.2.2.2 L U.2.2.1.1
  have kw : kd (nO h' 31 5) w = kd h' w := by rw [kd_nO, if_neg (by omega)]
  have fw : fI (nO h' 31 5) 1372 w = fI h' 1372 w := by rw [fI_nO, if_neg (by omega)]
  obtain ⟨h2, h3, i1, i2, i3, i4, i5, i6, i7, i8, i9, i10, i11, i12, i13, i14⟩ := item_add (e := w) (w := 0) (q := fI (nO h' 31 5) 1372 w) U1.2.2.1 (by rw [hLL]; exact b1)
  rw [gd_pos ⟨U1.2.1.1, by rw [kw]; exact XR_exk W2, i2⟩, i1, U1.2.1.2.2.1]
  simp only [Option.bind_some]
  rw [gd_pos i3, i4]
  simp only [Option.bind_some]
  have hl3 : (ll h3 L).length = (ll h L).length + 1 := by rw [i7, hLL]; simp
  have Z1 := U.1
  have D3 := nd_trans D1 e4 m1
  refine go j (M' + 1) τ3 h3 M' (ys ++ [hz h']) (by omega) (hxL_At ⟨e2, H1.2.1, H1.2.2⟩ i5) ?_ ?_ ⟨by omega, by omega, by rw [hl3]; omega, by rw [hl3]; omega⟩ (by rw [i7]; simp)
  · refine lnk_hxL (lnk_nd (lnk_call Q q1 D1 X1 m1 (by omega) (by omega)) e4 (by omega)) i5 Z1.2.2.1 (by omega) ?_
    have := i6.2.2.2.1
    rw [hl3] at this
    omega
  · refine UC_hxL U1 i5 i6 (nd_trans (nd_refl _ _) ⟨e4.1, fun f hf i hi => e4.2 f hf i (by omega)⟩ (Nat.le_refl _)) i7 (Nat.le_refl _) (fun alo' hal => ?_)
    have kW := XR_wide hal (Nat.le_refl _) (X0_keep W2 (hxL_hk i5 (Nat.le_refl _) (.inl (by omega))) (nd_nall e4 (Nat.le_refl _)))
    refine ⟨by omega, by omega, i8, by omega, rfl, e3.2.2.1, .inl ⟨nT, hz h', e3.1, by rw [i9]; omega, e3.2.2.2.1, by rw [i9]; exact kW, Nat.le_refl _, ?_, Psi0_i (.inl rfl)⟩⟩
    rw [i11, i9, fw, i5.2.2.2.1 _ _ (by omega)]
theorem type_all (hG : om_okG G) (hn : 0 ≤ nc ∧ nc ≤ 20) : RTall (2 * (20 - nc).toNat + 1) G A t N S b m nc T_readType (C_0_readType G) := fun i M σ h H K hA hM => readType_rel hG (20 - nc).toNat 30 30 nc (by omega) hn.1 (by omega) (by omega) i M σ h H K hA hM
/-- an @ behind something that isn't a name -/
theorem U_at (hG : om_okG G) (hn : 0 ≤ nc ∧ nc ≤ 20) (ht : t < hz hb) (H : At G A t N S b m i nc M σ h) (Q : lnk t ib Mb σb hb i M σ h) (h84 : Mb + 3 * (m - ib) + 60 ≤ 8400) (U : UC G A S b K (hz hb) Mb u L hd nh mh a3 top M (hz h) σ h xs ys) (B : UB ib Mb hb i M h L) (c : tokk S i = 64) (l1 o : Int)
    (go : ∀ (i' M' : Nat) (σ' : tS) (h' : om_H) (top' : Nat) (ys' : List Nat), i < i' → At G A t N S b m i' nc M' σ' h' → lnk t ib Mb σb hb i' M' σ' h' → UC G A S b K (hz hb) Mb u L hd nh mh a3 top' M' (hz h') σ' h' xs ys' → UB ib Mb hb i' M' h' L → ll h' L ≠ [] → RO G A t N S b m ib nc Mb σb hb P (TL rT l1 (0, (top' : Int), o, σ')) (CL G rC t hd u (0, h'))) :
    RO G A t N S b m ib nc Mb σb hb P (TL rT l1 (0, (top : Int), o, σ)) (CL G rC t hd u (0, h)) := by
  have hi := At_i H
  have X0' : hz hb ≤ hz h := Q.2.2.2.1.1
  obtain ⟨b1, b2⟩ := UB_84 B hi h84 X0'
  have B' := B
  obtain ⟨B1, B2, B3, B4⟩ := B'
  obtain ⟨h1, p1, p2, p3⟩ := (c_passes2 hG H.2.1 (v := 64) (by omega)).1 (by rw [show sc 64 = 64 by decide]; exact c)
  obtain ⟨T1, D0⟩ := Tst_at H.1 (by omega)
  have H0 := At_onlyT H p3 p2 T1
  have z1 : hz h1 = hz h := p3.2.2.2.2.2.2.2.2.1
  have y1 : hu h1 = hu h := p3.2.2.2.2.2.2.2.2.2.1
  have Q1 := lnk_only Q p3 D0
  have hi1 := At_i H0
  have Z1 := U.1
  have U0 := UC_hx U ht (hx_onlyT p3) D0
  rw [TL_at H.1 c, CL_at hG H.2.1 c hd u 0 p1]
  refine RO_bind 1 Q1 (by omega) h84 hi1 (RelT_RO (B := 2 * (20 - nc).toNat + 1) (by omega) (piece_rel hG (type_all hG hn) (typeF30 hn) H0.1 H0.2.1 H0.2.2 (by omega))) (fun j M' τ h' v w q1 H1 D1 X1 m1 P1 => ?_) (fun p v τ M' T1 T2 T3 T4 => by rw [if_neg (by simp)]; exact TF_node T1 T2 T3 T4 (fun x τ M1 T1 T2 T3 T4 => by rw [TL_F T1]; exact TF_end T1 T2))
  obtain ⟨nT, k, rfl, g2, W2, g3, g4, g5, g6, g7⟩ := P1
  have hj := At_i H1
  have U1 := UC_hx U0 ht X1 D1
  have Wi := WR_in W2
  obtain ⟨τ3, e1, e2, e3, e4, e5⟩ := t_node H1.1 (by omega) 13 ((b + i : Nat) : Int) (top : Int) (nT : Int) l1 (-1)
  rw [if_neg (by simp), e1, if_pos rfl]
  simp only [Option.bind_some]
  have hLL : ll h' L = ll h L := by rw [U1.2.2.2.1, U.2.2.2.1]
  have hLC : lc h' L = lc h L := (X1.2.2.2.2.2.2.2.2.2 L (by omega)).trans (by rw [p3.2.2.2.2.2.2.2.1])
  obtain ⟨h2, h3, i1, i2, i3, i4, i5, i6, i7, i8, i9, i10, i11, i12, i13, i14⟩ := item_add (e := 0) (w := w) (q := (tokq S i : Int)) U1.2.2.1 (by rw [hLL]; exact b1)
  rw [gd_pos ⟨U1.2.1.1, i2⟩, i1, U1.2.1.2.2.1]
  simp only [Option.bind_some]
  rw [gd_pos i3, i4]
  simp only [Option.bind_some]
  have hl3 : (ll h3 L).length = (ll h L).length + 1 := by rw [i7, hLL]; simp
  refine go j (M' + 1) τ3 h3 M' (ys ++ [hz h']) (by omega) (hxL_At ⟨e2, H1.2.1, H1.2.2⟩ i5) ?_ ?_ ⟨by omega, by omega, by rw [hl3]; omega, by rw [hl3]; omega⟩ (by rw [i7]; simp)
  · refine lnk_hxL (lnk_nd (lnk_call Q1 q1 D1 X1 m1 (by omega) (by omega)) e4 (by omega)) i5 Z1.2.2.1 (by omega) ?_
    have := i6.2.2.2.1
    rw [hl3] at this
    omega
  · refine UC_hxL U1 i5 i6 ⟨e4.1, fun f hf i hi => e4.2 f hf i (by omega)⟩ i7 (Nat.le_refl _) (fun alo' hal => ?_)
    have kW := WR_wide (WR_keep W2 (hxL_hk i5 (Nat.le_refl _) (.inl (by omega))) (nd_nk e4 (Nat.le_refl _))) (alo' := alo') (by omega) (Nat.le_refl _)
    refine ⟨by omega, by omega, i8, by omega, rfl, e3.2.2.1, .inr ⟨i, hz h', e3.1, i9, by rw [i10]; omega, e3.2.1, ⟨i11, by omega⟩, Nat.le_refl _, ?_⟩⟩
    exact Psi0_13 e3.2.2.2.1 (by rw [i10]; exact kW)
/-- the end of a use -/
theorem U_end (hG : om_okG G) (ht : t < hz hb) (H : At G A t N S b m i nc M σ h) (Q : lnk t ib Mb σb hb i M σ h) (U : UC G A S b K (hz hb) Mb u L hd nh mh a3 top M (hz h) σ h xs ys) (B : UB ib Mb hb i M h L) (hne : ll h L ≠ []) (c : ¬ isA S i) (c2 : tokk S i ≠ 64) (l1 f o : Int) : RO G A t N S b m ib nc Mb σb hb (PX G A S b (K + 1) ib Mb hb) (TL rT l1 (f, (top : Int), o, σ)) (CL G rC t hd u (f, h)) := by
  have hin := HD_in U.1.2.1 U.2.2.2.2.1
  have Z1 := U.1
  obtain ⟨B1, B2, B3, B4⟩ := B
  have hl : 1 ≤ (ll h L).length := by
    cases e : ll h L with
    | nil => exact absurd e hne
    | cons x r => simp
  have hc := U.2.2.1.2.2.2.1
  have X := UC_end U hne (by omega)
  rw [TL_end H.1 c c2, CL_end hG H.2.1 c c2 hd u f hin.2.2.2.2 U.2.1.1]
  have Q1 := lnk_sI (f := 1372) (x := fI h 1372 hd) Q Z1.1
  have Xi := XR_in _ _ _ _ _ _ _ X
  exact .inl ⟨i, M, σ, _, _, _, rfl, rfl, by omega, At_sI H (by omega), Q1.2.1, Q1.2.2.2.1, Q1.2.2.1, top, rfl, B1, X, by omega, by omega, by rw [hz_sI]; omega, by rw [hu_sI]; omega⟩
/-- the rest of a use, when no @ of the name can come any more -/
theorem U_loop (hG : om_okG G) (hn : 0 ≤ nc ∧ nc ≤ 20) (R : RXall G A t N S b m K nc rT rC) (RF : RFall N S b m nc 1 rT) (ht : t < hz hb) (h84 : Mb + 3 * (m - ib) + 60 ≤ 8400) (l1 o : Int) : ∀ (d : Nat) (i M : Nat) (σ : tS) (h : om_H) (top : Nat) (ys : List Nat), m - i < d → At G A t N S b m i nc M σ h → lnk t ib Mb σb hb i M σ h → UC G A S b (K + 1) (hz hb) Mb u L hd nh mh a3 top M (hz h) σ h xs ys → UB ib Mb hb i M h L → (ll h L ≠ [] ∨ isA S i ∨ tokk S i = 64) → RO G A t N S b m ib nc Mb σb hb (PX G A S b (K + 2) ib Mb hb) (TL rT l1 (0, (top : Int), o, σ)) (CL G rC t hd u (0, h)) := by
  intro d
  induction d with
  | zero =>
    intro i M σ h top ys hd'
    exact absurd hd' (Nat.not_lt_zero _)
  | succ d ih =>
    intro i M σ h top ys hd' H Q U B hne
    by_cases c : isA S i
    · exact U_atom hG ht R RF H Q h84 U B c l1 0 o (fun i' M' σ' h' top' ys' q H' Q' U' B' n' => ih i' M' σ' h' top' ys' (by have := At_i H'; omega) H' Q' U' B' (.inl n'))
    · by_cases c2 : tokk S i = 64
      · exact U_at hG hn ht H Q h84 U B c2 l1 o (fun i' M' σ' h' top' ys' q H' Q' U' B' n' => ih i' M' σ' h' top' ys' (by have := At_i H'; omega) H' Q' U' B' (.inl n'))
      · refine U_end hG ht H Q U B ?_ c c2 l1 0 o
        rcases hne with q | q | q
        · exact q
        · exact absurd q c
        · exact absurd q c2
end LU3
