set_option maxRecDepth 100000
section LX4b
variable {G : om_G} {A t : Nat} {N : List (List Int)} {S : List Int} {b m K : Nat} {nc : Int} {rT : tS → Option (Int × tS)} {rC : Nat → om_H → Option ((Nat ⊕ Nat) × om_H)}
noncomputable def caseT (r : tS → Option (Int × tS)) (q : Int) (σ : tS) : Option (Int × tS) := T_readCase r q σ
set_option maxHeartbeats 8000000 in
theorem case_rel (hG : om_okG G) (hN : ∃ N', N = [110, 105, 108] :: [99, 111, 110, 115] :: N') (R : RXall G A t N S b m K nc rT rC) (RF : RFall N S b m nc 1 rT) (hn : 0 ≤ nc ∧ nc ≤ 20) {i0 M0 : Nat} {σ0 σ : tS} {h0 h : om_H} (H : At G A t N S b m (i0 + 1) nc M0 σ h) (D0 : nd σ0 σ M0) (X0' : hx t h0 h) (z0 : hz h = hz h0) (y0 : hu h = hu h0) (h84 : M0 + 3 * (m - i0) + 60 ≤ 8400) :
    RO G A t N S b m i0 nc M0 σ0 h0 (PX G A S b (K + 1) i0 M0 h0) (caseT rT ((b + i0 : Nat) : Int) σ) (C_0_readCase G rC t (tokq S i0 : Int) h) := by
  have kA : kd (nO h 27 8) (hz h) = 27 := by rw [kd_nO, if_pos rfl]
  have ht := At_t H
  have hz0 : hz h ≠ 0 := by omega
  have hat : hz h ≠ t := by omega
  unfold C_0_readCase C_27_init C_23_init C_0_at caseT T_readCase
  rw [gd_pos kA, gd_pos kA, gd_pos hz0]
  simp only [Option.bind_some]
  rw [gd_pos ⟨26, by decide, kA⟩]
  simp only [Option.bind_some]
  have H1 : At G A t N S b m (i0 + 1) nc M0 σ (sI (nO h 27 8) 1372 (hz h) (tokq S i0 : Int)) := At_sI (At_nO H 27 8) hat
  have L1 : lnk t i0 M0 σ0 h0 (i0 + 1) M0 σ (sI (nO h 27 8) 1372 (hz h) (tokq S i0 : Int)) := ⟨by omega, D0, Nat.le_refl _, hx_sI (hx_trans X0' (hx_nO h 27 8)) (by omega), by show hz h + 1 ≤ _; omega, by show hu h + 8 ≤ _; omega⟩
  have k1 : kd (sI (nO h 27 8) 1372 (hz h) (tokq S i0 : Int)) (hz h) = 27 := kA
  have p1 : fI (sI (nO h 27 8) 1372 (hz h) (tokq S i0 : Int)) 1372 (hz h) = (tokq S i0 : Int) := fI_eq
  have z1 : hz (sI (nO h 27 8) 1372 (hz h) (tokq S i0 : Int)) = hz h + 1 := rfl
  have y1 : hu (sI (nO h 27 8) 1372 (hz h) (tokq S i0 : Int)) = hu h + 8 := rfl
  have r1_1382 : fR (sI (nO h 27 8) 1372 (hz h) (tokq S i0 : Int)) 1382 (hz h) = 0 := by rw [fR_sI, fR_nO, if_pos rfl]
  have a1 : hz h < hz (sI (nO h 27 8) 1372 (hz h) (tokq S i0 : Int)) := Nat.lt_succ_self _
  have ao : hz h0 ≤ hz h := Nat.le_of_eq z0.symm
  generalize sI (nO h 27 8) 1372 (hz h) (tokq S i0 : Int) = h1 at *
  refine RO_gd (.inr k1) ?_
  refine RO_bind 3 L1 (by omega) h84 (At_i H1) (R _ _ _ _ H1 (At_84 L1 (by omega) h84 (At_i H1))) (fun j2 M2 τ2 h2 v2 t2 i2 H2 D2 x2 m2 P2 => ?_) ?_
  rotate_left
  · intro _ _ _ _ T1 T2 T3 T4
    exact TF_need T1 (TF_need T1 (TF_nm T1 rfl (TF_need T1 (TF_need T1 (TF_rec RF T1 T2 T3 T4 (fun _ _ _ T1 T2 T3 T4 => TF_need T1 (TF_nm T1 rfl (TF_need T1 (TF_needed T1 (TF_need T1 (TF_need T1 (TF_rec RF T1 T2 T3 T4 (fun _ _ _ T1 T2 T3 T4 => TF_node T1 T2 T3 T4 (fun _ _ _ T1 T2 T3 T4 => TF_need T1 (TF_end T1 T2)))))))))))))))
  obtain ⟨n2, e2, g2, W2, a2, b2, c2, f2⟩ := P2
  have z2 := x2.1
  have L2 := lnk_call L1 i2 D2 x2 m2 (by omega) (by omega)
  have a2 : hz h < hz h2 := Nat.lt_of_lt_of_le a1 x2.1
  have k2 : kd h2 (hz h) = 27 := (x2.2.2.1 _ a1).trans k1
  have p2 : fI h2 1372 (hz h) = (tokq S i0 : Int) := (x2.2.2.2.1 1372 _ a1 hat).trans p1
  have r2_1382 : fR h2 1382 (hz h) = 0 := (x2.2.2.2.2.1 1382 _ a1 hat).trans r1_1382
  clear a1 k1 p1 r1_1382
  have s_1434 : t < hz h1 := by omega
  have so_1434 : hz h < hz h1 := by omega
  have g2_1434 : hz h2 ≤ hz h2 := Nat.le_refl _
  have b2_1434 : M2 ≤ M2 := Nat.le_refl _
  clear x2 D2 H1 L1
  have hk2_1434 : hk (hz h1) (hz h2) h2 h2 := hk_refl _
  have nl2_1434 : nall (M0) M2 τ2 τ2 := fun _ _ _ _ _ => rfl
  refine RO_gd ⟨k2, At_kd H2⟩ ?_
  have a3 : hz h < hz (sR h2 1434 (hz h) (t2)) := a2
  have k3 : kd (sR h2 1434 (hz h) (t2)) (hz h) = 27 := k2
  have p3 : fI (sR h2 1434 (hz h) (t2)) 1372 (hz h) = (tokq S i0 : Int) := p2
  have r3_1382 : fR (sR h2 1434 (hz h) (t2)) 1382 (hz h) = 0 := (fR_ne (by decide)).trans r2_1382
  have r3_1434 : fR (sR h2 1434 (hz h) (t2)) 1434 (hz h) = t2 := fR_eq
  have g3_1434 : hz h2 ≤ hz (sR h2 1434 (hz h) (t2)) := g2_1434
  have hk3_1434 : hk (hz h1) (hz h2) h2 (sR h2 1434 (hz h) (t2)) := hk_trans hk2_1434 (hk_sR (.inl so_1434) _)
  have nl3_1434 := nl2_1434
  have b3_1434 := b2_1434
  have H3 : At G A t N S b m (j2) nc (M2) τ2 (sR h2 1434 (hz h) (t2)) := At_sR H2 hat
  have L3 : lnk t i0 M0 σ0 h0 (j2) (M2) τ2 (sR h2 1434 (hz h) (t2)) := lnk_sR L2 ao
  have z3 : hz (sR h2 1434 (hz h) (t2)) = hz h2 := rfl
  have y3 : hu (sR h2 1434 (hz h) (t2)) = hu h2 := rfl
  clear a2 k2 p2 r2_1382 g2_1434 hk2_1434 nl2_1434 b2_1434 H2 L2
  generalize sR h2 1434 (hz h) (t2) = h3 at *
  refine RO_need3 hG 3 H3 L3 (by omega) h84 (j := 20) rfl (by decide) (by decide) (fun q4 τ4 h4 H4 D4 X4 L4 => ?_) ?_
  rotate_left
  · intro _ _ _ T1 T2 T3 T4
    exact TF_need T1 (TF_nm T1 rfl (TF_need T1 (TF_need T1 (TF_rec RF T1 T2 T3 T4 (fun _ _ _ T1 T2 T3 T4 => TF_need T1 (TF_nm T1 rfl (TF_need T1 (TF_needed T1 (TF_need T1 (TF_need T1 (TF_rec RF T1 T2 T3 T4 (fun _ _ _ T1 T2 T3 T4 => TF_node T1 T2 T3 T4 (fun _ _ _ T1 T2 T3 T4 => TF_need T1 (TF_end T1 T2))))))))))))))
  have x4 := hx_onlyT X4
  have z4 : hz h4 = hz h3 := X4.2.2.2.2.2.2.2.2.1
  have y4 : hu h4 = hu h3 := X4.2.2.2.2.2.2.2.2.2.1
  have a4 : hz h < hz h4 := Nat.lt_of_lt_of_le a3 x4.1
  have k4 : kd h4 (hz h) = 27 := (x4.2.2.1 _ a3).trans k3
  have p4 : fI h4 1372 (hz h) = (tokq S i0 : Int) := (x4.2.2.2.1 1372 _ a3 hat).trans p3
  have r4_1382 : fR h4 1382 (hz h) = 0 := (x4.2.2.2.2.1 1382 _ a3 hat).trans r3_1382
  have r4_1434 : fR h4 1434 (hz h) = t2 := (x4.2.2.2.2.1 1434 _ a3 hat).trans r3_1434
  have g4_1434 : hz h2 ≤ hz h4 := Nat.le_trans g3_1434 x4.1
  have hk4_1434 : hk (hz h1) (hz h2) h2 h4 := hk_trans hk3_1434 (hx_hk x4 g3_1434 s_1434)
  have nl4_1434 : nall (M0) (M2) τ2 τ4 := nall_trans nl3_1434 (nd_nall D4 b3_1434)
  have b4_1434 : M2 ≤ M2 := b3_1434
  clear a3 k3 p3 r3_1382 r3_1434 g3_1434 hk3_1434 nl3_1434 b3_1434
  clear X4 x4 D4 H3 L3
  refine RO_gd (At_kd H4) ?_
  refine RO_need hG 3 H4 L4 (by omega) h84 (v := 123) (.inr (.inr (by omega))) (by decide) (by decide) (fun q5 τ5 h5 H5 D5 X5 L5 => ?_) ?_
  rotate_left
  · intro _ _ _ T1 T2 T3 T4
    exact TF_nm T1 rfl (TF_need T1 (TF_need T1 (TF_rec RF T1 T2 T3 T4 (fun _ _ _ T1 T2 T3 T4 => TF_need T1 (TF_nm T1 rfl (TF_need T1 (TF_needed T1 (TF_need T1 (TF_need T1 (TF_rec RF T1 T2 T3 T4 (fun _ _ _ T1 T2 T3 T4 => TF_node T1 T2 T3 T4 (fun _ _ _ T1 T2 T3 T4 => TF_need T1 (TF_end T1 T2)))))))))))))
  have x5 := hx_onlyT X5
  have z5 : hz h5 = hz h4 := X5.2.2.2.2.2.2.2.2.1
  have y5 : hu h5 = hu h4 := X5.2.2.2.2.2.2.2.2.2.1
  have a5 : hz h < hz h5 := Nat.lt_of_lt_of_le a4 x5.1
  have k5 : kd h5 (hz h) = 27 := (x5.2.2.1 _ a4).trans k4
  have p5 : fI h5 1372 (hz h) = (tokq S i0 : Int) := (x5.2.2.2.1 1372 _ a4 hat).trans p4
  have r5_1382 : fR h5 1382 (hz h) = 0 := (x5.2.2.2.2.1 1382 _ a4 hat).trans r4_1382
  have r5_1434 : fR h5 1434 (hz h) = t2 := (x5.2.2.2.2.1 1434 _ a4 hat).trans r4_1434
  have g5_1434 : hz h2 ≤ hz h5 := Nat.le_trans g4_1434 x5.1
  have hk5_1434 : hk (hz h1) (hz h2) h2 h5 := hk_trans hk4_1434 (hx_hk x5 g4_1434 s_1434)
  have nl5_1434 : nall (M0) (M2) τ2 τ5 := nall_trans nl4_1434 (nd_nall D5 b4_1434)
  have b5_1434 : M2 ≤ M2 := b4_1434
  clear a4 k4 p4 r4_1382 r4_1434 g4_1434 hk4_1434 nl4_1434 b4_1434
  clear X5 x5 D5 H4 L4
  refine RO_gd (At_kd H5) ?_
  refine RO_nm hG hN 3 H5 L5 (by omega) h84 (j := 21) (.inl ⟨rfl, rfl⟩) rfl (fun q6 τ6 h6 H6 D6 X6 L6 => ?_) ?_
  rotate_left
  · intro _ _ _ T1 T2 T3 T4
    exact TF_need T1 (TF_rec RF T1 T2 T3 T4 (fun _ _ _ T1 T2 T3 T4 => TF_need T1 (TF_nm T1 rfl (TF_need T1 (TF_needed T1 (TF_need T1 (TF_need T1 (TF_rec RF T1 T2 T3 T4 (fun _ _ _ T1 T2 T3 T4 => TF_node T1 T2 T3 T4 (fun _ _ _ T1 T2 T3 T4 => TF_need T1 (TF_end T1 T2)))))))))))
  have x6 := hx_onlyT X6
  have z6 : hz h6 = hz h5 := X6.2.2.2.2.2.2.2.2.1
  have y6 : hu h6 = hu h5 := X6.2.2.2.2.2.2.2.2.2.1
  have a6 : hz h < hz h6 := Nat.lt_of_lt_of_le a5 x6.1
  have k6 : kd h6 (hz h) = 27 := (x6.2.2.1 _ a5).trans k5
  have p6 : fI h6 1372 (hz h) = (tokq S i0 : Int) := (x6.2.2.2.1 1372 _ a5 hat).trans p5
  have r6_1382 : fR h6 1382 (hz h) = 0 := (x6.2.2.2.2.1 1382 _ a5 hat).trans r5_1382
  have r6_1434 : fR h6 1434 (hz h) = t2 := (x6.2.2.2.2.1 1434 _ a5 hat).trans r5_1434
  have g6_1434 : hz h2 ≤ hz h6 := Nat.le_trans g5_1434 x6.1
  have hk6_1434 : hk (hz h1) (hz h2) h2 h6 := hk_trans hk5_1434 (hx_hk x6 g5_1434 s_1434)
  have nl6_1434 : nall (M0) (M2) τ2 τ6 := nall_trans nl5_1434 (nd_nall D6 b5_1434)
  have b6_1434 : M2 ≤ M2 := b5_1434
  clear a5 k5 p5 r5_1382 r5_1434 g5_1434 hk5_1434 nl5_1434 b5_1434
  clear X6 x6 D6 H5 L5
  refine RO_gd (At_kd H6) ?_
  refine RO_need hG 3 H6 L6 (by omega) h84 (v := 257) (.inr (.inl rfl)) (by decide) (by decide) (fun q7 τ7 h7 H7 D7 X7 L7 => ?_) ?_
  rotate_left
  · intro _ _ _ T1 T2 T3 T4
    exact TF_rec RF T1 T2 T3 T4 (fun _ _ _ T1 T2 T3 T4 => TF_need T1 (TF_nm T1 rfl (TF_need T1 (TF_needed T1 (TF_need T1 (TF_need T1 (TF_rec RF T1 T2 T3 T4 (fun _ _ _ T1 T2 T3 T4 => TF_node T1 T2 T3 T4 (fun _ _ _ T1 T2 T3 T4 => TF_need T1 (TF_end T1 T2))))))))))
  have x7 := hx_onlyT X7
  have z7 : hz h7 = hz h6 := X7.2.2.2.2.2.2.2.2.1
  have y7 : hu h7 = hu h6 := X7.2.2.2.2.2.2.2.2.2.1
  have a7 : hz h < hz h7 := Nat.lt_of_lt_of_le a6 x7.1
  have k7 : kd h7 (hz h) = 27 := (x7.2.2.1 _ a6).trans k6
  have p7 : fI h7 1372 (hz h) = (tokq S i0 : Int) := (x7.2.2.2.1 1372 _ a6 hat).trans p6
  have r7_1382 : fR h7 1382 (hz h) = 0 := (x7.2.2.2.2.1 1382 _ a6 hat).trans r6_1382
  have r7_1434 : fR h7 1434 (hz h) = t2 := (x7.2.2.2.2.1 1434 _ a6 hat).trans r6_1434
  have g7_1434 : hz h2 ≤ hz h7 := Nat.le_trans g6_1434 x7.1
  have hk7_1434 : hk (hz h1) (hz h2) h2 h7 := hk_trans hk6_1434 (hx_hk x7 g6_1434 s_1434)
  have nl7_1434 : nall (M0) (M2) τ2 τ7 := nall_trans nl6_1434 (nd_nall D7 b6_1434)
  have b7_1434 : M2 ≤ M2 := b6_1434
  clear a6 k6 p6 r6_1382 r6_1434 g6_1434 hk6_1434 nl6_1434 b6_1434
  clear X7 x7 D7 H6 L6
  refine RO_bind 2 L7 (by omega) h84 (At_i H7) (R _ _ _ _ H7 (At_84 L7 (by omega) h84 (At_i H7))) (fun j8 M8 τ8 h8 v8 t8 i8 H8 D8 x8 m8 P8 => ?_) ?_
  rotate_left
  · intro _ _ _ _ T1 T2 T3 T4
    exact TF_need T1 (TF_nm T1 rfl (TF_need T1 (TF_needed T1 (TF_need T1 (TF_need T1 (TF_rec RF T1 T2 T3 T4 (fun _ _ _ T1 T2 T3 T4 => TF_node T1 T2 T3 T4 (fun _ _ _ T1 T2 T3 T4 => TF_need T1 (TF_end T1 T2)))))))))
  obtain ⟨n8, e8, g8, W8, a8, b8, c8, f8⟩ := P8
  have z8 := x8.1
  have L8 := lnk_call L7 i8 D8 x8 m8 (by omega) (by omega)
  have a8 : hz h < hz h8 := Nat.lt_of_lt_of_le a7 x8.1
  have k8 : kd h8 (hz h) = 27 := (x8.2.2.1 _ a7).trans k7
  have p8 : fI h8 1372 (hz h) = (tokq S i0 : Int) := (x8.2.2.2.1 1372 _ a7 hat).trans p7
  have r8_1382 : fR h8 1382 (hz h) = 0 := (x8.2.2.2.2.1 1382 _ a7 hat).trans r7_1382
  have r8_1434 : fR h8 1434 (hz h) = t2 := (x8.2.2.2.2.1 1434 _ a7 hat).trans r7_1434
  have g8_1434 : hz h2 ≤ hz h8 := Nat.le_trans g7_1434 x8.1
  have hk8_1434 : hk (hz h1) (hz h2) h2 h8 := hk_trans hk7_1434 (hx_hk x8 g7_1434 s_1434)
  have nl8_1434 : nall (M0) (M2) τ2 τ8 := nall_trans nl7_1434 (nd_nall D8 b7_1434)
  have b8_1434 : M2 ≤ M8 := Nat.le_trans b7_1434 m8
  clear a7 k7 p7 r7_1382 r7_1434 g7_1434 hk7_1434 nl7_1434 b7_1434
  have s_1438 : t < hz h7 := by omega
  have so_1438 : hz h < hz h7 := by omega
  have g8_1438 : hz h8 ≤ hz h8 := Nat.le_refl _
  have b8_1438 : M8 ≤ M8 := Nat.le_refl _
  clear x8 D8 H7 L7
  have hk8_1438 : hk (hz h7) (hz h8) h8 h8 := hk_refl _
  have nl8_1438 : nall (M2) M8 τ8 τ8 := fun _ _ _ _ _ => rfl
  refine RO_gd ⟨k8, At_kd H8⟩ ?_
  have a9 : hz h < hz (sR h8 1438 (hz h) (t8)) := a8
  have k9 : kd (sR h8 1438 (hz h) (t8)) (hz h) = 27 := k8
  have p9 : fI (sR h8 1438 (hz h) (t8)) 1372 (hz h) = (tokq S i0 : Int) := p8
  have r9_1382 : fR (sR h8 1438 (hz h) (t8)) 1382 (hz h) = 0 := (fR_ne (by decide)).trans r8_1382
  have r9_1434 : fR (sR h8 1438 (hz h) (t8)) 1434 (hz h) = t2 := (fR_ne (by decide)).trans r8_1434
  have r9_1438 : fR (sR h8 1438 (hz h) (t8)) 1438 (hz h) = t8 := fR_eq
  have g9_1434 : hz h2 ≤ hz (sR h8 1438 (hz h) (t8)) := g8_1434
  have hk9_1434 : hk (hz h1) (hz h2) h2 (sR h8 1438 (hz h) (t8)) := hk_trans hk8_1434 (hk_sR (.inl so_1434) _)
  have nl9_1434 := nl8_1434
  have b9_1434 := b8_1434
  have g9_1438 : hz h8 ≤ hz (sR h8 1438 (hz h) (t8)) := g8_1438
  have hk9_1438 : hk (hz h7) (hz h8) h8 (sR h8 1438 (hz h) (t8)) := hk_trans hk8_1438 (hk_sR (.inl so_1438) _)
  have nl9_1438 := nl8_1438
  have b9_1438 := b8_1438
  have H9 : At G A t N S b m (j8) nc (M8) τ8 (sR h8 1438 (hz h) (t8)) := At_sR H8 hat
  have L9 : lnk t i0 M0 σ0 h0 (j8) (M8) τ8 (sR h8 1438 (hz h) (t8)) := lnk_sR L8 ao
  have z9 : hz (sR h8 1438 (hz h) (t8)) = hz h8 := rfl
  have y9 : hu (sR h8 1438 (hz h) (t8)) = hu h8 := rfl
  clear a8 k8 p8 r8_1382 r8_1434 g8_1434 hk8_1434 nl8_1434 b8_1434 g8_1438 hk8_1438 nl8_1438 b8_1438 H8 L8
  generalize sR h8 1438 (hz h) (t8) = h9 at *
  refine RO_need hG 2 H9 L9 (by omega) h84 (v := 59) (.inr (.inr (by omega))) (by decide) (by decide) (fun q10 τ10 h10 H10 D10 X10 L10 => ?_) ?_
  rotate_left
  · intro _ _ _ T1 T2 T3 T4
    exact TF_nm T1 rfl (TF_need T1 (TF_needed T1 (TF_need T1 (TF_need T1 (TF_rec RF T1 T2 T3 T4 (fun _ _ _ T1 T2 T3 T4 => TF_node T1 T2 T3 T4 (fun _ _ _ T1 T2 T3 T4 => TF_need T1 (TF_end T1 T2))))))))
  have x10 := hx_onlyT X10
  have z10 : hz h10 = hz h9 := X10.2.2.2.2.2.2.2.2.1
  have y10 : hu h10 = hu h9 := X10.2.2.2.2.2.2.2.2.2.1
  have a10 : hz h < hz h10 := Nat.lt_of_lt_of_le a9 x10.1
  have k10 : kd h10 (hz h) = 27 := (x10.2.2.1 _ a9).trans k9
  have p10 : fI h10 1372 (hz h) = (tokq S i0 : Int) := (x10.2.2.2.1 1372 _ a9 hat).trans p9
  have r10_1382 : fR h10 1382 (hz h) = 0 := (x10.2.2.2.2.1 1382 _ a9 hat).trans r9_1382
  have r10_1434 : fR h10 1434 (hz h) = t2 := (x10.2.2.2.2.1 1434 _ a9 hat).trans r9_1434
  have r10_1438 : fR h10 1438 (hz h) = t8 := (x10.2.2.2.2.1 1438 _ a9 hat).trans r9_1438
  have g10_1434 : hz h2 ≤ hz h10 := Nat.le_trans g9_1434 x10.1
  have hk10_1434 : hk (hz h1) (hz h2) h2 h10 := hk_trans hk9_1434 (hx_hk x10 g9_1434 s_1434)
  have nl10_1434 : nall (M0) (M2) τ2 τ10 := nall_trans nl9_1434 (nd_nall D10 b9_1434)
  have b10_1434 : M2 ≤ M8 := b9_1434
  have g10_1438 : hz h8 ≤ hz h10 := Nat.le_trans g9_1438 x10.1
  have hk10_1438 : hk (hz h7) (hz h8) h8 h10 := hk_trans hk9_1438 (hx_hk x10 g9_1438 s_1438)
  have nl10_1438 : nall (M2) (M8) τ8 τ10 := nall_trans nl9_1438 (nd_nall D10 b9_1438)
  have b10_1438 : M8 ≤ M8 := b9_1438
  clear a9 k9 p9 r9_1382 r9_1434 r9_1438 g9_1434 hk9_1434 nl9_1434 b9_1434 g9_1438 hk9_1438 nl9_1438 b9_1438
  clear X10 x10 D10 H9 L9
  refine RO_gd (At_kd H10) ?_
  refine RO_nm hG hN 2 H10 L10 (by omega) h84 (j := 22) (.inr ⟨rfl, rfl⟩) rfl (fun q11 τ11 h11 H11 D11 X11 L11 => ?_) ?_
  rotate_left
  · intro _ _ _ T1 T2 T3 T4
    exact TF_needed T1 (TF_need T1 (TF_need T1 (TF_rec RF T1 T2 T3 T4 (fun _ _ _ T1 T2 T3 T4 => TF_node T1 T2 T3 T4 (fun _ _ _ T1 T2 T3 T4 => TF_need T1 (TF_end T1 T2))))))
  have x11 := hx_onlyT X11
  have z11 : hz h11 = hz h10 := X11.2.2.2.2.2.2.2.2.1
  have y11 : hu h11 = hu h10 := X11.2.2.2.2.2.2.2.2.2.1
  have a11 : hz h < hz h11 := Nat.lt_of_lt_of_le a10 x11.1
  have k11 : kd h11 (hz h) = 27 := (x11.2.2.1 _ a10).trans k10
  have p11 : fI h11 1372 (hz h) = (tokq S i0 : Int) := (x11.2.2.2.1 1372 _ a10 hat).trans p10
  have r11_1382 : fR h11 1382 (hz h) = 0 := (x11.2.2.2.2.1 1382 _ a10 hat).trans r10_1382
  have r11_1434 : fR h11 1434 (hz h) = t2 := (x11.2.2.2.2.1 1434 _ a10 hat).trans r10_1434
  have r11_1438 : fR h11 1438 (hz h) = t8 := (x11.2.2.2.2.1 1438 _ a10 hat).trans r10_1438
  have g11_1434 : hz h2 ≤ hz h11 := Nat.le_trans g10_1434 x11.1
  have hk11_1434 : hk (hz h1) (hz h2) h2 h11 := hk_trans hk10_1434 (hx_hk x11 g10_1434 s_1434)
  have nl11_1434 : nall (M0) (M2) τ2 τ11 := nall_trans nl10_1434 (nd_nall D11 b10_1434)
  have b11_1434 : M2 ≤ M8 := b10_1434
  have g11_1438 : hz h8 ≤ hz h11 := Nat.le_trans g10_1438 x11.1
  have hk11_1438 : hk (hz h7) (hz h8) h8 h11 := hk_trans hk10_1438 (hx_hk x11 g10_1438 s_1438)
  have nl11_1438 : nall (M2) (M8) τ8 τ11 := nall_trans nl10_1438 (nd_nall D11 b10_1438)
  have b11_1438 : M8 ≤ M8 := b10_1438
  clear a10 k10 p10 r10_1382 r10_1434 r10_1438 g10_1434 hk10_1434 nl10_1434 b10_1434 g10_1438 hk10_1438 nl10_1438 b10_1438
  clear X11 x11 D11 H10 L10
  refine RO_gd (At_kd H11) ?_
  refine RO_needK hG 2 H11 L11 (by omega) h84 (e := 2) (by omega) rfl (fun q12 τ12 h12 H12 D12 x12 v12 z12 y12 L12 => ?_) ?_
  rotate_left
  · intro _ _ _ _ T1 T2 T3 T4
    exact TF_need T1 (TF_need T1 (TF_rec RF T1 T2 T3 T4 (fun _ _ _ T1 T2 T3 T4 => TF_node T1 T2 T3 T4 (fun _ _ _ T1 T2 T3 T4 => TF_need T1 (TF_end T1 T2)))))
  have a12 : hz h < hz h12 := Nat.lt_of_lt_of_le a11 x12.1
  have k12 : kd h12 (hz h) = 27 := (x12.2.2.1 _ a11).trans k11
  have p12 : fI h12 1372 (hz h) = (tokq S i0 : Int) := (x12.2.2.2.1 1372 _ a11 hat).trans p11
  have r12_1382 : fR h12 1382 (hz h) = 0 := (x12.2.2.2.2.1 1382 _ a11 hat).trans r11_1382
  have r12_1434 : fR h12 1434 (hz h) = t2 := (x12.2.2.2.2.1 1434 _ a11 hat).trans r11_1434
  have r12_1438 : fR h12 1438 (hz h) = t8 := (x12.2.2.2.2.1 1438 _ a11 hat).trans r11_1438
  have g12_1434 : hz h2 ≤ hz h12 := Nat.le_trans g11_1434 x12.1
  have hk12_1434 : hk (hz h1) (hz h2) h2 h12 := hk_trans hk11_1434 (hx_hk x12 g11_1434 s_1434)
  have nl12_1434 : nall (M0) (M2) τ2 τ12 := nall_trans nl11_1434 (nd_nall D12 b11_1434)
  have b12_1434 : M2 ≤ M8 := b11_1434
  have g12_1438 : hz h8 ≤ hz h12 := Nat.le_trans g11_1438 x12.1
  have hk12_1438 : hk (hz h7) (hz h8) h8 h12 := hk_trans hk11_1438 (hx_hk x12 g11_1438 s_1438)
  have nl12_1438 : nall (M2) (M8) τ8 τ12 := nall_trans nl11_1438 (nd_nall D12 b11_1438)
  have b12_1438 : M8 ≤ M8 := b11_1438
  clear a11 k11 p11 r11_1382 r11_1434 r11_1438 g11_1434 hk11_1434 nl11_1434 b11_1434 g11_1438 hk11_1438 nl11_1438 b11_1438
  have w12_0 := v12
  have l12_0 : hz h11 < hz h12 := by omega
  have u_0 : hz h11 ≠ t := by omega
  have uo_0 : hz h11 ≠ hz h := by omega
  clear x12 D12 H11 L11 v12
  refine RO_gd ⟨k12, At_kd H12⟩ ?_
  have a13 : hz h < hz (sR h12 1446 (hz h) (hz h11)) := a12
  have k13 : kd (sR h12 1446 (hz h) (hz h11)) (hz h) = 27 := k12
  have p13 : fI (sR h12 1446 (hz h) (hz h11)) 1372 (hz h) = (tokq S i0 : Int) := p12
  have r13_1382 : fR (sR h12 1446 (hz h) (hz h11)) 1382 (hz h) = 0 := (fR_ne (by decide)).trans r12_1382
  have r13_1434 : fR (sR h12 1446 (hz h) (hz h11)) 1434 (hz h) = t2 := (fR_ne (by decide)).trans r12_1434
  have r13_1438 : fR (sR h12 1446 (hz h) (hz h11)) 1438 (hz h) = t8 := (fR_ne (by decide)).trans r12_1438
  have r13_1446 : fR (sR h12 1446 (hz h) (hz h11)) 1446 (hz h) = hz h11 := fR_eq
  have l13_0 : hz h11 < hz (sR h12 1446 (hz h) (hz h11)) := l12_0
  have w13_0 : wd (sR h12 1446 (hz h) (hz h11)) A S (hz h11) (j8 + 1 + 1) := ⟨w12_0.1, (fR_na uo_0).trans w12_0.2.1, w12_0.2.2⟩
  have g13_1434 : hz h2 ≤ hz (sR h12 1446 (hz h) (hz h11)) := g12_1434
  have hk13_1434 : hk (hz h1) (hz h2) h2 (sR h12 1446 (hz h) (hz h11)) := hk_trans hk12_1434 (hk_sR (.inl so_1434) _)
  have nl13_1434 := nl12_1434
  have b13_1434 := b12_1434
  have g13_1438 : hz h8 ≤ hz (sR h12 1446 (hz h) (hz h11)) := g12_1438
  have hk13_1438 : hk (hz h7) (hz h8) h8 (sR h12 1446 (hz h) (hz h11)) := hk_trans hk12_1438 (hk_sR (.inl so_1438) _)
  have nl13_1438 := nl12_1438
  have b13_1438 := b12_1438
  have H13 : At G A t N S b m (j8 + 1 + 1 + 1) nc (M8) τ12 (sR h12 1446 (hz h) (hz h11)) := At_sR H12 hat
  have L13 : lnk t i0 M0 σ0 h0 (j8 + 1 + 1 + 1) (M8) τ12 (sR h12 1446 (hz h) (hz h11)) := lnk_sR L12 ao
  have z13 : hz (sR h12 1446 (hz h) (hz h11)) = hz h12 := rfl
  have y13 : hu (sR h12 1446 (hz h) (hz h11)) = hu h12 := rfl
  clear a12 k12 p12 r12_1382 r12_1434 r12_1438 l12_0 w12_0 g12_1434 hk12_1434 nl12_1434 b12_1434 g12_1438 hk12_1438 nl12_1438 b12_1438 H12 L12
  generalize sR h12 1446 (hz h) (hz h11) = h13 at *
  refine RO_needW hG 2 H13 L13 (by omega) h84 (e := 2) (by omega) rfl (fun q14 τ14 h14 H14 D14 x14 v14 z14 y14 L14 => ?_) ?_
  rotate_left
  · intro _ _ _ T1 T2 T3 T4
    exact TF_need T1 (TF_rec RF T1 T2 T3 T4 (fun _ _ _ T1 T2 T3 T4 => TF_node T1 T2 T3 T4 (fun _ _ _ T1 T2 T3 T4 => TF_need T1 (TF_end T1 T2))))
  have a14 : hz h < hz h14 := Nat.lt_of_lt_of_le a13 x14.1
  have k14 : kd h14 (hz h) = 27 := (x14.2.2.1 _ a13).trans k13
  have p14 : fI h14 1372 (hz h) = (tokq S i0 : Int) := (x14.2.2.2.1 1372 _ a13 hat).trans p13
  have r14_1382 : fR h14 1382 (hz h) = 0 := (x14.2.2.2.2.1 1382 _ a13 hat).trans r13_1382
  have r14_1434 : fR h14 1434 (hz h) = t2 := (x14.2.2.2.2.1 1434 _ a13 hat).trans r13_1434
  have r14_1438 : fR h14 1438 (hz h) = t8 := (x14.2.2.2.2.1 1438 _ a13 hat).trans r13_1438
  have r14_1446 : fR h14 1446 (hz h) = hz h11 := (x14.2.2.2.2.1 1446 _ a13 hat).trans r13_1446
  have l14_0 : hz h11 < hz h14 := Nat.lt_of_lt_of_le l13_0 x14.1
  have w14_0 : wd h14 A S (hz h11) (j8 + 1 + 1) := wd_hx x14 l13_0 u_0 w13_0
  have g14_1434 : hz h2 ≤ hz h14 := Nat.le_trans g13_1434 x14.1
  have hk14_1434 : hk (hz h1) (hz h2) h2 h14 := hk_trans hk13_1434 (hx_hk x14 g13_1434 s_1434)
  have nl14_1434 : nall (M0) (M2) τ2 τ14 := nall_trans nl13_1434 (nd_nall D14 b13_1434)
  have b14_1434 : M2 ≤ M8 := b13_1434
  have g14_1438 : hz h8 ≤ hz h14 := Nat.le_trans g13_1438 x14.1
  have hk14_1438 : hk (hz h7) (hz h8) h8 h14 := hk_trans hk13_1438 (hx_hk x14 g13_1438 s_1438)
  have nl14_1438 : nall (M2) (M8) τ8 τ14 := nall_trans nl13_1438 (nd_nall D14 b13_1438)
  have b14_1438 : M8 ≤ M8 := b13_1438
  clear a13 k13 p13 r13_1382 r13_1434 r13_1438 r13_1446 l13_0 w13_0 g13_1434 hk13_1434 nl13_1434 b13_1434 g13_1438 hk13_1438 nl13_1438 b13_1438
  have w14_1 := v14
  have l14_1 : hz h13 < hz h14 := by omega
  have u_1 : hz h13 ≠ t := by omega
  have uo_1 : hz h13 ≠ hz h := by omega
  clear x14 D14 H13 L13 v14
  refine RO_gd ⟨k14, At_kd H14⟩ ?_
  have a15 : hz h < hz (sR h14 1450 (hz h) (hz h13)) := a14
  have k15 : kd (sR h14 1450 (hz h) (hz h13)) (hz h) = 27 := k14
  have p15 : fI (sR h14 1450 (hz h) (hz h13)) 1372 (hz h) = (tokq S i0 : Int) := p14
  have r15_1382 : fR (sR h14 1450 (hz h) (hz h13)) 1382 (hz h) = 0 := (fR_ne (by decide)).trans r14_1382
  have r15_1434 : fR (sR h14 1450 (hz h) (hz h13)) 1434 (hz h) = t2 := (fR_ne (by decide)).trans r14_1434
  have r15_1438 : fR (sR h14 1450 (hz h) (hz h13)) 1438 (hz h) = t8 := (fR_ne (by decide)).trans r14_1438
  have r15_1446 : fR (sR h14 1450 (hz h) (hz h13)) 1446 (hz h) = hz h11 := (fR_ne (by decide)).trans r14_1446
  have r15_1450 : fR (sR h14 1450 (hz h) (hz h13)) 1450 (hz h) = hz h13 := fR_eq
  have l15_0 : hz h11 < hz (sR h14 1450 (hz h) (hz h13)) := l14_0
  have w15_0 : wd (sR h14 1450 (hz h) (hz h13)) A S (hz h11) (j8 + 1 + 1) := ⟨w14_0.1, (fR_na uo_0).trans w14_0.2.1, w14_0.2.2⟩
  have l15_1 : hz h13 < hz (sR h14 1450 (hz h) (hz h13)) := l14_1
  have w15_1 : wd (sR h14 1450 (hz h) (hz h13)) A S (hz h13) (j8 + 1 + 1 + 1) := ⟨w14_1.1, (fR_na uo_1).trans w14_1.2.1, w14_1.2.2⟩
  have g15_1434 : hz h2 ≤ hz (sR h14 1450 (hz h) (hz h13)) := g14_1434
  have hk15_1434 : hk (hz h1) (hz h2) h2 (sR h14 1450 (hz h) (hz h13)) := hk_trans hk14_1434 (hk_sR (.inl so_1434) _)
  have nl15_1434 := nl14_1434
  have b15_1434 := b14_1434
  have g15_1438 : hz h8 ≤ hz (sR h14 1450 (hz h) (hz h13)) := g14_1438
  have hk15_1438 : hk (hz h7) (hz h8) h8 (sR h14 1450 (hz h) (hz h13)) := hk_trans hk14_1438 (hk_sR (.inl so_1438) _)
  have nl15_1438 := nl14_1438
  have b15_1438 := b14_1438
  have H15 : At G A t N S b m (j8 + 1 + 1 + 1 + 1) nc (M8) τ14 (sR h14 1450 (hz h) (hz h13)) := At_sR H14 hat
  have L15 : lnk t i0 M0 σ0 h0 (j8 + 1 + 1 + 1 + 1) (M8) τ14 (sR h14 1450 (hz h) (hz h13)) := lnk_sR L14 ao
  have z15 : hz (sR h14 1450 (hz h) (hz h13)) = hz h14 := rfl
  have y15 : hu (sR h14 1450 (hz h) (hz h13)) = hu h14 := rfl
  clear a14 k14 p14 r14_1382 r14_1434 r14_1438 r14_1446 l14_0 w14_0 l14_1 w14_1 g14_1434 hk14_1434 nl14_1434 b14_1434 g14_1438 hk14_1438 nl14_1438 b14_1438 H14 L14
  generalize sR h14 1450 (hz h) (hz h13) = h15 at *
  refine RO_need hG 2 H15 L15 (by omega) h84 (v := 257) (.inr (.inl rfl)) (by decide) (by decide) (fun q16 τ16 h16 H16 D16 X16 L16 => ?_) ?_
  rotate_left
  · intro _ _ _ T1 T2 T3 T4
    exact TF_rec RF T1 T2 T3 T4 (fun _ _ _ T1 T2 T3 T4 => TF_node T1 T2 T3 T4 (fun _ _ _ T1 T2 T3 T4 => TF_need T1 (TF_end T1 T2)))
  have x16 := hx_onlyT X16
  have z16 : hz h16 = hz h15 := X16.2.2.2.2.2.2.2.2.1
  have y16 : hu h16 = hu h15 := X16.2.2.2.2.2.2.2.2.2.1
  have a16 : hz h < hz h16 := Nat.lt_of_lt_of_le a15 x16.1
  have k16 : kd h16 (hz h) = 27 := (x16.2.2.1 _ a15).trans k15
  have p16 : fI h16 1372 (hz h) = (tokq S i0 : Int) := (x16.2.2.2.1 1372 _ a15 hat).trans p15
  have r16_1382 : fR h16 1382 (hz h) = 0 := (x16.2.2.2.2.1 1382 _ a15 hat).trans r15_1382
  have r16_1434 : fR h16 1434 (hz h) = t2 := (x16.2.2.2.2.1 1434 _ a15 hat).trans r15_1434
  have r16_1438 : fR h16 1438 (hz h) = t8 := (x16.2.2.2.2.1 1438 _ a15 hat).trans r15_1438
  have r16_1446 : fR h16 1446 (hz h) = hz h11 := (x16.2.2.2.2.1 1446 _ a15 hat).trans r15_1446
  have r16_1450 : fR h16 1450 (hz h) = hz h13 := (x16.2.2.2.2.1 1450 _ a15 hat).trans r15_1450
  have l16_0 : hz h11 < hz h16 := Nat.lt_of_lt_of_le l15_0 x16.1
  have w16_0 : wd h16 A S (hz h11) (j8 + 1 + 1) := wd_hx x16 l15_0 u_0 w15_0
  have l16_1 : hz h13 < hz h16 := Nat.lt_of_lt_of_le l15_1 x16.1
  have w16_1 : wd h16 A S (hz h13) (j8 + 1 + 1 + 1) := wd_hx x16 l15_1 u_1 w15_1
  have g16_1434 : hz h2 ≤ hz h16 := Nat.le_trans g15_1434 x16.1
  have hk16_1434 : hk (hz h1) (hz h2) h2 h16 := hk_trans hk15_1434 (hx_hk x16 g15_1434 s_1434)
  have nl16_1434 : nall (M0) (M2) τ2 τ16 := nall_trans nl15_1434 (nd_nall D16 b15_1434)
  have b16_1434 : M2 ≤ M8 := b15_1434
  have g16_1438 : hz h8 ≤ hz h16 := Nat.le_trans g15_1438 x16.1
  have hk16_1438 : hk (hz h7) (hz h8) h8 h16 := hk_trans hk15_1438 (hx_hk x16 g15_1438 s_1438)
  have nl16_1438 : nall (M2) (M8) τ8 τ16 := nall_trans nl15_1438 (nd_nall D16 b15_1438)
  have b16_1438 : M8 ≤ M8 := b15_1438
  clear a15 k15 p15 r15_1382 r15_1434 r15_1438 r15_1446 r15_1450 l15_0 w15_0 l15_1 w15_1 g15_1434 hk15_1434 nl15_1434 b15_1434 g15_1438 hk15_1438 nl15_1438 b15_1438
  clear X16 x16 D16 H15 L15
  refine RO_bind 1 L16 (by omega) h84 (At_i H16) (R _ _ _ _ H16 (At_84 L16 (by omega) h84 (At_i H16))) (fun j17 M17 τ17 h17 v17 t17 i17 H17 D17 x17 m17 P17 => ?_) ?_
  rotate_left
  · intro _ _ _ _ T1 T2 T3 T4
    exact TF_node T1 T2 T3 T4 (fun _ _ _ T1 T2 T3 T4 => TF_need T1 (TF_end T1 T2))
  obtain ⟨n17, e17, g17, W17, a17, b17, c17, f17⟩ := P17
  have z17 := x17.1
  have L17 := lnk_call L16 i17 D17 x17 m17 (by omega) (by omega)
  have a17 : hz h < hz h17 := Nat.lt_of_lt_of_le a16 x17.1
  have k17 : kd h17 (hz h) = 27 := (x17.2.2.1 _ a16).trans k16
  have p17 : fI h17 1372 (hz h) = (tokq S i0 : Int) := (x17.2.2.2.1 1372 _ a16 hat).trans p16
  have r17_1382 : fR h17 1382 (hz h) = 0 := (x17.2.2.2.2.1 1382 _ a16 hat).trans r16_1382
  have r17_1434 : fR h17 1434 (hz h) = t2 := (x17.2.2.2.2.1 1434 _ a16 hat).trans r16_1434
  have r17_1438 : fR h17 1438 (hz h) = t8 := (x17.2.2.2.2.1 1438 _ a16 hat).trans r16_1438
  have r17_1446 : fR h17 1446 (hz h) = hz h11 := (x17.2.2.2.2.1 1446 _ a16 hat).trans r16_1446
  have r17_1450 : fR h17 1450 (hz h) = hz h13 := (x17.2.2.2.2.1 1450 _ a16 hat).trans r16_1450
  have l17_0 : hz h11 < hz h17 := Nat.lt_of_lt_of_le l16_0 x17.1
  have w17_0 : wd h17 A S (hz h11) (j8 + 1 + 1) := wd_hx x17 l16_0 u_0 w16_0
  have l17_1 : hz h13 < hz h17 := Nat.lt_of_lt_of_le l16_1 x17.1
  have w17_1 : wd h17 A S (hz h13) (j8 + 1 + 1 + 1) := wd_hx x17 l16_1 u_1 w16_1
  have g17_1434 : hz h2 ≤ hz h17 := Nat.le_trans g16_1434 x17.1
  have hk17_1434 : hk (hz h1) (hz h2) h2 h17 := hk_trans hk16_1434 (hx_hk x17 g16_1434 s_1434)
  have nl17_1434 : nall (M0) (M2) τ2 τ17 := nall_trans nl16_1434 (nd_nall D17 b16_1434)
  have b17_1434 : M2 ≤ M17 := Nat.le_trans b16_1434 m17
  have g17_1438 : hz h8 ≤ hz h17 := Nat.le_trans g16_1438 x17.1
  have hk17_1438 : hk (hz h7) (hz h8) h8 h17 := hk_trans hk16_1438 (hx_hk x17 g16_1438 s_1438)
  have nl17_1438 : nall (M2) (M8) τ8 τ17 := nall_trans nl16_1438 (nd_nall D17 b16_1438)
  have b17_1438 : M8 ≤ M17 := Nat.le_trans b16_1438 m17
  clear a16 k16 p16 r16_1382 r16_1434 r16_1438 r16_1446 r16_1450 l16_0 w16_0 l16_1 w16_1 g16_1434 hk16_1434 nl16_1434 b16_1434 g16_1438 hk16_1438 nl16_1438 b16_1438
  have s_1442 : t < hz h16 := by omega
  have so_1442 : hz h < hz h16 := by omega
  have g17_1442 : hz h17 ≤ hz h17 := Nat.le_refl _
  have b17_1442 : M17 ≤ M17 := Nat.le_refl _
  clear x17 D17 H16 L16
  have hk17_1442 : hk (hz h16) (hz h17) h17 h17 := hk_refl _
  have nl17_1442 : nall (M8) M17 τ17 τ17 := fun _ _ _ _ _ => rfl
  obtain ⟨τ18, d1, d2, d3, d4, d5⟩ := t_node H17.1 (by have := At_i H17; omega) 17 ((b + i0 : Nat) : Int) v2 v8 ((b + (j8 + 1 + 1) : Nat) : Int) v17
  rw [d1, Option.bind_some]
  have nl18_1434 : nall (M0) (M2) τ2 τ18 := nall_trans nl17_1434 (nd_nall d4 b17_1434)
  have b18_1434 : M2 ≤ M17 + 1 := Nat.le_succ_of_le b17_1434
  have g18_1434 := g17_1434
  have hk18_1434 := hk17_1434
  have nl18_1438 : nall (M2) (M8) τ8 τ18 := nall_trans nl17_1438 (nd_nall d4 b17_1438)
  have b18_1438 : M8 ≤ M17 + 1 := Nat.le_succ_of_le b17_1438
  have g18_1438 := g17_1438
  have hk18_1438 := hk17_1438
  have nl18_1442 : nall (M8) (M17) τ17 τ18 := nall_trans nl17_1442 (nd_nall d4 b17_1442)
  have b18_1442 : M17 ≤ M17 + 1 := Nat.le_succ_of_le b17_1442
  have g18_1442 := g17_1442
  have hk18_1442 := hk17_1442
  have nl18_n : nall (M17) (M17 + 1) τ18 τ18 := fun _ _ _ _ _ => rfl
  have H18 : At G A t N S b m (j17) nc (M17 + 1) τ18 h17 := ⟨d2, H17.2⟩
  have L18 : lnk t i0 M0 σ0 h0 (j17) (M17 + 1) τ18 h17 := ⟨L17.1, nd_trans L17.2.1 d4 L17.2.2.1, by have := L17.2.2.1; omega, L17.2.2.2⟩
  have a18 := a17
  have k18 := k17
  have p18 := p17
  have r18_1382 := r17_1382
  have r18_1434 := r17_1434
  have r18_1438 := r17_1438
  have r18_1446 := r17_1446
  have r18_1450 := r17_1450
  have w18_0 := w17_0
  have l18_0 := l17_0
  have w18_1 := w17_1
  have l18_1 := l17_1
  clear a17 k17 p17 r17_1382 r17_1434 r17_1438 r17_1446 r17_1450 l17_0 w17_0 l17_1 w17_1 g17_1434 hk17_1434 nl17_1434 b17_1434 g17_1438 hk17_1438 nl17_1438 b17_1438 g17_1442 hk17_1442 nl17_1442 b17_1442 H17 L17
  refine RO_gd ⟨k18, At_kd H18⟩ ?_
  have a19 : hz h < hz (sR h17 1442 (hz h) (t17)) := a18
  have k19 : kd (sR h17 1442 (hz h) (t17)) (hz h) = 27 := k18
  have p19 : fI (sR h17 1442 (hz h) (t17)) 1372 (hz h) = (tokq S i0 : Int) := p18
  have r19_1382 : fR (sR h17 1442 (hz h) (t17)) 1382 (hz h) = 0 := (fR_ne (by decide)).trans r18_1382
  have r19_1434 : fR (sR h17 1442 (hz h) (t17)) 1434 (hz h) = t2 := (fR_ne (by decide)).trans r18_1434
  have r19_1438 : fR (sR h17 1442 (hz h) (t17)) 1438 (hz h) = t8 := (fR_ne (by decide)).trans r18_1438
  have r19_1446 : fR (sR h17 1442 (hz h) (t17)) 1446 (hz h) = hz h11 := (fR_ne (by decide)).trans r18_1446
  have r19_1450 : fR (sR h17 1442 (hz h) (t17)) 1450 (hz h) = hz h13 := (fR_ne (by decide)).trans r18_1450
  have r19_1442 : fR (sR h17 1442 (hz h) (t17)) 1442 (hz h) = t17 := fR_eq
  have l19_0 : hz h11 < hz (sR h17 1442 (hz h) (t17)) := l18_0
  have w19_0 : wd (sR h17 1442 (hz h) (t17)) A S (hz h11) (j8 + 1 + 1) := ⟨w18_0.1, (fR_na uo_0).trans w18_0.2.1, w18_0.2.2⟩
  have l19_1 : hz h13 < hz (sR h17 1442 (hz h) (t17)) := l18_1
  have w19_1 : wd (sR h17 1442 (hz h) (t17)) A S (hz h13) (j8 + 1 + 1 + 1) := ⟨w18_1.1, (fR_na uo_1).trans w18_1.2.1, w18_1.2.2⟩
  have g19_1434 : hz h2 ≤ hz (sR h17 1442 (hz h) (t17)) := g18_1434
  have hk19_1434 : hk (hz h1) (hz h2) h2 (sR h17 1442 (hz h) (t17)) := hk_trans hk18_1434 (hk_sR (.inl so_1434) _)
  have nl19_1434 := nl18_1434
  have b19_1434 := b18_1434
  have g19_1438 : hz h8 ≤ hz (sR h17 1442 (hz h) (t17)) := g18_1438
  have hk19_1438 : hk (hz h7) (hz h8) h8 (sR h17 1442 (hz h) (t17)) := hk_trans hk18_1438 (hk_sR (.inl so_1438) _)
  have nl19_1438 := nl18_1438
  have b19_1438 := b18_1438
  have g19_1442 : hz h17 ≤ hz (sR h17 1442 (hz h) (t17)) := g18_1442
  have hk19_1442 : hk (hz h16) (hz h17) h17 (sR h17 1442 (hz h) (t17)) := hk_trans hk18_1442 (hk_sR (.inl so_1442) _)
  have nl19_1442 := nl18_1442
  have b19_1442 := b18_1442
  have nl19_n := nl18_n
  have H19 : At G A t N S b m (j17) nc (M17 + 1) τ18 (sR h17 1442 (hz h) (t17)) := At_sR H18 hat
  have L19 : lnk t i0 M0 σ0 h0 (j17) (M17 + 1) τ18 (sR h17 1442 (hz h) (t17)) := lnk_sR L18 ao
  have z19 : hz (sR h17 1442 (hz h) (t17)) = hz h17 := rfl
  have y19 : hu (sR h17 1442 (hz h) (t17)) = hu h17 := rfl
  clear a18 k18 p18 r18_1382 r18_1434 r18_1438 r18_1446 r18_1450 l18_0 w18_0 l18_1 w18_1 g18_1434 hk18_1434 nl18_1434 b18_1434 g18_1438 hk18_1438 nl18_1438 b18_1438 g18_1442 hk18_1442 nl18_1442 b18_1442 nl18_n H18 L18
  generalize sR h17 1442 (hz h) (t17) = h19 at *
  refine RO_need hG 0 H19 L19 (by omega) h84 (v := 125) (.inr (.inr (by omega))) (by decide) (by decide) (fun q20 τ20 h20 H20 D20 X20 L20 => ?_) ?_
  rotate_left
  · intro _ _ _ T1 T2 T3 T4
    exact TF_end T1 T2
  have x20 := hx_onlyT X20
  have z20 : hz h20 = hz h19 := X20.2.2.2.2.2.2.2.2.1
  have y20 : hu h20 = hu h19 := X20.2.2.2.2.2.2.2.2.2.1
  have a20 : hz h < hz h20 := Nat.lt_of_lt_of_le a19 x20.1
  have k20 : kd h20 (hz h) = 27 := (x20.2.2.1 _ a19).trans k19
  have p20 : fI h20 1372 (hz h) = (tokq S i0 : Int) := (x20.2.2.2.1 1372 _ a19 hat).trans p19
  have r20_1382 : fR h20 1382 (hz h) = 0 := (x20.2.2.2.2.1 1382 _ a19 hat).trans r19_1382
  have r20_1434 : fR h20 1434 (hz h) = t2 := (x20.2.2.2.2.1 1434 _ a19 hat).trans r19_1434
  have r20_1438 : fR h20 1438 (hz h) = t8 := (x20.2.2.2.2.1 1438 _ a19 hat).trans r19_1438
  have r20_1446 : fR h20 1446 (hz h) = hz h11 := (x20.2.2.2.2.1 1446 _ a19 hat).trans r19_1446
  have r20_1450 : fR h20 1450 (hz h) = hz h13 := (x20.2.2.2.2.1 1450 _ a19 hat).trans r19_1450
  have r20_1442 : fR h20 1442 (hz h) = t17 := (x20.2.2.2.2.1 1442 _ a19 hat).trans r19_1442
  have l20_0 : hz h11 < hz h20 := Nat.lt_of_lt_of_le l19_0 x20.1
  have w20_0 : wd h20 A S (hz h11) (j8 + 1 + 1) := wd_hx x20 l19_0 u_0 w19_0
  have l20_1 : hz h13 < hz h20 := Nat.lt_of_lt_of_le l19_1 x20.1
  have w20_1 : wd h20 A S (hz h13) (j8 + 1 + 1 + 1) := wd_hx x20 l19_1 u_1 w19_1
  have g20_1434 : hz h2 ≤ hz h20 := Nat.le_trans g19_1434 x20.1
  have hk20_1434 : hk (hz h1) (hz h2) h2 h20 := hk_trans hk19_1434 (hx_hk x20 g19_1434 s_1434)
  have nl20_1434 : nall (M0) (M2) τ2 τ20 := nall_trans nl19_1434 (nd_nall D20 b19_1434)
  have b20_1434 : M2 ≤ M17 + 1 := b19_1434
  have g20_1438 : hz h8 ≤ hz h20 := Nat.le_trans g19_1438 x20.1
  have hk20_1438 : hk (hz h7) (hz h8) h8 h20 := hk_trans hk19_1438 (hx_hk x20 g19_1438 s_1438)
  have nl20_1438 : nall (M2) (M8) τ8 τ20 := nall_trans nl19_1438 (nd_nall D20 b19_1438)
  have b20_1438 : M8 ≤ M17 + 1 := b19_1438
  have g20_1442 : hz h17 ≤ hz h20 := Nat.le_trans g19_1442 x20.1
  have hk20_1442 : hk (hz h16) (hz h17) h17 h20 := hk_trans hk19_1442 (hx_hk x20 g19_1442 s_1442)
  have nl20_1442 : nall (M8) (M17) τ17 τ20 := nall_trans nl19_1442 (nd_nall D20 b19_1442)
  have b20_1442 : M17 ≤ M17 + 1 := b19_1442
  have nl20_n : nall (M17) (M17 + 1) τ18 τ20 := nall_trans nl19_n (nd_nall D20 (Nat.le_refl _))
  clear a19 k19 p19 r19_1382 r19_1434 r19_1438 r19_1446 r19_1450 r19_1442 l19_0 w19_0 l19_1 w19_1 g19_1434 hk19_1434 nl19_1434 b19_1434 g19_1438 hk19_1438 nl19_1438 b19_1438 g19_1442 hk19_1442 nl19_1442 b19_1442 nl19_n
  clear X20 x20 D20 H19 L19
  refine .inl ⟨j17 + 1, M17 + 1, τ20, h20, ((M17 : Nat) : Int), hz h, rfl, rfl, by omega, H20, L20.2.1, L20.2.2.2.1, by omega, M17, rfl, by omega, ?_, by omega, by omega, by omega, by omega⟩
  have f38 := (nl20_n 538 (by simp) (M17) (Nat.le_refl _) (by omega)).trans d3.1
  have f42 := (nl20_n 542 (by simp) (M17) (Nat.le_refl _) (by omega)).trans d3.2.1
  have f46 := (nl20_n 546 (by simp) (M17) (Nat.le_refl _) (by omega)).trans d3.2.2.1
  have f50 := (nl20_n 550 (by simp) (M17) (Nat.le_refl _) (by omega)).trans d3.2.2.2.1
  have f54 := (nl20_n 554 (by simp) (M17) (Nat.le_refl _) (by omega)).trans d3.2.2.2.2.1
  have f58 := (nl20_n 558 (by simp) (M17) (Nat.le_refl _) (by omega)).trans d3.2.2.2.2.2.1
  have WW_1434 := X0_keep W2 hk20_1434 nl20_1434
  have wi_1434 := XR_in _ _ _ _ _ _ _ W2
  have WW_1438 := X0_keep W8 hk20_1438 nl20_1438
  have wi_1438 := XR_in _ _ _ _ _ _ _ W8
  have WW_1442 := X0_keep W17 hk20_1442 nl20_1442
  have wi_1442 := XR_in _ _ _ _ _ _ _ W17
  refine ⟨by omega, by omega, by omega, by omega, .inr (.inr (.inr (.inr (.inr (.inl ⟨k20, f38, rfl, i0, j8 + 1 + 1, n2, n8, n17, M2, M8, hz h1, hz h2, hz h8, hz h16, hz h17, f42, ⟨p20, At_tk H⟩, f46.trans e2, f50.trans e8, f54, f58.trans e17, q12, q14, ?_, ?_, ?_, ?_, by omega, by omega, ?_, ?_, by omega, ?_, by omega, ?_⟩)))))⟩
  · rw [r20_1446]; exact ⟨by omega, by omega⟩
  · rw [r20_1446]; exact w20_0
  · rw [r20_1450]; exact ⟨by omega, by omega⟩
  · rw [r20_1450]; exact w20_1
  · rw [r20_1434]; exact XR_wide (by omega) (by omega) WW_1434
  · rw [r20_1438]; exact XR_wide (by omega) (by omega) WW_1438
  · rw [r20_1442]; exact XR_wide (by omega) (by omega) WW_1442
  · exact Psi0_z r20_1382 (by decide)
end LX4b
