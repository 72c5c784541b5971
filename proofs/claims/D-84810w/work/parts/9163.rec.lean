set_option maxRecDepth 100000
section LX4a
variable {G : om_G} {A t : Nat} {N : List (List Int)} {S : List Int} {b m K : Nat} {nc : Int} {rT : tS → Option (Int × tS)} {rC : Nat → om_H → Option ((Nat ⊕ Nat) × om_H)}
noncomputable def lamT (r : tS → Option (Int × tS)) (q : Int) (σ : tS) : Option (Int × tS) := (T_needed 2 σ).bind fun p22 => (T_need 58 p22.2).bind fun p23 => (T_readType p23).bind fun p24 => (T_need 46 p24.2).bind fun p25 => (r p25).bind fun p26 => (T_node 14 q p22.1 p24.1 p26.1 (-1) p26.2).bind fun p27 => some (p27.1, p27.2)
set_option maxHeartbeats 8000000 in
theorem lam_rel (hG : om_okG G) (R : RXall G A t N S b m K nc rT rC) (RF : RFall N S b m nc 1 rT) (hn : 0 ≤ nc ∧ nc ≤ 20) {i0 M0 : Nat} {σ0 σ : tS} {h0 h : om_H} (H : At G A t N S b m (i0 + 1) nc M0 σ h) (D0 : nd σ0 σ M0) (X0' : hx t h0 h) (z0 : hz h = hz h0) (y0 : hu h = hu h0) (h84 : M0 + 3 * (m - i0) + 60 ≤ 8400) :
    RO G A t N S b m i0 nc M0 σ0 h0 (PX G A S b (K + 1) i0 M0 h0) (lamT rT ((b + i0 : Nat) : Int) σ) (C_0_readLambda G rC t (tokq S i0 : Int) h) := by
  have kA : kd (nO h 24 7) (hz h) = 24 := by rw [kd_nO, if_pos rfl]
  have ht := At_t H
  have hz0 : hz h ≠ 0 := by omega
  have hat : hz h ≠ t := by omega
  unfold C_0_readLambda C_24_init C_23_init C_0_at lamT
  rw [gd_pos kA, gd_pos kA, gd_pos hz0]
  simp only [Option.bind_some]
  rw [gd_pos ⟨23, by decide, kA⟩]
  simp only [Option.bind_some]
  have H1 : At G A t N S b m (i0 + 1) nc M0 σ (sI (nO h 24 7) 1372 (hz h) (tokq S i0 : Int)) := At_sI (At_nO H 24 7) hat
  have L1 : lnk t i0 M0 σ0 h0 (i0 + 1) M0 σ (sI (nO h 24 7) 1372 (hz h) (tokq S i0 : Int)) := ⟨by omega, D0, Nat.le_refl _, hx_sI (hx_trans X0' (hx_nO h 24 7)) (by omega), by show hz h + 1 ≤ _; omega, by show hu h + 7 ≤ _; omega⟩
  have k1 : kd (sI (nO h 24 7) 1372 (hz h) (tokq S i0 : Int)) (hz h) = 24 := kA
  have p1 : fI (sI (nO h 24 7) 1372 (hz h) (tokq S i0 : Int)) 1372 (hz h) = (tokq S i0 : Int) := fI_eq
  have z1 : hz (sI (nO h 24 7) 1372 (hz h) (tokq S i0 : Int)) = hz h + 1 := rfl
  have y1 : hu (sI (nO h 24 7) 1372 (hz h) (tokq S i0 : Int)) = hu h + 7 := rfl
  have r1_1382 : fR (sI (nO h 24 7) 1372 (hz h) (tokq S i0 : Int)) 1382 (hz h) = 0 := by rw [fR_sI, fR_nO, if_pos rfl]
  have a1 : hz h < hz (sI (nO h 24 7) 1372 (hz h) (tokq S i0 : Int)) := Nat.lt_succ_self _
  have ao : hz h0 ≤ hz h := Nat.le_of_eq z0.symm
  generalize sI (nO h 24 7) 1372 (hz h) (tokq S i0 : Int) = h1 at *
  refine RO_gd ⟨.inr k1, At_kd H1⟩ ?_
  refine RO_needK hG 3 H1 L1 (by omega) h84 (e := 2) (by omega) rfl (fun q2 τ2 h2 H2 D2 x2 v2 z2 y2 L2 => ?_) ?_
  rotate_left
  · intro _ _ _ _ T1 T2 T3 T4
    exact TF_need T1 (TF_rec (typeF30 hn) T1 T2 T3 T4 (fun _ _ _ T1 T2 T3 T4 => TF_need T1 (TF_rec RF T1 T2 T3 T4 (fun _ _ _ T1 T2 T3 T4 => TF_node T1 T2 T3 T4 (fun _ _ _ T1 T2 T3 T4 => TF_end T1 T2)))))
  have a2 : hz h < hz h2 := Nat.lt_of_lt_of_le a1 x2.1
  have k2 : kd h2 (hz h) = 24 := (x2.2.2.1 _ a1).trans k1
  have p2 : fI h2 1372 (hz h) = (tokq S i0 : Int) := (x2.2.2.2.1 1372 _ a1 hat).trans p1
  have r2_1382 : fR h2 1382 (hz h) = 0 := (x2.2.2.2.2.1 1382 _ a1 hat).trans r1_1382
  clear a1 k1 p1 r1_1382
  have w2_0 := v2
  have l2_0 : hz h1 < hz h2 := by omega
  have u_0 : hz h1 ≠ t := by omega
  have uo_0 : hz h1 ≠ hz h := by omega
  clear x2 D2 H1 L1 v2
  refine RO_gd ⟨k2, At_kd H2⟩ ?_
  have a3 : hz h < hz (sR h2 1386 (hz h) (hz h1)) := a2
  have k3 : kd (sR h2 1386 (hz h) (hz h1)) (hz h) = 24 := k2
  have p3 : fI (sR h2 1386 (hz h) (hz h1)) 1372 (hz h) = (tokq S i0 : Int) := p2
  have r3_1382 : fR (sR h2 1386 (hz h) (hz h1)) 1382 (hz h) = 0 := (fR_ne (by decide)).trans r2_1382
  have r3_1386 : fR (sR h2 1386 (hz h) (hz h1)) 1386 (hz h) = hz h1 := fR_eq
  have l3_0 : hz h1 < hz (sR h2 1386 (hz h) (hz h1)) := l2_0
  have w3_0 : wd (sR h2 1386 (hz h) (hz h1)) A S (hz h1) (i0 + 1) := ⟨w2_0.1, (fR_na uo_0).trans w2_0.2.1, w2_0.2.2⟩
  have H3 : At G A t N S b m (i0 + 1 + 1) nc (M0) τ2 (sR h2 1386 (hz h) (hz h1)) := At_sR H2 hat
  have L3 : lnk t i0 M0 σ0 h0 (i0 + 1 + 1) (M0) τ2 (sR h2 1386 (hz h) (hz h1)) := lnk_sR L2 ao
  have z3 : hz (sR h2 1386 (hz h) (hz h1)) = hz h2 := rfl
  have y3 : hu (sR h2 1386 (hz h) (hz h1)) = hu h2 := rfl
  clear a2 k2 p2 r2_1382 l2_0 w2_0 H2 L2
  generalize sR h2 1386 (hz h) (hz h1) = h3 at *
  refine RO_need hG 3 H3 L3 (by omega) h84 (v := 58) (.inr (.inr (by omega))) (by decide) (by decide) (fun q4 τ4 h4 H4 D4 X4 L4 => ?_) ?_
  rotate_left
  · intro _ _ _ T1 T2 T3 T4
    exact TF_rec (typeF30 hn) T1 T2 T3 T4 (fun _ _ _ T1 T2 T3 T4 => TF_need T1 (TF_rec RF T1 T2 T3 T4 (fun _ _ _ T1 T2 T3 T4 => TF_node T1 T2 T3 T4 (fun _ _ _ T1 T2 T3 T4 => TF_end T1 T2))))
  have x4 := hx_onlyT X4
  have z4 : hz h4 = hz h3 := X4.2.2.2.2.2.2.2.2.1
  have y4 : hu h4 = hu h3 := X4.2.2.2.2.2.2.2.2.2.1
  have a4 : hz h < hz h4 := Nat.lt_of_lt_of_le a3 x4.1
  have k4 : kd h4 (hz h) = 24 := (x4.2.2.1 _ a3).trans k3
  have p4 : fI h4 1372 (hz h) = (tokq S i0 : Int) := (x4.2.2.2.1 1372 _ a3 hat).trans p3
  have r4_1382 : fR h4 1382 (hz h) = 0 := (x4.2.2.2.2.1 1382 _ a3 hat).trans r3_1382
  have r4_1386 : fR h4 1386 (hz h) = hz h1 := (x4.2.2.2.2.1 1386 _ a3 hat).trans r3_1386
  have l4_0 : hz h1 < hz h4 := Nat.lt_of_lt_of_le l3_0 x4.1
  have w4_0 : wd h4 A S (hz h1) (i0 + 1) := wd_hx x4 l3_0 u_0 w3_0
  clear a3 k3 p3 r3_1382 r3_1386 l3_0 w3_0
  clear X4 x4 D4 H3 L3
  refine RO_bind 2 L4 (by omega) h84 (At_i H4) (type_RO hG hn H4 (At_84 L4 (by omega) h84 (At_i H4))) (fun j5 M5 τ5 h5 v5 t5 i5 H5 D5 x5 m5 P5 => ?_) ?_
  rotate_left
  · intro _ _ _ _ T1 T2 T3 T4
    exact TF_need T1 (TF_rec RF T1 T2 T3 T4 (fun _ _ _ T1 T2 T3 T4 => TF_node T1 T2 T3 T4 (fun _ _ _ T1 T2 T3 T4 => TF_end T1 T2)))
  obtain ⟨n5, kk5, e5, g5, W5, _, a5, b5, c5, f5⟩ := P5
  have z5 := x5.1
  have L5 := lnk_call L4 i5 D5 x5 m5 (by omega) (by omega)
  have a5 : hz h < hz h5 := Nat.lt_of_lt_of_le a4 x5.1
  have k5 : kd h5 (hz h) = 24 := (x5.2.2.1 _ a4).trans k4
  have p5 : fI h5 1372 (hz h) = (tokq S i0 : Int) := (x5.2.2.2.1 1372 _ a4 hat).trans p4
  have r5_1382 : fR h5 1382 (hz h) = 0 := (x5.2.2.2.2.1 1382 _ a4 hat).trans r4_1382
  have r5_1386 : fR h5 1386 (hz h) = hz h1 := (x5.2.2.2.2.1 1386 _ a4 hat).trans r4_1386
  have l5_0 : hz h1 < hz h5 := Nat.lt_of_lt_of_le l4_0 x5.1
  have w5_0 : wd h5 A S (hz h1) (i0 + 1) := wd_hx x5 l4_0 u_0 w4_0
  clear a4 k4 p4 r4_1382 r4_1386 l4_0 w4_0
  have s_1390 : t < hz h4 := by omega
  have so_1390 : hz h < hz h4 := by omega
  have g5_1390 : hz h5 ≤ hz h5 := Nat.le_refl _
  have b5_1390 : M5 ≤ M5 := Nat.le_refl _
  clear x5 D5 H4 L4
  have hk5_1390 : hk (hz h4) (hz h5) h5 h5 := hk_refl _
  have nl5_1390 : nall (M0) M5 τ5 τ5 := fun _ _ _ _ _ => rfl
  refine RO_gd ⟨k5, At_kd H5⟩ ?_
  have a6 : hz h < hz (sR h5 1390 (hz h) (t5)) := a5
  have k6 : kd (sR h5 1390 (hz h) (t5)) (hz h) = 24 := k5
  have p6 : fI (sR h5 1390 (hz h) (t5)) 1372 (hz h) = (tokq S i0 : Int) := p5
  have r6_1382 : fR (sR h5 1390 (hz h) (t5)) 1382 (hz h) = 0 := (fR_ne (by decide)).trans r5_1382
  have r6_1386 : fR (sR h5 1390 (hz h) (t5)) 1386 (hz h) = hz h1 := (fR_ne (by decide)).trans r5_1386
  have r6_1390 : fR (sR h5 1390 (hz h) (t5)) 1390 (hz h) = t5 := fR_eq
  have l6_0 : hz h1 < hz (sR h5 1390 (hz h) (t5)) := l5_0
  have w6_0 : wd (sR h5 1390 (hz h) (t5)) A S (hz h1) (i0 + 1) := ⟨w5_0.1, (fR_na uo_0).trans w5_0.2.1, w5_0.2.2⟩
  have g6_1390 : hz h5 ≤ hz (sR h5 1390 (hz h) (t5)) := g5_1390
  have hk6_1390 : hk (hz h4) (hz h5) h5 (sR h5 1390 (hz h) (t5)) := hk_trans hk5_1390 (hk_sR (.inl so_1390) _)
  have nl6_1390 := nl5_1390
  have b6_1390 := b5_1390
  have H6 : At G A t N S b m (j5) nc (M5) τ5 (sR h5 1390 (hz h) (t5)) := At_sR H5 hat
  have L6 : lnk t i0 M0 σ0 h0 (j5) (M5) τ5 (sR h5 1390 (hz h) (t5)) := lnk_sR L5 ao
  have z6 : hz (sR h5 1390 (hz h) (t5)) = hz h5 := rfl
  have y6 : hu (sR h5 1390 (hz h) (t5)) = hu h5 := rfl
  clear a5 k5 p5 r5_1382 r5_1386 l5_0 w5_0 g5_1390 hk5_1390 nl5_1390 b5_1390 H5 L5
  generalize sR h5 1390 (hz h) (t5) = h6 at *
  refine RO_need hG 2 H6 L6 (by omega) h84 (v := 46) (.inr (.inr (by omega))) (by decide) (by decide) (fun q7 τ7 h7 H7 D7 X7 L7 => ?_) ?_
  rotate_left
  · intro _ _ _ T1 T2 T3 T4
    exact TF_rec RF T1 T2 T3 T4 (fun _ _ _ T1 T2 T3 T4 => TF_node T1 T2 T3 T4 (fun _ _ _ T1 T2 T3 T4 => TF_end T1 T2))
  have x7 := hx_onlyT X7
  have z7 : hz h7 = hz h6 := X7.2.2.2.2.2.2.2.2.1
  have y7 : hu h7 = hu h6 := X7.2.2.2.2.2.2.2.2.2.1
  have a7 : hz h < hz h7 := Nat.lt_of_lt_of_le a6 x7.1
  have k7 : kd h7 (hz h) = 24 := (x7.2.2.1 _ a6).trans k6
  have p7 : fI h7 1372 (hz h) = (tokq S i0 : Int) := (x7.2.2.2.1 1372 _ a6 hat).trans p6
  have r7_1382 : fR h7 1382 (hz h) = 0 := (x7.2.2.2.2.1 1382 _ a6 hat).trans r6_1382
  have r7_1386 : fR h7 1386 (hz h) = hz h1 := (x7.2.2.2.2.1 1386 _ a6 hat).trans r6_1386
  have r7_1390 : fR h7 1390 (hz h) = t5 := (x7.2.2.2.2.1 1390 _ a6 hat).trans r6_1390
  have l7_0 : hz h1 < hz h7 := Nat.lt_of_lt_of_le l6_0 x7.1
  have w7_0 : wd h7 A S (hz h1) (i0 + 1) := wd_hx x7 l6_0 u_0 w6_0
  have g7_1390 : hz h5 ≤ hz h7 := Nat.le_trans g6_1390 x7.1
  have hk7_1390 : hk (hz h4) (hz h5) h5 h7 := hk_trans hk6_1390 (hx_hk x7 g6_1390 s_1390)
  have nl7_1390 : nall (M0) (M5) τ5 τ7 := nall_trans nl6_1390 (nd_nall D7 b6_1390)
  have b7_1390 : M5 ≤ M5 := b6_1390
  clear a6 k6 p6 r6_1382 r6_1386 r6_1390 l6_0 w6_0 g6_1390 hk6_1390 nl6_1390 b6_1390
  clear X7 x7 D7 H6 L6
  refine RO_bind 1 L7 (by omega) h84 (At_i H7) (R _ _ _ _ H7 (At_84 L7 (by omega) h84 (At_i H7))) (fun j8 M8 τ8 h8 v8 t8 i8 H8 D8 x8 m8 P8 => ?_) ?_
  rotate_left
  · intro _ _ _ _ T1 T2 T3 T4
    exact TF_node T1 T2 T3 T4 (fun _ _ _ T1 T2 T3 T4 => TF_end T1 T2)
  obtain ⟨n8, e8, g8, W8, a8, b8, c8, f8⟩ := P8
  have z8 := x8.1
  have L8 := lnk_call L7 i8 D8 x8 m8 (by omega) (by omega)
  have a8 : hz h < hz h8 := Nat.lt_of_lt_of_le a7 x8.1
  have k8 : kd h8 (hz h) = 24 := (x8.2.2.1 _ a7).trans k7
  have p8 : fI h8 1372 (hz h) = (tokq S i0 : Int) := (x8.2.2.2.1 1372 _ a7 hat).trans p7
  have r8_1382 : fR h8 1382 (hz h) = 0 := (x8.2.2.2.2.1 1382 _ a7 hat).trans r7_1382
  have r8_1386 : fR h8 1386 (hz h) = hz h1 := (x8.2.2.2.2.1 1386 _ a7 hat).trans r7_1386
  have r8_1390 : fR h8 1390 (hz h) = t5 := (x8.2.2.2.2.1 1390 _ a7 hat).trans r7_1390
  have l8_0 : hz h1 < hz h8 := Nat.lt_of_lt_of_le l7_0 x8.1
  have w8_0 : wd h8 A S (hz h1) (i0 + 1) := wd_hx x8 l7_0 u_0 w7_0
  have g8_1390 : hz h5 ≤ hz h8 := Nat.le_trans g7_1390 x8.1
  have hk8_1390 : hk (hz h4) (hz h5) h5 h8 := hk_trans hk7_1390 (hx_hk x8 g7_1390 s_1390)
  have nl8_1390 : nall (M0) (M5) τ5 τ8 := nall_trans nl7_1390 (nd_nall D8 b7_1390)
  have b8_1390 : M5 ≤ M8 := Nat.le_trans b7_1390 m8
  clear a7 k7 p7 r7_1382 r7_1386 r7_1390 l7_0 w7_0 g7_1390 hk7_1390 nl7_1390 b7_1390
  have s_1398 : t < hz h7 := by omega
  have so_1398 : hz h < hz h7 := by omega
  have g8_1398 : hz h8 ≤ hz h8 := Nat.le_refl _
  have b8_1398 : M8 ≤ M8 := Nat.le_refl _
  clear x8 D8 H7 L7
  have hk8_1398 : hk (hz h7) (hz h8) h8 h8 := hk_refl _
  have nl8_1398 : nall (M5) M8 τ8 τ8 := fun _ _ _ _ _ => rfl
  obtain ⟨τ9, d1, d2, d3, d4, d5⟩ := t_node H8.1 (by have := At_i H8; omega) 14 ((b + i0 : Nat) : Int) ((b + (i0 + 1) : Nat) : Int) v5 v8 (-1)
  rw [d1, Option.bind_some]
  have nl9_1390 : nall (M0) (M5) τ5 τ9 := nall_trans nl8_1390 (nd_nall d4 b8_1390)
  have b9_1390 : M5 ≤ M8 + 1 := Nat.le_succ_of_le b8_1390
  have g9_1390 := g8_1390
  have hk9_1390 := hk8_1390
  have nl9_1398 : nall (M5) (M8) τ8 τ9 := nall_trans nl8_1398 (nd_nall d4 b8_1398)
  have b9_1398 : M8 ≤ M8 + 1 := Nat.le_succ_of_le b8_1398
  have g9_1398 := g8_1398
  have hk9_1398 := hk8_1398
  have nl9_n : nall (M8) (M8 + 1) τ9 τ9 := fun _ _ _ _ _ => rfl
  have H9 : At G A t N S b m (j8) nc (M8 + 1) τ9 h8 := ⟨d2, H8.2⟩
  have L9 : lnk t i0 M0 σ0 h0 (j8) (M8 + 1) τ9 h8 := ⟨L8.1, nd_trans L8.2.1 d4 L8.2.2.1, by have := L8.2.2.1; omega, L8.2.2.2⟩
  have a9 := a8
  have k9 := k8
  have p9 := p8
  have r9_1382 := r8_1382
  have r9_1386 := r8_1386
  have r9_1390 := r8_1390
  have w9_0 := w8_0
  have l9_0 := l8_0
  clear a8 k8 p8 r8_1382 r8_1386 r8_1390 l8_0 w8_0 g8_1390 hk8_1390 nl8_1390 b8_1390 g8_1398 hk8_1398 nl8_1398 b8_1398 H8 L8
  refine RO_gd k9 ?_
  have a10 : hz h < hz (sR h8 1398 (hz h) (t8)) := a9
  have k10 : kd (sR h8 1398 (hz h) (t8)) (hz h) = 24 := k9
  have p10 : fI (sR h8 1398 (hz h) (t8)) 1372 (hz h) = (tokq S i0 : Int) := p9
  have r10_1382 : fR (sR h8 1398 (hz h) (t8)) 1382 (hz h) = 0 := (fR_ne (by decide)).trans r9_1382
  have r10_1386 : fR (sR h8 1398 (hz h) (t8)) 1386 (hz h) = hz h1 := (fR_ne (by decide)).trans r9_1386
  have r10_1390 : fR (sR h8 1398 (hz h) (t8)) 1390 (hz h) = t5 := (fR_ne (by decide)).trans r9_1390
  have r10_1398 : fR (sR h8 1398 (hz h) (t8)) 1398 (hz h) = t8 := fR_eq
  have l10_0 : hz h1 < hz (sR h8 1398 (hz h) (t8)) := l9_0
  have w10_0 : wd (sR h8 1398 (hz h) (t8)) A S (hz h1) (i0 + 1) := ⟨w9_0.1, (fR_na uo_0).trans w9_0.2.1, w9_0.2.2⟩
  have g10_1390 : hz h5 ≤ hz (sR h8 1398 (hz h) (t8)) := g9_1390
  have hk10_1390 : hk (hz h4) (hz h5) h5 (sR h8 1398 (hz h) (t8)) := hk_trans hk9_1390 (hk_sR (.inl so_1390) _)
  have nl10_1390 := nl9_1390
  have b10_1390 := b9_1390
  have g10_1398 : hz h8 ≤ hz (sR h8 1398 (hz h) (t8)) := g9_1398
  have hk10_1398 : hk (hz h7) (hz h8) h8 (sR h8 1398 (hz h) (t8)) := hk_trans hk9_1398 (hk_sR (.inl so_1398) _)
  have nl10_1398 := nl9_1398
  have b10_1398 := b9_1398
  have nl10_n := nl9_n
  have H10 : At G A t N S b m (j8) nc (M8 + 1) τ9 (sR h8 1398 (hz h) (t8)) := At_sR H9 hat
  have L10 : lnk t i0 M0 σ0 h0 (j8) (M8 + 1) τ9 (sR h8 1398 (hz h) (t8)) := lnk_sR L9 ao
  have z10 : hz (sR h8 1398 (hz h) (t8)) = hz h8 := rfl
  have y10 : hu (sR h8 1398 (hz h) (t8)) = hu h8 := rfl
  clear a9 k9 p9 r9_1382 r9_1386 r9_1390 l9_0 w9_0 g9_1390 hk9_1390 nl9_1390 b9_1390 g9_1398 hk9_1398 nl9_1398 b9_1398 nl9_n H9 L9
  generalize sR h8 1398 (hz h) (t8) = h10 at *
  refine .inl ⟨j8, M8 + 1, τ9, h10, ((M8 : Nat) : Int), hz h, rfl, rfl, by omega, H10, L10.2.1, L10.2.2.2.1, by omega, M8, rfl, by omega, ?_, by omega, by omega, by omega, by omega⟩
  have f38 := (nl10_n 538 (by simp) (M8) (Nat.le_refl _) (by omega)).trans d3.1
  have f42 := (nl10_n 542 (by simp) (M8) (Nat.le_refl _) (by omega)).trans d3.2.1
  have f46 := (nl10_n 546 (by simp) (M8) (Nat.le_refl _) (by omega)).trans d3.2.2.1
  have f50 := (nl10_n 550 (by simp) (M8) (Nat.le_refl _) (by omega)).trans d3.2.2.2.1
  have f54 := (nl10_n 554 (by simp) (M8) (Nat.le_refl _) (by omega)).trans d3.2.2.2.2.1
  have f58 := (nl10_n 558 (by simp) (M8) (Nat.le_refl _) (by omega)).trans d3.2.2.2.2.2.1
  have WW_1390 := WR_keep W5 hk10_1390 (nall_nk nl10_1390 (Nat.le_refl _) (Nat.le_refl _))
  have wi_1390 := WR_in W5
  have WW_1398 := X0_keep W8 hk10_1398 nl10_1398
  have wi_1398 := XR_in _ _ _ _ _ _ _ W8
  refine ⟨by omega, by omega, by omega, by omega, .inr (.inr (.inl ⟨k10, f38, rfl, i0, n8, M5, hz h4, hz h5, hz h8, f42, q2, p10, f46, ?_, ?_, f54.trans e8, by omega, by omega, by omega, by omega, ?_, ?_, by omega⟩))⟩
  · rw [r10_1386]; exact ⟨by omega, by omega⟩
  · rw [r10_1386]; exact w10_0
  · exact Psi0_14 r10_1382 (f50.trans e5) (by rw [r10_1390]; exact WW_1390)
  · rw [r10_1398]; exact XR_wide (by omega) (by omega) WW_1398
noncomputable def letT (r : tS → Option (Int × tS)) (q : Int) (σ : tS) : Option (Int × tS) := (T_needed 2 σ).bind fun p14 => (T_need 58 p14.2).bind fun p15 => (T_readType p15).bind fun p16 => (T_need 61 p16.2).bind fun p17 => (r p17).bind fun p18 => (T_need 13 p18.2).bind fun p19 => (r p19).bind fun p20 => (T_node 15 q p14.1 p16.1 p18.1 p20.1 p20.2).bind fun p21 => some (p21.1, p21.2)
set_option maxHeartbeats 8000000 in
theorem let_rel (hG : om_okG G) (R : RXall G A t N S b m K nc rT rC) (RF : RFall N S b m nc 1 rT) (hn : 0 ≤ nc ∧ nc ≤ 20) {i0 M0 : Nat} {σ0 σ : tS} {h0 h : om_H} (H : At G A t N S b m (i0 + 1) nc M0 σ h) (D0 : nd σ0 σ M0) (X0' : hx t h0 h) (z0 : hz h = hz h0) (y0 : hu h = hu h0) (h84 : M0 + 3 * (m - i0) + 60 ≤ 8400) :
    RO G A t N S b m i0 nc M0 σ0 h0 (PX G A S b (K + 1) i0 M0 h0) (letT rT ((b + i0 : Nat) : Int) σ) (C_0_readLet G rC t (tokq S i0 : Int) h) := by
  have kA : kd (nO h 25 8) (hz h) = 25 := by rw [kd_nO, if_pos rfl]
  have ht := At_t H
  have hz0 : hz h ≠ 0 := by omega
  have hat : hz h ≠ t := by omega
  unfold C_0_readLet C_25_init C_23_init C_0_at letT
  rw [gd_pos kA, gd_pos kA, gd_pos hz0]
  simp only [Option.bind_some]
  rw [gd_pos ⟨24, by decide, kA⟩]
  simp only [Option.bind_some]
  have H1 : At G A t N S b m (i0 + 1) nc M0 σ (sI (nO h 25 8) 1372 (hz h) (tokq S i0 : Int)) := At_sI (At_nO H 25 8) hat
  have L1 : lnk t i0 M0 σ0 h0 (i0 + 1) M0 σ (sI (nO h 25 8) 1372 (hz h) (tokq S i0 : Int)) := ⟨by omega, D0, Nat.le_refl _, hx_sI (hx_trans X0' (hx_nO h 25 8)) (by omega), by show hz h + 1 ≤ _; omega, by show hu h + 8 ≤ _; omega⟩
  have k1 : kd (sI (nO h 25 8) 1372 (hz h) (tokq S i0 : Int)) (hz h) = 25 := kA
  have p1 : fI (sI (nO h 25 8) 1372 (hz h) (tokq S i0 : Int)) 1372 (hz h) = (tokq S i0 : Int) := fI_eq
  have z1 : hz (sI (nO h 25 8) 1372 (hz h) (tokq S i0 : Int)) = hz h + 1 := rfl
  have y1 : hu (sI (nO h 25 8) 1372 (hz h) (tokq S i0 : Int)) = hu h + 8 := rfl
  have r1_1382 : fR (sI (nO h 25 8) 1372 (hz h) (tokq S i0 : Int)) 1382 (hz h) = 0 := by rw [fR_sI, fR_nO, if_pos rfl]
  have a1 : hz h < hz (sI (nO h 25 8) 1372 (hz h) (tokq S i0 : Int)) := Nat.lt_succ_self _
  have ao : hz h0 ≤ hz h := Nat.le_of_eq z0.symm
  generalize sI (nO h 25 8) 1372 (hz h) (tokq S i0 : Int) = h1 at *
  refine RO_gd ⟨.inr k1, At_kd H1⟩ ?_
  refine RO_needK hG 4 H1 L1 (by omega) h84 (e := 2) (by omega) rfl (fun q2 τ2 h2 H2 D2 x2 v2 z2 y2 L2 => ?_) ?_
  rotate_left
  · intro _ _ _ _ T1 T2 T3 T4
    exact TF_need T1 (TF_rec (typeF30 hn) T1 T2 T3 T4 (fun _ _ _ T1 T2 T3 T4 => TF_need T1 (TF_rec RF T1 T2 T3 T4 (fun _ _ _ T1 T2 T3 T4 => TF_need T1 (TF_rec RF T1 T2 T3 T4 (fun _ _ _ T1 T2 T3 T4 => TF_node T1 T2 T3 T4 (fun _ _ _ T1 T2 T3 T4 => TF_end T1 T2)))))))
  have a2 : hz h < hz h2 := Nat.lt_of_lt_of_le a1 x2.1
  have k2 : kd h2 (hz h) = 25 := (x2.2.2.1 _ a1).trans k1
  have p2 : fI h2 1372 (hz h) = (tokq S i0 : Int) := (x2.2.2.2.1 1372 _ a1 hat).trans p1
  have r2_1382 : fR h2 1382 (hz h) = 0 := (x2.2.2.2.2.1 1382 _ a1 hat).trans r1_1382
  clear a1 k1 p1 r1_1382
  have w2_0 := v2
  have l2_0 : hz h1 < hz h2 := by omega
  have u_0 : hz h1 ≠ t := by omega
  have uo_0 : hz h1 ≠ hz h := by omega
  clear x2 D2 H1 L1 v2
  refine RO_gd ⟨k2, At_kd H2⟩ ?_
  have a3 : hz h < hz (sR h2 1402 (hz h) (hz h1)) := a2
  have k3 : kd (sR h2 1402 (hz h) (hz h1)) (hz h) = 25 := k2
  have p3 : fI (sR h2 1402 (hz h) (hz h1)) 1372 (hz h) = (tokq S i0 : Int) := p2
  have r3_1382 : fR (sR h2 1402 (hz h) (hz h1)) 1382 (hz h) = 0 := (fR_ne (by decide)).trans r2_1382
  have r3_1402 : fR (sR h2 1402 (hz h) (hz h1)) 1402 (hz h) = hz h1 := fR_eq
  have l3_0 : hz h1 < hz (sR h2 1402 (hz h) (hz h1)) := l2_0
  have w3_0 : wd (sR h2 1402 (hz h) (hz h1)) A S (hz h1) (i0 + 1) := ⟨w2_0.1, (fR_na uo_0).trans w2_0.2.1, w2_0.2.2⟩
  have H3 : At G A t N S b m (i0 + 1 + 1) nc (M0) τ2 (sR h2 1402 (hz h) (hz h1)) := At_sR H2 hat
  have L3 : lnk t i0 M0 σ0 h0 (i0 + 1 + 1) (M0) τ2 (sR h2 1402 (hz h) (hz h1)) := lnk_sR L2 ao
  have z3 : hz (sR h2 1402 (hz h) (hz h1)) = hz h2 := rfl
  have y3 : hu (sR h2 1402 (hz h) (hz h1)) = hu h2 := rfl
  clear a2 k2 p2 r2_1382 l2_0 w2_0 H2 L2
  generalize sR h2 1402 (hz h) (hz h1) = h3 at *
  refine RO_need hG 4 H3 L3 (by omega) h84 (v := 58) (.inr (.inr (by omega))) (by decide) (by decide) (fun q4 τ4 h4 H4 D4 X4 L4 => ?_) ?_
  rotate_left
  · intro _ _ _ T1 T2 T3 T4
    exact TF_rec (typeF30 hn) T1 T2 T3 T4 (fun _ _ _ T1 T2 T3 T4 => TF_need T1 (TF_rec RF T1 T2 T3 T4 (fun _ _ _ T1 T2 T3 T4 => TF_need T1 (TF_rec RF T1 T2 T3 T4 (fun _ _ _ T1 T2 T3 T4 => TF_node T1 T2 T3 T4 (fun _ _ _ T1 T2 T3 T4 => TF_end T1 T2))))))
  have x4 := hx_onlyT X4
  have z4 : hz h4 = hz h3 := X4.2.2.2.2.2.2.2.2.1
  have y4 : hu h4 = hu h3 := X4.2.2.2.2.2.2.2.2.2.1
  have a4 : hz h < hz h4 := Nat.lt_of_lt_of_le a3 x4.1
  have k4 : kd h4 (hz h) = 25 := (x4.2.2.1 _ a3).trans k3
  have p4 : fI h4 1372 (hz h) = (tokq S i0 : Int) := (x4.2.2.2.1 1372 _ a3 hat).trans p3
  have r4_1382 : fR h4 1382 (hz h) = 0 := (x4.2.2.2.2.1 1382 _ a3 hat).trans r3_1382
  have r4_1402 : fR h4 1402 (hz h) = hz h1 := (x4.2.2.2.2.1 1402 _ a3 hat).trans r3_1402
  have l4_0 : hz h1 < hz h4 := Nat.lt_of_lt_of_le l3_0 x4.1
  have w4_0 : wd h4 A S (hz h1) (i0 + 1) := wd_hx x4 l3_0 u_0 w3_0
  clear a3 k3 p3 r3_1382 r3_1402 l3_0 w3_0
  clear X4 x4 D4 H3 L3
  refine RO_bind 3 L4 (by omega) h84 (At_i H4) (type_RO hG hn H4 (At_84 L4 (by omega) h84 (At_i H4))) (fun j5 M5 τ5 h5 v5 t5 i5 H5 D5 x5 m5 P5 => ?_) ?_
  rotate_left
  · intro _ _ _ _ T1 T2 T3 T4
    exact TF_need T1 (TF_rec RF T1 T2 T3 T4 (fun _ _ _ T1 T2 T3 T4 => TF_need T1 (TF_rec RF T1 T2 T3 T4 (fun _ _ _ T1 T2 T3 T4 => TF_node T1 T2 T3 T4 (fun _ _ _ T1 T2 T3 T4 => TF_end T1 T2)))))
  obtain ⟨n5, kk5, e5, g5, W5, _, a5, b5, c5, f5⟩ := P5
  have z5 := x5.1
  have L5 := lnk_call L4 i5 D5 x5 m5 (by omega) (by omega)
  have a5 : hz h < hz h5 := Nat.lt_of_lt_of_le a4 x5.1
  have k5 : kd h5 (hz h) = 25 := (x5.2.2.1 _ a4).trans k4
  have p5 : fI h5 1372 (hz h) = (tokq S i0 : Int) := (x5.2.2.2.1 1372 _ a4 hat).trans p4
  have r5_1382 : fR h5 1382 (hz h) = 0 := (x5.2.2.2.2.1 1382 _ a4 hat).trans r4_1382
  have r5_1402 : fR h5 1402 (hz h) = hz h1 := (x5.2.2.2.2.1 1402 _ a4 hat).trans r4_1402
  have l5_0 : hz h1 < hz h5 := Nat.lt_of_lt_of_le l4_0 x5.1
  have w5_0 : wd h5 A S (hz h1) (i0 + 1) := wd_hx x5 l4_0 u_0 w4_0
  clear a4 k4 p4 r4_1382 r4_1402 l4_0 w4_0
  have s_1406 : t < hz h4 := by omega
  have so_1406 : hz h < hz h4 := by omega
  have g5_1406 : hz h5 ≤ hz h5 := Nat.le_refl _
  have b5_1406 : M5 ≤ M5 := Nat.le_refl _
  clear x5 D5 H4 L4
  have hk5_1406 : hk (hz h4) (hz h5) h5 h5 := hk_refl _
  have nl5_1406 : nall (M0) M5 τ5 τ5 := fun _ _ _ _ _ => rfl
  refine RO_gd ⟨k5, At_kd H5⟩ ?_
  have a6 : hz h < hz (sR h5 1406 (hz h) (t5)) := a5
  have k6 : kd (sR h5 1406 (hz h) (t5)) (hz h) = 25 := k5
  have p6 : fI (sR h5 1406 (hz h) (t5)) 1372 (hz h) = (tokq S i0 : Int) := p5
  have r6_1382 : fR (sR h5 1406 (hz h) (t5)) 1382 (hz h) = 0 := (fR_ne (by decide)).trans r5_1382
  have r6_1402 : fR (sR h5 1406 (hz h) (t5)) 1402 (hz h) = hz h1 := (fR_ne (by decide)).trans r5_1402
  have r6_1406 : fR (sR h5 1406 (hz h) (t5)) 1406 (hz h) = t5 := fR_eq
  have l6_0 : hz h1 < hz (sR h5 1406 (hz h) (t5)) := l5_0
  have w6_0 : wd (sR h5 1406 (hz h) (t5)) A S (hz h1) (i0 + 1) := ⟨w5_0.1, (fR_na uo_0).trans w5_0.2.1, w5_0.2.2⟩
  have g6_1406 : hz h5 ≤ hz (sR h5 1406 (hz h) (t5)) := g5_1406
  have hk6_1406 : hk (hz h4) (hz h5) h5 (sR h5 1406 (hz h) (t5)) := hk_trans hk5_1406 (hk_sR (.inl so_1406) _)
  have nl6_1406 := nl5_1406
  have b6_1406 := b5_1406
  have H6 : At G A t N S b m (j5) nc (M5) τ5 (sR h5 1406 (hz h) (t5)) := At_sR H5 hat
  have L6 : lnk t i0 M0 σ0 h0 (j5) (M5) τ5 (sR h5 1406 (hz h) (t5)) := lnk_sR L5 ao
  have z6 : hz (sR h5 1406 (hz h) (t5)) = hz h5 := rfl
  have y6 : hu (sR h5 1406 (hz h) (t5)) = hu h5 := rfl
  clear a5 k5 p5 r5_1382 r5_1402 l5_0 w5_0 g5_1406 hk5_1406 nl5_1406 b5_1406 H5 L5
  generalize sR h5 1406 (hz h) (t5) = h6 at *
  refine RO_need hG 3 H6 L6 (by omega) h84 (v := 61) (.inr (.inr (by omega))) (by decide) (by decide) (fun q7 τ7 h7 H7 D7 X7 L7 => ?_) ?_
  rotate_left
  · intro _ _ _ T1 T2 T3 T4
    exact TF_rec RF T1 T2 T3 T4 (fun _ _ _ T1 T2 T3 T4 => TF_need T1 (TF_rec RF T1 T2 T3 T4 (fun _ _ _ T1 T2 T3 T4 => TF_node T1 T2 T3 T4 (fun _ _ _ T1 T2 T3 T4 => TF_end T1 T2))))
  have x7 := hx_onlyT X7
  have z7 : hz h7 = hz h6 := X7.2.2.2.2.2.2.2.2.1
  have y7 : hu h7 = hu h6 := X7.2.2.2.2.2.2.2.2.2.1
  have a7 : hz h < hz h7 := Nat.lt_of_lt_of_le a6 x7.1
  have k7 : kd h7 (hz h) = 25 := (x7.2.2.1 _ a6).trans k6
  have p7 : fI h7 1372 (hz h) = (tokq S i0 : Int) := (x7.2.2.2.1 1372 _ a6 hat).trans p6
  have r7_1382 : fR h7 1382 (hz h) = 0 := (x7.2.2.2.2.1 1382 _ a6 hat).trans r6_1382
  have r7_1402 : fR h7 1402 (hz h) = hz h1 := (x7.2.2.2.2.1 1402 _ a6 hat).trans r6_1402
  have r7_1406 : fR h7 1406 (hz h) = t5 := (x7.2.2.2.2.1 1406 _ a6 hat).trans r6_1406
  have l7_0 : hz h1 < hz h7 := Nat.lt_of_lt_of_le l6_0 x7.1
  have w7_0 : wd h7 A S (hz h1) (i0 + 1) := wd_hx x7 l6_0 u_0 w6_0
  have g7_1406 : hz h5 ≤ hz h7 := Nat.le_trans g6_1406 x7.1
  have hk7_1406 : hk (hz h4) (hz h5) h5 h7 := hk_trans hk6_1406 (hx_hk x7 g6_1406 s_1406)
  have nl7_1406 : nall (M0) (M5) τ5 τ7 := nall_trans nl6_1406 (nd_nall D7 b6_1406)
  have b7_1406 : M5 ≤ M5 := b6_1406
  clear a6 k6 p6 r6_1382 r6_1402 r6_1406 l6_0 w6_0 g6_1406 hk6_1406 nl6_1406 b6_1406
  clear X7 x7 D7 H6 L6
  refine RO_bind 2 L7 (by omega) h84 (At_i H7) (R _ _ _ _ H7 (At_84 L7 (by omega) h84 (At_i H7))) (fun j8 M8 τ8 h8 v8 t8 i8 H8 D8 x8 m8 P8 => ?_) ?_
  rotate_left
  · intro _ _ _ _ T1 T2 T3 T4
    exact TF_need T1 (TF_rec RF T1 T2 T3 T4 (fun _ _ _ T1 T2 T3 T4 => TF_node T1 T2 T3 T4 (fun _ _ _ T1 T2 T3 T4 => TF_end T1 T2)))
  obtain ⟨n8, e8, g8, W8, a8, b8, c8, f8⟩ := P8
  have z8 := x8.1
  have L8 := lnk_call L7 i8 D8 x8 m8 (by omega) (by omega)
  have a8 : hz h < hz h8 := Nat.lt_of_lt_of_le a7 x8.1
  have k8 : kd h8 (hz h) = 25 := (x8.2.2.1 _ a7).trans k7
  have p8 : fI h8 1372 (hz h) = (tokq S i0 : Int) := (x8.2.2.2.1 1372 _ a7 hat).trans p7
  have r8_1382 : fR h8 1382 (hz h) = 0 := (x8.2.2.2.2.1 1382 _ a7 hat).trans r7_1382
  have r8_1402 : fR h8 1402 (hz h) = hz h1 := (x8.2.2.2.2.1 1402 _ a7 hat).trans r7_1402
  have r8_1406 : fR h8 1406 (hz h) = t5 := (x8.2.2.2.2.1 1406 _ a7 hat).trans r7_1406
  have l8_0 : hz h1 < hz h8 := Nat.lt_of_lt_of_le l7_0 x8.1
  have w8_0 : wd h8 A S (hz h1) (i0 + 1) := wd_hx x8 l7_0 u_0 w7_0
  have g8_1406 : hz h5 ≤ hz h8 := Nat.le_trans g7_1406 x8.1
  have hk8_1406 : hk (hz h4) (hz h5) h5 h8 := hk_trans hk7_1406 (hx_hk x8 g7_1406 s_1406)
  have nl8_1406 : nall (M0) (M5) τ5 τ8 := nall_trans nl7_1406 (nd_nall D8 b7_1406)
  have b8_1406 : M5 ≤ M8 := Nat.le_trans b7_1406 m8
  clear a7 k7 p7 r7_1382 r7_1402 r7_1406 l7_0 w7_0 g7_1406 hk7_1406 nl7_1406 b7_1406
  have s_1414 : t < hz h7 := by omega
  have so_1414 : hz h < hz h7 := by omega
  have g8_1414 : hz h8 ≤ hz h8 := Nat.le_refl _
  have b8_1414 : M8 ≤ M8 := Nat.le_refl _
  clear x8 D8 H7 L7
  have hk8_1414 : hk (hz h7) (hz h8) h8 h8 := hk_refl _
  have nl8_1414 : nall (M5) M8 τ8 τ8 := fun _ _ _ _ _ => rfl
  refine RO_gd ⟨k8, At_kd H8⟩ ?_
  have a9 : hz h < hz (sR h8 1414 (hz h) (t8)) := a8
  have k9 : kd (sR h8 1414 (hz h) (t8)) (hz h) = 25 := k8
  have p9 : fI (sR h8 1414 (hz h) (t8)) 1372 (hz h) = (tokq S i0 : Int) := p8
  have r9_1382 : fR (sR h8 1414 (hz h) (t8)) 1382 (hz h) = 0 := (fR_ne (by decide)).trans r8_1382
  have r9_1402 : fR (sR h8 1414 (hz h) (t8)) 1402 (hz h) = hz h1 := (fR_ne (by decide)).trans r8_1402
  have r9_1406 : fR (sR h8 1414 (hz h) (t8)) 1406 (hz h) = t5 := (fR_ne (by decide)).trans r8_1406
  have r9_1414 : fR (sR h8 1414 (hz h) (t8)) 1414 (hz h) = t8 := fR_eq
  have l9_0 : hz h1 < hz (sR h8 1414 (hz h) (t8)) := l8_0
  have w9_0 : wd (sR h8 1414 (hz h) (t8)) A S (hz h1) (i0 + 1) := ⟨w8_0.1, (fR_na uo_0).trans w8_0.2.1, w8_0.2.2⟩
  have g9_1406 : hz h5 ≤ hz (sR h8 1414 (hz h) (t8)) := g8_1406
  have hk9_1406 : hk (hz h4) (hz h5) h5 (sR h8 1414 (hz h) (t8)) := hk_trans hk8_1406 (hk_sR (.inl so_1406) _)
  have nl9_1406 := nl8_1406
  have b9_1406 := b8_1406
  have g9_1414 : hz h8 ≤ hz (sR h8 1414 (hz h) (t8)) := g8_1414
  have hk9_1414 : hk (hz h7) (hz h8) h8 (sR h8 1414 (hz h) (t8)) := hk_trans hk8_1414 (hk_sR (.inl so_1414) _)
  have nl9_1414 := nl8_1414
  have b9_1414 := b8_1414
  have H9 : At G A t N S b m (j8) nc (M8) τ8 (sR h8 1414 (hz h) (t8)) := At_sR H8 hat
  have L9 : lnk t i0 M0 σ0 h0 (j8) (M8) τ8 (sR h8 1414 (hz h) (t8)) := lnk_sR L8 ao
  have z9 : hz (sR h8 1414 (hz h) (t8)) = hz h8 := rfl
  have y9 : hu (sR h8 1414 (hz h) (t8)) = hu h8 := rfl
  clear a8 k8 p8 r8_1382 r8_1402 r8_1406 l8_0 w8_0 g8_1406 hk8_1406 nl8_1406 b8_1406 g8_1414 hk8_1414 nl8_1414 b8_1414 H8 L8
  generalize sR h8 1414 (hz h) (t8) = h9 at *
  refine RO_need3 hG 2 H9 L9 (by omega) h84 (j := 17) rfl (by decide) (by decide) (fun q10 τ10 h10 H10 D10 X10 L10 => ?_) ?_
  rotate_left
  · intro _ _ _ T1 T2 T3 T4
    exact TF_rec RF T1 T2 T3 T4 (fun _ _ _ T1 T2 T3 T4 => TF_node T1 T2 T3 T4 (fun _ _ _ T1 T2 T3 T4 => TF_end T1 T2))
  have x10 := hx_onlyT X10
  have z10 : hz h10 = hz h9 := X10.2.2.2.2.2.2.2.2.1
  have y10 : hu h10 = hu h9 := X10.2.2.2.2.2.2.2.2.2.1
  have a10 : hz h < hz h10 := Nat.lt_of_lt_of_le a9 x10.1
  have k10 : kd h10 (hz h) = 25 := (x10.2.2.1 _ a9).trans k9
  have p10 : fI h10 1372 (hz h) = (tokq S i0 : Int) := (x10.2.2.2.1 1372 _ a9 hat).trans p9
  have r10_1382 : fR h10 1382 (hz h) = 0 := (x10.2.2.2.2.1 1382 _ a9 hat).trans r9_1382
  have r10_1402 : fR h10 1402 (hz h) = hz h1 := (x10.2.2.2.2.1 1402 _ a9 hat).trans r9_1402
  have r10_1406 : fR h10 1406 (hz h) = t5 := (x10.2.2.2.2.1 1406 _ a9 hat).trans r9_1406
  have r10_1414 : fR h10 1414 (hz h) = t8 := (x10.2.2.2.2.1 1414 _ a9 hat).trans r9_1414
  have l10_0 : hz h1 < hz h10 := Nat.lt_of_lt_of_le l9_0 x10.1
  have w10_0 : wd h10 A S (hz h1) (i0 + 1) := wd_hx x10 l9_0 u_0 w9_0
  have g10_1406 : hz h5 ≤ hz h10 := Nat.le_trans g9_1406 x10.1
  have hk10_1406 : hk (hz h4) (hz h5) h5 h10 := hk_trans hk9_1406 (hx_hk x10 g9_1406 s_1406)
  have nl10_1406 : nall (M0) (M5) τ5 τ10 := nall_trans nl9_1406 (nd_nall D10 b9_1406)
  have b10_1406 : M5 ≤ M8 := b9_1406
  have g10_1414 : hz h8 ≤ hz h10 := Nat.le_trans g9_1414 x10.1
  have hk10_1414 : hk (hz h7) (hz h8) h8 h10 := hk_trans hk9_1414 (hx_hk x10 g9_1414 s_1414)
  have nl10_1414 : nall (M5) (M8) τ8 τ10 := nall_trans nl9_1414 (nd_nall D10 b9_1414)
  have b10_1414 : M8 ≤ M8 := b9_1414
  clear a9 k9 p9 r9_1382 r9_1402 r9_1406 r9_1414 l9_0 w9_0 g9_1406 hk9_1406 nl9_1406 b9_1406 g9_1414 hk9_1414 nl9_1414 b9_1414
  clear X10 x10 D10 H9 L9
  refine RO_bind 1 L10 (by omega) h84 (At_i H10) (R _ _ _ _ H10 (At_84 L10 (by omega) h84 (At_i H10))) (fun j11 M11 τ11 h11 v11 t11 i11 H11 D11 x11 m11 P11 => ?_) ?_
  rotate_left
  · intro _ _ _ _ T1 T2 T3 T4
    exact TF_node T1 T2 T3 T4 (fun _ _ _ T1 T2 T3 T4 => TF_end T1 T2)
  obtain ⟨n11, e11, g11, W11, a11, b11, c11, f11⟩ := P11
  have z11 := x11.1
  have L11 := lnk_call L10 i11 D11 x11 m11 (by omega) (by omega)
  have a11 : hz h < hz h11 := Nat.lt_of_lt_of_le a10 x11.1
  have k11 : kd h11 (hz h) = 25 := (x11.2.2.1 _ a10).trans k10
  have p11 : fI h11 1372 (hz h) = (tokq S i0 : Int) := (x11.2.2.2.1 1372 _ a10 hat).trans p10
  have r11_1382 : fR h11 1382 (hz h) = 0 := (x11.2.2.2.2.1 1382 _ a10 hat).trans r10_1382
  have r11_1402 : fR h11 1402 (hz h) = hz h1 := (x11.2.2.2.2.1 1402 _ a10 hat).trans r10_1402
  have r11_1406 : fR h11 1406 (hz h) = t5 := (x11.2.2.2.2.1 1406 _ a10 hat).trans r10_1406
  have r11_1414 : fR h11 1414 (hz h) = t8 := (x11.2.2.2.2.1 1414 _ a10 hat).trans r10_1414
  have l11_0 : hz h1 < hz h11 := Nat.lt_of_lt_of_le l10_0 x11.1
  have w11_0 : wd h11 A S (hz h1) (i0 + 1) := wd_hx x11 l10_0 u_0 w10_0
  have g11_1406 : hz h5 ≤ hz h11 := Nat.le_trans g10_1406 x11.1
  have hk11_1406 : hk (hz h4) (hz h5) h5 h11 := hk_trans hk10_1406 (hx_hk x11 g10_1406 s_1406)
  have nl11_1406 : nall (M0) (M5) τ5 τ11 := nall_trans nl10_1406 (nd_nall D11 b10_1406)
  have b11_1406 : M5 ≤ M11 := Nat.le_trans b10_1406 m11
  have g11_1414 : hz h8 ≤ hz h11 := Nat.le_trans g10_1414 x11.1
  have hk11_1414 : hk (hz h7) (hz h8) h8 h11 := hk_trans hk10_1414 (hx_hk x11 g10_1414 s_1414)
  have nl11_1414 : nall (M5) (M8) τ8 τ11 := nall_trans nl10_1414 (nd_nall D11 b10_1414)
  have b11_1414 : M8 ≤ M11 := Nat.le_trans b10_1414 m11
  clear a10 k10 p10 r10_1382 r10_1402 r10_1406 r10_1414 l10_0 w10_0 g10_1406 hk10_1406 nl10_1406 b10_1406 g10_1414 hk10_1414 nl10_1414 b10_1414
  have s_1418 : t < hz h10 := by omega
  have so_1418 : hz h < hz h10 := by omega
  have g11_1418 : hz h11 ≤ hz h11 := Nat.le_refl _
  have b11_1418 : M11 ≤ M11 := Nat.le_refl _
  clear x11 D11 H10 L10
  have hk11_1418 : hk (hz h10) (hz h11) h11 h11 := hk_refl _
  have nl11_1418 : nall (M8) M11 τ11 τ11 := fun _ _ _ _ _ => rfl
  obtain ⟨τ12, d1, d2, d3, d4, d5⟩ := t_node H11.1 (by have := At_i H11; omega) 15 ((b + i0 : Nat) : Int) ((b + (i0 + 1) : Nat) : Int) v5 v8 v11
  rw [d1, Option.bind_some]
  have nl12_1406 : nall (M0) (M5) τ5 τ12 := nall_trans nl11_1406 (nd_nall d4 b11_1406)
  have b12_1406 : M5 ≤ M11 + 1 := Nat.le_succ_of_le b11_1406
  have g12_1406 := g11_1406
  have hk12_1406 := hk11_1406
  have nl12_1414 : nall (M5) (M8) τ8 τ12 := nall_trans nl11_1414 (nd_nall d4 b11_1414)
  have b12_1414 : M8 ≤ M11 + 1 := Nat.le_succ_of_le b11_1414
  have g12_1414 := g11_1414
  have hk12_1414 := hk11_1414
  have nl12_1418 : nall (M8) (M11) τ11 τ12 := nall_trans nl11_1418 (nd_nall d4 b11_1418)
  have b12_1418 : M11 ≤ M11 + 1 := Nat.le_succ_of_le b11_1418
  have g12_1418 := g11_1418
  have hk12_1418 := hk11_1418
  have nl12_n : nall (M11) (M11 + 1) τ12 τ12 := fun _ _ _ _ _ => rfl
  have H12 : At G A t N S b m (j11) nc (M11 + 1) τ12 h11 := ⟨d2, H11.2⟩
  have L12 : lnk t i0 M0 σ0 h0 (j11) (M11 + 1) τ12 h11 := ⟨L11.1, nd_trans L11.2.1 d4 L11.2.2.1, by have := L11.2.2.1; omega, L11.2.2.2⟩
  have a12 := a11
  have k12 := k11
  have p12 := p11
  have r12_1382 := r11_1382
  have r12_1402 := r11_1402
  have r12_1406 := r11_1406
  have r12_1414 := r11_1414
  have w12_0 := w11_0
  have l12_0 := l11_0
  clear a11 k11 p11 r11_1382 r11_1402 r11_1406 r11_1414 l11_0 w11_0 g11_1406 hk11_1406 nl11_1406 b11_1406 g11_1414 hk11_1414 nl11_1414 b11_1414 g11_1418 hk11_1418 nl11_1418 b11_1418 H11 L11
  refine RO_gd k12 ?_
  have a13 : hz h < hz (sR h11 1418 (hz h) (t11)) := a12
  have k13 : kd (sR h11 1418 (hz h) (t11)) (hz h) = 25 := k12
  have p13 : fI (sR h11 1418 (hz h) (t11)) 1372 (hz h) = (tokq S i0 : Int) := p12
  have r13_1382 : fR (sR h11 1418 (hz h) (t11)) 1382 (hz h) = 0 := (fR_ne (by decide)).trans r12_1382
  have r13_1402 : fR (sR h11 1418 (hz h) (t11)) 1402 (hz h) = hz h1 := (fR_ne (by decide)).trans r12_1402
  have r13_1406 : fR (sR h11 1418 (hz h) (t11)) 1406 (hz h) = t5 := (fR_ne (by decide)).trans r12_1406
  have r13_1414 : fR (sR h11 1418 (hz h) (t11)) 1414 (hz h) = t8 := (fR_ne (by decide)).trans r12_1414
  have r13_1418 : fR (sR h11 1418 (hz h) (t11)) 1418 (hz h) = t11 := fR_eq
  have l13_0 : hz h1 < hz (sR h11 1418 (hz h) (t11)) := l12_0
  have w13_0 : wd (sR h11 1418 (hz h) (t11)) A S (hz h1) (i0 + 1) := ⟨w12_0.1, (fR_na uo_0).trans w12_0.2.1, w12_0.2.2⟩
  have g13_1406 : hz h5 ≤ hz (sR h11 1418 (hz h) (t11)) := g12_1406
  have hk13_1406 : hk (hz h4) (hz h5) h5 (sR h11 1418 (hz h) (t11)) := hk_trans hk12_1406 (hk_sR (.inl so_1406) _)
  have nl13_1406 := nl12_1406
  have b13_1406 := b12_1406
  have g13_1414 : hz h8 ≤ hz (sR h11 1418 (hz h) (t11)) := g12_1414
  have hk13_1414 : hk (hz h7) (hz h8) h8 (sR h11 1418 (hz h) (t11)) := hk_trans hk12_1414 (hk_sR (.inl so_1414) _)
  have nl13_1414 := nl12_1414
  have b13_1414 := b12_1414
  have g13_1418 : hz h11 ≤ hz (sR h11 1418 (hz h) (t11)) := g12_1418
  have hk13_1418 : hk (hz h10) (hz h11) h11 (sR h11 1418 (hz h) (t11)) := hk_trans hk12_1418 (hk_sR (.inl so_1418) _)
  have nl13_1418 := nl12_1418
  have b13_1418 := b12_1418
  have nl13_n := nl12_n
  have H13 : At G A t N S b m (j11) nc (M11 + 1) τ12 (sR h11 1418 (hz h) (t11)) := At_sR H12 hat
  have L13 : lnk t i0 M0 σ0 h0 (j11) (M11 + 1) τ12 (sR h11 1418 (hz h) (t11)) := lnk_sR L12 ao
  have z13 : hz (sR h11 1418 (hz h) (t11)) = hz h11 := rfl
  have y13 : hu (sR h11 1418 (hz h) (t11)) = hu h11 := rfl
  clear a12 k12 p12 r12_1382 r12_1402 r12_1406 r12_1414 l12_0 w12_0 g12_1406 hk12_1406 nl12_1406 b12_1406 g12_1414 hk12_1414 nl12_1414 b12_1414 g12_1418 hk12_1418 nl12_1418 b12_1418 nl12_n H12 L12
  generalize sR h11 1418 (hz h) (t11) = h13 at *
  refine .inl ⟨j11, M11 + 1, τ12, h13, ((M11 : Nat) : Int), hz h, rfl, rfl, by omega, H13, L13.2.1, L13.2.2.2.1, by omega, M11, rfl, by omega, ?_, by omega, by omega, by omega, by omega⟩
  have f38 := (nl13_n 538 (by simp) (M11) (Nat.le_refl _) (by omega)).trans d3.1
  have f42 := (nl13_n 542 (by simp) (M11) (Nat.le_refl _) (by omega)).trans d3.2.1
  have f46 := (nl13_n 546 (by simp) (M11) (Nat.le_refl _) (by omega)).trans d3.2.2.1
  have f50 := (nl13_n 550 (by simp) (M11) (Nat.le_refl _) (by omega)).trans d3.2.2.2.1
  have f54 := (nl13_n 554 (by simp) (M11) (Nat.le_refl _) (by omega)).trans d3.2.2.2.2.1
  have f58 := (nl13_n 558 (by simp) (M11) (Nat.le_refl _) (by omega)).trans d3.2.2.2.2.2.1
  have WW_1406 := WR_keep W5 hk13_1406 (nall_nk nl13_1406 (Nat.le_refl _) (Nat.le_refl _))
  have wi_1406 := WR_in W5
  have WW_1414 := X0_keep W8 hk13_1414 nl13_1414
  have wi_1414 := XR_in _ _ _ _ _ _ _ W8
  have WW_1418 := X0_keep W11 hk13_1418 nl13_1418
  have wi_1418 := XR_in _ _ _ _ _ _ _ W11
  refine ⟨by omega, by omega, by omega, by omega, .inr (.inr (.inr (.inl ⟨k13, f38, rfl, i0, n8, n11, M5, M8, hz h4, hz h5, hz h8, hz h11, f42, q2, p13, f46, ?_, ?_, f54.trans e8, f58.trans e11, by omega, by omega, by omega, by omega, ?_, ?_, ?_, by omega⟩)))⟩
  · rw [r13_1402]; exact ⟨by omega, by omega⟩
  · rw [r13_1402]; exact w13_0
  · exact Psi0_15 r13_1382 (f50.trans e5) (by rw [r13_1406]; exact WW_1406)
  · rw [r13_1414]; exact XR_wide (by omega) (by omega) WW_1414
  · rw [r13_1418]; exact XR_wide (by omega) (by omega) WW_1418
noncomputable def ifT (r : tS → Option (Int × tS)) (q : Int) (σ : tS) : Option (Int × tS) := (r σ).bind fun p8 => (T_need 10 p8.2).bind fun p9 => (r p9).bind fun p10 => (T_need 11 p10.2).bind fun p11 => (r p11).bind fun p12 => (T_node 16 q p8.1 p10.1 p12.1 (-1) p12.2).bind fun p13 => some (p13.1, p13.2)
set_option maxHeartbeats 8000000 in
theorem if_rel (hG : om_okG G) (R : RXall G A t N S b m K nc rT rC) (RF : RFall N S b m nc 1 rT) (hn : 0 ≤ nc ∧ nc ≤ 20) {i0 M0 : Nat} {σ0 σ : tS} {h0 h : om_H} (H : At G A t N S b m (i0 + 1) nc M0 σ h) (D0 : nd σ0 σ M0) (X0' : hx t h0 h) (z0 : hz h = hz h0) (y0 : hu h = hu h0) (h84 : M0 + 3 * (m - i0) + 60 ≤ 8400) :
    RO G A t N S b m i0 nc M0 σ0 h0 (PX G A S b (K + 1) i0 M0 h0) (ifT rT ((b + i0 : Nat) : Int) σ) (C_0_readIf G rC t (tokq S i0 : Int) h) := by
  have kA : kd (nO h 26 6) (hz h) = 26 := by rw [kd_nO, if_pos rfl]
  have ht := At_t H
  have hz0 : hz h ≠ 0 := by omega
  have hat : hz h ≠ t := by omega
  unfold C_0_readIf C_26_init C_23_init C_0_at ifT
  rw [gd_pos kA, gd_pos kA, gd_pos hz0]
  simp only [Option.bind_some]
  rw [gd_pos ⟨25, by decide, kA⟩]
  simp only [Option.bind_some]
  have H1 : At G A t N S b m (i0 + 1) nc M0 σ (sI (nO h 26 6) 1372 (hz h) (tokq S i0 : Int)) := At_sI (At_nO H 26 6) hat
  have L1 : lnk t i0 M0 σ0 h0 (i0 + 1) M0 σ (sI (nO h 26 6) 1372 (hz h) (tokq S i0 : Int)) := ⟨by omega, D0, Nat.le_refl _, hx_sI (hx_trans X0' (hx_nO h 26 6)) (by omega), by show hz h + 1 ≤ _; omega, by show hu h + 6 ≤ _; omega⟩
  have k1 : kd (sI (nO h 26 6) 1372 (hz h) (tokq S i0 : Int)) (hz h) = 26 := kA
  have p1 : fI (sI (nO h 26 6) 1372 (hz h) (tokq S i0 : Int)) 1372 (hz h) = (tokq S i0 : Int) := fI_eq
  have z1 : hz (sI (nO h 26 6) 1372 (hz h) (tokq S i0 : Int)) = hz h + 1 := rfl
  have y1 : hu (sI (nO h 26 6) 1372 (hz h) (tokq S i0 : Int)) = hu h + 6 := rfl
  have r1_1382 : fR (sI (nO h 26 6) 1372 (hz h) (tokq S i0 : Int)) 1382 (hz h) = 0 := by rw [fR_sI, fR_nO, if_pos rfl]
  have a1 : hz h < hz (sI (nO h 26 6) 1372 (hz h) (tokq S i0 : Int)) := Nat.lt_succ_self _
  have ao : hz h0 ≤ hz h := Nat.le_of_eq z0.symm
  generalize sI (nO h 26 6) 1372 (hz h) (tokq S i0 : Int) = h1 at *
  refine RO_gd (.inr k1) ?_
  refine RO_bind 3 L1 (by omega) h84 (At_i H1) (R _ _ _ _ H1 (At_84 L1 (by omega) h84 (At_i H1))) (fun j2 M2 τ2 h2 v2 t2 i2 H2 D2 x2 m2 P2 => ?_) ?_
  rotate_left
  · intro _ _ _ _ T1 T2 T3 T4
    exact TF_need T1 (TF_rec RF T1 T2 T3 T4 (fun _ _ _ T1 T2 T3 T4 => TF_need T1 (TF_rec RF T1 T2 T3 T4 (fun _ _ _ T1 T2 T3 T4 => TF_node T1 T2 T3 T4 (fun _ _ _ T1 T2 T3 T4 => TF_end T1 T2)))))
  obtain ⟨n2, e2, g2, W2, a2, b2, c2, f2⟩ := P2
  have z2 := x2.1
  have L2 := lnk_call L1 i2 D2 x2 m2 (by omega) (by omega)
  have a2 : hz h < hz h2 := Nat.lt_of_lt_of_le a1 x2.1
  have k2 : kd h2 (hz h) = 26 := (x2.2.2.1 _ a1).trans k1
  have p2 : fI h2 1372 (hz h) = (tokq S i0 : Int) := (x2.2.2.2.1 1372 _ a1 hat).trans p1
  have r2_1382 : fR h2 1382 (hz h) = 0 := (x2.2.2.2.2.1 1382 _ a1 hat).trans r1_1382
  clear a1 k1 p1 r1_1382
  have s_1422 : t < hz h1 := by omega
  have so_1422 : hz h < hz h1 := by omega
  have g2_1422 : hz h2 ≤ hz h2 := Nat.le_refl _
  have b2_1422 : M2 ≤ M2 := Nat.le_refl _
  clear x2 D2 H1 L1
  have hk2_1422 : hk (hz h1) (hz h2) h2 h2 := hk_refl _
  have nl2_1422 : nall (M0) M2 τ2 τ2 := fun _ _ _ _ _ => rfl
  refine RO_gd ⟨k2, At_kd H2⟩ ?_
  have a3 : hz h < hz (sR h2 1422 (hz h) (t2)) := a2
  have k3 : kd (sR h2 1422 (hz h) (t2)) (hz h) = 26 := k2
  have p3 : fI (sR h2 1422 (hz h) (t2)) 1372 (hz h) = (tokq S i0 : Int) := p2
  have r3_1382 : fR (sR h2 1422 (hz h) (t2)) 1382 (hz h) = 0 := (fR_ne (by decide)).trans r2_1382
  have r3_1422 : fR (sR h2 1422 (hz h) (t2)) 1422 (hz h) = t2 := fR_eq
  have g3_1422 : hz h2 ≤ hz (sR h2 1422 (hz h) (t2)) := g2_1422
  have hk3_1422 : hk (hz h1) (hz h2) h2 (sR h2 1422 (hz h) (t2)) := hk_trans hk2_1422 (hk_sR (.inl so_1422) _)
  have nl3_1422 := nl2_1422
  have b3_1422 := b2_1422
  have H3 : At G A t N S b m (j2) nc (M2) τ2 (sR h2 1422 (hz h) (t2)) := At_sR H2 hat
  have L3 : lnk t i0 M0 σ0 h0 (j2) (M2) τ2 (sR h2 1422 (hz h) (t2)) := lnk_sR L2 ao
  have z3 : hz (sR h2 1422 (hz h) (t2)) = hz h2 := rfl
  have y3 : hu (sR h2 1422 (hz h) (t2)) = hu h2 := rfl
  clear a2 k2 p2 r2_1382 g2_1422 hk2_1422 nl2_1422 b2_1422 H2 L2
  generalize sR h2 1422 (hz h) (t2) = h3 at *
  refine RO_need3 hG 3 H3 L3 (by omega) h84 (j := 18) rfl (by decide) (by decide) (fun q4 τ4 h4 H4 D4 X4 L4 => ?_) ?_
  rotate_left
  · intro _ _ _ T1 T2 T3 T4
    exact TF_rec RF T1 T2 T3 T4 (fun _ _ _ T1 T2 T3 T4 => TF_need T1 (TF_rec RF T1 T2 T3 T4 (fun _ _ _ T1 T2 T3 T4 => TF_node T1 T2 T3 T4 (fun _ _ _ T1 T2 T3 T4 => TF_end T1 T2))))
  have x4 := hx_onlyT X4
  have z4 : hz h4 = hz h3 := X4.2.2.2.2.2.2.2.2.1
  have y4 : hu h4 = hu h3 := X4.2.2.2.2.2.2.2.2.2.1
  have a4 : hz h < hz h4 := Nat.lt_of_lt_of_le a3 x4.1
  have k4 : kd h4 (hz h) = 26 := (x4.2.2.1 _ a3).trans k3
  have p4 : fI h4 1372 (hz h) = (tokq S i0 : Int) := (x4.2.2.2.1 1372 _ a3 hat).trans p3
  have r4_1382 : fR h4 1382 (hz h) = 0 := (x4.2.2.2.2.1 1382 _ a3 hat).trans r3_1382
  have r4_1422 : fR h4 1422 (hz h) = t2 := (x4.2.2.2.2.1 1422 _ a3 hat).trans r3_1422
  have g4_1422 : hz h2 ≤ hz h4 := Nat.le_trans g3_1422 x4.1
  have hk4_1422 : hk (hz h1) (hz h2) h2 h4 := hk_trans hk3_1422 (hx_hk x4 g3_1422 s_1422)
  have nl4_1422 : nall (M0) (M2) τ2 τ4 := nall_trans nl3_1422 (nd_nall D4 b3_1422)
  have b4_1422 : M2 ≤ M2 := b3_1422
  clear a3 k3 p3 r3_1382 r3_1422 g3_1422 hk3_1422 nl3_1422 b3_1422
  clear X4 x4 D4 H3 L3
  refine RO_bind 2 L4 (by omega) h84 (At_i H4) (R _ _ _ _ H4 (At_84 L4 (by omega) h84 (At_i H4))) (fun j5 M5 τ5 h5 v5 t5 i5 H5 D5 x5 m5 P5 => ?_) ?_
  rotate_left
  · intro _ _ _ _ T1 T2 T3 T4
    exact TF_need T1 (TF_rec RF T1 T2 T3 T4 (fun _ _ _ T1 T2 T3 T4 => TF_node T1 T2 T3 T4 (fun _ _ _ T1 T2 T3 T4 => TF_end T1 T2)))
  obtain ⟨n5, e5, g5, W5, a5, b5, c5, f5⟩ := P5
  have z5 := x5.1
  have L5 := lnk_call L4 i5 D5 x5 m5 (by omega) (by omega)
  have a5 : hz h < hz h5 := Nat.lt_of_lt_of_le a4 x5.1
  have k5 : kd h5 (hz h) = 26 := (x5.2.2.1 _ a4).trans k4
  have p5 : fI h5 1372 (hz h) = (tokq S i0 : Int) := (x5.2.2.2.1 1372 _ a4 hat).trans p4
  have r5_1382 : fR h5 1382 (hz h) = 0 := (x5.2.2.2.2.1 1382 _ a4 hat).trans r4_1382
  have r5_1422 : fR h5 1422 (hz h) = t2 := (x5.2.2.2.2.1 1422 _ a4 hat).trans r4_1422
  have g5_1422 : hz h2 ≤ hz h5 := Nat.le_trans g4_1422 x5.1
  have hk5_1422 : hk (hz h1) (hz h2) h2 h5 := hk_trans hk4_1422 (hx_hk x5 g4_1422 s_1422)
  have nl5_1422 : nall (M0) (M2) τ2 τ5 := nall_trans nl4_1422 (nd_nall D5 b4_1422)
  have b5_1422 : M2 ≤ M5 := Nat.le_trans b4_1422 m5
  clear a4 k4 p4 r4_1382 r4_1422 g4_1422 hk4_1422 nl4_1422 b4_1422
  have s_1426 : t < hz h4 := by omega
  have so_1426 : hz h < hz h4 := by omega
  have g5_1426 : hz h5 ≤ hz h5 := Nat.le_refl _
  have b5_1426 : M5 ≤ M5 := Nat.le_refl _
  clear x5 D5 H4 L4
  have hk5_1426 : hk (hz h4) (hz h5) h5 h5 := hk_refl _
  have nl5_1426 : nall (M2) M5 τ5 τ5 := fun _ _ _ _ _ => rfl
  refine RO_gd ⟨k5, At_kd H5⟩ ?_
  have a6 : hz h < hz (sR h5 1426 (hz h) (t5)) := a5
  have k6 : kd (sR h5 1426 (hz h) (t5)) (hz h) = 26 := k5
  have p6 : fI (sR h5 1426 (hz h) (t5)) 1372 (hz h) = (tokq S i0 : Int) := p5
  have r6_1382 : fR (sR h5 1426 (hz h) (t5)) 1382 (hz h) = 0 := (fR_ne (by decide)).trans r5_1382
  have r6_1422 : fR (sR h5 1426 (hz h) (t5)) 1422 (hz h) = t2 := (fR_ne (by decide)).trans r5_1422
  have r6_1426 : fR (sR h5 1426 (hz h) (t5)) 1426 (hz h) = t5 := fR_eq
  have g6_1422 : hz h2 ≤ hz (sR h5 1426 (hz h) (t5)) := g5_1422
  have hk6_1422 : hk (hz h1) (hz h2) h2 (sR h5 1426 (hz h) (t5)) := hk_trans hk5_1422 (hk_sR (.inl so_1422) _)
  have nl6_1422 := nl5_1422
  have b6_1422 := b5_1422
  have g6_1426 : hz h5 ≤ hz (sR h5 1426 (hz h) (t5)) := g5_1426
  have hk6_1426 : hk (hz h4) (hz h5) h5 (sR h5 1426 (hz h) (t5)) := hk_trans hk5_1426 (hk_sR (.inl so_1426) _)
  have nl6_1426 := nl5_1426
  have b6_1426 := b5_1426
  have H6 : At G A t N S b m (j5) nc (M5) τ5 (sR h5 1426 (hz h) (t5)) := At_sR H5 hat
  have L6 : lnk t i0 M0 σ0 h0 (j5) (M5) τ5 (sR h5 1426 (hz h) (t5)) := lnk_sR L5 ao
  have z6 : hz (sR h5 1426 (hz h) (t5)) = hz h5 := rfl
  have y6 : hu (sR h5 1426 (hz h) (t5)) = hu h5 := rfl
  clear a5 k5 p5 r5_1382 r5_1422 g5_1422 hk5_1422 nl5_1422 b5_1422 g5_1426 hk5_1426 nl5_1426 b5_1426 H5 L5
  generalize sR h5 1426 (hz h) (t5) = h6 at *
  refine RO_need3 hG 2 H6 L6 (by omega) h84 (j := 19) rfl (by decide) (by decide) (fun q7 τ7 h7 H7 D7 X7 L7 => ?_) ?_
  rotate_left
  · intro _ _ _ T1 T2 T3 T4
    exact TF_rec RF T1 T2 T3 T4 (fun _ _ _ T1 T2 T3 T4 => TF_node T1 T2 T3 T4 (fun _ _ _ T1 T2 T3 T4 => TF_end T1 T2))
  have x7 := hx_onlyT X7
  have z7 : hz h7 = hz h6 := X7.2.2.2.2.2.2.2.2.1
  have y7 : hu h7 = hu h6 := X7.2.2.2.2.2.2.2.2.2.1
  have a7 : hz h < hz h7 := Nat.lt_of_lt_of_le a6 x7.1
  have k7 : kd h7 (hz h) = 26 := (x7.2.2.1 _ a6).trans k6
  have p7 : fI h7 1372 (hz h) = (tokq S i0 : Int) := (x7.2.2.2.1 1372 _ a6 hat).trans p6
  have r7_1382 : fR h7 1382 (hz h) = 0 := (x7.2.2.2.2.1 1382 _ a6 hat).trans r6_1382
  have r7_1422 : fR h7 1422 (hz h) = t2 := (x7.2.2.2.2.1 1422 _ a6 hat).trans r6_1422
  have r7_1426 : fR h7 1426 (hz h) = t5 := (x7.2.2.2.2.1 1426 _ a6 hat).trans r6_1426
  have g7_1422 : hz h2 ≤ hz h7 := Nat.le_trans g6_1422 x7.1
  have hk7_1422 : hk (hz h1) (hz h2) h2 h7 := hk_trans hk6_1422 (hx_hk x7 g6_1422 s_1422)
  have nl7_1422 : nall (M0) (M2) τ2 τ7 := nall_trans nl6_1422 (nd_nall D7 b6_1422)
  have b7_1422 : M2 ≤ M5 := b6_1422
  have g7_1426 : hz h5 ≤ hz h7 := Nat.le_trans g6_1426 x7.1
  have hk7_1426 : hk (hz h4) (hz h5) h5 h7 := hk_trans hk6_1426 (hx_hk x7 g6_1426 s_1426)
  have nl7_1426 : nall (M2) (M5) τ5 τ7 := nall_trans nl6_1426 (nd_nall D7 b6_1426)
  have b7_1426 : M5 ≤ M5 := b6_1426
  clear a6 k6 p6 r6_1382 r6_1422 r6_1426 g6_1422 hk6_1422 nl6_1422 b6_1422 g6_1426 hk6_1426 nl6_1426 b6_1426
  clear X7 x7 D7 H6 L6
  refine RO_bind 1 L7 (by omega) h84 (At_i H7) (R _ _ _ _ H7 (At_84 L7 (by omega) h84 (At_i H7))) (fun j8 M8 τ8 h8 v8 t8 i8 H8 D8 x8 m8 P8 => ?_) ?_
  rotate_left
  · intro _ _ _ _ T1 T2 T3 T4
    exact TF_node T1 T2 T3 T4 (fun _ _ _ T1 T2 T3 T4 => TF_end T1 T2)
  obtain ⟨n8, e8, g8, W8, a8, b8, c8, f8⟩ := P8
  have z8 := x8.1
  have L8 := lnk_call L7 i8 D8 x8 m8 (by omega) (by omega)
  have a8 : hz h < hz h8 := Nat.lt_of_lt_of_le a7 x8.1
  have k8 : kd h8 (hz h) = 26 := (x8.2.2.1 _ a7).trans k7
  have p8 : fI h8 1372 (hz h) = (tokq S i0 : Int) := (x8.2.2.2.1 1372 _ a7 hat).trans p7
  have r8_1382 : fR h8 1382 (hz h) = 0 := (x8.2.2.2.2.1 1382 _ a7 hat).trans r7_1382
  have r8_1422 : fR h8 1422 (hz h) = t2 := (x8.2.2.2.2.1 1422 _ a7 hat).trans r7_1422
  have r8_1426 : fR h8 1426 (hz h) = t5 := (x8.2.2.2.2.1 1426 _ a7 hat).trans r7_1426
  have g8_1422 : hz h2 ≤ hz h8 := Nat.le_trans g7_1422 x8.1
  have hk8_1422 : hk (hz h1) (hz h2) h2 h8 := hk_trans hk7_1422 (hx_hk x8 g7_1422 s_1422)
  have nl8_1422 : nall (M0) (M2) τ2 τ8 := nall_trans nl7_1422 (nd_nall D8 b7_1422)
  have b8_1422 : M2 ≤ M8 := Nat.le_trans b7_1422 m8
  have g8_1426 : hz h5 ≤ hz h8 := Nat.le_trans g7_1426 x8.1
  have hk8_1426 : hk (hz h4) (hz h5) h5 h8 := hk_trans hk7_1426 (hx_hk x8 g7_1426 s_1426)
  have nl8_1426 : nall (M2) (M5) τ5 τ8 := nall_trans nl7_1426 (nd_nall D8 b7_1426)
  have b8_1426 : M5 ≤ M8 := Nat.le_trans b7_1426 m8
  clear a7 k7 p7 r7_1382 r7_1422 r7_1426 g7_1422 hk7_1422 nl7_1422 b7_1422 g7_1426 hk7_1426 nl7_1426 b7_1426
  have s_1430 : t < hz h7 := by omega
  have so_1430 : hz h < hz h7 := by omega
  have g8_1430 : hz h8 ≤ hz h8 := Nat.le_refl _
  have b8_1430 : M8 ≤ M8 := Nat.le_refl _
  clear x8 D8 H7 L7
  have hk8_1430 : hk (hz h7) (hz h8) h8 h8 := hk_refl _
  have nl8_1430 : nall (M5) M8 τ8 τ8 := fun _ _ _ _ _ => rfl
  obtain ⟨τ9, d1, d2, d3, d4, d5⟩ := t_node H8.1 (by have := At_i H8; omega) 16 ((b + i0 : Nat) : Int) v2 v5 v8 (-1)
  rw [d1, Option.bind_some]
  have nl9_1422 : nall (M0) (M2) τ2 τ9 := nall_trans nl8_1422 (nd_nall d4 b8_1422)
  have b9_1422 : M2 ≤ M8 + 1 := Nat.le_succ_of_le b8_1422
  have g9_1422 := g8_1422
  have hk9_1422 := hk8_1422
  have nl9_1426 : nall (M2) (M5) τ5 τ9 := nall_trans nl8_1426 (nd_nall d4 b8_1426)
  have b9_1426 : M5 ≤ M8 + 1 := Nat.le_succ_of_le b8_1426
  have g9_1426 := g8_1426
  have hk9_1426 := hk8_1426
  have nl9_1430 : nall (M5) (M8) τ8 τ9 := nall_trans nl8_1430 (nd_nall d4 b8_1430)
  have b9_1430 : M8 ≤ M8 + 1 := Nat.le_succ_of_le b8_1430
  have g9_1430 := g8_1430
  have hk9_1430 := hk8_1430
  have nl9_n : nall (M8) (M8 + 1) τ9 τ9 := fun _ _ _ _ _ => rfl
  have H9 : At G A t N S b m (j8) nc (M8 + 1) τ9 h8 := ⟨d2, H8.2⟩
  have L9 : lnk t i0 M0 σ0 h0 (j8) (M8 + 1) τ9 h8 := ⟨L8.1, nd_trans L8.2.1 d4 L8.2.2.1, by have := L8.2.2.1; omega, L8.2.2.2⟩
  have a9 := a8
  have k9 := k8
  have p9 := p8
  have r9_1382 := r8_1382
  have r9_1422 := r8_1422
  have r9_1426 := r8_1426
  clear a8 k8 p8 r8_1382 r8_1422 r8_1426 g8_1422 hk8_1422 nl8_1422 b8_1422 g8_1426 hk8_1426 nl8_1426 b8_1426 g8_1430 hk8_1430 nl8_1430 b8_1430 H8 L8
  refine RO_gd k9 ?_
  have a10 : hz h < hz (sR h8 1430 (hz h) (t8)) := a9
  have k10 : kd (sR h8 1430 (hz h) (t8)) (hz h) = 26 := k9
  have p10 : fI (sR h8 1430 (hz h) (t8)) 1372 (hz h) = (tokq S i0 : Int) := p9
  have r10_1382 : fR (sR h8 1430 (hz h) (t8)) 1382 (hz h) = 0 := (fR_ne (by decide)).trans r9_1382
  have r10_1422 : fR (sR h8 1430 (hz h) (t8)) 1422 (hz h) = t2 := (fR_ne (by decide)).trans r9_1422
  have r10_1426 : fR (sR h8 1430 (hz h) (t8)) 1426 (hz h) = t5 := (fR_ne (by decide)).trans r9_1426
  have r10_1430 : fR (sR h8 1430 (hz h) (t8)) 1430 (hz h) = t8 := fR_eq
  have g10_1422 : hz h2 ≤ hz (sR h8 1430 (hz h) (t8)) := g9_1422
  have hk10_1422 : hk (hz h1) (hz h2) h2 (sR h8 1430 (hz h) (t8)) := hk_trans hk9_1422 (hk_sR (.inl so_1422) _)
  have nl10_1422 := nl9_1422
  have b10_1422 := b9_1422
  have g10_1426 : hz h5 ≤ hz (sR h8 1430 (hz h) (t8)) := g9_1426
  have hk10_1426 : hk (hz h4) (hz h5) h5 (sR h8 1430 (hz h) (t8)) := hk_trans hk9_1426 (hk_sR (.inl so_1426) _)
  have nl10_1426 := nl9_1426
  have b10_1426 := b9_1426
  have g10_1430 : hz h8 ≤ hz (sR h8 1430 (hz h) (t8)) := g9_1430
  have hk10_1430 : hk (hz h7) (hz h8) h8 (sR h8 1430 (hz h) (t8)) := hk_trans hk9_1430 (hk_sR (.inl so_1430) _)
  have nl10_1430 := nl9_1430
  have b10_1430 := b9_1430
  have nl10_n := nl9_n
  have H10 : At G A t N S b m (j8) nc (M8 + 1) τ9 (sR h8 1430 (hz h) (t8)) := At_sR H9 hat
  have L10 : lnk t i0 M0 σ0 h0 (j8) (M8 + 1) τ9 (sR h8 1430 (hz h) (t8)) := lnk_sR L9 ao
  have z10 : hz (sR h8 1430 (hz h) (t8)) = hz h8 := rfl
  have y10 : hu (sR h8 1430 (hz h) (t8)) = hu h8 := rfl
  clear a9 k9 p9 r9_1382 r9_1422 r9_1426 g9_1422 hk9_1422 nl9_1422 b9_1422 g9_1426 hk9_1426 nl9_1426 b9_1426 g9_1430 hk9_1430 nl9_1430 b9_1430 nl9_n H9 L9
  generalize sR h8 1430 (hz h) (t8) = h10 at *
  refine .inl ⟨j8, M8 + 1, τ9, h10, ((M8 : Nat) : Int), hz h, rfl, rfl, by omega, H10, L10.2.1, L10.2.2.2.1, by omega, M8, rfl, by omega, ?_, by omega, by omega, by omega, by omega⟩
  have f38 := (nl10_n 538 (by simp) (M8) (Nat.le_refl _) (by omega)).trans d3.1
  have f42 := (nl10_n 542 (by simp) (M8) (Nat.le_refl _) (by omega)).trans d3.2.1
  have f46 := (nl10_n 546 (by simp) (M8) (Nat.le_refl _) (by omega)).trans d3.2.2.1
  have f50 := (nl10_n 550 (by simp) (M8) (Nat.le_refl _) (by omega)).trans d3.2.2.2.1
  have f54 := (nl10_n 554 (by simp) (M8) (Nat.le_refl _) (by omega)).trans d3.2.2.2.2.1
  have f58 := (nl10_n 558 (by simp) (M8) (Nat.le_refl _) (by omega)).trans d3.2.2.2.2.2.1
  have WW_1422 := X0_keep W2 hk10_1422 nl10_1422
  have wi_1422 := XR_in _ _ _ _ _ _ _ W2
  have WW_1426 := X0_keep W5 hk10_1426 nl10_1426
  have wi_1426 := XR_in _ _ _ _ _ _ _ W5
  have WW_1430 := X0_keep W8 hk10_1430 nl10_1430
  have wi_1430 := XR_in _ _ _ _ _ _ _ W8
  refine ⟨by omega, by omega, by omega, by omega, .inr (.inr (.inr (.inr (.inl ⟨k10, f38, rfl, i0, n2, n5, n8, M2, M5, hz h1, hz h2, hz h5, hz h8, f42, ⟨p10, At_tk H⟩, f46.trans e2, f50.trans e5, f54.trans e8, by omega, by omega, ?_, ?_, ?_, by omega, ?_⟩))))⟩
  · rw [r10_1422]; exact XR_wide (by omega) (by omega) WW_1422
  · rw [r10_1426]; exact XR_wide (by omega) (by omega) WW_1426
  · rw [r10_1430]; exact XR_wide (by omega) (by omega) WW_1430
  · exact Psi0_z r10_1382 (by decide)
end LX4a
