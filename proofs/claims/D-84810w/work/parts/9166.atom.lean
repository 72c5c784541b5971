set_option maxRecDepth 100000
section LA
variable {G : om_G} {A t : Nat} {N : List (List Int)} {S : List Int} {b m K i : Nat} {nc : Int} {M : Nat} {σ : tS} {h : om_H} {rT : tS → Option (Int × tS)} {rC : Nat → om_H → Option ((Nat ⊕ Nat) × om_H)}
/-- what a name is when it is just read -/
def nameO (h : om_H) (A : Nat) (S : List Int) (a w i : Nat) : Prop := kd h a = 28 ∧ fI h 1372 a = (tokq S i : Int) ∧ fR h 1454 a = w ∧ wd h A S w i ∧ fR h 1382 a = 0 ∧ fI h 1464 a = -1 ∧ fI h 1476 a = -1 ∧ fR h 1462 a = 0 ∧ fR h 1470 a = 0 ∧ fR h 1474 a = 0 ∧ fR h 1482 a = 0
theorem T_num (H : Tst σ N S b m i nc M) (hM : M < 8400) (hk0 : tokk S i ≠ 0) (k : Int) : ∃ τ, T_node k (w32 ((w32 ((gs σ 432) + 1)) - 1)) (-1) (-1) (-1) (-1) (us σ 432 (w32 ((gs σ 432) + 1))) = some ((M : Int), τ) ∧ Tst τ N S b m (i + 1) nc (M + 1) ∧ node τ M k ((b + i : Nat) : Int) (-1) (-1) (-1) (-1) (-1) ∧ nd σ τ M := by
  have h4 := H.1.2.1
  have hi := H.2.2.1
  rw [H.2.1, w32_s (x := ((b + i : Nat) : Int) + 1) (by omega) (by omega), w32_s (by omega) (by omega), show ((b + i : Nat) : Int) + 1 - 1 = ((b + i : Nat) : Int) by omega, show ((b + i : Nat) : Int) + 1 = ((b + (i + 1) : Nat) : Int) by omega]
  obtain ⟨g1, g2⟩ := Tst_at H hk0
  obtain ⟨τ, e1, e2, e3, e4, e5⟩ := t_node g1 hM k ((b + i : Nat) : Int) (-1) (-1) (-1) (-1)
  exact ⟨τ, e1, e2, e3, nd_trans g2 e4 (Nat.le_refl _)⟩
theorem name_at (hG : om_okG G) (H : At G A t N S b m i nc M σ h) (hk : tokk S i = 2) (hM : M < 8400) : ∃ τ h', T_atom rT σ = some ((M : Int), τ) ∧ C_0_readAtom G rC t h = some (.inr (hz h), h') ∧ At G A t N S b m (i + 1) nc (M + 1) τ h' ∧ nd σ τ M ∧ hx t h h' ∧ node τ M 10 ((b + i : Nat) : Int) (-1) (-1) (-1) (-1) (-1) ∧ nameO h' A S (hz h) (hz h + 1) i ∧ fR h' 1458 (hz h) = 0 ∧ hz h' = hz h + 2 ∧ hu h' = hu h + 14 := by
  have ht := At_t H
  have h2 := Cst_kind hG H.2.1 (e := 2) (by decide)
  have s2 := kE_s (tokk_r S i).1 (e := 2) (by decide)
  obtain ⟨τ, e1, e2, e3, e4⟩ := T_num H.1 hM (by omega) 10
  have kA : kd (nO h 28 11) (hz h) = 28 := by rw [kd_nO, if_pos rfl]
  have hat : hz h ≠ t := by omega
  have H1 : At G A t N S b m i nc M σ (sI (sI (sI (nO h 28 11) 1464 (hz h) (-1)) 1476 (hz h) (-1)) 1372 (hz h) (tokq S i : Int)) := At_sI (At_sI (At_sI (At_nO H 28 11) hat) hat) hat
  have k1 : kd (sI (sI (sI (nO h 28 11) 1464 (hz h) (-1)) 1476 (hz h) (-1)) 1372 (hz h) (tokq S i : Int)) (hz h) = 28 := kA
  have p1 : fI (sI (sI (sI (nO h 28 11) 1464 (hz h) (-1)) 1476 (hz h) (-1)) 1372 (hz h) (tokq S i : Int)) 1372 (hz h) = (tokq S i : Int) := fI_eq
  have p2 : fI (sI (sI (sI (nO h 28 11) 1464 (hz h) (-1)) 1476 (hz h) (-1)) 1372 (hz h) (tokq S i : Int)) 1464 (hz h) = -1 := by rw [fI_ne (by decide), fI_ne (by decide), fI_eq]
  have p3 : fI (sI (sI (sI (nO h 28 11) 1464 (hz h) (-1)) 1476 (hz h) (-1)) 1372 (hz h) (tokq S i : Int)) 1476 (hz h) = -1 := by rw [fI_ne (by decide), fI_eq]
  have r1 : ∀ f, fR (sI (sI (sI (nO h 28 11) 1464 (hz h) (-1)) 1476 (hz h) (-1)) 1372 (hz h) (tokq S i : Int)) f (hz h) = 0 := fun f => by rw [fR_sI, fR_sI, fR_sI, fR_nO, if_pos rfl]
  have X1 : hx t h (sI (sI (sI (nO h 28 11) 1464 (hz h) (-1)) 1476 (hz h) (-1)) 1372 (hz h) (tokq S i : Int)) := hx_sI (hx_sI (hx_sI (hx_nO h 28 11) (Nat.le_refl _)) (Nat.le_refl _)) (Nat.le_refl _)
  have z1 : hz (sI (sI (sI (nO h 28 11) 1464 (hz h) (-1)) 1476 (hz h) (-1)) 1372 (hz h) (tokq S i : Int)) = hz h + 1 := rfl
  have y1 : hu (sI (sI (sI (nO h 28 11) 1464 (hz h) (-1)) 1476 (hz h) (-1)) 1372 (hz h) (tokq S i : Int)) = hu h + 11 := rfl
  have hC : C_0_readAtom G rC t h = xc (C_14_need G t (om_cA G 2) (sI (sI (sI (nO h 28 11) 1464 (hz h) (-1)) 1476 (hz h) (-1)) 1372 (hz h) (tokq S i : Int))) (fun t h => some (.inl t, h)) (fun p9 h9 => gd (kd h9 (hz h) = 28) (some (.inr (hz h), sR h9 1454 (hz h) p9))) := by
    unfold C_0_readAtom C_28_init C_23_init C_0_at
    rw [gd_pos (At_kd H), if_neg (fun z => z (h2.mpr (s2.mpr hk))), gd_pos kA, gd_pos kA, gd_pos (by omega)]
    simp only [Option.bind_some]
    rw [gd_pos kA, Cst_q H.2.1]
    simp only [Option.bind_some]
    rw [gd_pos ⟨27, by decide, kA⟩]
    simp only [Option.bind_some]
    rw [gd_pos ⟨.inr k1, At_kd H1⟩]
  have hT : T_atom rT σ = some ((M : Int), τ) := by
    unfold T_atom
    rw [H.1.2.2.2.2.1, if_pos rfl, t_is H.1, if_pos hk]
    simp only [Option.bind_some]
    rw [if_neg (by decide), e1]
    rfl
  generalize sI (sI (sI (nO h 28 11) 1464 (hz h) (-1)) 1476 (hz h) (-1)) 1372 (hz h) (tokq S i : Int) = h1 at *
  obtain ⟨h', v1, v2, v3, v4, v5, v6, v7⟩ := (c_need hG H1.2.1 (e := 2) (by omega)).1 hk
  rw [H1.2.2] at v4 v7
  have k2 : kd h' (hz h) = 28 := by rw [v3.2.2.1 _ (by omega)]; exact k1
  have f2 : ∀ f, fI h' f (hz h) = fI h1 f (hz h) := fun f => v3.2.2.2.1 f _ (by omega) hat
  have g2 : ∀ f, fR h' f (hz h) = 0 := fun f => by rw [v3.2.2.2.2.1 f _ (by omega) hat]; exact r1 f
  have g3 : ∀ f, f ≠ 1454 → fR (sR h' 1454 (hz h) (hz h1)) f (hz h) = 0 := fun f hf => by rw [fR_ne hf]; exact g2 f
  refine ⟨τ, sR h' 1454 (hz h) (hz h1), hT, ?_, At_sR ⟨e2, v2, v7⟩ hat, e4, hx_sR (hx_trans X1 v3) (Nat.le_refl _), e3, ⟨k2, (f2 _).trans p1, by rw [fR_eq, z1], ?_, g3 _ (by decide), (f2 _).trans p2, (f2 _).trans p3, g3 _ (by decide), g3 _ (by decide), g3 _ (by decide), g3 _ (by decide)⟩, g3 _ (by decide), by rw [hz_sR]; omega, by rw [hu_sR]; omega⟩
  · rw [hC, v1]
    simp only [xc_v]
    rw [gd_pos k2]
  · rw [z1] at v4
    exact ⟨v4.1, (fR_na (by omega)).trans v4.2.1, v4.2.2⟩
/-- a name without @s -/
theorem name_X0 {lo alo ahi w : Nat} {τ : tS} {h' : om_H} {a : Nat} (hn : node τ lo 10 ((b + i : Nat) : Int) (-1) (-1) (-1) (-1) (-1)) (o : nameO h' A S a w i) (z : fR h' 1458 a = 0) (hk : tokk S i = 2) (h1 : alo ≤ a) (h2 : a < ahi) (h3 : alo ≤ w) (h4 : w < ahi) (K : Nat) : X0 G A S b h' τ (K + 1) lo (lo + 1) alo ahi a lo := by
  obtain ⟨o1, o2, o3, o4, o5, o6, o7, o8, o9, o10, o11⟩ := o
  exact ⟨Nat.le_refl _, Nat.lt_succ_self _, h1, h2, .inr (.inl ⟨o1, hn.1, ⟨rfl, rfl⟩, z, hn.2.2.1, i, hn.2.1, hk, o2, by rw [o3]; exact ⟨h3, h4⟩, by rw [o3]; exact o4, fun _ => o5, fun _ => ⟨o6, o7, o8, o9, o10, o11⟩, trivial⟩)⟩
theorem num_at (hG : om_okG G) (H : At G A t N S b m i nc M σ h) (hk : tokk S i = 4) (hM : M < 8400) : ∃ τ h', T_atom rT σ = some ((M : Int), τ) ∧ C_0_readAtom G rC t h = some (.inr (hz h), h') ∧ At G A t N S b m (i + 1) nc (M + 1) τ h' ∧ nd σ τ M ∧ hx t h h' ∧ X0 G A S b h' τ (K + 1) M (M + 1) (hz h) (hz h') (hz h) M ∧ hz h' = hz h + 1 ∧ hu h' = hu h + 4 := by
  have ht := At_t H
  have h2 := Cst_kind hG H.2.1 (e := 2) (by decide)
  have s2 := kE_s (tokk_r S i).1 (e := 2) (by decide)
  have h4 := Cst_kind hG H.2.1 (e := 4) (by decide)
  have s4 := kE_s (tokk_r S i).1 (e := 4) (by decide)
  obtain ⟨τ, e1, e2, e3, e4⟩ := T_num H.1 hM (by omega) 11
  have kA : kd (nO h 29 4) (hz h) = 29 := by rw [kd_nO, if_pos rfl]
  have hat : hz h ≠ t := by omega
  have H1 : At G A t N S b m i nc M σ (sI (sI (nO h 29 4) 1372 (hz h) (tokq S i : Int)) 1484 (hz h) (numV 0 (tokw S i))) := At_sI (At_sI (At_nO H 29 4) hat) hat
  have k1 : kd (sI (sI (nO h 29 4) 1372 (hz h) (tokq S i : Int)) 1484 (hz h) (numV 0 (tokw S i))) (hz h) = 29 := kA
  have p1 : fI (sI (sI (nO h 29 4) 1372 (hz h) (tokq S i : Int)) 1484 (hz h) (numV 0 (tokw S i))) 1372 (hz h) = (tokq S i : Int) := by rw [fI_ne (by decide), fI_eq]
  have p2 : fI (sI (sI (nO h 29 4) 1372 (hz h) (tokq S i : Int)) 1484 (hz h) (numV 0 (tokw S i))) 1484 (hz h) = numV 0 (tokw S i) := fI_eq
  have r1 : fR (sI (sI (nO h 29 4) 1372 (hz h) (tokq S i : Int)) 1484 (hz h) (numV 0 (tokw S i))) 1382 (hz h) = 0 := by rw [fR_sI, fR_sI, fR_nO, if_pos rfl]
  have X1 : hx t h (sI (sI (nO h 29 4) 1372 (hz h) (tokq S i : Int)) 1484 (hz h) (numV 0 (tokw S i))) := hx_sI (hx_sI (hx_nO h 29 4) (Nat.le_refl _)) (Nat.le_refl _)
  have z1 : hz (sI (sI (nO h 29 4) 1372 (hz h) (tokq S i : Int)) 1484 (hz h) (numV 0 (tokw S i))) = hz h + 1 := rfl
  have y1 : hu (sI (sI (nO h 29 4) 1372 (hz h) (tokq S i : Int)) 1484 (hz h) (numV 0 (tokw S i))) = hu h + 4 := rfl
  have hC : C_0_readAtom G rC t h = (C_14_advance G t (sI (sI (nO h 29 4) 1372 (hz h) (tokq S i : Int)) 1484 (hz h) (numV 0 (tokw S i)))).bind fun p6 => some (.inr (hz h), p6) := by
    unfold C_0_readAtom C_29_init C_23_init C_0_at
    rw [gd_pos (At_kd H), if_pos (fun z => by have := s2.mp (h2.mp z); omega), gd_pos (At_kd H), if_neg (fun z => z (h4.mpr (s4.mpr hk))), gd_pos kA, gd_pos kA, gd_pos (by omega)]
    simp only [Option.bind_some]
    rw [gd_pos ⟨28, by decide, kA⟩, Cst_q H.2.1]
    simp only [Option.bind_some]
    have k2 : kd (sI (nO h 29 4) 1372 (hz h) (tokq S i : Int)) (hz h) = 29 := kA
    rw [gd_pos ⟨.inr k2, (At_kd (At_sI (At_nO H 29 4) hat)), k2⟩, show fI (sI (nO h 29 4) 1372 (hz h) (tokq S i : Int)) 1144 t = numV 0 (tokw S i) from by rw [fI_na (fun z => hat z.symm), fI_nO, if_neg (fun z => hat z.symm), c_numV H.2.1 hk]]
  have hT : T_atom rT σ = some ((M : Int), τ) := by
    unfold T_atom
    rw [H.1.2.2.2.2.1, if_pos rfl, t_is H.1, t_is H.1, if_neg (by omega), if_pos hk]
    simp only [Option.bind_some]
    rw [if_pos trivial, if_neg (by decide), e1]
    rfl
  generalize sI (sI (nO h 29 4) 1372 (hz h) (tokq S i : Int)) 1484 (hz h) (numV 0 (tokw S i)) = h1 at *
  obtain ⟨h', v1, v2, v3⟩ := c_next H1.2.1 (by omega)
  have x3 := hx_onlyT v3
  have z3 : hz h' = hz h1 := v3.2.2.2.2.2.2.2.2.1
  have y3 : hu h' = hu h1 := v3.2.2.2.2.2.2.2.2.2.1
  refine ⟨τ, h', hT, by rw [hC, v1]; rfl, ⟨e2, v2, by rw [v3.2.2.2.2.2.2.2.2.2.2.2.2]; exact H1.2.2⟩, e4, hx_trans X1 x3, ⟨Nat.le_refl _, Nat.lt_succ_self _, Nat.le_refl _, by omega, .inl ⟨?_, e3.1, ⟨rfl, rfl⟩, i, e3.2.1, hk, ?_, ?_, Psi0_z ?_ (by decide)⟩⟩, by omega, by omega⟩
  · rw [x3.2.2.1 _ (by omega)]; exact k1
  · rw [x3.2.2.2.1 _ _ (by omega) hat]; exact p1
  · rw [x3.2.2.2.1 _ _ (by omega) hat]; exact p2
  · rw [x3.2.2.2.2.1 _ _ (by omega) hat]; exact r1
/-- an ex in brackets -/
theorem paren_rel (hG : om_okG G) (R : RXall G A t N S b m K nc rT rC) (RF : RFall N S b m nc 1 rT) (H : At G A t N S b m i nc M σ h) (h84 : M + 3 * (m - i) + 60 ≤ 8400) (c2 : tokk S i ≠ 2) (c4 : tokk S i ≠ 4) : RO G A t N S b m i nc M σ h (PX G A S b K i M h) (T_atom rT σ) (C_0_readAtom G rC t h) := by
  have h2 := Cst_kind hG H.2.1 (e := 2) (by decide)
  have s2 := kE_s (tokk_r S i).1 (e := 2) (by decide)
  have h4 := Cst_kind hG H.2.1 (e := 4) (by decide)
  have s4 := kE_s (tokk_r S i).1 (e := 4) (by decide)
  have hC : C_0_readAtom G rC t h = xc (C_14_need_2 G t 40 h) (fun t h => some (.inl t, h)) (fun p1 h1 => xc (rC t h1) (fun t h => some (.inl t, h)) (fun p2 h2 => gd (kd h2 t = 15) (xc (C_14_need_2 G t 41 h2) (fun t h => some (.inl t, h)) (fun p3 h3 => some (.inr p2, h3))))) := by
    unfold C_0_readAtom
    rw [gd_pos (At_kd H), if_pos (fun z => c2 (s2.mp (h2.mp z))), gd_pos (At_kd H), if_pos (fun z => c4 (s4.mp (h4.mp z))), gd_pos (At_kd H)]
  have hT : T_atom rT σ = (T_need 40 σ).bind fun p3 => (rT p3).bind fun p4 => (T_need 41 p4.2).bind fun p5 => some (p4.1, p5) := by
    unfold T_atom
    rw [H.1.2.2.2.2.1, if_pos rfl, t_is H.1, t_is H.1, if_neg c2, if_neg c4]
    simp only [Option.bind_some]
    rw [if_pos trivial, if_pos trivial]
  rw [hC, hT]
  refine RO_need hG 1 H lnk_refl (by omega) h84 (.inr (.inr (by omega))) (by decide) (by decide) (fun q1 τ1 h1 H1 D1 X1 L1 => ?_) (fun _ _ _ T1 T2 T3 T4 => TF_rec RF T1 T2 T3 T4 (fun _ _ _ T1 T2 T3 T4 => TF_need T1 (TF_end T1 T2)))
  have z1 : hz h1 = hz h := X1.2.2.2.2.2.2.2.2.1
  have y1 : hu h1 = hu h := X1.2.2.2.2.2.2.2.2.2.1
  refine RO_bind 0 L1 (by omega) h84 (At_i H1) (R _ _ _ _ H1 (At_84 L1 (by omega) h84 (At_i H1))) (fun j2 M2 τ2 h2 v2 t2 i2 H2 D2 X2 m2 P2 => ?_) (fun _ _ _ _ T1 T2 T3 T4 => TF_need T1 (TF_end T1 T2))
  obtain ⟨n2, e2, g2, W2, a2, b2, c2, f2⟩ := P2
  have L2 := lnk_call L1 i2 D2 X2 m2 (by omega) (by omega)
  refine RO_gd (At_kd H2) (RO_need hG 0 H2 L2 (by omega) h84 (.inr (.inr (by omega))) (by decide) (by decide) (fun q3 τ3 h3 H3 D3 X3 L3 => ?_) (fun _ _ _ T1 T2 T3 T4 => TF_end T1 T2))
  have z3 : hz h3 = hz h2 := X3.2.2.2.2.2.2.2.2.1
  have y3 : hu h3 = hu h2 := X3.2.2.2.2.2.2.2.2.2.1
  have ht := At_t H
  refine .inl ⟨j2 + 1, M2, τ3, h3, v2, t2, rfl, rfl, by omega, H3, L3.2.1, L3.2.2.2.1, by omega, n2, e2, by omega, ?_, by omega, by omega, by omega, by omega⟩
  rw [z3, ← z1]
  exact X0_keep W2 (hx_hk (hx_onlyT X3) (Nat.le_refl _) (by omega)) (nd_nall D3 (Nat.le_refl _))
theorem atom_rel (hG : om_okG G) (R : RXall G A t N S b m K nc rT rC) (RF : RFall N S b m nc 1 rT) (H : At G A t N S b m i nc M σ h) (h84 : M + 3 * (m - i) + 60 ≤ 8400) : RO G A t N S b m i nc M σ h (PX G A S b (K + 1) i M h) (T_atom rT σ) (C_0_readAtom G rC t h) := by
  by_cases c2 : tokk S i = 2
  · obtain ⟨τ, h', e1, e2, e3, e4, e5, e6, e7, e8, e9, e10⟩ := name_at (rT := rT) (rC := rC) hG H c2 (by omega)
    exact .inl ⟨i + 1, M + 1, τ, h', (M : Int), hz h, e1, e2, by omega, e3, e4, e5, by omega, M, rfl, by omega, name_X0 e6 e7 e8 c2 (Nat.le_refl _) (by omega) (by omega) (by omega) K, by omega, by omega, by omega, by omega⟩
  · by_cases c4 : tokk S i = 4
    · obtain ⟨τ, h', e1, e2, e3, e4, e5, e6, e7, e8⟩ := num_at (K := K) (rT := rT) (rC := rC) hG H c4 (by omega)
      exact .inl ⟨i + 1, M + 1, τ, h', (M : Int), hz h, e1, e2, by omega, e3, e4, e5, by omega, M, rfl, by omega, e6, by omega, by omega, by omega, by omega⟩
    · exact RO_id (paren_rel hG R RF H h84 c2 c4) (fun j M' τ h' v w ⟨n, q1, q2, q3, q4⟩ => ⟨n, q1, q2, XR_more q3, q4⟩)
theorem atomF {p : Int} (RF : RFall N S b m nc 1 rT) : RFall N S b m nc 1 (T_atom rT) := by
  intro p M σ H hM
  obtain ⟨τ, e1, e2, e3⟩ := t_nodeF H (by omega) 11 (gs σ 432) (-1) (-1) (-1) (-1)
  refine ⟨M, τ, M + 1, ?_, e2, e3, by omega, by omega⟩
  unfold T_atom
  rw [H.2.2.2.1, if_neg (by decide), e1]
  rfl
end LA
