set_option maxRecDepth 100000
section LN3
variable {G : om_G} {A t : Nat} {N : List (List Int)} {S : List Int} {b m K : Nat} {nc p : Int} {i M : Nat} {h h' : om_H} {σ τ : tS} {rT : tS → Option (Int × tS)} {rC : Nat → om_H → Option ((Nat ⊕ Nat) × om_H)}
variable {ib Mb u L hd : Nat} {σb : tS} {hb : om_H}
/-- the rest of a use, while @s of the name can come -/
theorem U1_loop (hG : om_okG G) (hn : 0 ≤ nc ∧ nc ≤ 20) (R : RXall G A t N S b m K nc rT rC) (RF : RFall N S b m nc 1 rT) (ht : t < hz hb) (h84 : Mb + 3 * (m - ib) + 60 ≤ 8400) (l1 : Int) : ∀ (d : Nat) (i M : Nat) (σ : tS) (h : om_H) (os xs : List Nat) (o : Int), m - i < d → At G A t N S b m i nc M σ h → lnk t ib Mb σb hb i M σ h → U1 G A S b (K + 1) (hz hb) Mb u L hd M σ h os xs o → U1B ib Mb hb i M h L hd → (ll h L ≠ [] ∨ isA S i ∨ tokk S i = 64) → RO G A t N S b m ib nc Mb σb hb (PX G A S b (K + 2) ib Mb hb) (TL rT l1 (1, (Mb : Int), o, σ)) (CL G rC t hd u (1, h)) := by
  intro d
  induction d with
  | zero =>
    intro i M σ h os xs o hd'
    exact absurd hd' (Nat.not_lt_zero _)
  | succ d ih =>
    intro i M σ h os xs o hd' H Q U B hne
    by_cases c : isA S i
    · exact U_atom hG ht R RF H Q h84 (U1_UC U) (U1_UB U B) c l1 1 o (fun i' M' σ' h' top' ys' q H' Q' U' B' n' => U_loop hG hn R RF ht h84 l1 o (m - i' + 1) i' M' σ' h' top' ys' (by omega) H' Q' U' B' (.inl n'))
    · by_cases c2 : tokk S i = 64
      · exact U_one hG hn ht H Q h84 U B c2 l1 (fun i' M' σ' h' os' xs' o' q H' Q' U' B' n' => ih i' M' σ' h' os' xs' o' (by have := At_i H'; omega) H' Q' U' B' (.inl n'))
      · refine U_end hG ht H Q (U1_UC U) (U1_UB U B) ?_ c c2 l1 1 o
        rcases hne with q | q | q
        · exact q
        · exact absurd q c
        · exact absurd q c2
/-- a Use is made -/
theorem use_begin (ht : t < hz h) (fl : Int) (hd : Nat) : ∃ h2, C_0_readUse_39 G rC t fl hd h = CL G rC t hd (hz h) (fl, h2) ∧ hx t h h2 ∧ (kd h2 (hz h) = 30 ∧ fR h2 1490 (hz h) = hd ∧ fR h2 1494 (hz h) = hz h + 1 ∧ fR h2 1382 (hz h) = 0) ∧ okV G h2 (hz h + 1) ∧ ll h2 (hz h + 1) = [] ∧ lc h2 (hz h + 1) = 2 ∧ hz h2 = hz h + 3 ∧ hu h2 = hu h + 10 ∧ (∀ f, fI h2 f t = fI h f t) ∧ (∀ f, fR h2 f t = fR h f t) := by
  have k1 : kd (nO h 30 5) (hz h) = 30 := by rw [kd_nO, if_pos rfl]
  have z1 : hz (nO h 30 5) = hz h + 1 := rfl
  have k2 : kd (nO (nO h 30 5) 41 3) (hz (nO h 30 5)) = 41 := by rw [kd_nO, if_pos rfl]
  have f2 : fI (nO (nO h 30 5) 41 3) 1728 (hz (nO h 30 5)) = 0 := by rw [fI_nO, if_pos rfl]
  have k3 : kd (gL (nO (nO h 30 5) 41 3) (hz (nO h 30 5)) [] 2 1 2) (hz h) = 30 := by rw [kd_gL, if_neg (by omega), kd_nO, if_neg (by omega)]; exact k1
  refine ⟨sR (sR (gL (nO (nO h 30 5) 41 3) (hz (nO h 30 5)) [] 2 1 2) 1494 (hz h) (hz (nO h 30 5))) 1490 (hz h) hd, ?_, ?_, ⟨k3, fR_eq, by rw [fR_ne (by decide), fR_eq]; rfl, ?_⟩, ⟨?_, ?_, ?_, ?_, ?_⟩, ?_, ?_, rfl, rfl, fun f => ?_, fun f => ?_⟩
  · unfold C_0_readUse_39 C_30_init C_23_init P_J2_init_2
    rw [gd_pos k1, gd_pos k1, gd_pos (by omega)]
    simp only [Option.bind_some]
    rw [gd_pos k2, gd_pos ⟨k2, f2, by omega, by omega⟩]
    simp only [Option.bind_some]
    rw [show Int.toNat 2 = 2 from rfl, gd_pos k3]
    simp only [Option.bind_some]
    rw [gd_pos (show kd (sR (gL (nO (nO h 30 5) 41 3) (hz (nO h 30 5)) [] 2 1 2) 1494 (hz h) (hz (nO h 30 5))) (hz h) = 30 from k3)]
    rfl
  · exact hx_sR (hx_sR (hx_gL (hx_trans (hx_nO h 30 5) (hx_nO _ 41 3)) (by omega)) (Nat.le_refl _)) (Nat.le_refl _)
  · rw [fR_ne (by decide), fR_ne (by decide), fR_gL, fR_nO, if_neg (by omega), fR_nO, if_pos rfl]
  · show hz h + 1 < hz h + 3; omega
  · show kd (gL (nO (nO h 30 5) 41 3) (hz h + 1) [] 2 1 2) (hz h + 1) = 42; rw [kd_gL, if_pos rfl]
  · show (ll (gL (nO (nO h 30 5) 41 3) (hz h + 1) [] 2 1 2) (hz h + 1)).length ≤ _; rw [ll_gL, if_pos rfl]; simp
  · show lc (gL (nO (nO h 30 5) 41 3) (hz h + 1) [] 2 1 2) (hz h + 1) ≤ _; rw [lc_gL, if_pos rfl]; omega
  · intro y hy
    have : ll (gL (nO (nO h 30 5) 41 3) (hz h + 1) [] 2 1 2) (hz h + 1) = [] := by rw [ll_gL, if_pos rfl]
    rw [show ll (sR (sR (gL (nO (nO h 30 5) 41 3) (hz (nO h 30 5)) [] 2 1 2) 1494 (hz h) (hz (nO h 30 5))) 1490 (hz h) hd) (hz h + 1) = [] from this] at hy
    simp at hy
  · show ll (gL (nO (nO h 30 5) 41 3) (hz h + 1) [] 2 1 2) (hz h + 1) = []; rw [ll_gL, if_pos rfl]
  · show lc (gL (nO (nO h 30 5) 41 3) (hz h + 1) [] 2 1 2) (hz h + 1) = 2; rw [lc_gL, if_pos rfl]
  · show fI (nO (nO h 30 5) 41 3) f t = _; rw [fI_nO, if_neg (by omega), fI_nO, if_neg (by omega)]
  · rw [fR_na (by omega), fR_na (by omega)]; show fR (nO (nO h 30 5) 41 3) f t = _; rw [fR_nO, if_neg (by omega), fR_nO, if_neg (by omega)]
theorem use15 (hG : om_okG G) (H : Cst G h t S i nc) (fl : Int) (w : Nat) : ((C_0_isAtom G t h).bind fun p2 => if p2 ≠ 0 then C_0_readUse_39 G rC t fl w h else gd (kd h t = 15) ((C_14_isSign G t 64 h).bind fun p3 => if p3 ≠ 0 then C_0_readUse_39 G rC t fl w h else some (.inr w, h))) = if isA S i ∨ tokk S i = 64 then C_0_readUse_39 G rC t fl w h else some (.inr w, h) := by
  rw [c_isAtom hG H, c_isSign hG H (by omega), show sc 64 = 64 by decide]
  simp only [Option.bind_some]
  rw [gd_pos (Cst_kd H)]
  by_cases c : isA S i
  · rw [if_pos (by rw [if_pos c]; decide), if_pos (.inl c)]
  · rw [if_neg (by rw [if_neg c]; decide)]
    by_cases c2 : tokk S i = 64
    · rw [if_pos (by rw [if_pos c2]; decide), if_pos (.inr c2)]
    · rw [if_neg (by rw [if_neg c2]; decide), if_neg (by rintro (z | z); exact c z; exact c2 z)]
/-- a use -/
theorem use_rel (hG : om_okG G) (hn : 0 ≤ nc ∧ nc ≤ 20) (R : RXall G A t N S b m K nc rT rC) (RF : RFall N S b m nc 1 rT) (H : At G A t N S b m i nc M σ h) (h84 : M + 3 * (m - i) + 60 ≤ 8400) : RO G A t N S b m i nc M σ h (PX G A S b (K + 2) i M h) (T_use rT σ) (C_0_readUse G rC t h) := by
  have h2 := Cst_kind hG H.2.1 (e := 2) (by decide)
  have s2 := kE_s (tokk_r S i).1 (e := 2) (by decide)
  have ht := At_t H
  have hi := At_i H
  by_cases c : tokk S i = 2
  · have hC : C_0_readUse G rC t h = C_0_readUse_15 G rC t 1 h := by
      unfold C_0_readUse
      rw [gd_pos (At_kd H), if_neg (fun z => z (h2.mpr (s2.mpr c)))]
    obtain ⟨τ, h', e1, e2, e3, e4, e5, e6, e7, e8, e9, e10⟩ := name_at (rT := rT) (rC := rC) hG H c (by omega)
    have hT : T_use rT σ = TL rT (gs σ 432) (1, (M : Int), -1, τ) := by
      unfold T_use
      rw [t_is H.1, if_pos c, e1]
      rfl
    rw [hT, hC]
    unfold C_0_readUse_15
    rw [e2, xc_v, use15 hG e3.2.1]
    have hX := name_X0 (G := G) (alo := hz h) (ahi := hz h') e6 e7 e8 c (Nat.le_refl _) (by omega) (by omega) (by omega) K
    have hi1 := At_i e3
    by_cases q : isA S (i + 1) ∨ tokk S (i + 1) = 64
    · rw [if_pos q]
      obtain ⟨h2, b1, b2, b3, b4, b5, b6, b7, b8, b9, b10⟩ := use_begin (G := G) (rC := rC) (At_t e3) 1 (hz h)
      rw [b1]
      have hA2 : At G A t N S b m (i + 1) nc (M + 1) τ h2 := ⟨e3.1, Cst_sameT e3.2.1 b2 ⟨b9, b10⟩, by rw [b10]; exact e3.2.2⟩
      have hb0 := At_t e3
      have K2 : ∀ x, x = hz h ∨ x = hz h + 1 → kd h2 x = kd h' x ∧ (∀ f, fI h2 f x = fI h' f x) ∧ (∀ f, fR h2 f x = fR h' f x) := by
        intro x hx
        have : x < hz h' ∧ x ≠ t := by rcases hx with rfl | rfl <;> omega
        exact ⟨b2.2.2.1 x this.1, fun f => b2.2.2.2.1 f x this.1 this.2, fun f => b2.2.2.2.2.1 f x this.1 this.2⟩
      have n2 := nameO_keep e7 K2
      have r2 : fR h2 1458 (hz h) = 0 := by rw [(K2 _ (.inl rfl)).2.2]; exact e8
      have U : U1 G A S b (K + 1) (hz h) M (hz h') (hz h' + 1) (hz h) (M + 1) τ h2 [] [] (-1) := by
        refine ⟨by omega, b3, b4, b5, ⟨i, hz h + 1, hz h' + 2, n2, c, by omega, by omega, e6.1, e6.2.1, e6.2.2.1, fun _ z => absurd z List.not_mem_nil, trivial, by omega, by omega, .inl ⟨rfl, r2, rfl⟩⟩, .inl ⟨rfl, rfl, e6.2.2.1⟩, fun z => absurd rfl z, fun _ => ⟨hz h', Nat.le_refl _, by omega, X0_keep hX (hx_hk b2 (Nat.le_refl _) ht) (fun _ _ _ _ _ => rfl)⟩⟩
      refine U1_loop hG hn R RF ht h84 (gs σ 432) (m - (i + 1) + 1) (i + 1) (M + 1) τ h2 [] [] (-1) (by omega) hA2 ⟨by omega, e4, by omega, hx_trans e5 b2, by omega, by omega⟩ U ⟨by omega, by omega, by rw [b5]; simp; omega, by rw [b5, b6, r2]; simp; omega⟩ (.inr q)
    · rw [if_neg q, TL_end e3.1 (fun z => q (.inl z)) (fun z => q (.inr z))]
      exact .inl ⟨i + 1, M + 1, τ, h', _, _, rfl, rfl, by omega, e3, e4, e5, by omega, M, rfl, by omega, XR_more hX, by omega, by omega, by omega, by omega⟩
  · have hC : C_0_readUse G rC t h = C_0_readUse_15 G rC t 0 h := by
      unfold C_0_readUse
      rw [gd_pos (At_kd H), if_pos (fun z => c (s2.mp (h2.mp z)))]
    have hT : T_use rT σ = (T_atom rT σ).bind fun p2 => TL rT (gs σ 432) (0, p2.1, -1, p2.2) := by
      unfold T_use
      rw [t_is H.1, if_neg c]
      rfl
    rw [hT, hC]
    unfold C_0_readUse_15
    refine RO_bind 0 lnk_refl (by omega) h84 hi (atom_rel hG R RF H h84) (fun j M' τ h' v w q1 H1 D1 X1 m1 P1 => ?_) (fun p v τ M' T1 T2 T3 T4 => by rw [TL_F T1]; exact TF_end T1 T2)
    obtain ⟨nT, rfl, g2, W2, g3, g4, g5, g6⟩ := P1
    have Wi := XR_in _ _ _ _ _ _ _ W2
    rw [use15 hG H1.2.1]
    have hj := At_i H1
    have X10 := X1.1
    by_cases q : isA S j ∨ tokk S j = 64
    · rw [if_pos q]
      obtain ⟨h2, b1, b2, b3, b4, b5, b6, b7, b8, b9, b10⟩ := use_begin (G := G) (rC := rC) (At_t H1) 0 w
      rw [b1]
      have hA2 : At G A t N S b m j nc M' τ h2 := ⟨H1.1, Cst_sameT H1.2.1 b2 ⟨b9, b10⟩, by rw [b10]; exact H1.2.2⟩
      have U : UC G A S b (K + 1) (hz h) M (hz h') (hz h' + 1) w nT M' (hz h2) nT M' (hz h2) τ h2 [] [] := by
        exact ⟨by omega, b3, b4, b5, .inl ⟨rfl, hz h', X0_keep W2 (hx_hk b2 (Nat.le_refl _) ht) (fun _ _ _ _ _ => rfl), Nat.le_refl _, by omega⟩, rfl, rfl, Nat.le_refl _⟩
      refine U_loop hG hn R RF ht h84 (gs σ 432) (-1) (m - j + 1) j M' τ h2 nT [] (by omega) hA2 ⟨by omega, D1, by omega, hx_trans X1 b2, by omega, by omega⟩ U ⟨by omega, by omega, by rw [b5]; simp; omega, by rw [b5, b6]; simp; omega⟩ (.inr q)
    · rw [if_neg q, TL_end H1.1 (fun z => q (.inl z)) (fun z => q (.inr z))]
      exact .inl ⟨j, M', τ, h', _, _, rfl, rfl, by omega, H1, D1, X1, by omega, nT, rfl, by omega, XR_more W2, by omega, by omega, by omega, by omega⟩
/-- the same behind a fault -/
theorem useF (RF : RFall N S b m nc 1 rT) : RFall N S b m nc 1 (T_use rT) := by
  intro p M σ H hM
  obtain ⟨x, τ, M1, e1, e2, e3, e4, e5⟩ := atomF (p := p) RF p M σ H hM
  refine ⟨x, τ, M1, ?_, e2, e3, e4, e5⟩
  obtain ⟨y, hT⟩ := t_isF H 2
  show (T_is 2 σ).bind (fun p1 => (T_atom rT σ).bind fun p2 => TL rT (gs σ 432) (p1, p2.1, -1, p2.2)) = _
  rw [hT, e1]
  simp only [Option.bind_some]
  rw [TL_F e2]
end LN3
