set_option maxRecDepth 100000
section LLi
variable {G : om_G} {A t : Nat} {N : List (List Int)} {S : List Int} {b m i : Nat} {M : Nat} {σ τ : tS} {h h' h1 h2 : om_H} {c pr : Nat} {Z Z' : Nat → Prop}
variable {σ0 : tS} {M0 d0 : Nat} {h0 : om_H} {HZ HU : Nat}
noncomputable def TLi (d : Int) (x : Int × tS) : Option tS := (om_loop (T_anInstance_152s d) x).bind fun y1 => T_anInstance_240 y1
noncomputable def CLi (G : om_G) (t f : Nat) (x : om_H) : Option ((Nat ⊕ Unit) × om_H) := (om_loop (C_1_readInstance_225s G t f) x).bind (Sum.elim (fun v3 => gd (kd v3 t = 15) (xc (C_14_need_2 G t 125 v3) (fun t h => some (.inl t, h)) (fun p4 h4 => some (.inr (), h4)))) (fun v4 => some v4))
theorem TLi_F {n p : Int} (H : Tfl σ N S b m p n M) (D : ndD σ0 σ M0 d0) (l1 last : Int) : TFv N S b m n σ0 M0 d0 p (TLi l1 (last, σ)) := by
  unfold TLi
  rw [om_loop_eq]
  unfold T_anInstance_152s
  rw [if_pos (show gs σ 452 ≠ 0 by rw [H.2.2.2.1]; decide)]
  show TFv N S b m n σ0 M0 d0 p (T_anInstance_240 σ)
  unfold T_anInstance_240
  exact Fd_need H (Fv_end H D)
theorem TLi_end {n : Int} (H : Tst σ N S b m i n M) (c : tokk S i ≠ 2) (l1 last : Int) : TLi l1 (last, σ) = (T_need 125 σ).bind fun p1 => some p1 := by
  unfold TLi
  rw [om_loop_eq]
  unfold T_anInstance_152s
  simp only
  rw [if_neg (by rw [H.2.2.2.2.1]; decide), t_is H, if_neg c]
  simp only [Option.bind_some]
  rw [if_pos trivial]
  rfl
theorem TLi_in {n : Int} (H : Tst σ N S b m i n M) (c : tokk S i = 2) (l1 last : Int) : TLi l1 (last, σ) = (T_need 61 (us σ 432 ((b + (i + 1) : Nat) : Int))).bind fun p2 => (T_readEx p2).bind fun p3 => (T_node 22 ((b + i : Nat) : Int) p3.1 (-1) (-1) (-1) p3.2).bind fun p4 => (T_need 59 p4.2).bind fun p5 => (if last ≠ (-1) then if 0 ≤ last ∧ last < 8400 then some (ua p5 562 last.toNat p4.1) else none else if 0 ≤ l1 ∧ l1 < 700 then some (ua p5 602 l1.toNat p4.1) else none).bind fun s => TLi l1 (p4.1, s) := by
  have h4 := H.1.2.1
  have hi := H.2.2.1
  unfold TLi
  rw [om_loop_eq]
  unfold T_anInstance_152s
  simp only
  rw [if_neg (by rw [H.2.2.2.2.1]; decide), t_is H, if_pos c]
  simp only [Option.bind_some]
  rw [if_neg (by decide), H.2.1, w32_s (by omega) (by omega), show ((b + i : Nat) : Int) + 1 = ((b + (i + 1) : Nat) : Int) by omega]
  simp only [Option.bind_assoc]
  congr 1; funext p2
  congr 1; funext p3
  congr 1; funext p4
  congr 1; funext p5
  by_cases q1 : last ≠ -1
  · rw [if_pos q1, if_pos q1]
    by_cases q2 : 0 ≤ last ∧ last < 8400
    · rw [if_pos q2, if_pos q2]; rfl
    · rw [if_neg q2, if_neg q2]; rfl
  · rw [if_neg q1, if_neg q1]
    by_cases q2 : 0 ≤ l1 ∧ l1 < 700
    · rw [if_pos q2, if_pos q2]; rfl
    · rw [if_neg q2, if_neg q2]; rfl
theorem CLi_end {n : Int} {f : Nat} (hG : om_okG G) (H : Cst G h t S i n) (c2 : tokk S i ≠ 2) : CLi G t f h = gd (kd h t = 15) (xc (C_14_need_2 G t 125 h) (fun t h => some (.inl t, h)) (fun p4 h4 => some (.inr (), h4))) := by
  have h2 := Cst_kind hG H (e := 2) (by decide)
  have s2 := kE_s (tokk_r S i).1 (e := 2) (by decide)
  unfold CLi
  rw [om_loop_eq]
  unfold C_1_readInstance_225s
  rw [gd_pos (Cst_kd H), if_pos (fun z => c2 (s2.mp (h2.mp z)))]
  rfl
theorem CLi_in {n : Int} {f : Nat} (hG : om_okG G) (H : Cst G h t S i n) (c2 : tokk S i = 2) : CLi G t f h = xc (C_14_need G t (om_cA G 2) h) (fun t h => some (.inl t, h)) (fun p1 h1 => gd (kd h1 t = 15) (xc (C_14_need_2 G t 61 h1) (fun t h => some (.inl t, h)) (fun p2 h2 => gd (kd h2 f = 21) (xc (C_0_readEx G t (nO h2 23 3)) (fun t h => some (.inl t, h)) (fun p3 h3 => gd (kd h3 (hz h2) = 23) ((C_22_init G (hz h2) p1 p3 h3).bind fun p4 => gd (kd p4 (fR h2 1326 f) = 42) ((P_J2_add G (fR h2 1326 f) (hz h2) p4).bind fun p5 => gd (kd p5.2 t = 15) (xc (C_14_need_2 G t 59 p5.2) (fun t h => some (.inl t, h)) (fun p6 h6 => CLi G t f h6))))))))) := by
  have h2 := Cst_kind hG H (e := 2) (by decide)
  have s2 := kE_s (tokk_r S i).1 (e := 2) (by decide)
  unfold CLi
  rw [om_loop_eq]
  unfold C_1_readInstance_225s
  rw [gd_pos (Cst_kd H), if_neg (fun z => z (h2.mpr (s2.mpr c2))), gd_pos (Cst_kd H)]
  simp only [xc_bind, gd_bind, Option.bind_assoc, Option.bind_some, Sum.elim_inl, Sum.elim_inr]
/-- lines are being read into the list L -/
def LB (G : om_G) (A : Nat) (S : List Int) (b z0 Mb am d L pr : Nat) (Lf : Nat → List Nat) (dv : Nat → Int) (Φ : tS → om_H → Prop) (M : Nat) (σ : tS) (h : om_H) (xs os : List Nat) : Prop :=
  (z0 ≤ L ∧ L < am ∧ am ≤ hz h ∧ Mb ≤ M) ∧ okV G h L ∧ ll h L = xs ∧ lrows G A S b h σ xs os Mb M am (hz h) ∧ chain σ (ga σ 602 d) os ∧ (∀ x ∈ xs, fR h 1370 x = 0) ∧ (∀ f ∈ DA, f ≠ 602 → ga σ f d = dv f) ∧ PC h pr Lf ∧ Φ σ h
set_option maxHeartbeats 4000000 in
theorem lines_loop (hG : om_okG G) (hN : ∃ N', N = [110, 105, 108] :: [99, 111, 110, 115] :: N') {Mb am d L f ib : Nat} {Lf : Nat → List Nat} {dv : Nat → Int} {Φ : tS → om_H → Prop} (ht : t < hz h0) (hpr : pr < hz h0) (hZ : ∀ a, Z a → a < hz h0) (hd : d < 700 ∧ d0 ≤ d) (hMb : M0 ≤ Mb) (hΦ : Kp (hz h0) am [L] Mb Φ) (hO : ∀ σ h, Φ σ h → kd h f = 21 ∧ fR h 1326 f = L) :
    ∀ (dd i M : Nat) (σ : tS) (h : om_H) (last : Int) (xs os : List Nat), m - i < dd → ib ≤ i → At G A t N S b m i 0 M σ h → DSL G t m Z pr σ0 M0 d0 h0 HZ HU L 20 300 60 i M σ h → LB G A S b (hz h0) Mb am d L pr Lf dv Φ M σ h xs os → lastOf os last (ga σ 602 d) → xs.length ≤ i →
    RD G A t N S b m 0 Z pr σ0 M0 d0 h0 HZ HU (fun τ : tS => τ) (fun j M' τ h' _ => ib ≤ j ∧ DSL G t m Z pr σ0 M0 d0 h0 HZ HU L 20 300 60 j M' τ h' ∧ ∃ xs os, LB G A S b (hz h0) Mb am d L pr Lf dv Φ M' τ h' xs os) (TLi (d : Int) (last, σ)) (CLi G t f h) := by
  intro dd
  induction dd with
  | zero =>
    intro i M σ h last xs os hd'
    exact absurd hd' (Nat.not_lt_zero _)
  | succ dd ih =>
    intro i M σ h last xs os hd' hib H Q B hl hxl
    have hi := At_i H
    have O := B.2.1
    have Q0 := DSL_DS O Q
    have s7 := Q0.2.2.2.2.2.2
    have s2 := Q0.2.1
    have htz := At_t H
    by_cases c2 : tokk S i = 2
    · rw [TLi_in H.1 c2, CLi_in hG H.2.1 c2]
      obtain ⟨B1, B2, B3, B4, B5, B6, B7, B8, B9⟩ := B
      have Bi := lrows_in B4
      have Bp := lrows_pw B4
      obtain ⟨h1, v1, v2, v3, v4, v5, v6, v7⟩ := (c_need hG H.2.1 (e := 2) (by omega)).1 c2
      rw [v1, xc_v]
      rw [H.2.2] at v4 v7
      obtain ⟨T1, D1⟩ := Tst_at H.1 (by omega)
      have H1 : At G A t N S b m (i + 1) 0 M (us σ 432 ((b + (i + 1) : Nat) : Int)) h1 := ⟨T1, v2, v7⟩
      have hi1 := At_i H1
      have Q1 : DS G t m Z pr σ0 M0 d0 h0 HZ HU 39 597 62 (i + 1) M (us σ 432 ((b + (i + 1) : Nat) : Int)) h1 := DS_step Q0 D1 v3 (Nat.le_refl _) (by omega) (by omega) (by omega)
      have lkF : ∀ (p : Int) (x : Int) (τ : tS) (M' : Nat), Tfl τ N S b m p 0 M' → ndD σ0 τ M0 d0 → TFv N S b m 0 σ0 M0 d0 p ((if last ≠ (-1) then if 0 ≤ last ∧ last < 8400 then some (ua τ 562 last.toNat x) else none else if 0 ≤ (d : Int) ∧ (d : Int) < 700 then some (ua τ 602 ((d : Int)).toNat x) else none).bind fun s => TLi (d : Int) (x, s)) := by
        intro p x τ M' T D
        obtain ⟨υ, u1, u2, u3⟩ := link_dF (F := 602) (x := x) hl (fun y hy => by have := Bi.2.2.1 y hy; omega) hd T D (by simp)
        rw [u1]
        exact TLi_F u2 u3 _ _
      refine RD_gd (At_kd H1) (RD_need hG H1 Q1 (by omega) (.inr (.inr (by omega))) (by decide) (by decide) (fun q2 τ2 h2 H2 D2 X2 => ?_) (fun p τ T D => Fd_rec (exF (by omega) 29) T D s2 (by omega) (fun x τ M1 T D q q' => Fd_node T D (by omega) (by omega) (fun τ T D => Fd_need T (lkF p _ τ _ T D)))))
      have z2 : hz h2 = hz h1 := X2.2.2.2.2.2.2.2.2.1
      have y2 : hu h2 = hu h1 := X2.2.2.2.2.2.2.2.2.2.1
      have hi2 := At_i H2
      have N2 := nd_trans D1 D2 (Nat.le_refl M)
      have X02 := hx_trans v3 (hx_onlyT X2)
      have O2 := hO _ _ (Kp_hx hΦ ht (by omega) X02 ⟨N2.1, fun g hg x hx => N2.2 g hg x (by omega)⟩ B9)
      rw [O2.2, gd_pos O2.1]
      have H2n := At_nO H2 23 3
      have X2n := hx_nO (t := t) h2 23 3
      have zn : hz (nO h2 23 3) = hz h2 + 1 := rfl
      have yn : hu (nO h2 23 3) = hu h2 + 3 := rfl
      have Xn : hx t h (nO h2 23 3) := hx_trans X02 X2n
      have Q2 : DS G t m Z pr σ0 M0 d0 h0 HZ HU 58 890 64 (i + 1 + 1) M τ2 (nO h2 23 3) := DS_step Q0 N2 Xn (Nat.le_refl _) (by omega) (by omega) (by omega)
      have kx : kd (nO h2 23 3) (hz h2) = 23 := by rw [kd_nO, if_pos rfl]
      have xR : ∀ g, fR (nO h2 23 3) g (hz h2) = 0 := fun g => by rw [fR_nO, if_pos rfl]
      have wn : wd (nO h2 23 3) A S (hz h) i := wd_same v4 (sameA_trans (hx_same (hx_onlyT X2) (by omega) (by omega)) (hx_same X2n (by omega) (by omega)))
      generalize nO h2 23 3 = g2 at *
      refine RD_bind Q2 (by omega) (ex_all hG hN (i + 1 + 1) M τ2 g2 H2n (by omega)) (fun j M' τ3 h3 v w j1 H3 D3 X3 m3 P3 => ?_) (fun p v τ M' T D q q' => Fd_node T D (by omega) (by omega) (fun τ T D => Fd_need T (lkF p _ τ _ T D)))
      obtain ⟨nT, rfl, g2', W3, g3, g4, g5, g6⟩ := P3
      have hj := At_i H3
      have Wi := XR_in _ _ _ _ _ _ _ W3
      have N3 := nd_trans N2 D3 (Nat.le_refl M)
      have X03 := hx_trans Xn X3
      have sx := hx_same X3 (a := hz h2) (by omega) (by omega)
      have w3 := wd_same wn (hx_same X3 (a := hz h) (by omega) (by omega))
      have O3 := okV_hx B2 X03
      have l3 : ll h3 L = xs := by rw [(hx_same X03 (a := L) (by omega) (by omega)).2.2.2.2.2.1]; exact B3
      have c3 : lc h3 L = lc h L := (hx_same X03 (a := L) (by omega) (by omega)).2.2.2.2.2.2
      -- the Line
      have e4 : C_22_init G (hz h2) (hz h) w h3 = some (sR (sR h3 1362 (hz h2) (hz h)) 1366 (hz h2) w) := by unfold C_22_init; exact gd_pos (by rw [sx.1]; exact kx)
      rw [gd_pos (by rw [sx.1]; exact kx), e4]
      simp only [Option.bind_some]
      obtain ⟨P3, L3⟩ := PL_hx Q.2.2.2.1 X03
      obtain ⟨P3a, L3a⟩ := PL_sR (f := 1362) (a := hz h2) (x := hz h) P3 (by omega)
      obtain ⟨P4, L4⟩ := PL_sR (f := 1366) (a := hz h2) (x := w) P3a (by omega)
      have C4 : PC (sR (sR h3 1362 (hz h2) (hz h)) 1366 (hz h2) w) pr Lf := PC_sR (PC_sR (PC_hx B8 Q.2.2.2.1 X03) (by omega)) (by omega)
      have s34 : ∀ a, a ≠ hz h2 → sameA a h3 (sR (sR h3 1362 (hz h2) (hz h)) 1366 (hz h2) w) := fun a ha => ⟨rfl, fun _ => rfl, fun g => by rw [fR_na ha, fR_na ha], rfl, fun _ => rfl, rfl, rfl⟩
      have x4 : kd (sR (sR h3 1362 (hz h2) (hz h)) 1366 (hz h2) w) (hz h2) = 23 ∧ fR (sR (sR h3 1362 (hz h2) (hz h)) 1366 (hz h2) w) 1362 (hz h2) = hz h ∧ fR (sR (sR h3 1362 (hz h2) (hz h)) 1366 (hz h2) w) 1366 (hz h2) = w ∧ fR (sR (sR h3 1362 (hz h2) (hz h)) 1366 (hz h2) w) 1370 (hz h2) = 0 := ⟨by show kd h3 (hz h2) = 23; rw [sx.1]; exact kx, by rw [fR_ne (by decide), fR_eq], fR_eq, by rw [fR_ne (by decide), fR_ne (by decide), sx.2.2.1]; exact xR _⟩
      have O4 : okV G (sR (sR h3 1362 (hz h2) (hz h)) 1366 (hz h2) w) L := O3
      have l4 : ll (sR (sR h3 1362 (hz h2) (hz h)) 1366 (hz h2) w) L = xs := l3
      have c4 : lc (sR (sR h3 1362 (hz h2) (hz h)) 1366 (hz h2) w) L = lc h L := c3
      have z4 : hz (sR (sR h3 1362 (hz h2) (hz h)) 1366 (hz h2) w) = hz h3 := rfl
      have y4 : hu (sR (sR h3 1362 (hz h2) (hz h)) 1366 (hz h2) w) = hu h3 := rfl
      have H4 : At G A t N S b m j 0 M' τ3 (sR (sR h3 1362 (hz h2) (hz h)) 1366 (hz h2) w) := At_sR (At_sR H3 (by omega)) (by omega)
      have hp4 : hp Z t h0 (sR (sR h3 1362 (hz h2) (hz h)) 1366 (hz h2) w) := hp_sR (hp_sR (hp_trans Q.2.2.1 (hx_hp X03)) (by have := Q.2.2.1.1; omega)) (by have := Q.2.2.1.1; omega)
      generalize sR (sR h3 1362 (hz h2) (hz h)) 1366 (hz h2) w = h4 at *
      clear e4
      have hm4 := H.1.1.2.1
      obtain ⟨a1, a2, a3, a4, a5, a6⟩ := v_add (x := hz h2) O4 (.inl ⟨by omega, by omega, by omega⟩) (by rw [l4]; omega)
      generalize addL h4 L (hz h2) = h9 at a1 a2 a3 a4 a5 a6
      rw [gd_pos O4.2.1, a1]
      simp only [Option.bind_some]
      have H9 := hxL_At H4 a2
      obtain ⟨τ4, e1, e2, e3, e4, e5⟩ := t_node H3.1 (by omega) 22 ((b + i : Nat) : Int) (nT : Int) (-1) (-1) (-1)
      rw [e1]
      simp only [Option.bind_some]
      have H9' : At G A t N S b m j 0 (M' + 1) τ4 h9 := ⟨e2, H9.2.1, H9.2.2⟩
      have a21 := a2.1
      obtain ⟨P9, L9⟩ := PL_hxL P4 a2 (fun z => by have := hZ _ z; omega)
      have hp9 : hp Z t h0 h9 := hp_hxL hp4 a2 B1.1
      have N4 := nd_trans N3 e4 m3
      have nd4 : ndD σ0 τ4 M0 d0 := ndD_nd Q.1 N4 s2
      have q6 := Q.2.2.2.2.2.1
      have q5 := Q.2.2.2.2.1
      have l9 : (ll h9 L).length = xs.length + 1 := by rw [a4, l4]; simp
      have Q9 : DSL G t m Z pr σ0 M0 d0 h0 HZ HU L 20 300 60 j (M' + 1) τ4 h9 := by
        refine ⟨nd4, by omega, hp9, P9, by omega, ?_, by omega⟩
        rw [l9, L9, L4, L3a, L3]
        rw [B3] at q6
        rw [c4] at a6
        omega
      refine RD_gd (At_kd H9') (RD_need hG H9' (DSL_DS a3 Q9) (by omega) (.inr (.inr (by omega))) (by decide) (by decide) (fun q10 τ5 h10 H10 D10 X10 => ?_) (fun p τ T D => lkF p _ τ _ T D))
      have z10 : hz h10 = hz h9 := X10.2.2.2.2.2.2.2.2.1
      have y10 : hu h10 = hu h9 := X10.2.2.2.2.2.2.2.2.2.1
      have hi10 := At_i H10
      have N5 := nd_trans N4 D10 (by omega)
      have hM' : M ≤ M' := m3
      have hnx : ga τ5 562 M' = -1 := by rw [D10.2 562 (by simp) M' (by omega)]; exact e3.2.2.2.2.2.2
      have hlk : ∃ υ, (if last ≠ (-1) then if 0 ≤ last ∧ last < 8400 then some (ua τ5 562 last.toNat (M' : Int)) else none else if 0 ≤ (d : Int) ∧ (d : Int) < 700 then some (ua τ5 602 ((d : Int)).toNat (M' : Int)) else none) = some υ ∧ chain υ (ga υ 602 d) (os ++ [M']) ∧ (∀ f, gs υ f = gs τ5 f) ∧ (∀ f ∈ PA, f ≠ 562 → ∀ i, ga υ f i = ga τ5 f i) ∧ (∀ i, i ∉ os → ga υ 562 i = ga τ5 562 i) ∧ (∀ f ∈ DA, f ≠ 602 → ∀ i, ga υ f i = ga τ5 f i) ∧ TT υ N S b m ∧ ndD σ0 υ M0 d0 := by
        have dD : ndD σ0 τ5 M0 d0 := ndD_nd Q.1 N5 s2
        rcases hl with ⟨p1, p2, p3⟩ | ⟨ns', l, p1, p2⟩
        · refine ⟨ua τ5 602 d (M' : Int), by rw [if_neg (by rw [p2]; simp), if_pos ⟨by omega, by omega⟩, show ((d : Int)).toNat = d by omega], ?_, fun _ => rfl, fun f hf _ x => ?_, fun x _ => ?_, fun f hf c x => ?_, (Tst_ua H10.1 (by simp)).1, ndD_ua dD (by simp) hd.2⟩
          · rw [ga_ua, if_pos ⟨rfl, rfl⟩, p1]
            exact chain_first (by rw [ga_ua, if_neg (by omega)]; exact hnx)
          · rw [ga_ua, if_neg (fun (z : f = 602 ∧ x = d) => PA_DA (f := 602) (by simp) (z.1 ▸ hf))]
          · rw [ga_ua, if_neg (by omega)]
          · rw [ga_ua, if_neg (fun z => c z.1)]
        · have hlM := Bi.2.2.1 l (by rw [p1]; simp)
          have u3 : fr PF PA τ5 (ua τ5 562 l (M' : Int)) := fr_ua (fr_refl _ _ _) (by simp)
          refine ⟨ua τ5 562 l (M' : Int), by rw [p2, if_pos (by omega), if_pos ⟨by omega, by omega⟩, show ((l : Int)).toNat = l by omega], ?_, fun _ => rfl, fun f hf c x => ?_, fun x hx => ?_, fun f hf c x => ?_, TT_fr u3 H10.1.1, ndD_nd dD ⟨u3, fun g _ z hz => by rw [ga_ua, if_neg (by omega)]⟩ (Nat.le_refl M0)⟩
          · rw [p1] at B5 Bp ⊢
            have e602 : ga (ua τ5 562 l (M' : Int)) 602 d = ga σ 602 d := by rw [ga_ua, if_neg (by omega), N5.1.2 602 (PA_DA (by simp))]
            rw [e602]
            refine chain_more B5 Bp (fun x hx => ?_) (fun x hx => ?_) hnx
            · have := Bi.2.2.1 x (by rw [p1]; exact hx); omega
            · have := Bi.2.2.1 x (by rw [p1]; exact List.mem_append_left _ hx)
              exact N5.2 562 (by simp) x (by omega)
          · rw [ga_ua, if_neg (fun z => c z.1)]
          · rw [ga_ua, if_neg (fun z => hx (by rw [p1, z.2]; simp))]
          · rw [ga_ua, if_neg (fun (z : f = 562 ∧ x = l) => PA_DA hf (by rw [z.1]; simp))]
      obtain ⟨υ, u1, u2, u3, u4, u5, u6, u7, u8⟩ := hlk
      rw [u1]
      simp only [Option.bind_some]
      have T5 := H10.1
      have H11 : At G A t N S b m (j + 1) 0 (M' + 1) υ h10 := ⟨⟨u7, by rw [u3]; exact T5.2.1, T5.2.2.1, by rw [u3]; exact T5.2.2.2.1, by rw [u3]; exact T5.2.2.2.2.1, by rw [u3]; exact T5.2.2.2.2.2⟩, H10.2.1, H10.2.2⟩
      have X10x := hx_onlyT X10
      obtain ⟨P10, L10⟩ := PL_hx P9 X10x
      have sA : ∀ a, a < hz h9 → a ≠ t → sameA a h9 h10 := fun a q r => hx_same X10x q r
      have l10 : ll h10 L = ll h9 L := (sA L (by omega) (by omega)).2.2.2.2.2.1
      have c10 : lc h10 L = lc h9 L := (sA L (by omega) (by omega)).2.2.2.2.2.2
      have s310 : ∀ a, hz h0 ≤ a → a < hz h3 → a ≠ hz h2 → a ≠ L → sameA a h3 h10 := fun a q r s u => sameA_trans (sameA_trans (s34 a s) (hxL_same a2 (by omega) u)) (sA a (by omega) (by omega))
      have s10 : ∀ a, hz h0 ≤ a → a < hz h → a ≠ L → sameA a h h10 := fun a q r s => sameA_trans (hx_same X03 r (by omega)) (s310 a q (by omega) (by omega) s)
      have sxx := sameA_trans (hxL_same a2 (a := hz h2) (by omega) (by omega)) (sA (hz h2) (by omega) (by omega))
      have hkm : hk am (hz h) h h10 := fun a d e => by obtain ⟨s1, s2, s3, s4, s5, s6, s7⟩ := s10 a (by omega) e (by omega); exact ⟨s1, s2, s3, s6, s7⟩
      have hk3 : hk (hz g2) (hz h3) h3 h10 := fun a d e => by obtain ⟨s1, s2, s3, s4, s5, s6, s7⟩ := s310 a (by omega) e (by omega) (by omega); exact ⟨s1, s2, s3, s6, s7⟩
      have fw : fR h10 1362 (hz h2) = hz h := by rw [sxx.2.2.1]; exact x4.2.1
      have gPA : ∀ f' ∈ PA, ∀ x, x < Mb → ga υ f' x = ga σ f' x := fun f' hf x hx => by
        by_cases c : f' = 562
        · rw [c, u5 x (fun z => by have := Bi.2.2.1 x z; omega), N5.2 562 (by simp) x (by omega)]
        · rw [u4 f' hf c, N5.2 f' hf x (by omega)]
      refine ih (j + 1) (M' + 1) υ h10 (M' : Int) (xs ++ [hz h2]) (os ++ [M']) (by omega) (by omega) H11 ⟨u8, by omega, hp_trans hp9 (hx_hp X10x), P10, by omega, ?_, by omega⟩ ⟨by omega, okV_hx a3 X10x, by rw [l10, a4, l4], ?_, u2, fun x hx => ?_, fun f' hf c => ?_, PC_hx (fun g hg => ?_) P9 X10x, hΦ σ υ h h10 (fun a q r s => s10 a q (by omega) (by simpa using s)) gPA B9⟩ (.inr ⟨os, M', rfl, rfl⟩) (by rw [List.length_append]; simp; omega)
      · have := Q9.2.2.2.2.2.1
        rw [l10, c10, L10]
        omega
      · refine lrows_app (amid := hz h) (a1 := hz g2) (a2 := hz h3) (p := nT) (j := i) (lrows_keep B4 hkm (fun f hf c x d e => ?_) (fun x d e c => ?_)) ?_ ⟨?_, ?_, c2, ?_⟩ ?_ ⟨?_, ?_⟩ (by omega)
        · rw [u4 f hf c, N5.2 f hf x e]
        · rw [u5 x c, N5.2 562 (by simp) x e]
        · rw [sxx.2.2.1, x4.2.2.1]
          refine X0_keep W3 hk3 (fun f' hf x d e => ?_)
          by_cases c : f' = 562
          · rw [c, u5 x (fun z => by have := Bi.2.2.1 x z; omega), D10.2 562 (by simp) x (by omega), e4.2 562 (by simp) x e]
          · rw [u4 f' hf c, D10.2 f' hf x (by omega), e4.2 f' hf x e]
        · rw [u4 538 (by simp) (by decide), D10.2 538 (by simp) M' (by omega)]; exact e3.1
        · rw [u4 542 (by simp) (by decide), D10.2 542 (by simp) M' (by omega)]; exact e3.2.1
        · rw [u4 546 (by simp) (by decide), D10.2 546 (by simp) M' (by omega)]; exact e3.2.2.1
        · rw [fw]; omega
        · rw [sxx.1]; exact x4.1
        · rw [fw]
          exact wd_same w3 (s310 (hz h) (by omega) (by omega) (by omega) (by omega))
      · rcases List.mem_append.mp hx with hx | hx
        · have := Bi.2.2.2.1 x hx
          rw [(s10 x (by omega) (by omega) (by omega)).2.2.1]; exact B6 x hx
        · have e : x = hz h2 := by simpa using hx
          rw [e, sxx.2.2.1]; exact x4.2.2.2
      · rw [u6 f' hf c, N5.1.2 f' (PA_DA hf)]; exact B7 f' hf c
      · have zz := (P4.2.1 g hg).2
        rw [a2.2.2.2.2.1 g pr P4.1.2.1, a2.2.2.2.2.2.2.2.2.1 _ (P4.2.1 g hg).1.1 (fun z => by have := hZ _ zz; omega)]
        exact C4 g hg
    · rw [TLi_end H.1 c2, CLi_end hG H.2.1 c2]
      refine RD_gd (At_kd H) (RD_need hG H Q0 (by omega) (.inr (.inr (by omega))) (by decide) (by decide) (fun q2 τ2 h2 H2 D2 X2 => ?_) (fun p τ T D => Fv_end T D))
      have X1 := hx_onlyT X2
      have z2 : hz h2 = hz h := X2.2.2.2.2.2.2.2.2.1
      have y2 : hu h2 = hu h := X2.2.2.2.2.2.2.2.2.2.1
      have hi2 := At_i H2
      obtain ⟨B1, B2, B3, B4, B5, B6, B7, B8, B9⟩ := B
      have Bi := lrows_in B4
      refine .inl ⟨i + 1, M, τ2, h2, (), rfl, rfl, H2, by omega, DSL_step Q (by omega) D2 X1 (Nat.le_refl _) (by omega) (by omega) (by omega), xs, os, ⟨by omega, okV_hx B2 X1, by rw [X2.2.2.2.2.2.2.1]; exact B3, ?_, ?_, fun x hx => ?_, fun f' hf c => by rw [D2.1.2 f' (PA_DA hf)]; exact B7 f' hf c, PC_hx B8 Q.2.2.2.1 X1, Kp_hx hΦ ht (by omega) X1 ⟨D2.1, fun g hg x hx => D2.2 g hg x (by omega)⟩ B9⟩⟩
      · rw [z2]
        exact lrows_keep B4 (hx_hk X1 (Nat.le_refl _) (by omega)) (fun f hf _ x _ e => D2.2 f hf x e) (fun x _ e _ => D2.2 562 (by simp) x e)
      · rw [D2.1.2 602 (PA_DA (by simp))]
        exact chain_keep B5 (fun x hx => D2.2 562 (by simp) x (Bi.2.2.1 x hx).2)
      · have := Bi.2.2.2.1 x hx
        rw [(hx_same X1 (a := x) (by omega) (by omega)).2.2.1]; exact B6 x hx
end LLi
