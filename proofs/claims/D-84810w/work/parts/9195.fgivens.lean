set_option maxRecDepth 100000
section LG4
variable {G : om_G} {A t : Nat} {N : List (List Int)} {S : List Int} {b m i : Nat} {n : Int} {M : Nat} {σ τ : tS} {h h' h1 h2 : om_H} {c pr : Nat} {Z Z' : Nat → Prop}
variable {σ0 : tS} {M0 d0 : Nat} {h0 : om_H} {HZ HU : Nat}
theorem DSL_step {L sz su sM sz' su' sM' j M' : Nat} (Q : DSL G t m Z pr σ0 M0 d0 h0 HZ HU L sz su sM i M σ h) (hL : L < hz h) (D : nd σ τ M) (X : hx t h h') (hM : M ≤ M') (z : hz h' + 20 * (m - j) + sz' ≤ hz h + 20 * (m - i) + sz) (y : hu h' + 300 * (m - j) + su' ≤ hu h + 300 * (m - i) + su) (x : M' + 2 * (m - j) + sM' ≤ M + 2 * (m - i) + sM) : DSL G t m Z pr σ0 M0 d0 h0 HZ HU L sz' su' sM' j M' τ h' := by
  obtain ⟨q1, q2, q3, q4, q5, q6, q7⟩ := Q
  obtain ⟨p1, p2⟩ := PL_hx q4 X
  exact ⟨ndD_nd q1 D q2, by omega, hp_trans q3 (hx_hp X), p1, by omega, by rw [p2, X.2.2.2.2.2.2.2.2.1 L hL, X.2.2.2.2.2.2.2.2.2 L hL]; omega, by omega⟩
theorem TGF_in1 (F : Int × tS → Option tS) (first last : Int) (σ : tS) : TGF 1 F (first, last, 1, σ) = (T_needed 3 σ).bind fun p1 => (T_needed 2 p1.2).bind fun p2 => (T_takes 126 p2.2).bind fun p3 => if p3.1 = 0 then TG54 1 F first last p1.1 p2.1 (-1) p3.2 else (T_readType p3.2).bind fun p4 => TG54 1 F first last p1.1 p2.1 p4.1 p4.2 := by
  unfold TGF TG54
  rw [om_loop_eq]
  have e : T_conditions_7s 1 (first, last, 1, σ) = (T_needed 3 σ).bind fun p1 => (T_needed 2 p1.2).bind fun p2 => (T_takes 126 p2.2).bind fun p3 => if p3.1 = 0 then T_conditions_54 1 first last 21 p1.1 p2.1 (-1) p3.2 else (T_readType p3.2).bind fun p4 => T_conditions_54 1 first last 21 p1.1 p2.1 p4.1 p4.2 := by
    unfold T_conditions_7s
    simp only
    rw [if_neg (by decide)]
    rfl
  rw [e]
  simp only [Option.bind_assoc]
  congr 1; funext p1
  congr 1; funext p2
  congr 1; funext p3
  by_cases q : p3.1 = 0
  · rw [if_pos q, if_pos q]
  · rw [if_neg q, if_neg q]
    simp only [Option.bind_assoc]
theorem TGF_in0 (F : Int × tS → Option tS) (first last : Int) (σ : tS) : TGF 0 F (first, last, 1, σ) = (T_needed 3 σ).bind fun p1 => (T_needed 2 p1.2).bind fun p2 => TG54 0 F first last p1.1 p2.1 (-1) p2.2 := by
  unfold TGF TG54
  rw [om_loop_eq]
  have e : T_conditions_7s 0 (first, last, 1, σ) = (T_needed 3 σ).bind fun p1 => (T_needed 2 p1.2).bind fun p2 => T_conditions_54 0 first last 21 p1.1 p2.1 (-1) p2.2 := by
    unfold T_conditions_7s
    simp only
    rw [if_neg (by decide)]
    rfl
  rw [e]
  simp only [Option.bind_assoc]
/-- the component's loop over a function's givens -/
noncomputable def exFn (G : om_G) (t f : Nat) (h : om_H) : Option ((Nat ⊕ Unit) × om_H) := gd (kd h t = 15) (xc (C_14_need_2 G t 125 h) (fun t h => some (.inl t, h)) (fun p3 h3 => C_1_readFunction_193 G t f h3))
noncomputable def CGf (G : om_G) (t f : Nat) (x : om_H) : Option ((Nat ⊕ Unit) × om_H) := (om_loop (C_1_readFunction_123s G t f) x).bind (Sum.elim (exFn G t f) (fun v3 => some v3))
noncomputable def tailG (G : om_G) (t L x w1 w2 wr : Nat) (CG ex : om_H → Option ((Nat ⊕ Unit) × om_H)) (h : om_H) : Option ((Nat ⊕ Unit) × om_H) := gd (kd h x = 22) ((C_21_init G x w1 w2 wr h).bind fun p1 => gd (kd p1 L = 42) ((P_J2_add G L x p1).bind fun p2 => gd (kd p2.2 t = 15) ((C_14_passes_2 G t 44 p2.2).bind fun p3 => if p3.1 ≠ 0 then CG p3.2 else ex p3.2)))
theorem CGf_eq (f : Nat) (h : om_H) : CGf G t f h = gd (kd h t = 15) (xc (C_14_need G t (om_cA G 3) h) (fun t h => some (.inl t, h)) (fun p1 h1 => gd (kd h1 t = 15) (xc (C_14_need G t (om_cA G 2) h1) (fun t h => some (.inl t, h)) (fun p2 h2 => gd (kd h2 f = 33 ∧ kd h2 (fR h2 1542 f) = 5 ∧ kd (nO h2 22 6) t = 15) ((C_14_passes_2 G t 126 (nO h2 22 6)).bind fun p3 => if p3.1 = 0 then tailG G t (fR h2 166 (fR h2 1542 f)) (hz h2) p1 p2 0 (CGf G t f) (exFn G t f) p3.2 else xc (C_0_readType G t p3.2) (fun t h => some (.inl t, h)) (fun p4 h4 => tailG G t (fR h2 166 (fR h2 1542 f)) (hz h2) p1 p2 p4 (CGf G t f) (exFn G t f) h4)))))) := by
  have tl : ∀ (L x w1 w2 wr : Nat) (g : om_H), ((C_1_readFunction_171 G t f L x x w1 w2 wr g).bind (Sum.elim (om_loop (C_1_readFunction_123s G t f)) some)).bind (Sum.elim (exFn G t f) (fun v3 => some v3)) = tailG G t L x w1 w2 wr (CGf G t f) (exFn G t f) g := by
    intro L x w1 w2 wr g
    unfold C_1_readFunction_171 tailG
    simp only [gd_bind, Option.bind_assoc]
    congr 1
    congr 1; funext p1
    congr 1
    congr 1; funext p2
    congr 1
    congr 1; funext p3
    by_cases q : p3.1 ≠ 0
    · rw [if_pos q, if_pos q]; rfl
    · rw [if_neg q, if_neg q]; rfl
  unfold CGf
  rw [om_loop_eq]
  have e : C_1_readFunction_123s G t f h = gd (kd h t = 15) (xc (C_14_need G t (om_cA G 3) h) (fun t h => some (.inr (.inr (.inl t, h)))) (fun p1 h1 => gd (kd h1 t = 15) (xc (C_14_need G t (om_cA G 2) h1) (fun t h => some (.inr (.inr (.inl t, h)))) (fun p2 h2 => gd (kd h2 f = 33 ∧ kd h2 (fR h2 1542 f) = 5 ∧ kd (nO h2 22 6) t = 15) ((C_14_passes_2 G t 126 (nO h2 22 6)).bind fun p3 => if p3.1 = 0 then C_1_readFunction_171 G t f (fR h2 166 (fR h2 1542 f)) (hz h2) (hz h2) p1 p2 0 p3.2 else xc (C_0_readType G t p3.2) (fun t h => some (.inr (.inr (.inl t, h)))) (fun p4 h4 => C_1_readFunction_171 G t f (fR h2 166 (fR h2 1542 f)) (hz h2) (hz h2) p1 p2 p4 h4)))))) := rfl
  rw [e]
  simp only [xc_bind, gd_bind, Option.bind_assoc, Option.bind_some, Sum.elim_inr]
  congr 2
  funext p1 h1
  congr 2
  funext p2 h2
  congr 1
  congr 1; funext p3
  by_cases q : p3.1 = 0
  · rw [if_pos q, if_pos q]
    have := tl (fR h2 166 (fR h2 1542 f)) (hz h2) p1 p2 0 p3.2
    rw [Option.bind_assoc] at this
    exact this
  · rw [if_neg q, if_neg q]
    simp only [xc_bind, Option.bind_some, Sum.elim_inr]
    congr 1
    funext p4 h4
    have := tl (fR h2 166 (fR h2 1542 f)) (hz h2) p1 p2 p4 h4
    rw [Option.bind_assoc] at this
    exact this
set_option maxHeartbeats 1000000 in
/-- a function's givens -/
theorem fun_givens (hG : om_okG G) (hn : 0 ≤ n ∧ n ≤ 20) {am Mb d L f s ib : Nat} {Lf : Nat → List Nat} {dv : Nat → Int} {Φ : om_H → Prop} (ht : t < hz h0) (hpr : pr < hz h0) (hZ : ∀ a, Z a → a < hz h0) (hMb : M0 ≤ Mb) (hΦ : ∀ h h', (∀ a, hz h0 ≤ a → a < am → a ≠ L → sameA a h h') → Φ h → Φ h') (hO : ∀ h, Φ h → kd h f = 33 ∧ fR h 1542 f = s ∧ kd h s = 5 ∧ fR h 166 s = L)
    {F : Int × tS → Option tS} {P : Nat → Nat → tS → om_H → Unit → Prop}
    (hF : ∀ (p x : Int) (τ : tS) (M' : Nat), Tfl τ N S b m p n M' → ndD σ0 τ M0 d0 → M0 ≤ M' → M' + 10 ≤ 8400 → TFv N S b m n σ0 M0 d0 p (F (x, τ)))
    (ge : ∀ (i M : Nat) (σ : tS) (h : om_H) (first : Int) (os xs : List Nat), ib ≤ i → At G A t N S b m i n M σ h → DSL G t m Z pr σ0 M0 d0 h0 HZ HU L 20 300 60 i M σ h → GB G A S b (hz h0) Mb am d L pr Lf dv Φ False M (hz h) σ h first os xs → RD G A t N S b m n Z pr σ0 M0 d0 h0 HZ HU (fun τ : tS => τ) P ((T_need 125 σ).bind fun p2 => F (first, p2)) (exFn G t f h)) :
    ∀ (dd i M : Nat) (σ : tS) (h : om_H) (first last : Int) (os xs : List Nat), m - i < dd → ib ≤ i → At G A t N S b m i n M σ h → DSL G t m Z pr σ0 M0 d0 h0 HZ HU L 20 300 60 i M σ h → GB G A S b (hz h0) Mb am d L pr Lf dv Φ False M (hz h) σ h first os xs → lastOf os last first → xs.length ≤ i → RD G A t N S b m n Z pr σ0 M0 d0 h0 HZ HU (fun τ : tS => τ) P (TGF 1 F (first, last, 1, σ)) (CGf G t f h) := by
  intro dd
  induction dd with
  | zero =>
    intro i M σ h first last os xs hd'
    exact absurd hd' (Nat.not_lt_zero _)
  | succ dd ih =>
    intro i M σ h first last os xs hd' hib H Q B hl hxl
    have hi := At_i H
    have htz := At_t H
    have q7 := Q.2.2.2.2.2.2
    have q2 := Q.2.1
    have O := B.2.1
    have OL := O.1
    have Bi := grows_in B.2.2.2.1
    have B1 := B.1
    have ho : ∀ y ∈ os, M0 ≤ y ∧ y < 8400 := fun y hy => by have := Bi.2.2.1 y hy; omega
    have Q0 := DSL_DS O Q
    rw [TGF_in1, CGf_eq]
    have tf3 : ∀ (p q1 q2 : Int) (τ : tS) (M' : Nat), Tfl τ N S b m p n M' → ndD σ0 τ M0 d0 → M0 ≤ M' → M' + 15 ≤ 8400 → TFv N S b m n σ0 M0 d0 p ((T_takes 126 τ).bind fun p3 => if p3.1 = 0 then TG54 1 F first last q1 q2 (-1) p3.2 else (T_readType p3.2).bind fun p4 => TG54 1 F first last q1 q2 p4.1 p4.2) := by
      intro p q1 q2 τ M' T D h1 h2
      refine Fd_takes T ?_
      rw [if_pos rfl]
      exact TG54_F T D h1 (by omega) hl ho 1 q1 q2 (-1) (fun x τ T D => hF p x τ _ T D (by omega) (by omega))
    refine RD_gd (At_kd H) (RD_needK hG H Q0 (by omega) (e := 3) (by omega) rfl (fun c3 τ1 h1 H1 D1 X1 w1 z1 y1 => ?_) (fun p v τ T D => Fd_needed T (tf3 p _ _ _ _ T D q2 (by omega))))
    have hi1 := At_i H1
    have Q1 : DS G t m Z pr σ0 M0 d0 h0 HZ HU 39 597 62 (i + 1) M τ1 h1 := DS_step Q0 D1 X1 (Nat.le_refl _) (by omega) (by omega) (by omega)
    refine RD_gd (At_kd H1) (RD_needK hG H1 Q1 (by omega) (e := 2) (by omega) rfl (fun c2 τ2 h2 H2 D2 X2 w2 z2 y2 => ?_) (fun p v τ T D => tf3 p _ _ _ _ T D q2 (by omega)))
    have hi2 := At_i H2
    have X12 := hx_trans X1 X2
    have tkB : ∀ o ∈ os, ga σ 542 o < ((b + i : Nat) : Int) := fun o ho => by have := B1.2.2.2.2.2 o ho; rw [H.1.2.1] at this; exact this
    have B2 := GB_hx ht hΦ Q.2.2.2.1 B X12 (nd_trans D1 D2 (Nat.le_refl _)) (by rw [H.1.2.1, H2.1.2.1]; omega)
    obtain ⟨o1, o2, o3, o4⟩ := hO h2 B2.2.2.2.2.2.2.2.2
    have H2n := At_nO H2 22 6
    have X2n := hx_nO (t := t) h2 22 6
    have zn : hz (nO h2 22 6) = hz h2 + 1 := rfl
    have yn : hu (nO h2 22 6) = hu h2 + 6 := rfl
    have kx : kd (nO h2 22 6) (hz h2) = 22 := by rw [kd_nO, if_pos rfl]
    have xR : ∀ g, fR (nO h2 22 6) g (hz h2) = 0 := fun g => by rw [fR_nO, if_pos rfl]
    have w1n : wd (nO h2 22 6) A S (hz h) i := wd_same w1 (sameA_trans (hx_same X2 (by omega) (by omega)) (hx_same X2n (by omega) (by omega)))
    have w2n : wd (nO h2 22 6) A S (hz h1) (i + 1) := wd_same w2 (hx_same X2n (by omega) (by omega))
    have X0n := hx_trans X12 X2n
    rw [o2, o4, gd_pos ⟨o1, o3, At_kd H2n⟩]
    generalize nO h2 22 6 = g2 at *
    have N2 := nd_trans D1 D2 (Nat.le_refl M)
    obtain ⟨ta1, ta2⟩ := t_takes H2.1 (k := 126) (by decide)
    obtain ⟨ca1, ca2⟩ := c_passes2 hG H2n.2.1 (v := 126) (by omega)
    rw [show sc 126 = 126 by decide] at ca1 ca2
    by_cases c126 : tokk S (i + 1 + 1) = 126
    · obtain ⟨τ3, u1, u2, u3⟩ := ta1 c126
      obtain ⟨h3, v1, v2, v3⟩ := ca1 c126
      rw [u1, v1]
      simp only [Option.bind_some]
      rw [if_neg (by decide), if_neg (by decide)]
      have H3 := At_onlyT H2n v3 v2 u2
      have hi3 := At_i H3
      have z3 : hz h3 = hz g2 := v3.2.2.2.2.2.2.2.2.1
      have y3 : hu h3 = hu g2 := v3.2.2.2.2.2.2.2.2.2.1
      have X3 := hx_trans X0n (hx_onlyT v3)
      have N3 := nd_trans N2 u3 (Nat.le_refl M)
      have Q3 : DS G t m Z pr σ0 M0 d0 h0 HZ HU 70 1000 64 (i + 1 + 1 + 1) M τ3 h3 := DS_step Q0 N3 X3 (Nat.le_refl _) (by omega) (by omega) (by omega)
      refine RD_bind Q3 (by omega) (RO_and (type_RO hG hn H3 (by omega)) (fun v τ e => v_types (M := M) H3.1.2.1 H3.1.2.2.2.2.2 e)) (fun j M' τ4 h4 v w j1 H4 D4 X4 m4 P4 => ?_) (fun p v τ M' T D q q' => TG54_F T D q (by omega) hl ho 1 _ _ _ (fun x τ T D => hF p x τ _ T D (by omega) (by omega)))
      obtain ⟨⟨nT, k, rfl, g2', W4, g3, g4, g5, g6, g7⟩, V4⟩ := P4
      rw [H4.1.2.2.2.2.2] at V4
      have hj := At_i H4
      have Wi := WR_in W4
      have X04 := hx_trans X3 X4
      have N4 := nd_trans N3 D4 (Nat.le_refl M)
      have X34 := hx_trans (hx_onlyT v3) X4
      have sx4 := hx_same X34 (a := hz h2) (by omega) (by omega)
      refine given_tail (x := hz h2) (w1 := hz h) (w2 := hz h1) (wr := w) (jg := i) (Mg := M) (ag := hz h) hG (fun z => z.elim) ht hpr hZ hMb hΦ H4 (DSL_step Q OL N4 X04 m4 (by omega) (by omega) (by omega)) (GB_hx ht hΦ Q.2.2.2.1 B X04 N4 (by rw [H.1.2.1, H4.1.2.1]; omega)) hl m4 ⟨by rw [sx4.1]; exact kx, by omega, by omega, by rw [sx4.2.2.1]; exact xR _, by rw [sx4.2.2.1]; exact xR _, by rw [sx4.2.2.1]; exact xR _⟩ ⟨by omega, by omega, wd_same w1n (hx_same X34 (by omega) (by omega)), c3⟩ ⟨by omega, by omega, wd_same w2n (hx_same X34 (by omega) (by omega)), c2⟩ (.inr ⟨k, nT, hz h3, hz h4, by omega, rfl, by omega, Nat.le_refl _, by omega, W4⟩) (by omega) (fun y d e => by have := V4 y d (by omega); omega) (fun o ho => by rw [N4.2 542 (by simp) o (Bi.2.2.1 o ho).2]; exact tkB o ho) (by omega) 1 (fun M' σ' h' first' last' os' xs' A1 A2 A3 A4 A5 => ih (j + 1) M' σ' h' first' last' os' xs' (by have := At_i A1; omega) (by omega) A1 A2 A3 A4 A5) (fun M' σ' h' first' os' xs' A1 A2 A3 => ge j M' σ' h' first' os' xs' (by omega) A1 A2 A3)
    · rw [ta2 c126, ca2 c126]
      simp only [Option.bind_some]
      rw [if_pos trivial, if_pos trivial]
      refine given_tail (x := hz h2) (w1 := hz h) (w2 := hz h1) (wr := 0) (jg := i) (Mg := M) (ag := hz h) hG (fun z => z.elim) ht hpr hZ hMb hΦ (⟨H2.1, H2n.2.1, H2n.2.2⟩ : At G A t N S b m (i + 1 + 1) n M τ2 g2) (DSL_step Q OL N2 X0n (Nat.le_refl _) (by omega) (by omega) (by omega)) (GB_hx ht hΦ Q.2.2.2.1 B X0n N2 (by rw [H.1.2.1, H2.1.2.1]; omega)) hl (Nat.le_refl _) ⟨kx, by omega, by omega, xR _, xR _, xR _⟩ ⟨by omega, by omega, w1n, c3⟩ ⟨by omega, by omega, w2n, c2⟩ (.inl ⟨rfl, rfl, rfl⟩) (by omega) (fun y d e => by omega) (fun o ho => by rw [N2.2 542 (by simp) o (Bi.2.2.1 o ho).2]; exact tkB o ho) (by omega) 1 (fun M' σ' h' first' last' os' xs' A1 A2 A3 A4 A5 => ih (i + 1 + 1 + 1) M' σ' h' first' last' os' xs' (by have := At_i A1; omega) (by omega) A1 A2 A3 A4 A5) (fun M' σ' h' first' os' xs' A1 A2 A3 => ge (i + 1 + 1) M' σ' h' first' os' xs' (by omega) A1 A2 A3)
end LG4
