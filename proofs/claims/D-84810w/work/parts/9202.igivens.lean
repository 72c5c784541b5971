set_option maxRecDepth 100000
section LIg
variable {G : om_G} {A t : Nat} {N : List (List Int)} {S : List Int} {b m i : Nat} {n : Int} {M : Nat} {σ τ : tS} {h h' h1 h2 : om_H} {c pr : Nat} {Z Z' : Nat → Prop}
variable {σ0 : tS} {M0 d0 : Nat} {h0 : om_H} {HZ HU : Nat}
noncomputable def exI (G : om_G) (t f : Nat) (h : om_H) : Option ((Nat ⊕ Unit) × om_H) := gd (kd h t = 15) (xc (C_14_need_2 G t 125 h) (fun t h => some (.inl t, h)) (fun p6 h6 => C_1_readInstance_90 G t f h6))
noncomputable def CGi (G : om_G) (t f : Nat) (x : om_H) : Option ((Nat ⊕ Unit) × om_H) := (om_loop (C_1_readInstance_38s G t f) x).bind (Sum.elim (exI G t f) (fun v6 => some v6))
theorem CGi_eq (f : Nat) (h : om_H) : CGi G t f h = gd (kd h t = 15) (xc (C_14_need G t (om_cA G 3) h) (fun t h => some (.inl t, h)) (fun p1 h1 => gd (kd h1 f = 21 ∧ kd h1 (fR h1 1286 f) = 5 ∧ kd (nO h1 22 6) t = 15) (xc (C_14_need G t (om_cA G 2) (nO h1 22 6)) (fun t h => some (.inl t, h)) (fun p2 h2 => tailG G t (fR h1 166 (fR h1 1286 f)) (hz h1) p1 p2 0 (CGi G t f) (exI G t f) h2)))) := by
  unfold CGi
  rw [om_loop_eq]
  unfold C_1_readInstance_38s tailG
  simp only [xc_bind, gd_bind, Option.bind_assoc, Option.bind_some, Sum.elim_inr]
  congr 2
  funext p1 h1
  congr 2
  funext p2 h2
  congr 1
  congr 1; funext p3
  congr 1
  congr 1; funext p4
  congr 1
  congr 1; funext p5
  by_cases q : p5.1 ≠ 0
  · rw [if_pos q, if_pos q]; rfl
  · rw [if_neg q, if_neg q]; rfl
set_option maxHeartbeats 1000000 in
/-- an instance's conditions -/
theorem inst_givens (hG : om_okG G) (hn : 0 ≤ n ∧ n ≤ 20) {am Mb d L f s ib : Nat} {Lf : Nat → List Nat} {dv : Nat → Int} {Φ : om_H → Prop} (ht : t < hz h0) (hpr : pr < hz h0) (hZ : ∀ a, Z a → a < hz h0) (hMb : M0 ≤ Mb) (hΦ : ∀ h h', (∀ a, hz h0 ≤ a → a < am → a ≠ L → sameA a h h') → Φ h → Φ h') (hO : ∀ h, Φ h → kd h f = 21 ∧ fR h 1286 f = s ∧ kd h s = 5 ∧ fR h 166 s = L)
    {F : Int × tS → Option tS} {P : Nat → Nat → tS → om_H → Unit → Prop}
    (hF : ∀ (p x : Int) (τ : tS) (M' : Nat), Tfl τ N S b m p n M' → ndD σ0 τ M0 d0 → M0 ≤ M' → M' + 10 ≤ 8400 → TFv N S b m n σ0 M0 d0 p (F (x, τ)))
    (ge : ∀ (i M : Nat) (σ : tS) (h : om_H) (first : Int) (os xs : List Nat), ib ≤ i → At G A t N S b m i n M σ h → DSL G t m Z pr σ0 M0 d0 h0 HZ HU L 20 300 60 i M σ h → GB G A S b (hz h0) Mb am d L pr Lf dv Φ True M (hz h) σ h first os xs → RD G A t N S b m n Z pr σ0 M0 d0 h0 HZ HU (fun τ : tS => τ) P ((T_need 125 σ).bind fun p2 => F (first, p2)) (exI G t f h)) :
    ∀ (dd i M : Nat) (σ : tS) (h : om_H) (first last : Int) (os xs : List Nat), m - i < dd → ib ≤ i → At G A t N S b m i n M σ h → DSL G t m Z pr σ0 M0 d0 h0 HZ HU L 20 300 60 i M σ h → GB G A S b (hz h0) Mb am d L pr Lf dv Φ True M (hz h) σ h first os xs → lastOf os last first → xs.length ≤ i → RD G A t N S b m n Z pr σ0 M0 d0 h0 HZ HU (fun τ : tS => τ) P (TGF 0 F (first, last, 1, σ)) (CGi G t f h) := by
  intro dd
  induction dd with
  | zero =>
    intro i M σ h first last os xs hd'
    exact absurd hd' (Nat.not_lt_zero _)
  | succ dd ih =>
    intro i M σ h first last os xs hd' hib H Q B hl hxl
    have hi := At_i H
    have htz := At_t H
    have q7 := Q.2.2.2.2.2.2
    have q2 := Q.2.1
    have O := B.2.1
    have OL := O.1
    have Bi := grows_in B.2.2.2.1
    have B1 := B.1
    have ho : ∀ y ∈ os, M0 ≤ y ∧ y < 8400 := fun y hy => by have := Bi.2.2.1 y hy; omega
    have Q0 := DSL_DS O Q
    rw [TGF_in0, CGi_eq]
    have tf3 : ∀ (p q1 q2 : Int) (τ : tS) (M' : Nat), Tfl τ N S b m p n M' → ndD σ0 τ M0 d0 → M0 ≤ M' → M' + 15 ≤ 8400 → TFv N S b m n σ0 M0 d0 p (TG54 0 F first last q1 q2 (-1) τ) := by
      intro p q1 q2 τ M' T D h1 h2
      exact TG54_F T D h1 (by omega) hl ho 0 q1 q2 (-1) (fun x τ T D => hF p x τ _ T D (by omega) (by omega))
    refine RD_gd (At_kd H) (RD_needK hG H Q0 (by omega) (e := 3) (by omega) rfl (fun c3 τ1 h1 H1 D1 X1 w1 z1 y1 => ?_) (fun p v τ T D => Fd_needed T (tf3 p _ _ _ _ T D q2 (by omega))))
    have hi1 := At_i H1
    have tkB : ∀ o ∈ os, ga σ 542 o < ((b + i : Nat) : Int) := fun o ho => by have := B1.2.2.2.2.2 o ho; rw [H.1.2.1] at this; exact this
    have B2 := GB_hx ht hΦ Q.2.2.2.1 B X1 D1 (by rw [H.1.2.1, H1.1.2.1]; omega)
    obtain ⟨o1, o2, o3, o4⟩ := hO h1 B2.2.2.2.2.2.2.2.2
    have H1n := At_nO H1 22 6
    have X1n := hx_nO (t := t) h1 22 6
    have zn : hz (nO h1 22 6) = hz h1 + 1 := rfl
    have yn : hu (nO h1 22 6) = hu h1 + 6 := rfl
    have kx : kd (nO h1 22 6) (hz h1) = 22 := by rw [kd_nO, if_pos rfl]
    have xR : ∀ g, fR (nO h1 22 6) g (hz h1) = 0 := fun g => by rw [fR_nO, if_pos rfl]
    have w1n : wd (nO h1 22 6) A S (hz h) i := wd_same w1 (hx_same X1n (by omega) (by omega))
    have X0n := hx_trans X1 X1n
    rw [o2, o4, gd_pos ⟨o1, o3, At_kd H1n⟩]
    generalize nO h1 22 6 = g1 at *
    have Q1 : DS G t m Z pr σ0 M0 d0 h0 HZ HU 38 590 62 (i + 1) M τ1 g1 := DS_step Q0 D1 X0n (Nat.le_refl _) (by omega) (by omega) (by omega)
    refine RD_needK hG H1n Q1 (by omega) (e := 2) (by omega) rfl (fun c2 τ2 h2 H2 D2 X2 w2 z2 y2 => ?_) (fun p v τ T D => tf3 p _ _ _ _ T D q2 (by omega))
    have hi2 := At_i H2
    have X02 := hx_trans X0n X2
    have N2 := nd_trans D1 D2 (Nat.le_refl M)
    have sx2 := hx_same X2 (a := hz h1) (by omega) (by omega)
    exact given_tail (x := hz h1) (w1 := hz h) (w2 := hz g1) (wr := 0) (jg := i) (Mg := M) (ag := hz h) hG (fun _ => rfl) ht hpr hZ hMb hΦ H2 (DSL_step Q OL N2 X02 (Nat.le_refl _) (by omega) (by omega) (by omega)) (GB_hx ht hΦ Q.2.2.2.1 B X02 N2 (by rw [H.1.2.1, H2.1.2.1]; omega)) hl (Nat.le_refl _) ⟨by rw [sx2.1]; exact kx, by omega, by omega, by rw [sx2.2.2.1]; exact xR _, by rw [sx2.2.2.1]; exact xR _, by rw [sx2.2.2.1]; exact xR _⟩ ⟨by omega, by omega, wd_same w1n (hx_same X2 (by omega) (by omega)), c3⟩ ⟨by omega, by omega, w2, c2⟩ (.inl ⟨rfl, rfl, rfl⟩) (by omega) (fun y d e => by omega) (fun o ho => by rw [N2.2 542 (by simp) o (Bi.2.2.1 o ho).2]; exact tkB o ho) (by omega) 0 (fun M' σ' h' first' last' os' xs' A1 A2 A3 A4 A5 => ih (i + 1 + 1 + 1) M' σ' h' first' last' os' xs' (by have := At_i A1; omega) (by omega) A1 A2 A3 A4 A5) (fun M' σ' h' first' os' xs' A1 A2 A3 => ge (i + 1 + 1) M' σ' h' first' os' xs' (by omega) A1 A2 A3)
end LIg
