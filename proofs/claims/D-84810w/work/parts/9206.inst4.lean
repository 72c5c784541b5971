set_option maxRecDepth 100000
section LI4
variable {G : om_G} {A t : Nat} {N : List (List Int)} {S : List Int} {b m i : Nat} {M : Nat} {σ τ : tS} {h h' h1 h2 : om_H} {c pr : Nat} {Z Z' : Nat → Prop}
variable {σ0 : tS} {M0 d0 : Nat} {h0 : om_H} {HZ HU : Nat}
set_option maxHeartbeats 2000000 in
/-- AN INSTANCE IS READ ALIKE (its first token being passed) -/
theorem inst_rel (hG : om_okG G) (hN : ∃ N', N = [110, 105, 108] :: [99, 111, 110, 115] :: N') {d j0 : Nat} {Lf : Nat → List Nat} (ht : t < hz h0) (hpr : pr < hz h0) (hZ : ∀ a, Z a → a < hz h0) (hd : d < 700 ∧ d0 ≤ d) (hz0 : hz h0 ≤ hz h)
    (H : At G A t N S b m (j0 + 1) 0 M σ h) (Q : DS G t m Z pr σ0 M0 d0 h0 HZ HU 40 600 60 (j0 + 1) M σ h) (C : PC h pr Lf) (hdv : ga σ 570 d = 6 ∧ ga σ 574 d = ((b + j0 : Nat) : Int) ∧ ga σ 590 d = 0 ∧ ga σ 602 d = -1 ∧ ga σ 606 d = -1 ∧ ga σ 610 d = -1 ∧ ga σ 614 d = -1) (hln : ∀ f ∈ PFs, (Lf f).length ≤ j0 + 1) :
    RD G A t N S b m 0 Z pr σ0 M0 d0 h0 HZ HU (fun τ : tS => τ) (fun j M' τ h' _ => insPost G A t S b m Z pr σ0 M0 d0 h0 HZ HU M d j0 ((Lf 86).length : Int) Lf j M' τ h') (T_anInstance (d : Int) σ) (C_1_readInstance G pr t (tokq S j0 : Int) h) := by
  have d7 : (0 : Int) ≤ (d : Int) ∧ (d : Int) < 700 := by omega
  have dN : ((d : Int)).toNat = d := by omega
  have htz := At_t H
  have hi := At_i H
  have q22 := Q.2.1
  have q27 := Q.2.2.2.2.2.2
  have hm4 := H.1.1.2.1
  have P0 := Q.2.2.2.1
  unfold T_anInstance C_1_readInstance
  simp only [if_pos d7, dN]
  have Xn := hx_nO (t := t) h 21 15
  have zn : hz (nO h 21 15) = hz h + 1 := rfl
  have yn : hu (nO h 21 15) = hu h + 15 := rfl
  have Hn := At_nO H 21 15
  obtain ⟨Pn, Ln⟩ := PL_hx P0 Xn
  have Cn := PC_hx C P0 Xn
  have kf : kd (nO h 21 15) (hz h) = 21 := by rw [kd_nO, if_pos rfl]
  have fI0 : ∀ g, fI (nO h 21 15) g (hz h) = 0 := fun g => by rw [fI_nO, if_pos rfl]
  have fR0 : ∀ g, fR (nO h 21 15) g (hz h) = 0 := fun g => by rw [fR_nO, if_pos rfl]
  have hpn : hp Z t h0 (nO h 21 15) := hp_trans Q.2.2.1 (hx_hp Xn)
  generalize nO h 21 15 = g0 at *
  obtain ⟨h1, k1, k2, k3, k4, k5, k6, k7, k8, k9, k10⟩ := inst_put (G := G) (f := hz h) (pl := (tokq S j0 : Int)) Pn Cn ⟨by omega, kf, by omega⟩ fI0 fR0 (fun a z => by have := hZ a z; omega) (fun g hg => by have := hln g hg; omega)
  rw [gd_pos kf, k1 (fun g => gd (kd g t = 15) ((C_14_passes_2 G t 123 g).bind fun p4 => if p4.1 = 0 then C_1_readInstance_90 G t (hz h) p4.2 else (om_loop (C_1_readInstance_38s G t (hz h)) p4.2).bind (Sum.elim (fun v5 => gd (kd v5 t = 15) (xc (C_14_need_2 G t 125 v5) (fun t h => some (.inl t, h)) (fun p6 h6 => C_1_readInstance_90 G t (hz h) h6))) (fun v6 => some v6))))]
  have k21 := k2.1
  have H1 : At G A t N S b m (j0 + 1) 0 M σ h1 := At_hp Hn k2 (by omega)
  have hp1 : hp Z t h0 h1 := hp_hpO hpn k2 hz0 (fun a z => .inl z)
  have q25 := Q.2.2.2.2.1
  have q26 := Q.2.2.2.2.2.1
  have Q1 : DS G t m Z pr σ0 M0 d0 h0 HZ HU 33 560 60 (j0 + 1) M σ h1 := ⟨Q.1, q22, hp1, k6, by omega, by omega, by omega⟩
  rw [gd_pos (At_kd H1)]
  have oLs := k5 0 (by decide)
  have oLg := k5 1 (by decide)
  have oLh := k5 2 (by decide)
  have oLl := k5 3 (by decide)
  clear k1 k2 k5 Hn Xn Pn Cn kf fI0 fR0 hpn Q
  have z10 : hz g0 = hz h + 1 := zn
  obtain ⟨ta1, ta2⟩ := t_takes H1.1 (k := 123) (by decide)
  obtain ⟨ca1, ca2⟩ := c_passes2 hG H1.2.1 (v := 123) (by omega)
  rw [show sc 123 = 123 by decide] at ca1 ca2
  by_cases c123 : tokk S (j0 + 1) = 123
  · obtain ⟨τ2, u1, u2, u3⟩ := ta1 c123
    obtain ⟨h2, v1, v2, v3⟩ := ca1 c123
    rw [u1, v1]
    simp only [Option.bind_some]
    rw [if_neg (by decide), if_neg (by decide)]
    have H2 := At_onlyT H1 v3 v2 u2
    have hi2 := At_i H2
    have z2 : hz h2 = hz h1 := v3.2.2.2.2.2.2.2.2.1
    have y2 : hu h2 = hu h1 := v3.2.2.2.2.2.2.2.2.2.1
    have X2 := hx_onlyT v3
    have s2 : ∀ a, a < hz h1 → a ≠ t → sameA a h1 h2 := fun a q r => hx_same X2 q r
    have eT : (T_conditions 0 τ2).bind (fun p2 => T_anInstance_20 (d : Int) (ua p2.2 606 d p2.1)) = TGF 0 (fun p2 => T_anInstance_20 (d : Int) (ua p2.2 606 d p2.1)) (-1, -1, 1, τ2) := by
      unfold T_conditions TGF
      simp only [Option.bind_assoc, Option.bind_some]
    rw [eT]
    show RD G A t N S b m 0 Z pr σ0 M0 d0 h0 HZ HU (fun τ : tS => τ) _ _ (CGi G t (hz h) h2)
    obtain ⟨p1, p2, p3, p4, p5, p6, p7⟩ := Q1
    obtain ⟨P2, L2⟩ := PL_hx p4 X2
    have hΦ : ∀ g g' : om_H, (∀ a, hz h0 ≤ a → a < hz g0 + 5 → a ≠ hz g0 + 1 + 1 → sameA a g g') → (insO g (hz h) (hz g0) (hz g0 + 3) (hz g0 + 4) 0 0 0 0 (tokq S j0 : Int) ((Lf 86).length : Int) ∧ scpO g (hz g0) (hz g0 + 1) (hz g0 + 2) ∧ (kd g (hz g0 + 1) = 42 ∧ ll g (hz g0 + 1) = [] ∧ lc g (hz g0 + 1) ≤ 10) ∧ (kd g (hz g0 + 3) = 42 ∧ ll g (hz g0 + 3) = [] ∧ lc g (hz g0 + 3) ≤ 10) ∧ (kd g (hz g0 + 4) = 42 ∧ ll g (hz g0 + 4) = [] ∧ lc g (hz g0 + 4) ≤ 10)) → (insO g' (hz h) (hz g0) (hz g0 + 3) (hz g0 + 4) 0 0 0 0 (tokq S j0 : Int) ((Lf 86).length : Int) ∧ scpO g' (hz g0) (hz g0 + 1) (hz g0 + 2) ∧ (kd g' (hz g0 + 1) = 42 ∧ ll g' (hz g0 + 1) = [] ∧ lc g' (hz g0 + 1) ≤ 10) ∧ (kd g' (hz g0 + 3) = 42 ∧ ll g' (hz g0 + 3) = [] ∧ lc g' (hz g0 + 3) ≤ 10) ∧ (kd g' (hz g0 + 4) = 42 ∧ ll g' (hz g0 + 4) = [] ∧ lc g' (hz g0 + 4) ≤ 10)) := by
      intro g g' sm W
      have a1 := sm (hz g0 + 1) (by omega) (by omega) (by omega)
      have a3 := sm (hz g0 + 3) (by omega) (by omega) (by omega)
      have a4 := sm (hz g0 + 4) (by omega) (by omega) (by omega)
      refine ⟨insO_keep W.1 (sm (hz h) (by omega) (by omega) (by omega)), scpO_keep W.2.1 (sm (hz g0) (by omega) (by omega) (by omega)), ?_, ?_, ?_⟩
      · rw [a1.1, a1.2.2.2.2.2.1, a1.2.2.2.2.2.2]; exact W.2.2.1
      · rw [a3.1, a3.2.2.2.2.2.1, a3.2.2.2.2.2.2]; exact W.2.2.2.1
      · rw [a4.1, a4.2.2.2.2.2.1, a4.2.2.2.2.2.2]; exact W.2.2.2.2
    have Φ1 : (insO h1 (hz h) (hz g0) (hz g0 + 3) (hz g0 + 4) 0 0 0 0 (tokq S j0 : Int) ((Lf 86).length : Int) ∧ scpO h1 (hz g0) (hz g0 + 1) (hz g0 + 2) ∧ (kd h1 (hz g0 + 1) = 42 ∧ ll h1 (hz g0 + 1) = [] ∧ lc h1 (hz g0 + 1) ≤ 10) ∧ (kd h1 (hz g0 + 3) = 42 ∧ ll h1 (hz g0 + 3) = [] ∧ lc h1 (hz g0 + 3) ≤ 10) ∧ (kd h1 (hz g0 + 4) = 42 ∧ ll h1 (hz g0 + 4) = [] ∧ lc h1 (hz g0 + 4) ≤ 10)) := ⟨k3, k4, ⟨oLs.1.2.1, oLs.2.1, Nat.le_trans (Nat.le_of_eq oLs.2.2) (by decide)⟩, ⟨oLh.1.2.1, oLh.2.1, Nat.le_trans (Nat.le_of_eq oLh.2.2) (by decide)⟩, ⟨oLl.1.2.1, oLl.2.1, Nat.le_trans (Nat.le_of_eq oLl.2.2) (by decide)⟩⟩
    have Φ2 := hΦ h1 h2 (fun a q r _ => s2 a (by omega) (by omega)) Φ1
    have lG : ll h2 (hz g0 + 1 + 1) = [] := by rw [v3.2.2.2.2.2.2.1]; exact oLg.2.1
    refine inst_givens (f := hz h) (s := hz g0) (L := hz g0 + 1 + 1) (am := hz g0 + 5) (Mb := M) (d := d) (ib := j0 + 1) (Lf := updL Lf 86 (hz h)) (dv := fun g => ga σ g d) hG (by omega) ht hpr hZ p2 hΦ (fun g W => ⟨W.1.1.1, W.1.1.2.2.2.1, W.2.1.1, W.2.1.2.2⟩) (fun p x τ M' T D q q' => anInstance_20F (Tfl_ua T (by simp)) (ndD_ua D (by simp) hd.2) hd.1 hd.2) ?_ (m - (j0 + 1 + 1) + 1) (j0 + 1 + 1) M τ2 h2 (-1) (-1) [] [] (by omega) (by omega) H2 ⟨ndD_nd p1 u3 p2, p2, hp_trans p3 (hx_hp X2), P2, by omega, by rw [lG, L2]; simp only [List.length_nil]; omega, by omega⟩ ⟨⟨by omega, by omega, by omega, by omega, by omega, fun o ho => absurd ho List.not_mem_nil⟩, okV_hx oLg.1 X2, lG, ⟨rfl, by omega⟩, rfl, fun x hx => absurd hx List.not_mem_nil, fun g hg => u3.1.2 g (PA_DA hg) d, PC_hx k7 p4 X2, Φ2⟩ (.inl ⟨rfl, rfl, rfl⟩) (by simp)
    clear Φ2 Φ1 lG eT ta1 ta2 ca1 ca2
    intro i5 M5 σ5 h5 first os xs hib5 H5 Q5 B5
    have Q5' := DSL_DS B5.2.1 Q5
    have q52 := Q5.2.1
    have q57 := Q5.2.2.2.2.2.2
    unfold exI
    refine RD_gd (At_kd H5) (RD_need hG H5 Q5' (by omega) (.inr (.inr (by omega))) (by decide) (by decide) (fun c125 τ6 h6 H6 D6 X6 => ?_) (fun p τ T D => anInstance_20F (Tfl_ua T (by simp)) (ndD_ua D (by simp) hd.2) hd.1 hd.2))
    have hi6 := At_i H6
    have z6 : hz h6 = hz h5 := X6.2.2.2.2.2.2.2.2.1
    have y6 : hu h6 = hu h5 := X6.2.2.2.2.2.2.2.2.2.1
    have X6x := hx_onlyT X6
    have B6 := GB_hx ht hΦ Q5.2.2.2.1 B5 X6x D6 (by rw [H5.1.2.1, H6.1.2.1]; omega)
    have Q6 : DS G t m Z pr σ0 M0 d0 h0 HZ HU 20 340 60 (i5 + 1) M5 (ua τ6 606 d first) h6 := DS_ua (DS_step Q5' D6 X6x (Nat.le_refl _) (by omega) (by omega) (by omega)) (by simp) hd.2
    obtain ⟨b1, b2, b3, b4, b5, b6, b7, b8, b9, b10, b11, b12, b13⟩ := B6
    have Ng : ∀ f' ∈ PA, ∀ x, ga (ua τ6 606 d first) f' x = ga τ6 f' x := fun f' hf x => by rw [ga_ua, if_neg (fun (z : f' = 606 ∧ x = d) => PA_DA (f := 606) (by simp) (z.1 ▸ hf))]
    have nil : ∀ L, L < hz h6 → (kd h6 L = 42 ∧ ll h6 L = [] ∧ lc h6 L ≤ 10) → okV G h6 L := fun L q w => ⟨q, w.1, by rw [w.2.1]; simp, by rw [w.2.1]; have := w.2.2; simp; omega, fun y hy => by rw [w.2.1] at hy; simp at hy⟩
    refine inst_90 (h := h6) (s := hz g0) (Ls := hz g0 + 1) (Lg := hz g0 + 2) (Lh := hz g0 + 3) (Ll := hz g0 + 4) (lo := M) (m1 := M5) (a0 := hz g0 + 5) (a1 := hz h6) (xs := xs) (os := os) (first := first) (Lf := Lf) (dv := updD (fun g => ga σ g d) 606 first) hG hN ht hpr hZ hd (by omega) (by omega) (by omega) (by omega) (by omega) (by omega) (by omega) (by omega) (by omega) (At_ua H6 (by simp)) Q6 ⟨b10, b12, ⟨b2.2.1, b3⟩, ?_, chain_keep b5 (fun x _ => Ng 562 (by simp) x), b6⟩ b9 (nil _ (by omega) b11) b11.2.1 (nil _ (by omega) b13) b13.2.1 b8 (fun g hg => updD_ua (b7 g hg)) ?_
    · rw [z6]
      exact grows_keep b4 (hk_refl _) (fun f' hf _ x _ _ => Ng f' hf x) (fun x _ _ _ => Ng 562 (by simp) x)
    · simp [updD]
      exact ⟨hdv.1, hdv.2.1, hdv.2.2.1, hdv.2.2.2.1, hdv.2.2.2.2.2⟩
  · rw [ta2 c123, ca2 c123]
    simp only [Option.bind_some]
    rw [if_pos trivial, if_pos trivial]
    exact inst_90 (h := h1) (s := hz g0) (Ls := hz g0 + 1) (Lg := hz g0 + 2) (Lh := hz g0 + 3) (Ll := hz g0 + 4) (lo := M) (m1 := M) (a0 := hz g0 + 5) (a1 := hz g0 + 5) (xs := []) (os := []) (first := -1) (Lf := Lf) (dv := fun g => ga σ g d) hG hN ht hpr hZ hd (by omega) (by omega) (by omega) (by omega) (by omega) (by omega) (by omega) (by omega) (by omega) H1 (DS_step Q1 (nd_refl _ _) (hx_refl _ _) (Nat.le_refl _) (by omega) (by omega) (by omega)) ⟨k4, ⟨oLh.1.2.1, oLh.2.1, Nat.le_trans (Nat.le_of_eq oLh.2.2) (by decide)⟩, ⟨oLg.1.2.1, oLg.2.1⟩, ⟨rfl, Nat.le_refl _⟩, rfl, fun x hx => absurd hx List.not_mem_nil⟩ k3 oLs.1 oLs.2.1 oLl.1 oLl.2.1 k7 (fun _ _ => rfl) ⟨hdv.1, hdv.2.1, hdv.2.2.1, hdv.2.2.2.1, hdv.2.2.2.2⟩
end LI4
