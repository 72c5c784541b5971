set_option maxRecDepth 100000
section LI1
variable {G : om_G} {A t : Nat} {N : List (List Int)} {S : List Int} {b m i : Nat} {M : Nat} {σ τ : tS} {h h' h1 h2 : om_H} {c pr : Nat} {Z Z' : Nat → Prop}
variable {σ0 : tS} {M0 d0 : Nat} {h0 : om_H} {HZ HU : Nat}
def updD (dv : Nat → Int) (f : Nat) (x : Int) (g : Nat) : Int := if g = f then x else dv g
theorem updD_ua {dv : Nat → Int} {d f : Nat} {x : Int} {g : Nat} (e : ga σ g d = dv g) : ga (ua σ f d x) g d = updD dv f x g := by
  unfold updD
  rw [ga_ua]
  by_cases q : g = f
  · rw [if_pos ⟨q, rfl⟩, if_pos q]
  · rw [if_neg (fun z => q z.1), if_neg q]; exact e
/-- the lines of an instance, from the first one on -/
theorem inst_lines (hG : om_okG G) (hN : ∃ N', N = [110, 105, 108] :: [99, 111, 110, 115] :: N') {d L f ib : Nat} {Lf : Nat → List Nat} {dv : Nat → Int} {Φ : tS → om_H → Prop} (ht : t < hz h0) (hpr : pr < hz h0) (hZ : ∀ a, Z a → a < hz h0) (hd : d < 700 ∧ d0 ≤ d) (hib : ib ≤ i) (hΦ : Kp (hz h0) (hz h) [L] M Φ) (hO : ∀ σ h, Φ σ h → kd h f = 21 ∧ fR h 1326 f = L)
    (H : At G A t N S b m i 0 M σ h) (Q : DS G t m Z pr σ0 M0 d0 h0 HZ HU 20 340 60 i M σ h) (O : okV G h L) (Oe : ll h L = []) (r5 : hz h0 ≤ L) (C : PC h pr Lf) (hdv : ∀ f ∈ DA, f ≠ 602 → ga σ f d = dv f) (h602 : ga σ 602 d = -1) (W : Φ σ h) :
    RD G A t N S b m 0 Z pr σ0 M0 d0 h0 HZ HU (fun τ : tS => τ) (fun j M' τ h' _ => ib ≤ j ∧ DSL G t m Z pr σ0 M0 d0 h0 HZ HU L 20 300 60 j M' τ h' ∧ ∃ xs os, LB G A S b (hz h0) M (hz h) d L pr Lf dv Φ M' τ h' xs os) (TLi (d : Int) (-1, σ)) (CLi G t f h) := by
  have OL := O.1
  obtain ⟨q1, q2, q3, q4, q5, q6, q7⟩ := Q
  exact lines_loop hG hN ht hpr hZ hd q2 hΦ hO (m - i + 1) i M σ h (-1) [] [] (by omega) hib H ⟨q1, q2, q3, q4, q5, by rw [Oe]; simp only [List.length_nil]; omega, q7⟩ ⟨by omega, O, Oe, ⟨rfl, Nat.le_refl _⟩, h602, fun x hx => absurd hx List.not_mem_nil, hdv, C, W⟩ (.inl ⟨rfl, rfl, h602⟩) (by simp)
/-- a family's line that may be there -/
def famR (A : Nat) (S : List Int) (b : Nat) (z0 am lo hi fam fw : Nat) (dv dv' : Nat → Int) (σ : tS) (h : om_H) : Prop := (fam = 0 ∧ fw = 0 ∧ hi = lo ∧ dv' = dv) ∨ ∃ jf kk p a1 a2 : Nat, fam ≠ 0 ∧ fw ≠ 0 ∧ (z0 ≤ fam ∧ fam < am) ∧ wd h A S fam jf ∧ tokk S jf = 3 ∧ WR A S b h σ 59 lo hi a1 a2 fw p ∧ z0 ≤ a1 ∧ a2 ≤ am ∧ dv' = updD (updD dv 610 ((b + jf : Nat) : Int)) 614 (p : Int)
theorem Kp_insO {z0 am f s Lh Ll cn con fam fw : Nat} {pl nb : Int} {X : List Nat} (h1 : z0 ≤ f ∧ f < am) (h2 : f ∉ X) : Kp z0 am X M (fun _ h => insO h f s Lh Ll cn con fam fw pl nb) := fun σ τ h h' s _ W => insO_keep W (s f h1.1 h1.2 h2)
set_option maxHeartbeats 1000000 in
/-- the body of an instance -/
theorem inst_179 (hG : om_okG G) (hN : ∃ N', N = [110, 105, 108] :: [99, 111, 110, 115] :: N') {d f s Lh Ll cn con ib : Nat} {pl nb : Int} {Lf : Nat → List Nat} {dv : Nat → Int} {R : tS → om_H → Prop} (ht : t < hz h0) (hpr : pr < hz h0) (hZ : ∀ a, Z a → a < hz h0) (hd : d < 700 ∧ d0 ≤ d) (hib : ib ≤ i) (hR : Kp (hz h0) (hz h) [f, Ll] M R) (r1 : hz h0 ≤ f ∧ f < hz h ∧ f ≠ Ll) (r5 : hz h0 ≤ Ll ∧ Ll < hz h)
    (H : At G A t N S b m i 0 M σ h) (Q : DS G t m Z pr σ0 M0 d0 h0 HZ HU 20 340 60 i M σ h) (W : R σ h) (I : insO h f s Lh Ll cn con 0 0 pl nb) (On : okV G h Ll) (Oe : ll h Ll = []) (C : PC h pr Lf) (hdv : ∀ g ∈ DA, g ≠ 602 → ga σ g d = dv g) (h602 : ga σ 602 d = -1) :
    RD G A t N S b m 0 Z pr σ0 M0 d0 h0 HZ HU (fun τ : tS => τ) (fun j M' τ h' _ => ib ≤ j ∧ ∃ (am Mb fam fw : Nat) (dv' : Nat → Int) (xs os : List Nat), hz h ≤ am ∧ M ≤ Mb ∧ DSL G t m Z pr σ0 M0 d0 h0 HZ HU Ll 20 300 60 j M' τ h' ∧ LB G A S b (hz h0) Mb am d Ll pr Lf dv' (fun σ h => (R σ h ∧ insO h f s Lh Ll cn con fam fw pl nb) ∧ famR A S b (hz h0) am M Mb fam fw dv dv' σ h) M' τ h' xs os) (T_anInstance_102 (d : Int) σ) (C_1_readInstance_179 G t f h) := by
  have d7 : (0 : Int) ≤ (d : Int) ∧ (d : Int) < 700 := by omega
  have dN : ((d : Int)).toNat = d := by omega
  have htz := At_t H
  have hi := At_i H
  have q22 := Q.2.1
  have q27 := Q.2.2.2.2.2.2
  have P0 := Q.2.2.2.1
  unfold T_anInstance_102 C_1_readInstance_179
  simp only [if_pos d7, dN]
  refine RD_gd (At_kd H) (RD_need hG H Q (by omega) (.inr (.inr (by omega))) (by decide) (by decide) (fun c123 τ1 h1 H1 D1 X1 => ?_) (fun p τ T D => Fd_takes T (by rw [if_pos rfl]; exact anInstance_150F T D _)))
  have hi1 := At_i H1
  have z1 : hz h1 = hz h := X1.2.2.2.2.2.2.2.2.1
  have y1 : hu h1 = hu h := X1.2.2.2.2.2.2.2.2.2.1
  have X1x := hx_onlyT X1
  have Q1 : DS G t m Z pr σ0 M0 d0 h0 HZ HU 40 640 62 (i + 1) M τ1 h1 := DS_step Q D1 X1x (Nat.le_refl _) (by omega) (by omega) (by omega)
  have W1 := Kp_hx hR ht (Nat.le_refl _) X1x D1 W
  have I1 := insO_keep I (hx_same X1x (a := f) (by omega) (by omega))
  have O1 := okV_hx On X1x
  have Oe1 : ll h1 Ll = [] := by rw [X1.2.2.2.2.2.2.1]; exact Oe
  have C1 := PC_hx C P0 X1x
  have da1 : ∀ g ∈ DA, ga τ1 g d = ga σ g d := fun g hg => D1.1.2 g (PA_DA hg) d
  rw [gd_pos (At_kd H1)]
  obtain ⟨ta1, ta2⟩ := t_takes H1.1 (k := 7) (by decide)
  obtain ⟨ca1, ca2⟩ := c_passes hG H1.2.1 (j := 12) (kk := 7) (bs := [116, 121, 112, 101]) (by rfl) (by decide)
  by_cases c7 : tokk S (i + 1) = 7
  · obtain ⟨τ2, u1, u2, u3⟩ := ta1 c7
    obtain ⟨h2, v1, v2, v3⟩ := ca1 c7
    rw [u1, v1]
    simp only [Option.bind_some]
    rw [if_neg (by decide), if_neg (by decide)]
    have H2 := At_onlyT H1 v3 v2 u2
    have hi2 := At_i H2
    have z2 : hz h2 = hz h1 := v3.2.2.2.2.2.2.2.2.1
    have y2 : hu h2 = hu h1 := v3.2.2.2.2.2.2.2.2.2.1
    have X2x := hx_onlyT v3
    have Q2 : DS G t m Z pr σ0 M0 d0 h0 HZ HU 60 940 64 (i + 1 + 1) M τ2 h2 := DS_step Q1 u3 X2x (Nat.le_refl _) (by omega) (by omega) (by omega)
    refine RD_gd (At_kd H2) (RD_needK hG H2 Q2 (by omega) (e := 3) (by omega) rfl (fun c3 τ3 h3 H3 D3 X3 w3 z3 y3 => ?_) (fun p v τ T D => Fd_need (Tfl_ua T (by simp)) (Fd_rec (typeF30 (by omega)) (Tfl_ua T (by simp)) (ndD_ua D (by simp) hd.2) q22 (by omega) (fun x τ M1 T1 D1 q q' => Fd_need (Tfl_ua T1 (by simp)) (anInstance_150F (Tfl_ua T1 (by simp)) (ndD_ua D1 (by simp) hd.2) _)))))
    have hi3 := At_i H3
    have X13 := hx_trans X2x X3
    have N3 := nd_trans u3 D3 (Nat.le_refl M)
    have W3 := Kp_hx hR ht (by omega) X13 N3 W1
    have I3 := insO_keep I1 (hx_same X13 (a := f) (by omega) (by omega))
    -- the family's great
    have H4 : At G A t N S b m (i + 1 + 1 + 1) 0 M (ua τ3 610 d ((b + (i + 1 + 1) : Nat) : Int)) (sR h3 1298 f (hz h2)) := At_ua (At_sR H3 (by omega)) (by simp)
    obtain ⟨P3, L3⟩ := PL_hx Q2.2.2.2.1 X3
    obtain ⟨P4, L4⟩ := PL_sR (f := 1298) (a := f) (x := hz h2) P3 (by omega)
    have C4 : PC (sR h3 1298 f (hz h2)) pr Lf := PC_sR (PC_hx C1 Q1.2.2.2.1 X13) (by omega)
    have W4 : R (ua τ3 610 d ((b + (i + 1 + 1) : Nat) : Int)) (sR h3 1298 f (hz h2)) := Kp_ua hR (by simp) (Kp_sR hR (by simp) W3)
    have I4 : insO (sR h3 1298 f (hz h2)) f s Lh Ll cn con (hz h2) 0 pl nb := by
      obtain ⟨⟨b1, b2, b3, b4, b5, b6, b7, b8, b9, b10⟩, e1, e2, e3, e4, e5, e6⟩ := I3
      exact ⟨⟨b1, b2, b3, by rw [fR_ne (by decide)]; exact b4, by rw [fR_ne (by decide)]; exact b5, by rw [fR_ne (by decide)]; exact b6, fR_eq, by rw [fR_ne (by decide)]; exact b8, by rw [fR_ne (by decide)]; exact b9, by rw [fR_ne (by decide)]; exact b10⟩, by rw [fR_ne (by decide)]; exact e1, e2, by rw [fR_ne (by decide)]; exact e3, by rw [fR_ne (by decide)]; exact e4, by rw [fR_ne (by decide)]; exact e5, by rw [fR_ne (by decide)]; exact e6⟩
    have w4 : wd (sR h3 1298 f (hz h2)) A S (hz h2) (i + 1 + 1) := wd_same w3 ⟨rfl, fun _ => rfl, fun g => by rw [fR_na (by omega)], rfl, fun _ => rfl, rfl, rfl⟩
    have O4 : okV G (sR h3 1298 f (hz h2)) Ll := okV_sR (okV_hx O1 X13)
    have Oe4 : ll (sR h3 1298 f (hz h2)) Ll = [] := by show ll h3 Ll = []; rw [X13.2.2.2.2.2.2.2.2.1 _ (by omega)]; exact Oe1
    have z4 : hz (sR h3 1298 f (hz h2)) = hz h3 := rfl
    have y4 : hu (sR h3 1298 f (hz h2)) = hu h3 := rfl
    have q25 := Q2.2.2.2.2.1
    have q26 := Q2.2.2.2.2.2.1
    have Q4 : DS G t m Z pr σ0 M0 d0 h0 HZ HU 70 1200 66 (i + 1 + 1 + 1) M (ua τ3 610 d ((b + (i + 1 + 1) : Nat) : Int)) (sR h3 1298 f (hz h2)) := ⟨ndD_ua (ndD_nd Q2.1 D3 q22) (by simp) hd.2, q22, hp_sR (hp_trans Q2.2.2.1 (hx_hp X3)) r1.1, P4, by omega, by omega, by omega⟩
    rw [gd_pos ⟨I3.1.1, At_kd H3⟩]
    generalize sR h3 1298 f (hz h2) = h4 at *
    refine RD_need hG H4 Q4 (by omega) (.inr (.inr (by omega))) (by decide) (by decide) (fun c61 τ5 h5 H5 D5 X5 => ?_) (fun p τ T D => Fd_rec (typeF30 (by omega)) T D q22 (by omega) (fun x τ M1 T1 D1 q q' => Fd_need (Tfl_ua T1 (by simp)) (anInstance_150F (Tfl_ua T1 (by simp)) (ndD_ua D1 (by simp) hd.2) _)))
    have hi5 := At_i H5
    have z5 : hz h5 = hz h4 := X5.2.2.2.2.2.2.2.2.1
    have y5 : hu h5 = hu h4 := X5.2.2.2.2.2.2.2.2.2.1
    have X5x := hx_onlyT X5
    have Q5 : DS G t m Z pr σ0 M0 d0 h0 HZ HU 90 1500 68 (i + 1 + 1 + 1 + 1) M τ5 h5 := DS_step Q4 D5 X5x (Nat.le_refl _) (by omega) (by omega) (by omega)
    refine RD_bind Q5 (by omega) (type_RO hG (by omega) H5 (by omega)) (fun j6 M6 τ6 h6 v w6 j6' H6 D6 X6 m6 P6 => ?_) (fun p v τ M' T D q q' => Fd_need (Tfl_ua T (by simp)) (anInstance_150F (Tfl_ua T (by simp)) (ndD_ua D (by simp) hd.2) _))
    obtain ⟨nT, kk, rfl, g2, W6, g3, g4, g5, g6, g7⟩ := P6
    have hj6 := At_i H6
    have Wi := WR_in W6
    have X46 := hx_trans X5x X6
    have N6 : nd (ua τ3 610 d ((b + (i + 1 + 1) : Nat) : Int)) τ6 M := nd_trans D5 D6 (Nat.le_refl M)
    have W6r := Kp_hx hR ht (by omega) X46 N6 W4
    have I6 := insO_keep I4 (hx_same X46 (a := f) (by omega) (by omega))
    have w6d := wd_same w4 (hx_same X46 (a := hz h2) (by omega) (by omega))
    have H7 : At G A t N S b m j6 0 M6 (ua τ6 614 d (nT : Int)) (sR h6 1310 f w6) := At_ua (At_sR H6 (by omega)) (by simp)
    obtain ⟨P6, L6⟩ := PL_hx Q5.2.2.2.1 X6
    obtain ⟨P7, L7⟩ := PL_sR (f := 1310) (a := f) (x := w6) P6 (by omega)
    have C7 : PC (sR h6 1310 f w6) pr Lf := PC_sR (PC_hx C4 P4 X46) (by omega)
    have W7 : R (ua τ6 614 d (nT : Int)) (sR h6 1310 f w6) := Kp_ua hR (by simp) (Kp_sR hR (by simp) W6r)
    have I7 : insO (sR h6 1310 f w6) f s Lh Ll cn con (hz h2) w6 pl nb := by
      obtain ⟨⟨b1, b2, b3, b4, b5, b6, b7, b8, b9, b10⟩, e1, e2, e3, e4, e5, e6⟩ := I6
      exact ⟨⟨b1, b2, b3, by rw [fR_ne (by decide)]; exact b4, by rw [fR_ne (by decide)]; exact b5, by rw [fR_ne (by decide)]; exact b6, by rw [fR_ne (by decide)]; exact b7, fR_eq, by rw [fR_ne (by decide)]; exact b9, by rw [fR_ne (by decide)]; exact b10⟩, by rw [fR_ne (by decide)]; exact e1, e2, by rw [fR_ne (by decide)]; exact e3, by rw [fR_ne (by decide)]; exact e4, by rw [fR_ne (by decide)]; exact e5, by rw [fR_ne (by decide)]; exact e6⟩
    have s7 : ∀ a, a ≠ f → sameA a h6 (sR h6 1310 f w6) := fun a ha => ⟨rfl, fun _ => rfl, fun g => by rw [fR_na ha], rfl, fun _ => rfl, rfl, rfl⟩
    have w7 := wd_same w6d (s7 (hz h2) (by omega))
    have WR7 : WR A S b (sR h6 1310 f w6) (ua τ6 614 d (nT : Int)) 59 M M6 (hz h5) (hz h6) w6 nT := WR_keep W6 (fun a q r => by obtain ⟨e1, e2, e3, e4, e5, e6, e7⟩ := s7 a (by omega); exact ⟨e1, e2, e3, e6, e7⟩) ⟨fun g hg _ x _ _ => by rw [ga_ua, if_neg (fun (z : g = 614 ∧ x = d) => PA_DA (f := 614) (by simp) (z.1 ▸ hg))], fun x _ _ _ => by rw [ga_ua, if_neg (by omega)]⟩
    have O7 : okV G (sR h6 1310 f w6) Ll := okV_sR (okV_hx O4 X46)
    have Oe7 : ll (sR h6 1310 f w6) Ll = [] := by show ll h6 Ll = []; rw [X46.2.2.2.2.2.2.2.2.1 _ (by omega)]; exact Oe4
    have z7 : hz (sR h6 1310 f w6) = hz h6 := rfl
    have y7 : hu (sR h6 1310 f w6) = hu h6 := rfl
    have q55 := Q5.2.2.2.2.1
    have q56 := Q5.2.2.2.2.2.1
    have q57 := Q5.2.2.2.2.2.2
    have Q7 : DS G t m Z pr σ0 M0 d0 h0 HZ HU 40 700 60 j6 M6 (ua τ6 614 d (nT : Int)) (sR h6 1310 f w6) := ⟨ndD_ua (ndD_nd Q5.1 D6 q22) (by simp) hd.2, by omega, hp_sR (hp_trans Q5.2.2.1 (hx_hp X6)) r1.1, P7, by omega, by omega, by omega⟩
    rw [gd_pos ⟨I6.1.1, At_kd H6⟩]
    generalize sR h6 1310 f w6 = h7 at *
    refine RD_need hG H7 Q7 (by omega) (.inr (.inr (by omega))) (by decide) (by decide) (fun c59 τ8 h8 H8 D8 X8 => ?_) (fun p τ T D => anInstance_150F T D _)
    have hi8 := At_i H8
    have z8 : hz h8 = hz h7 := X8.2.2.2.2.2.2.2.2.1
    have y8 : hu h8 = hu h7 := X8.2.2.2.2.2.2.2.2.2.1
    have X8x := hx_onlyT X8
    have da : ∀ g ∈ DA, g ≠ 602 → ga τ8 g d = updD (updD dv 610 ((b + (i + 1 + 1) : Nat) : Int)) 614 (nT : Int) g := fun g hg c => by
      rw [D8.1.2 g (PA_DA hg)]
      refine updD_ua ?_
      rw [N6.1.2 g (PA_DA hg)]
      refine updD_ua ?_
      rw [N3.1.2 g (PA_DA hg), da1 g hg]
      exact hdv g hg c
    have W8 := Kp_hx (am := hz h) hR ht (by omega) X8x (⟨D8.1, fun g hg x hx => D8.2 g hg x (by omega)⟩ : nd (ua τ6 614 d (nT : Int)) τ8 M) W7
    have I8 := insO_keep I7 (hx_same X8x (a := f) (by omega) (by omega))
    have w8 := wd_same w7 (hx_same X8x (a := hz h2) (by omega) (by omega))
    have WR8 : WR A S b h8 τ8 59 M M6 (hz h5) (hz h6) w6 nT := WR_keep WR7 (hx_hk X8x (by omega) (by omega)) (nd_nk D8 (Nat.le_refl _))
    refine RD_mono (inst_lines (M := M6) (ib := ib) (Lf := Lf) (dv := updD (updD dv 610 ((b + (i + 1 + 1) : Nat) : Int)) 614 (nT : Int)) (Φ := fun σ g => (R σ g ∧ insO g f s Lh Ll cn con (hz h2) w6 pl nb) ∧ (wd g A S (hz h2) (i + 1 + 1) ∧ WR A S b g σ 59 M M6 (hz h5) (hz h6) w6 nT)) hG hN ht hpr hZ hd (by omega) (Kp_and (Kp_and (Kp_mono hR (by omega) (fun x hx => List.mem_cons_of_mem _ hx) m6) (Kp_insO (by omega) (by simpa using r1.2.2))) (Kp_and (Kp_wd (by omega) (by simp; omega)) (Kp_WR (by omega) (fun x hx => .inl (by rw [List.mem_singleton.mp hx]; omega)) (Nat.le_refl _)))) (fun σ g W => ⟨W.1.2.1.1, W.1.2.1.2.2.2.2.2.2.2.2.2⟩) H8 (DS_step Q7 D8 X8x (Nat.le_refl _) (by omega) (by omega) (by omega)) (okV_hx O7 X8x) (by rw [X8.2.2.2.2.2.2.1]; exact Oe7) r5.1 (PC_hx C7 P7 X8x) da ?_ ⟨⟨W8, I8⟩, w8, WR8⟩) (fun j M' τ h' _ w => ⟨w.1, hz h8, M6, hz h2, w6, updD (updD dv 610 ((b + (i + 1 + 1) : Nat) : Int)) 614 (nT : Int), ?_⟩)
    · rw [D8.1.2 602 (PA_DA (by simp)), ga_ua, if_neg (by omega), N6.1.2 602 (PA_DA (by simp)), ga_ua, if_neg (by omega), N3.1.2 602 (PA_DA (by simp)), da1 602 (by simp)]; exact h602
    · obtain ⟨_, w2, xs, os, B1, B2, B3, B4, B5, B6, B7, B8, B9⟩ := w
      exact ⟨xs, os, by omega, m6, w2, B1, B2, B3, B4, B5, B6, B7, B8, B9.1, .inr ⟨i + 1 + 1, kk, nT, hz h5, hz h6, by omega, by omega, by omega, B9.2.1, c3, B9.2.2, by omega, by omega, rfl⟩⟩
  · rw [ta2 c7, ca2 c7]
    simp only [Option.bind_some]
    rw [if_pos trivial, if_pos trivial]
    refine RD_mono (inst_lines (M := M) (ib := ib) (Lf := Lf) (dv := dv) (Φ := fun σ g => R σ g ∧ insO g f s Lh Ll cn con 0 0 pl nb) hG hN ht hpr hZ hd (by omega) (Kp_and (Kp_mono hR (by omega) (fun x hx => List.mem_cons_of_mem _ hx) (Nat.le_refl _)) (Kp_insO (by omega) (by simpa using r1.2.2))) (fun σ g W => ⟨W.2.1.1, W.2.1.2.2.2.2.2.2.2.2.2⟩) H1 (DS_step Q1 (nd_refl _ _) (hx_refl _ _) (Nat.le_refl _) (by omega) (by omega) (by omega)) O1 Oe1 r5.1 C1 (fun g hg c => by rw [da1 g hg]; exact hdv g hg c) (by rw [da1 602 (by simp)]; exact h602) ⟨W1, I1⟩) (fun j M' τ h' _ w => ⟨w.1, hz h1, M, 0, 0, dv, ?_⟩)
    obtain ⟨_, w2, xs, os, B1, B2, B3, B4, B5, B6, B7, B8, B9⟩ := w
    exact ⟨xs, os, by omega, Nat.le_refl _, w2, B1, B2, B3, B4, B5, B6, B7, B8, B9, .inl ⟨rfl, rfl, rfl, rfl⟩⟩
end LI1
