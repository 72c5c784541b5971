set_option maxRecDepth 100000
/-- a function as it is read: the object f, the declaration d; j0 its name -/
def funR (G : om_G) (A : Nat) (S : List Int) (b : Nat) (h : om_H) (σ : tS) (lo hi z0 ahi f d j0 : Nat) (nb : Int) : Prop := ∃ (w s Ls Lg wr ex j1 m1 m2 am ag a1 a2 a3 nT nX kk : Nat) (ws xs os : List Nat), funO h f w s Ls Lg wr ex nb ∧ ((z0 ≤ f ∧ f < am) ∧ (z0 ≤ s ∧ s < am) ∧ (z0 ≤ Ls ∧ Ls < am) ∧ (z0 ≤ Lg ∧ Lg < am) ∧ am ≤ ag ∧ ag ≤ a1) ∧ (z0 ≤ w ∧ w < am ∧ wd h A S w j0 ∧ tokk S j0 = 2) ∧ (kd h Ls = 42 ∧ ll h Ls = ws ∧ wrow A S h z0 am j1 ws ∧ ((ws = [] ∧ ga σ 594 d = -1) ∨ ga σ 594 d = ((b + j1 : Nat) : Int)) ∧ ga σ 598 d = (ws.length : Int)) ∧ (kd h Lg = 42 ∧ ll h Lg = xs ∧ grows A S b h σ xs os lo m1 am ag ∧ chain σ (ga σ 606 d) os ∧ ∀ x ∈ xs, fR h 1350 x = 0 ∧ fR h 1354 x = 0 ∧ fR h 1358 x = 0 ∧ (False → fR h 1346 x = 0)) ∧ WR A S b h σ 59 m1 m2 a1 a2 wr nT ∧ X0 G A S b h σ 100 m2 hi a2 a3 ex nX ∧ a3 ≤ ahi ∧ (ga σ 570 d = 2 ∧ ga σ 574 d = ((b + j0 : Nat) : Int) ∧ ga σ 578 d = ((b + j0 : Nat) : Int) ∧ ga σ 618 d = (nT : Int) ∧ ga σ 622 d = (nX : Int))
def funLf (Lf : Nat → List Nat) (h : om_H) (f : Nat) : Nat → List Nat := updL (updL (updL (updL Lf 90 f) 98 (fR h 1530 f)) 106 f) 110 0
def funPost (G : om_G) (A t : Nat) (S : List Int) (b m : Nat) (Z : Nat → Prop) (pr : Nat) (σ0 : tS) (M0 d0 : Nat) (h0 : om_H) (HZ HU Mb d j0 : Nat) (Lf : Nat → List Nat) (j M' : Nat) (τ : tS) (h' : om_H) : Prop :=
  j0 < j ∧ DS G t m Z pr σ0 M0 d0 h0 HZ HU 20 300 60 j M' τ h' ∧ Mb ≤ M' ∧ ∃ f, funR G A S b h' τ Mb M' (hz h0) (hz h') f d j0 ((Lf 90).length : Int) ∧ PC h' pr (funLf Lf h' f)
section LF1
variable {G : om_G} {A t : Nat} {N : List (List Int)} {S : List Int} {b m i : Nat} {M : Nat} {σ τ : tS} {h h' h1 h2 : om_H} {c pr : Nat} {Z Z' : Nat → Prop}
variable {σ0 : tS} {M0 d0 : Nat} {h0 : om_H} {HZ HU : Nat}
/-- names and words of a function -/
def fΦ (G : om_G) (A : Nat) (S : List Int) (z0 am f w s Ls Lg wr ex j0 j1 : Nat) (nb : Int) (ws : List Nat) (h : om_H) : Prop := funO h f w s Ls Lg wr ex nb ∧ wd h A S w j0 ∧ (kd h Ls = 42 ∧ ll h Ls = ws ∧ wrow A S h z0 am j1 ws)
theorem fΦ_keep {z0 am f w s Ls Lg wr ex j0 j1 : Nat} {nb : Int} {ws : List Nat} (r1 : z0 ≤ f ∧ f < am ∧ f ≠ Lg) (r2 : z0 ≤ s ∧ s < am ∧ s ≠ Lg) (r3 : z0 ≤ Ls ∧ Ls < am ∧ Ls ≠ Lg) (r4 : z0 ≤ w ∧ w < am ∧ w ≠ Lg) (h h' : om_H) (sm : ∀ a, z0 ≤ a → a < am → a ≠ Lg → sameA a h h') (hg : kd h Lg = 42) (W : fΦ G A S z0 am f w s Ls Lg wr ex j0 j1 nb ws h) : fΦ G A S z0 am f w s Ls Lg wr ex j0 j1 nb ws h' := by
  have sL := sm Ls r3.1 r3.2.1 r3.2.2
  exact ⟨funO_keep W.1 (sm f r1.1 r1.2.1 r1.2.2) (sm s r2.1 r2.2.1 r2.2.2), wd_same W.2.1 (sm w r4.1 r4.2.1 r4.2.2), by rw [sL.1]; exact W.2.2.1, by rw [sL.2.2.2.2.2.1]; exact W.2.2.2.1, wrow_keep (fun a q r k => sm a q r (fun z => by rw [z] at k; omega)) (Nat.le_refl _) W.2.2.2.2⟩
theorem ex_all (hG : om_okG G) (hN : ∃ N', N = [110, 105, 108] :: [99, 111, 110, 115] :: N') : RXall G A t N S b m 100 0 T_readEx (C_0_readEx G) := readEx_rel hG hN 20 30 30 0 (by omega) (by omega) (by omega) (by omega)
set_option maxHeartbeats 1000000 in
/-- a function's type and ex -/
theorem fun_193 (hG : om_okG G) (hN : ∃ N', N = [110, 105, 108] :: [99, 111, 110, 115] :: N') {am ag Mb d f w s Ls Lg j0 j1 : Nat} {nb : Int} {ws : List Nat} {Lf Lf0 : Nat → List Nat} {dv : Nat → Int} {first : Int} {os xs : List Nat} (ht : t < hz h0) (hpr : pr < hz h0) (hZ : ∀ a, Z a → a < hz h0) (hd : d < 700 ∧ d0 ≤ d) (hMb : M0 ≤ Mb) (hib : j0 < i)
    (r1 : hz h0 ≤ f ∧ f < am ∧ f ≠ Lg) (r2 : hz h0 ≤ s ∧ s < am ∧ s ≠ Lg) (r3 : hz h0 ≤ Ls ∧ Ls < am ∧ Ls ≠ Lg) (r4 : hz h0 ≤ w ∧ w < am ∧ w ≠ Lg) (r5 : f ≠ s ∧ f ≠ Ls ∧ f ≠ w)
    (H : At G A t N S b m i 0 M σ h) (Q : DS G t m Z pr σ0 M0 d0 h0 HZ HU 20 300 60 i M σ h) (B : GB G A S b (hz h0) Mb am d Lg pr Lf dv (fΦ G A S (hz h0) am f w s Ls Lg 0 0 j0 j1 nb ws) False M ag σ h first os xs) (hk0 : tokk S j0 = 2) (hdv : dv 570 = 2 ∧ dv 574 = ((b + j0 : Nat) : Int) ∧ dv 578 = ((b + j0 : Nat) : Int) ∧ ((ws = [] ∧ dv 594 = -1) ∨ dv 594 = ((b + j1 : Nat) : Int)) ∧ dv 598 = (ws.length : Int) ∧ dv 606 = first) (hLf : Lf = updL (updL (updL (updL Lf0 90 f) 98 w) 106 f) 110 0) (hnb : nb = ((Lf0 90).length : Int)) {v4 v8 : Int} (hv : dv 594 = v4 ∧ dv 598 = v8) :
    RD G A t N S b m 0 Z pr σ0 M0 d0 h0 HZ HU (fun τ : tS => τ) (fun j M' τ h' _ => (ga τ 594 d = v4 ∧ ga τ 598 d = v8) ∧ funPost G A t S b m Z pr σ0 M0 d0 h0 HZ HU Mb d j0 Lf0 j M' τ h') (T_aFunction_95 (d : Int) σ) (C_1_readFunction_193 G t f h) := by
  have d7 : (0 : Int) ≤ (d : Int) ∧ (d : Int) < 700 := by omega
  have dN : ((d : Int)).toNat = d := by omega
  have htz := At_t H
  have hi := At_i H
  have q27 := Q.2.2.2.2.2.2
  unfold T_aFunction_95 C_1_readFunction_193
  simp only [if_pos d7, dN]
  refine RD_bind Q (by omega) (type_RO hG (by omega) H (by omega)) (fun j M1 τ1 h1 v wr j1' H1 D1 X1 m1 P1 => ?_) (fun p v τ M' T D q q' => Fd_need (Tfl_ua T (by simp)) (Fd_rec (exF (by omega) 29) (Tfl_ua T (by simp)) (ndD_ua D (by simp) hd.2) q (by omega) (fun x τ M2 T2 D2 _ _ => Fv_end (Tfl_ua T2 (by simp)) (ndD_ua D2 (by simp) hd.2))))
  obtain ⟨nT, kk, rfl, g2, W1, g3, g4, g5, g6, g7⟩ := P1
  have hj1 := At_i H1
  have Wi := WR_in W1
  have hΦ : ∀ h h', (∀ a, hz h0 ≤ a → a < am → a ≠ Lg → sameA a h h') → kd h Lg = 42 → fΦ G A S (hz h0) am f w s Ls Lg 0 0 j0 j1 nb ws h → fΦ G A S (hz h0) am f w s Ls Lg 0 0 j0 j1 nb ws h' := fun h h' q k => fΦ_keep r1 r2 r3 r4 h h' q k
  obtain ⟨B1, B2, B3, B4, B5, B6, B7, B8, B9⟩ := B
  have P0 := Q.2.2.2.1
  obtain ⟨P1, L1⟩ := PL_hx P0 X1
  have s1 : ∀ a, a < hz h → a ≠ t → sameA a h h1 := fun a q r => hx_same X1 q r
  have Φ1 := hΦ h h1 (fun a q r _ => s1 a (by omega) (by omega)) B2.2.1 B9
  have kf1 : kd h1 f = 33 := Φ1.1.1.1
  -- its type
  have H2 : At G A t N S b m j 0 M1 (ua τ1 618 d (nT : Int)) (sR h1 1546 f wr) := At_ua (At_sR H1 (by omega)) (by simp)
  obtain ⟨P2, L2⟩ := PL_sR (f := 1546) (a := f) (x := wr) P1 (by omega)
  have z2 : hz (sR h1 1546 f wr) = hz h1 := rfl
  have y2 : hu (sR h1 1546 f wr) = hu h1 := rfl
  have Q2 : DS G t m Z pr σ0 M0 d0 h0 HZ HU 20 300 60 j M1 (ua τ1 618 d (nT : Int)) (sR h1 1546 f wr) := by
    obtain ⟨p1, p2, p3, p4, p5, p6, p7⟩ := Q
    exact ⟨ndD_ua (ndD_nd p1 D1 p2) (by simp) hd.2, by omega, hp_sR (hp_trans p3 (hx_hp X1)) (by omega), P2, by omega, by omega, by omega⟩
  have sf2 : ∀ a, a ≠ f → sameA a h1 (sR h1 1546 f wr) := fun a ha => ⟨rfl, fun _ => rfl, fun g => by rw [fR_na ha], rfl, fun _ => rfl, rfl, rfl⟩
  have F2 : funO (sR h1 1546 f wr) f w s Ls Lg wr 0 nb := by
    obtain ⟨⟨b1, b2, b3, b4, b5, b6⟩, b7, b8⟩ := Φ1.1
    exact ⟨⟨b1, by rw [fR_ne (by decide)]; exact b2, b3, by rw [fR_ne (by decide)]; exact b4, fR_eq, by rw [fR_ne (by decide)]; exact b6⟩, ⟨b7.1, by rw [fR_ne (by decide)]; exact b7.2⟩, scpO_keep b8 (sf2 s (Ne.symm r5.1))⟩
  rw [gd_pos ⟨kf1, At_kd H1⟩]
  generalize sR h1 1546 f wr = h2 at *
  refine RD_need hG H2 Q2 (by omega) (.inr (.inr (by omega))) (by decide) (by decide) (fun c61 τ3 h3 H3 D3 X3 => ?_) (fun p τ T D => Fd_rec (exF (by omega) 29) T D (by have := Q2.2.1; omega) (by have := Q2.2.2.2.2.2.2; omega) (fun x τ M2 T2 D2 _ _ => Fv_end (Tfl_ua T2 (by simp)) (ndD_ua D2 (by simp) hd.2)))
  have hi3 := At_i H3
  have z3 : hz h3 = hz h2 := X3.2.2.2.2.2.2.2.2.1
  have y3 : hu h3 = hu h2 := X3.2.2.2.2.2.2.2.2.2.1
  have X3x := hx_onlyT X3
  have Q3 : DS G t m Z pr σ0 M0 d0 h0 HZ HU 40 600 62 (j + 1) M1 τ3 h3 := DS_step Q2 D3 X3x (Nat.le_refl _) (by omega) (by omega) (by omega)
  refine RD_bind Q3 (by omega) (ex_all hG hN (j + 1) M1 τ3 h3 H3 (by have := Q3.2.2.2.2.2.2; omega)) (fun j4 M4 τ4 h4 v ex j4' H4 D4 X4 m4 P4 => ?_) (fun p v τ M' T D q q' => Fv_end (Tfl_ua T (by simp)) (ndD_ua D (by simp) hd.2))
  obtain ⟨nX, rfl, k2, W4, k3, k4, k5, k6⟩ := P4
  have hj4 := At_i H4
  have X24 := hx_trans X3x X4
  have s24 : ∀ a, a < hz h2 → a ≠ t → sameA a h2 h4 := fun a q r => hx_same X24 q r
  have N4 : nd (ua τ1 618 d (nT : Int)) τ4 M1 := nd_trans D3 D4 (Nat.le_refl _)
  have F4 : funO h4 f w s Ls Lg wr 0 nb := funO_keep F2 (s24 f (by omega) (by omega)) (s24 s (by omega) (by omega))
  rw [gd_pos F4.1.1]
  have Q4 : DS G t m Z pr σ0 M0 d0 h0 HZ HU 20 300 60 j4 M4 τ4 h4 := DS_step Q3 D4 X4 m4 (by omega) (by omega) (by omega)
  obtain ⟨P5, L5⟩ := PL_sR (f := 1554) (a := f) (x := ex) Q4.2.2.2.1 (by omega)
  have sf5 : ∀ a, a ≠ f → sameA a h4 (sR h4 1554 f ex) := fun a ha => ⟨rfl, fun _ => rfl, fun g => by rw [fR_na ha], rfl, fun _ => rfl, rfl, rfl⟩
  have F5 : funO (sR h4 1554 f ex) f w s Ls Lg wr ex nb := by
    obtain ⟨⟨b1, b2, b3, b4, b5, b6⟩, b7, b8⟩ := F4
    exact ⟨⟨b1, by rw [fR_ne (by decide)]; exact b2, b3, by rw [fR_ne (by decide)]; exact b4, by rw [fR_ne (by decide)]; exact b5, fR_eq⟩, ⟨b7.1, by rw [fR_ne (by decide)]; exact b7.2⟩, scpO_keep b8 (sf5 s (Ne.symm r5.1))⟩
  have z5 : hz (sR h4 1554 f ex) = hz h4 := rfl
  have y5 : hu (sR h4 1554 f ex) = hu h4 := rfl
  have H5 : At G A t N S b m j4 0 M4 (ua τ4 622 d (nX : Int)) (sR h4 1554 f ex) := At_ua (At_sR H4 (by omega)) (by simp)
  have hp5 : hp Z t h0 (sR h4 1554 f ex) := hp_sR Q4.2.2.1 (by omega)
  generalize sR h4 1554 f ex = h5 at *
  -- from h1 to h5
  have s15 : ∀ a, a < hz h1 → a ≠ t → a ≠ f → sameA a h1 h5 := fun a q r u => sameA_trans (sameA_trans (sf2 a u) (s24 a (by omega) r)) (sf5 a u)
  have s05 : ∀ a, a < hz h → a ≠ t → a ≠ f → sameA a h h5 := fun a q r u => sameA_trans (s1 a q r) (s15 a (by omega) r u)
  have Bi := grows_in B4
  have sLs := s15 Ls (by omega) (by omega) (by omega)
  have sLg := s05 Lg (by omega) (by omega) (by omega)
  have Ng : ∀ f' ∈ PA, ∀ x, x < M → ga (ua τ4 622 d (nX : Int)) f' x = ga σ f' x := fun f' hf x hx => by
    rw [ga_ua, if_neg (fun (z : f' = 622 ∧ x = d) => PA_DA (f := 622) (by simp) (z.1 ▸ hf)), N4.2 f' hf x (by omega), ga_ua, if_neg (fun (z : f' = 618 ∧ x = d) => PA_DA (f := 618) (by simp) (z.1 ▸ hf)), D1.2 f' hf x hx]
  have Ng1 : ∀ f' ∈ PA, ∀ x, x < M1 → ga (ua τ4 622 d (nX : Int)) f' x = ga τ1 f' x := fun f' hf x hx => by
    rw [ga_ua, if_neg (fun (z : f' = 622 ∧ x = d) => PA_DA (f := 622) (by simp) (z.1 ▸ hf)), N4.2 f' hf x (by omega), ga_ua, if_neg (fun (z : f' = 618 ∧ x = d) => PA_DA (f := 618) (by simp) (z.1 ▸ hf))]
  have Nd : ∀ f' ∈ DA, f' ≠ 618 → f' ≠ 622 → ga (ua τ4 622 d (nX : Int)) f' d = dv f' := fun f' hf c1 c2 => by
    rw [ga_ua, if_neg (fun z => c2 z.1), N4.1.2 f' (PA_DA hf), ga_ua, if_neg (fun z => c1 z.1), D1.1.2 f' (PA_DA hf)]; exact B7 f' hf
  obtain ⟨p1, p2, p3, p4, p5, p6, p7⟩ := Q4
  refine .inl ⟨j4, M4, ua τ4 622 d (nX : Int), h5, (), rfl, rfl, H5, ⟨by rw [Nd 594 (by simp) (by decide) (by decide)]; exact hv.1, by rw [Nd 598 (by simp) (by decide) (by decide)]; exact hv.2⟩, by omega, ⟨ndD_ua p1 (by simp) hd.2, p2, hp5, P5, by omega, by omega, p7⟩, by omega, f, ⟨w, s, Ls, Lg, wr, ex, j1, M, M1, am, ag, hz h, hz h3, hz h4, nT, nX, kk, ws, xs, os, by rw [← hnb]; exact F5, ⟨⟨r1.1, r1.2.1⟩, ⟨r2.1, r2.2.1⟩, ⟨r3.1, r3.2.1⟩, ⟨B1.1, B1.2.1⟩, B1.2.2.1, B1.2.2.2.1⟩, ⟨r4.1, r4.2.1, wd_same Φ1.2.1 (s15 w (by omega) (by omega) (by omega)), hk0⟩, ⟨by rw [sLs.1]; exact Φ1.2.2.1, by rw [sLs.2.2.2.2.2.1]; exact Φ1.2.2.2.1, wrow_keep (fun a q r k => s15 a (by omega) (by omega) (fun z => by rw [z] at k; omega)) (Nat.le_refl _) Φ1.2.2.2.2, ?_, ?_⟩, ⟨by rw [sLg.1]; exact B2.2.1, by rw [sLg.2.2.2.2.2.1]; exact B3, ?_, ?_, fun x hx => ?_⟩, ?_, ?_, by omega, ?_, ?_, ?_, ?_, ?_⟩, fun g hg => ?_⟩
  · rw [Nd 594 (by simp) (by decide) (by decide)]; exact hdv.2.2.2.1
  · rw [Nd 598 (by simp) (by decide) (by decide)]; exact hdv.2.2.2.2.1
  · exact grows_keep B4 (fun a d e => by obtain ⟨u1, u2, u3, u4, u5, u6, u7⟩ := s05 a (by omega) (by omega) (by omega); exact ⟨u1, u2, u3, u6, u7⟩) (fun f' hf _ x _ e => Ng f' hf x e) (fun x _ e _ => Ng 562 (by simp) x e)
  · rw [Nd 606 (by simp) (by decide) (by decide), hdv.2.2.2.2.2]
    exact chain_keep B5 (fun x hx => Ng 562 (by simp) x (Bi.2.2.1 x hx).2)
  · have := Bi.2.2.2.1 x hx
    have sx := s05 x (by omega) (by omega) (by omega)
    rw [sx.2.2.1, sx.2.2.1, sx.2.2.1, sx.2.2.1]; exact B6 x hx
  · rw [z3, z2]
    exact WR_keep W1 (fun a d e => by obtain ⟨u1, u2, u3, u4, u5, u6, u7⟩ := s15 a (by omega) (by omega) (by omega); exact ⟨u1, u2, u3, u6, u7⟩) ⟨fun f' hf _ x _ e => Ng1 f' hf x (by omega), fun x _ e _ => Ng1 562 (by simp) x (by omega)⟩
  · exact X0_keep W4 (fun a d e => by obtain ⟨u1, u2, u3, u4, u5, u6, u7⟩ := sf5 a (by omega); exact ⟨u1, u2, u3, u6, u7⟩) (fun f' hf x _ _ => by rw [ga_ua, if_neg (fun (z : f' = 622 ∧ x = d) => PA_DA (f := 622) (by simp) (z.1 ▸ hf))])
  · rw [Nd 570 (by simp) (by decide) (by decide)]; exact hdv.1
  · rw [Nd 574 (by simp) (by decide) (by decide)]; exact hdv.2.1
  · rw [Nd 578 (by simp) (by decide) (by decide)]; exact hdv.2.2.1
  · rw [ga_ua, if_neg (by omega), N4.1.2 618 (PA_DA (by simp)), ga_ua, if_pos ⟨rfl, rfl⟩]
  · rw [ga_ua, if_pos ⟨rfl, rfl⟩]
  · have az := (P0.2.1 g hg).1.1
    have zz := hZ _ (P0.2.1 g hg).2
    rw [(s05 pr (by omega) P0.1.2.2 (by omega)).2.2.1, (s05 (fR h g pr) az (fun z => by have e := (P0.2.1 g hg).1.2.1; rw [z, At_kd H] at e; omega) (by omega)).2.2.2.2.2.1]
    unfold funLf
    rw [F5.1.2.1, ← hLf]
    exact B8 g hg
end LF1
