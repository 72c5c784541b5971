set_option maxRecDepth 100000
section LI3
variable {G : om_G} {A t : Nat} {N : List (List Int)} {S : List Int} {b m i : Nat} {M : Nat} {σ τ : tS} {h h' h1 h2 : om_H} {c pr : Nat} {Z Z' : Nat → Prop}
variable {σ0 : tS} {M0 d0 : Nat} {h0 : om_H} {HZ HU : Nat}
theorem insO_1290 {f s Lh Ll cn con fam fw x : Nat} {pl nb : Int} (O : insO h f s Lh Ll cn con fam fw pl nb) : insO (sR h 1290 f x) f s Lh Ll x con fam fw pl nb := by
  obtain ⟨⟨b1, b2, b3, b4, b5, b6, b7, b8, b9, b10⟩, e1, e2, e3, e4, e5, e6⟩ := O
  exact ⟨⟨b1, b2, b3, by rw [fR_ne (by decide)]; exact b4, fR_eq, by rw [fR_ne (by decide)]; exact b6, by rw [fR_ne (by decide)]; exact b7, by rw [fR_ne (by decide)]; exact b8, by rw [fR_ne (by decide)]; exact b9, by rw [fR_ne (by decide)]; exact b10⟩, by rw [fR_ne (by decide)]; exact e1, e2, by rw [fR_ne (by decide)]; exact e3, by rw [fR_ne (by decide)]; exact e4, by rw [fR_ne (by decide)]; exact e5, by rw [fR_ne (by decide)]; exact e6⟩
theorem insO_1294 {f s Lh Ll cn con fam fw x : Nat} {pl nb : Int} (O : insO h f s Lh Ll cn con fam fw pl nb) : insO (sR h 1294 f x) f s Lh Ll cn x fam fw pl nb := by
  obtain ⟨⟨b1, b2, b3, b4, b5, b6, b7, b8, b9, b10⟩, e1, e2, e3, e4, e5, e6⟩ := O
  exact ⟨⟨b1, b2, b3, by rw [fR_ne (by decide)]; exact b4, by rw [fR_ne (by decide)]; exact b5, fR_eq, by rw [fR_ne (by decide)]; exact b7, by rw [fR_ne (by decide)]; exact b8, by rw [fR_ne (by decide)]; exact b9, by rw [fR_ne (by decide)]; exact b10⟩, by rw [fR_ne (by decide)]; exact e1, e2, by rw [fR_ne (by decide)]; exact e3, by rw [fR_ne (by decide)]; exact e4, by rw [fR_ne (by decide)]; exact e5, by rw [fR_ne (by decide)]; exact e6⟩
set_option maxHeartbeats 4000000 in
/-- an instance, from the names of its head on -/
theorem inst_names (hG : om_okG G) (hN : ∃ N', N = [110, 105, 108] :: [99, 111, 110, 115] :: N') {d f s Ls Lg Lh Ll cn con jc jn j0 lo m1 a0 a1 : Nat} {first nb : Int} {xs os : List Nat} {Lf : Nat → List Nat} {dv : Nat → Int} (ht : t < hz h0) (hpr : pr < hz h0) (hZ : ∀ a, Z a → a < hz h0) (hd : d < 700 ∧ d0 ≤ d) (hib : j0 < i)
    (r1 : hz h0 ≤ f ∧ f < hz h ∧ f ≠ Ll ∧ f ≠ s ∧ f ≠ Ls ∧ f ≠ Lg ∧ f ≠ Lh ∧ f ≠ cn ∧ f ≠ con) (r2 : hz h0 ≤ s ∧ s < hz h ∧ s ≠ Ll ∧ s ≠ Ls) (r3 : hz h0 ≤ Ls ∧ Ls < hz h ∧ Ls ≠ Ll) (r4 : hz h0 ≤ Lg ∧ Lg < hz h ∧ Lg ≠ Ll ∧ Lg ≠ Ls) (r5 : hz h0 ≤ Lh ∧ Lh < hz h ∧ Lh ≠ Ll ∧ Lh ≠ Ls ∧ Lh ≠ Lg) (r6 : hz h0 ≤ Ll ∧ Ll < hz h) (r7 : hz h0 ≤ cn ∧ cn < hz h ∧ cn ≠ Ll ∧ cn ≠ Ls) (r8 : hz h0 ≤ con ∧ con < hz h ∧ con ≠ Ll ∧ con ≠ Ls) (r9 : hz h0 ≤ a0 ∧ a1 ≤ hz h ∧ f < a0 ∧ Ll < a0 ∧ Ls < a0) (r10 : lo ≤ m1 ∧ m1 ≤ M ∧ M ≤ m1)
    (H : At G A t N S b m i 0 M σ h) (Q : DS G t m Z pr σ0 M0 d0 h0 HZ HU 20 340 60 i M σ h) (W : insS A S b s Ls Lg Lh lo m1 a0 a1 first xs os σ h) (I : insO h f s Lh Ll cn con 0 0 (tokq S j0 : Int) nb) (wc : wd h A S cn jc ∧ tokk S jc = 3) (wn : wd h A S con jn ∧ tokk S jn = 3) (Os : okV G h Ls) (Ose : ll h Ls = []) (On : okV G h Ll) (Oe : ll h Ll = []) (C : PC h pr (updL Lf 86 f)) (hdv : ∀ g ∈ DA, ga σ g d = dv g)
    (hv : dv 570 = 6 ∧ dv 574 = ((b + j0 : Nat) : Int) ∧ dv 578 = ((b + jc : Nat) : Int) ∧ dv 582 = ((b + jn : Nat) : Int) ∧ dv 586 = ((b + i : Nat) : Int) ∧ dv 590 = 0 ∧ dv 602 = -1 ∧ dv 606 = first ∧ dv 610 = -1 ∧ dv 614 = -1) :
    RD G A t N S b m 0 Z pr σ0 M0 d0 h0 HZ HU (fun τ : tS => τ) (fun j M' τ h' _ => insPost G A t S b m Z pr σ0 M0 d0 h0 HZ HU lo d j0 nb Lf j M' τ h') (TNi (d : Int) σ) (CNi G t f h) := by
  have Wi := grows_in W.2.2.2.1
  have hm4 := H.1.1.2.1
  have htz := At_t H
  have hi := At_i H
  have lL := On.2.2.2.1
  rw [Oe] at lL
  have lcL : lc h Ll ≤ 10 := by simpa using lL
  have hOs := Os.1
  obtain ⟨q1, q2, q3, q4, q5, q6, q7⟩ := Q
  have kS : Kp (hz h0) (hz h) [Ls] M (insS A S b s Ls Lg Lh lo m1 a0 a1 first xs os) := insS_Kp ⟨r2.1, r2.2.1, by simpa using r2.2.2.2⟩ ⟨r5.1, r5.2.1, by simpa using r5.2.2.2.1⟩ ⟨r4.1, r4.2.1, by simpa using r4.2.2.2⟩ ⟨r9.1, r9.2.1⟩ (fun x hx => .inl (by rw [List.mem_singleton.mp hx]; exact r9.2.2.2.2)) r10.2.1 (fun o ho => (Wi.2.2.1 o ho).2) (fun x hx => Wi.2.2.2.1 x hx)
  have kA : Kp (hz h0) (hz h) [Ls] M (fun σ g => insS A S b s Ls Lg Lh lo m1 a0 a1 first xs os σ g ∧ (insO g f s Lh Ll cn con 0 0 (tokq S j0 : Int) nb ∧ (wd g A S cn jc ∧ (wd g A S con jn ∧ (kd g Ll = 42 ∧ ll g Ll = [] ∧ lc g Ll ≤ 10))))) := Kp_and kS (Kp_and (Kp_insO ⟨r1.1, r1.2.1⟩ (by simpa using r1.2.2.2.2.1)) (Kp_and (Kp_wd ⟨r7.1, r7.2.1⟩ (by simpa using r7.2.2.2)) (Kp_and (Kp_wd ⟨r8.1, r8.2.1⟩ (by simpa using r8.2.2.2)) (Kp_nil r6 (by simpa using Ne.symm r3.2.2)))))
  refine names_loop (am := hz h) (M := M) (d := d) (F := 590) (L := Ls) (j1 := i) (ib := i) (Lf := updL Lf 86 f) (dv := dv) (TN := TNi (d : Int)) (CN := CNi G t f) hG ht hpr hZ hd (by simp) kA (fun σ τ e => TNi_in hd.1 e) (fun i' σ' g K k2 W => ⟨CNi G t f, CNi_in hG K k2 ⟨W.2.1.1.1, W.2.1.1.2.2.2.1, W.1.1.1, W.1.1.2.1⟩, fun _ _ => rfl⟩) ?_ (m - i + 1) i σ h [] (Nat.lt_succ_self _) (Nat.le_refl _) H ⟨q1, q2, q3, q4, q5, by rw [Ose]; simp only [List.length_nil]; omega, q7⟩ ⟨⟨r3.1, r3.2.1, Nat.le_refl _⟩, Os, Ose, trivial, rfl, by rw [hdv 590 (by simp)]; exact hv.2.2.2.2.2.1, fun g hg _ => hdv g hg, C, W, I, wc.1, wn.1, On.2.1, Oe, lcL⟩
  clear q3 q4 q5 q6 q7 kA
  intro i5 σ5 g5 ws hib5 H5 Q5 B5 ne2
  have hi5 := At_i H5
  obtain ⟨b1, b2, b3, b4, b5, b6, b7, b8, b9, b10, b11, b12, b13⟩ := B5
  have Q5' := DSL_DS b2 Q5
  rw [TNi_end H5.1 ne2, CNi_end hG H5.2.1 ne2]
  refine RD_gd (At_kd H5) (RD_need hG H5 Q5' (by omega) (.inr (.inr (by omega))) (by decide) (by decide) (fun c41 τ6 h6 H6 D6 X6 => ?_) (fun p τ T D => anInstance_102F T D _))
  have hi6 := At_i H6
  have z6 : hz h6 = hz g5 := X6.2.2.2.2.2.2.2.2.1
  have y6 : hu h6 = hu g5 := X6.2.2.2.2.2.2.2.2.2.1
  have X6x := hx_onlyT X6
  have zz : hz h ≤ hz h6 := by omega
  have s6 : ∀ a, a < hz h6 → a ≠ t → sameA a g5 h6 := fun a q r => hx_same X6x (by omega) r
  have tz : t < hz h := htz
  have up : ∀ a, a < hz h → a < hz h6 := fun a q => by omega
  have nt : ∀ a, hz h0 ≤ a → a ≠ t := fun a q => by omega
  have sLs := s6 Ls (up _ r3.2.1) (nt _ r3.1)
  have sLl := s6 Ll (up _ r6.2) (nt _ r6.1)
  have wm := wrow_mem b4
  have QQ : DS G t m Z pr σ0 M0 d0 h0 HZ HU 20 340 60 (i5 + 1) M τ6 h6 := DS_step Q5' D6 X6x (Nat.le_refl _) (by omega) (by omega) (by omega)
  have OO : okV G h6 Ll := ⟨up _ r6.2, by rw [sLl.1]; exact b13.1, by rw [sLl.2.2.2.2.2.1, b13.2.1]; simp, by rw [sLl.2.2.2.2.2.1, sLl.2.2.2.2.2.2, b13.2.1]; have := b13.2.2; simp; omega, fun y hy => by rw [sLl.2.2.2.2.2.1, b13.2.1] at hy; simp at hy⟩
  have wr6 : wrow A S h6 (hz h0) (hz g5) i ws := wrow_wide (alo := hz h) (ahi := hz g5) (by omega) (Nat.le_refl _) (wrow_keep (fun a q r _ => s6 a (by omega) (by omega)) (Nat.le_refl _) b4)
  have WW := Kp_hx kS ht (by omega) X6x D6 b9
  have rwx : ∀ w ∈ ws, w ≠ f ∧ w ≠ Ll := fun w hw => by have := wm w hw; omega
  have dd6 : ∀ g ∈ DA, g ≠ 602 → ga τ6 g d = updD dv 590 (ws.length : Int) g := fun g hg _ => by
    rw [D6.1.2 g (PA_DA hg)]
    by_cases c5 : g = 590
    · rw [c5, b6]; simp [updD]
    · rw [b7 g hg c5]; simp [updD, c5]
  have d602 : ga τ6 602 d = -1 := by
    rw [D6.1.2 602 (PA_DA (by simp)), b7 602 (by simp) (by decide)]; exact hv.2.2.2.2.2.2.1
  refine inst_body (h := h6) (cn := cn) (con := con) (jc := jc) (jn := jn) (j1 := i) (a2 := hz g5) (ws := ws) (Lf := Lf) (dv := updD dv 590 (ws.length : Int)) hG hN ht hpr hZ hd (Nat.lt_succ_of_lt (Nat.lt_of_lt_of_le hib hib5)) ⟨r1.1, up _ r1.2.1, r1.2.2.1, r1.2.2.2.1, r1.2.2.2.2.1, r1.2.2.2.2.2.1, r1.2.2.2.2.2.2.1, r1.2.2.2.2.2.2.2.1, r1.2.2.2.2.2.2.2.2⟩ ⟨r2.1, up _ r2.2.1, r2.2.2.1⟩ ⟨r3.1, up _ r3.2.1, r3.2.2⟩ ⟨r4.1, up _ r4.2.1, r4.2.2.1⟩ ⟨r5.1, up _ r5.2.1, r5.2.2⟩ ⟨r6.1, up _ r6.2⟩ ⟨r7.1, up _ r7.2.1, r7.2.2.1⟩ ⟨r8.1, up _ r8.2.1, r8.2.2.1⟩ ⟨r9.1, Nat.le_trans r9.2.1 zz, r9.2.2.1, r9.2.2.2.1⟩ r10 (Nat.le_of_eq z6.symm) rwx H6 QQ WW (insO_keep b10 (s6 f (up _ r1.2.1) (nt _ r1.1))) ⟨wd_same b11 (s6 _ (up _ r7.2.1) (nt _ r7.1)), wc.2⟩ ⟨wd_same b12 (s6 _ (up _ r8.2.1) (nt _ r8.1)), wn.2⟩ ⟨by rw [sLs.1]; exact b2.2.1, by rw [sLs.2.2.2.2.2.1]; exact b3, wr6⟩ OO (by rw [sLl.2.2.2.2.2.1]; exact b13.2.1) (PC_hx b8 Q5.2.2.2.1 X6x) dd6 d602 ?_
  simp [updD]
  exact ⟨hv.1, hv.2.1, hv.2.2.1, hv.2.2.2.1, .inr hv.2.2.2.2.1, hv.2.2.2.2.2.2.2⟩
set_option maxHeartbeats 2000000 in
/-- an instance, from its class's great on -/
theorem inst_90 (hG : om_okG G) (hN : ∃ N', N = [110, 105, 108] :: [99, 111, 110, 115] :: N') {d f s Ls Lg Lh Ll j0 lo m1 a0 a1 : Nat} {first nb : Int} {xs os : List Nat} {Lf : Nat → List Nat} {dv : Nat → Int} (ht : t < hz h0) (hpr : pr < hz h0) (hZ : ∀ a, Z a → a < hz h0) (hd : d < 700 ∧ d0 ≤ d) (hib : j0 < i)
    (r1 : hz h0 ≤ f ∧ f < hz h ∧ f ≠ Ll ∧ f ≠ s ∧ f ≠ Ls ∧ f ≠ Lg ∧ f ≠ Lh) (r2 : hz h0 ≤ s ∧ s < hz h ∧ s ≠ Ll ∧ s ≠ Ls) (r3 : hz h0 ≤ Ls ∧ Ls < hz h ∧ Ls ≠ Ll) (r4 : hz h0 ≤ Lg ∧ Lg < hz h ∧ Lg ≠ Ll ∧ Lg ≠ Ls) (r5 : hz h0 ≤ Lh ∧ Lh < hz h ∧ Lh ≠ Ll ∧ Lh ≠ Ls ∧ Lh ≠ Lg) (r6 : hz h0 ≤ Ll ∧ Ll < hz h) (r9 : hz h0 ≤ a0 ∧ a1 ≤ hz h ∧ f < a0 ∧ Ll < a0 ∧ Ls < a0) (r10 : lo ≤ m1 ∧ m1 ≤ M ∧ M ≤ m1)
    (H : At G A t N S b m i 0 M σ h) (Q : DS G t m Z pr σ0 M0 d0 h0 HZ HU 20 340 60 i M σ h) (W : insS A S b s Ls Lg Lh lo m1 a0 a1 first xs os σ h) (I : insO h f s Lh Ll 0 0 0 0 (tokq S j0 : Int) nb) (Os : okV G h Ls) (Ose : ll h Ls = []) (On : okV G h Ll) (Oe : ll h Ll = []) (C : PC h pr (updL Lf 86 f)) (hdv : ∀ g ∈ DA, ga σ g d = dv g)
    (hv : dv 570 = 6 ∧ dv 574 = ((b + j0 : Nat) : Int) ∧ dv 590 = 0 ∧ dv 602 = -1 ∧ dv 606 = first ∧ dv 610 = -1 ∧ dv 614 = -1) :
    RD G A t N S b m 0 Z pr σ0 M0 d0 h0 HZ HU (fun τ : tS => τ) (fun j M' τ h' _ => insPost G A t S b m Z pr σ0 M0 d0 h0 HZ HU lo d j0 nb Lf j M' τ h') (T_anInstance_20 (d : Int) σ) (C_1_readInstance_90 G t f h) := by
  have d7 : (0 : Int) ≤ (d : Int) ∧ (d : Int) < 700 := by omega
  have d77 : (0 : Int) ≤ (d : Int) ∧ (d : Int) < 700 ∧ (0 : Int) ≤ (d : Int) ∧ (d : Int) < 700 := by omega
  have dN : ((d : Int)).toNat = d := by omega
  have htz := At_t H
  have hi := At_i H
  have q22 := Q.2.1
  have q27 := Q.2.2.2.2.2.2
  have P0 := Q.2.2.2.1
  have Wi := grows_in W.2.2.2.1
  have hm4 := H.1.1.2.1
  have kS : ∀ (X : List Nat), (∀ x ∈ X, x = f ∨ x = Ll ∨ x = Ls) → Kp (hz h0) (hz h) X M (insS A S b s Ls Lg Lh lo m1 a0 a1 first xs os) := fun X hX => insS_Kp ⟨r2.1, r2.2.1, fun z => by have := hX s z; omega⟩ ⟨r5.1, r5.2.1, fun z => by have := hX Lh z; omega⟩ ⟨r4.1, r4.2.1, fun z => by have := hX Lg z; omega⟩ ⟨r9.1, r9.2.1⟩ (fun x hx => by have := hX x hx; omega) r10.2.1 (fun o ho => (Wi.2.2.1 o ho).2) (fun x hx => Wi.2.2.2.1 x hx)
  have kS1 := kS [f, Ll, Ls] (fun x hx => by simpa using hx)
  unfold T_anInstance_20 C_1_readInstance_90
  simp only [if_pos d7, if_pos d77, dN]
  have tfN : ∀ (p : Int) (τ : tS) (M' : Nat), Tfl τ N S b m p 0 M' → ndD σ0 τ M0 d0 → TFv N S b m 0 σ0 M0 d0 p ((T_takes 40 τ).bind fun p2 => if p2.1 = 0 then (T_needed 3 p2.2).bind fun p3 => T_anInstance_102 (d : Int) (ua p3.2 582 d p3.1) else (T_needed 3 p2.2).bind fun p4 => (om_loop (T_anInstance_61s (d : Int)) (ua (ua p4.2 582 d p4.1) 586 d (gs p4.2 432))).bind fun y5 => (T_need 41 y5).bind fun p6 => T_anInstance_102 (d : Int) p6) := fun p τ M' T D => Fd_takes T (by rw [if_pos rfl]; exact Fd_needed T (anInstance_102F (Tfl_ua T (by simp)) (ndD_ua D (by simp) hd.2) _))
  refine RD_gd (At_kd H) (RD_needK hG H Q (by omega) (e := 3) (by omega) rfl (fun c3 τ1 h1 H1 D1 X1 w1 z1 y1 => ?_) (fun p v τ T D => tfN p _ _ (Tfl_ua T (by simp)) (ndD_ua D (by simp) hd.2)))
  have hi1 := At_i H1
  have W1 := Kp_hx kS1 ht (Nat.le_refl _) X1 D1 W
  have I1 := insO_keep I (hx_same X1 (a := f) (by omega) (by omega))
  have Q1 : DS G t m Z pr σ0 M0 d0 h0 HZ HU 39 637 62 (i + 1) M τ1 h1 := DS_step Q D1 X1 (Nat.le_refl _) (by omega) (by omega) (by omega)
  rw [gd_pos ⟨I1.1.1, At_kd H1⟩]
  -- the class's great is told
  have HA : At G A t N S b m (i + 1) 0 M (ua τ1 578 d ((b + i : Nat) : Int)) (sR h1 1290 f (hz h)) := At_ua (At_sR H1 (by omega)) (by simp)
  obtain ⟨PA1, LA1⟩ := PL_sR (f := 1290) (a := f) (x := hz h) Q1.2.2.2.1 (by omega)
  have WA : insS A S b s Ls Lg Lh lo m1 a0 a1 first xs os (ua τ1 578 d ((b + i : Nat) : Int)) (sR h1 1290 f (hz h)) := Kp_ua kS1 (by simp) (Kp_sR kS1 (by simp) W1)
  have IA := insO_1290 (x := hz h) I1
  have CA : PC (sR h1 1290 f (hz h)) pr (updL Lf 86 f) := PC_sR (PC_hx C P0 X1) (by omega)
  have wA : wd (sR h1 1290 f (hz h)) A S (hz h) i := wd_same w1 ⟨rfl, fun _ => rfl, fun g => by rw [fR_na (by omega)], rfl, fun _ => rfl, rfl, rfl⟩
  have OsA : okV G (sR h1 1290 f (hz h)) Ls := okV_sR (okV_hx Os X1)
  have OseA : ll (sR h1 1290 f (hz h)) Ls = [] := by show ll h1 Ls = []; rw [X1.2.2.2.2.2.2.2.2.1 _ (by omega)]; exact Ose
  have OnA : okV G (sR h1 1290 f (hz h)) Ll := okV_sR (okV_hx On X1)
  have OeA : ll (sR h1 1290 f (hz h)) Ll = [] := by show ll h1 Ll = []; rw [X1.2.2.2.2.2.2.2.2.1 _ (by omega)]; exact Oe
  have zA : hz (sR h1 1290 f (hz h)) = hz h1 := rfl
  have yA : hu (sR h1 1290 f (hz h)) = hu h1 := rfl
  have q15 := Q1.2.2.2.2.1
  have q16 := Q1.2.2.2.2.2.1
  have q17 := Q1.2.2.2.2.2.2
  have QA : DS G t m Z pr σ0 M0 d0 h0 HZ HU 39 637 62 (i + 1) M (ua τ1 578 d ((b + i : Nat) : Int)) (sR h1 1290 f (hz h)) := ⟨ndD_ua Q1.1 (by simp) hd.2, q22, hp_sR Q1.2.2.1 r1.1, PA1, by omega, by omega, by omega⟩
  have daA : ∀ g ∈ DA, ga (ua τ1 578 d ((b + i : Nat) : Int)) g d = updD dv 578 ((b + i : Nat) : Int) g := fun g hg => updD_ua (by rw [D1.1.2 g (PA_DA hg)]; exact hdv g hg)
  have k3 := Cst_kind hG H1.2.1 (e := 3) (by decide)
  have t3 := kE_s (tokk_r S (i + 1)).1 (e := 3) (by decide)
  generalize sR h1 1290 f (hz h) = hA at *
  obtain ⟨ta1, ta2⟩ := t_takes HA.1 (k := 40) (by decide)
  by_cases cg : tokk S (i + 1) = 3
  · rw [if_neg (fun z => z (k3.mpr (t3.mpr cg))), ta2 (by omega)]
    simp only [Option.bind_some]
    rw [if_pos trivial]
    unfold C_1_readInstance_111
    refine RD_gd (At_kd HA) (RD_needK hG HA QA (by omega) (e := 3) (by omega) rfl (fun c4 τ2 h2 H2 D2 X2 w2 z2 y2 => ?_) (fun p v τ T D => anInstance_102F (Tfl_ua T (by simp)) (ndD_ua D (by simp) hd.2) _))
    have hi2 := At_i H2
    have W2 := Kp_hx kS1 ht (by omega) X2 D2 WA
    have I2 := insO_keep IA (hx_same X2 (a := f) (by omega) (by omega))
    rw [gd_pos I2.1.1]
    obtain ⟨P2, L2⟩ := PL_hx QA.2.2.2.1 X2
    obtain ⟨P3, L3⟩ := PL_sR (f := 1294) (a := f) (x := hz hA) P2 (by omega)
    have s3 : ∀ a, a ≠ f → sameA a h2 (sR h2 1294 f (hz hA)) := fun a ha => ⟨rfl, fun _ => rfl, fun g => by rw [fR_na ha], rfl, fun _ => rfl, rfl, rfl⟩
    have qA5 := QA.2.2.2.2.1
    have qA6 := QA.2.2.2.2.2.1
    have z3 : hz (sR h2 1294 f (hz hA)) = hz h2 := rfl
    have y3 : hu (sR h2 1294 f (hz hA)) = hu h2 := rfl
    refine inst_body (h := sR h2 1294 f (hz hA)) (cn := hz h) (con := hz hA) (jc := i) (jn := i + 1) (j1 := 0) (a2 := hz h0) (ws := []) (Lf := Lf) (dv := updD (updD dv 578 ((b + i : Nat) : Int)) 582 ((b + (i + 1) : Nat) : Int)) hG hN ht hpr hZ hd (by omega) (by omega) (by omega) (by omega) (by omega) (by omega) (by omega) (by omega) (by omega) (by omega) (by omega) (by omega) (fun w hw => absurd hw List.not_mem_nil) (At_ua (At_sR H2 (by omega)) (by simp)) ⟨ndD_ua (ndD_nd QA.1 D2 q22) (by simp) hd.2, q22, hp_sR (hp_trans QA.2.2.1 (hx_hp X2)) r1.1, P3, by omega, by omega, by omega⟩ (Kp_ua kS1 (by simp) (Kp_sR kS1 (by simp) W2)) (insO_1294 I2) ⟨wd_same (wd_same wA (hx_same X2 (by omega) (by omega))) (s3 _ (by omega)), c3⟩ ⟨wd_same w2 (s3 _ (by omega)), c4⟩ ⟨(okV_hx OsA X2).2.1, by show ll h2 Ls = []; rw [X2.2.2.2.2.2.2.2.2.1 _ (by omega)]; exact OseA, trivial⟩ (okV_sR (okV_hx OnA X2)) (by show ll h2 Ll = []; rw [X2.2.2.2.2.2.2.2.2.1 _ (by omega)]; exact OeA) (PC_sR (PC_hx CA PA1 X2) (by omega)) (fun g hg _ => updD_ua (by rw [D2.1.2 g (PA_DA hg)]; exact daA g hg)) ?_ ?_
    · rw [updD_ua (dv := updD dv 578 ((b + i : Nat) : Int)) (by rw [D2.1.2 602 (PA_DA (by simp))]; exact daA 602 (by simp))]
      simp [updD]; exact hv.2.2.2.1
    · simp [updD]
      exact ⟨hv.1, hv.2.1, hv.2.2.1, hv.2.2.2.2⟩
  · rw [if_pos (fun z => cg (t3.mp (k3.mp z)))]
    unfold C_1_readInstance_125
    obtain ⟨ca1, ca2⟩ := c_need2 hG HA.2.1 (v := 40) (by omega)
    rw [show sc 40 = 40 by decide] at ca1 ca2
    rw [gd_pos (At_kd HA)]
    by_cases c40 : tokk S (i + 1) = 40
    · obtain ⟨τ2, u1, u2, u3⟩ := ta1 c40
      obtain ⟨h2, v1, v2, v3⟩ := ca1 c40
      rw [u1, v1, xc_v]
      simp only [Option.bind_some]
      rw [if_neg (by decide)]
      have H2 := At_onlyT HA v3 v2 u2
      have hi2 := At_i H2
      have z2 : hz h2 = hz hA := v3.2.2.2.2.2.2.2.2.1
      have y2 : hu h2 = hu hA := v3.2.2.2.2.2.2.2.2.2.1
      have X2 := hx_onlyT v3
      have Q2 : DS G t m Z pr σ0 M0 d0 h0 HZ HU 59 937 64 (i + 1 + 1) M τ2 h2 := DS_step QA u3 X2 (Nat.le_refl _) (by omega) (by omega) (by omega)
      refine RD_gd (At_kd H2) (RD_needK hG H2 Q2 (by omega) (e := 3) (by omega) rfl (fun c4 τ3 h3 H3 D3 X3 w3 z3 y3 => ?_) (fun p v τ T D => TNi_F (Tfl_ua (Tfl_ua T (by simp)) (by simp)) (ndD_ua (ndD_ua D (by simp) hd.2) (by simp) hd.2)))
      have hi3 := At_i H3
      have X13 := hx_trans X2 X3
      have N3 := nd_trans u3 D3 (Nat.le_refl M)
      have W3 := Kp_hx kS1 ht (by omega) X13 N3 WA
      have I3 := insO_keep IA (hx_same X13 (a := f) (by omega) (by omega))
      rw [gd_pos I3.1.1]
      obtain ⟨P3, L3⟩ := PL_hx Q2.2.2.2.1 X3
      obtain ⟨P4, L4⟩ := PL_sR (f := 1294) (a := f) (x := hz h2) P3 (by omega)
      have s4 : ∀ a, a ≠ f → sameA a h3 (sR h3 1294 f (hz h2)) := fun a ha => ⟨rfl, fun _ => rfl, fun g => by rw [fR_na ha], rfl, fun _ => rfl, rfl, rfl⟩
      have e586 : gs τ3 432 = ((b + (i + 1 + 1 + 1) : Nat) : Int) := H3.1.2.1
      rw [e586]
      have W4 : insS A S b s Ls Lg Lh lo m1 a0 a1 first xs os (ua (ua τ3 582 d ((b + (i + 1 + 1) : Nat) : Int)) 586 d ((b + (i + 1 + 1 + 1) : Nat) : Int)) (sR h3 1294 f (hz h2)) := Kp_ua kS1 (by simp) (Kp_ua kS1 (by simp) (Kp_sR kS1 (by simp) W3))
      have I4 := insO_1294 (x := hz h2) I3
      have wc4 : wd (sR h3 1294 f (hz h2)) A S (hz h) i := wd_same (wd_same wA (hx_same X13 (by omega) (by omega))) (s4 _ (by omega))
      have wn4 : wd (sR h3 1294 f (hz h2)) A S (hz h2) (i + 1 + 1) := wd_same w3 (s4 _ (by omega))
      have Os4 : okV G (sR h3 1294 f (hz h2)) Ls := okV_sR (okV_hx OsA X13)
      have Ose4 : ll (sR h3 1294 f (hz h2)) Ls = [] := by show ll h3 Ls = []; rw [X13.2.2.2.2.2.2.2.2.1 _ (by omega)]; exact OseA
      have On4 : okV G (sR h3 1294 f (hz h2)) Ll := okV_sR (okV_hx OnA X13)
      have Oe4 : ll (sR h3 1294 f (hz h2)) Ll = [] := by show ll h3 Ll = []; rw [X13.2.2.2.2.2.2.2.2.1 _ (by omega)]; exact OeA
      have C4 : PC (sR h3 1294 f (hz h2)) pr (updL Lf 86 f) := PC_sR (PC_hx CA PA1 X13) (by omega)
      have z4 : hz (sR h3 1294 f (hz h2)) = hz h3 := rfl
      have y4 : hu (sR h3 1294 f (hz h2)) = hu h3 := rfl
      have q25 := Q2.2.2.2.2.1
      have q26 := Q2.2.2.2.2.2.1
      have q27' := Q2.2.2.2.2.2.2
      have H4 : At G A t N S b m (i + 1 + 1 + 1) 0 M (ua (ua τ3 582 d ((b + (i + 1 + 1) : Nat) : Int)) 586 d ((b + (i + 1 + 1 + 1) : Nat) : Int)) (sR h3 1294 f (hz h2)) := At_ua (At_ua (At_sR H3 (by omega)) (by simp)) (by simp)
      have hp4 : hp Z t h0 (sR h3 1294 f (hz h2)) := hp_sR (hp_trans Q2.2.2.1 (hx_hp X3)) r1.1
      have nd4 : ndD σ0 (ua (ua τ3 582 d ((b + (i + 1 + 1) : Nat) : Int)) 586 d ((b + (i + 1 + 1 + 1) : Nat) : Int)) M0 d0 := ndD_ua (ndD_ua (ndD_nd Q2.1 D3 q22) (by simp) hd.2) (by simp) hd.2
      have da4 : ∀ g ∈ DA, ga (ua (ua τ3 582 d ((b + (i + 1 + 1) : Nat) : Int)) 586 d ((b + (i + 1 + 1 + 1) : Nat) : Int)) g d = updD (updD (updD dv 578 ((b + i : Nat) : Int)) 582 ((b + (i + 1 + 1) : Nat) : Int)) 586 ((b + (i + 1 + 1 + 1) : Nat) : Int) g := fun g hg => updD_ua (updD_ua (by rw [N3.1.2 g (PA_DA hg)]; exact daA g hg))
      generalize sR h3 1294 f (hz h2) = h4 at *
      generalize ua (ua τ3 582 d ((b + (i + 1 + 1) : Nat) : Int)) 586 d ((b + (i + 1 + 1 + 1) : Nat) : Int) = υ4 at *
      show RD G A t N S b m 0 Z pr σ0 M0 d0 h0 HZ HU (fun τ : tS => τ) _ (TNi (d : Int) υ4) (CNi G t f h4)
      refine inst_names (cn := hz h) (con := hz h2) (jc := i) (jn := i + 1 + 1) (Lf := Lf) (dv := updD (updD (updD dv 578 ((b + i : Nat) : Int)) 582 ((b + (i + 1 + 1) : Nat) : Int)) 586 ((b + (i + 1 + 1 + 1) : Nat) : Int)) hG hN ht hpr hZ hd (by omega) ⟨r1.1, by omega, r1.2.2.1, r1.2.2.2.1, r1.2.2.2.2.1, r1.2.2.2.2.2.1, r1.2.2.2.2.2.2, by omega, by omega⟩ ⟨r2.1, by omega, r2.2.2⟩ ⟨r3.1, by omega, r3.2.2⟩ ⟨r4.1, by omega, r4.2.2⟩ ⟨r5.1, by omega, r5.2.2⟩ ⟨r6.1, by omega⟩ ⟨by omega, by omega, by omega, by omega⟩ ⟨by omega, by omega, by omega, by omega⟩ ⟨r9.1, by omega, r9.2.2⟩ r10 H4 ⟨nd4, q22, hp4, P4, by omega, by omega, by omega⟩ W4 I4 ⟨wc4, c3⟩ ⟨wn4, c4⟩ Os4 Ose4 On4 Oe4 C4 da4 ?_
      simp [updD]
      exact ⟨hv.1, hv.2.1, hv.2.2.1, hv.2.2.2.1, hv.2.2.2.2⟩
    · obtain ⟨e, h2, v1, v2, v3, v4, v5⟩ := ca2 c40
      rw [ta2 c40, v1]
      simp only [Option.bind_some]
      rw [if_pos trivial]
      obtain ⟨τ2, u1, u2, u3⟩ := (t_needed HA.1 (k := 3) (by decide)).2 cg
      rw [u1]
      exact RD_fault QA (by omega) (Nat.le_refl _) hi1 (anInstance_102F (Tfl_ua u2 (by simp)) (ndD_ua (ndD_nd QA.1 u3 q22) (by simp) hd.2) _) rfl v2 v3 (by omega) (by omega)
end LI3
