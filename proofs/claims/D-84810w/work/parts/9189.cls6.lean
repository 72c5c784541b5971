set_option maxRecDepth 100000
section LK6
variable {G : om_G} {A t : Nat} {N : List (List Int)} {S : List Int} {b m i : Nat} {n : Int} {M : Nat} {σ τ : tS} {h h' h1 h2 : om_H} {c pr : Nat} {Z Z' : Nat → Prop}
variable {σ0 : tS} {M0 d0 : Nat} {h0 : om_H} {HZ HU sz su sM : Nat}
theorem RD_mono {ρ β : Type} {st : ρ → tS} {P P' : Nat → Nat → ρ → om_H → β → Prop} {X : Option ρ} {Y : Option ((Nat ⊕ β) × om_H)} (R : RD G A t N S b m n Z pr σ0 M0 d0 h0 HZ HU st P X Y) (hP : ∀ j M' r h' w, P j M' r h' w → P' j M' r h' w) : RD G A t N S b m n Z pr σ0 M0 d0 h0 HZ HU st P' X Y := by
  rcases R with ⟨j, M', r, h', w, q1, q2, q3, q4⟩ | R
  · exact .inl ⟨j, M', r, h', w, q1, q2, q3, hP _ _ _ _ _ q4⟩
  · exact .inr R
/-- a class and its words -/
def clsΦ (A : Nat) (S : List Int) (c w1 w2 Lm Ln ar ab fam : Nat) (pl nb : Int) (wl : List (Nat × Nat)) (h : om_H) : Prop := clsO h c w1 w2 Lm Ln ar ab fam pl nb ∧ ∀ q ∈ wl, wd h A S q.1 q.2
theorem wd_same {a j : Nat} (w : wd h A S a j) (s : sameA a h h') : wd h' A S a j := ⟨by rw [s.1]; exact w.1, by rw [s.2.2.1]; exact w.2.1, by rw [s.2.1]; exact w.2.2.1, by rw [s.2.1]; exact w.2.2.2⟩
theorem clsΦ_keep {z0 am w1 w2 Lm Ln ar ab fam : Nat} {pl nb : Int} {wl : List (Nat × Nat)} (r1 : z0 ≤ c ∧ c < am ∧ c ≠ Lm) (r2 : z0 ≤ Ln ∧ Ln < am ∧ Ln ≠ Lm) (r3 : z0 ≤ ar ∧ ar < am ∧ ar ≠ Lm) (r4 : ∀ q ∈ wl, z0 ≤ q.1 ∧ q.1 < am ∧ q.1 ≠ Lm) (h h' : om_H) (s : ∀ a, z0 ≤ a → a < am → a ≠ Lm → sameA a h h') (w : clsΦ A S c w1 w2 Lm Ln ar ab fam pl nb wl h) : clsΦ A S c w1 w2 Lm Ln ar ab fam pl nb wl h' :=
  ⟨clsO_keep w.1 (s c r1.1 r1.2.1 r1.2.2) (s Ln r2.1 r2.2.1 r2.2.2) (s ar r3.1 r3.2.1 r3.2.2), fun q hq => wd_same (w.2 q hq) (s q.1 (r4 q hq).1 (r4 q hq).2.1 (r4 q hq).2.2)⟩
theorem mL_nil {Lf : Nat → List Nat} (f : Nat) : mL Lf h [] f = Lf f := by
  unfold mL
  by_cases f98 : f = 98
  · rw [if_pos f98, f98]; simp
  · rw [if_neg f98]
    by_cases f106 : f = 106
    · rw [if_pos f106, f106]; simp
    · rw [if_neg f106]
      by_cases f110 : f = 110
      · rw [if_pos f110, f110]; simp
      · rw [if_neg f110]
/-- what comes of the methods -/
def clsM (G : om_G) (A t : Nat) (S : List Int) (b m : Nat) (Z : Nat → Prop) (pr : Nat) (σ0 : tS) (M0 d0 : Nat) (h0 : om_H) (HZ HU Mb ib c w1 w2 Lm Ln ar ab fam d : Nat) (pl nb : Int) (wl : List (Nat × Nat)) (Lf : Nat → List Nat) (dv : Nat → Int) (j M' : Nat) (τ : tS) (h' : om_H) : Prop :=
  ib ≤ j ∧ DSL G t m Z pr σ0 M0 d0 h0 HZ HU Lm 20 300 60 j M' τ h' ∧ (∃ am ms ns, (∀ q ∈ wl, hz h0 ≤ q.1 ∧ q.1 < am ∧ q.1 ≠ Lm) ∧ (hz h0 ≤ Ln ∧ Ln < am) ∧ (hz h0 ≤ ar ∧ ar < am) ∧ MB G A S b (hz h0) Mb am c d Lm pr Lf dv (clsΦ A S c w1 w2 Lm Ln ar ab fam pl nb wl) M' τ h' ms ns) ∧ ∀ f ∈ PFs, (ll h' (fR h' f pr)).length ≤ j
theorem cls_enter (hG : om_okG G) (hn : 0 ≤ n ∧ n ≤ 20) {d Lm Ln ar w1 w2 ab fam ib : Nat} {pl nb : Int} {wl : List (Nat × Nat)} {Lf : Nat → List Nat} {dv : Nat → Int} (ht : t < hz h0) (hpr : pr < hz h0) (hZ : ∀ a, Z a → a < hz h0) (hd : d < 700 ∧ d0 ≤ d) (hib : ib ≤ i)
    (H : At G A t N S b m i n M σ h) (Q : DS G t m Z pr σ0 M0 d0 h0 HZ HU 20 340 60 i M σ h) (O : okV G h Lm) (Oe : ll h Lm = []) (W : clsΦ A S c w1 w2 Lm Ln ar ab fam pl nb wl h)
    (r1 : hz h0 ≤ c ∧ c < hz h ∧ c ≠ Lm) (r2 : hz h0 ≤ Ln ∧ Ln < hz h ∧ Ln ≠ Lm) (r3 : hz h0 ≤ ar ∧ ar < hz h ∧ ar ≠ Lm) (r4 : ∀ q ∈ wl, hz h0 ≤ q.1 ∧ q.1 < hz h ∧ q.1 ≠ Lm) (r5 : hz h0 ≤ Lm)
    (hL : ∀ f ∈ PFs, ll h (fR h f pr) = Lf f) (hdv : ∀ f ∈ DA, f ≠ 602 → ga σ f d = dv f) (h602 : ga σ 602 d = -1) (hln : ∀ f ∈ PFs, (ll h (fR h f pr)).length ≤ i) :
    RD G A t N S b m n Z pr σ0 M0 d0 h0 HZ HU (fun τ : tS => τ) (fun j M' τ h' _ => clsM G A t S b m Z pr σ0 M0 d0 h0 HZ HU M ib c w1 w2 Lm Ln ar ab fam d pl nb wl Lf dv j M' τ h') (TCl (d : Int) (-1, σ)) (CCl G pr t c h) := by
  have OL := O.1
  obtain ⟨q1, q2, q3, q4, q5, q6, q7⟩ := Q
  have kc : kd h c = 18 ∧ fR h 1230 c = Lm := ⟨W.1.1.1, W.1.2.2.1.1⟩
  refine RD_mono (cls_loop (c := c) (am := hz h) (Mb := M) (Lm := Lm) (ib := ib) (Lf := Lf) (dv := dv) (Φ := clsΦ A S c w1 w2 Lm Ln ar ab fam pl nb wl) hG hn ht hpr hZ hd q2 (clsΦ_keep (z0 := hz h0) r1 r2 r3 r4) (m - i + 1) i M σ h (-1) [] [] (by omega) hib H ⟨q1, q2, q3, q4, q5, by rw [Oe]; simp only [List.length_nil]; omega, q7⟩ ⟨by omega, kc, O, Oe, ⟨rfl, Nat.le_refl _⟩, h602, fun x hx => absurd hx List.not_mem_nil, fun f hf => by rw [mL_nil]; exact hL f hf, hdv, W⟩ (.inl ⟨rfl, rfl, h602⟩) hln) (fun j M' τ h' _ ⟨p1, p2, ⟨ms, ns, p3⟩, p4⟩ => ⟨p1, p2, ⟨hz h, ms, ns, r4, ⟨r2.1, r2.2.1⟩, ⟨r3.1, r3.2.1⟩, p3⟩, p4⟩)
/-- what comes of a class's body: with a family or without -/
def clsB (G : om_G) (A t : Nat) (S : List Int) (b m : Nat) (Z : Nat → Prop) (pr : Nat) (σ0 : tS) (M0 d0 : Nat) (h0 : om_H) (HZ HU Mb ib c w1 w2 Lm Ln ar ab d : Nat) (pl nb : Int) (wl : List (Nat × Nat)) (Lf : Nat → List Nat) (dv : Nat → Int) (j M' : Nat) (τ : tS) (h' : om_H) : Prop :=
  clsM G A t S b m Z pr σ0 M0 d0 h0 HZ HU Mb ib c w1 w2 Lm Ln ar ab 0 d pl nb wl Lf dv j M' τ h' ∨
  ∃ fam jf : Nat, (fam ≠ 0 ∧ ib + 2 ≤ jf) ∧ tokk S jf = 3 ∧ clsM G A t S b m Z pr σ0 M0 d0 h0 HZ HU Mb ib c w1 w2 Lm Ln ar ab fam d pl nb ((fam, jf) :: wl) (fun f => if f = 94 then Lf 94 ++ [fam] else if f = 102 then Lf 102 ++ [c] else Lf f) (fun f => if f = 610 then ((b + jf : Nat) : Int) else dv f) j M' τ h'
set_option maxHeartbeats 1000000 in
theorem cls_88 (hG : om_okG G) (hn : 0 ≤ n ∧ n ≤ 20) {d Lm Ln ar w1 w2 ab ib : Nat} {pl nb : Int} {wl : List (Nat × Nat)} {Lf : Nat → List Nat} {dv : Nat → Int} (ht : t < hz h0) (hpr : pr < hz h0) (hZ : ∀ a, Z a → a < hz h0) (hd : d < 700 ∧ d0 ≤ d) (hib : ib ≤ i)
    (H : At G A t N S b m i n M σ h) (Q : DS G t m Z pr σ0 M0 d0 h0 HZ HU 40 400 60 i M σ h) (O : okV G h Lm) (Oe : ll h Lm = []) (W : clsΦ A S c w1 w2 Lm Ln ar ab 0 pl nb wl h)
    (r1 : hz h0 ≤ c ∧ c < hz h ∧ c ≠ Lm) (r2 : hz h0 ≤ Ln ∧ Ln < hz h ∧ Ln ≠ Lm) (r3 : hz h0 ≤ ar ∧ ar < hz h ∧ ar ≠ Lm) (r4 : ∀ q ∈ wl, hz h0 ≤ q.1 ∧ q.1 < hz h ∧ q.1 ≠ Lm ∧ q.1 ≠ c) (r5 : hz h0 ≤ Lm) (r6 : c ≠ Ln ∧ c ≠ ar)
    (hL : ∀ f ∈ PFs, ll h (fR h f pr) = Lf f) (hdv : ∀ f ∈ DA, f ≠ 602 → ga σ f d = dv f) (h602 : ga σ 602 d = -1) (hln : ∀ f ∈ PFs, (ll h (fR h f pr)).length ≤ i) :
    RD G A t N S b m n Z pr σ0 M0 d0 h0 HZ HU (fun τ : tS => τ) (fun j M' τ h' _ => clsB G A t S b m Z pr σ0 M0 d0 h0 HZ HU M ib c w1 w2 Lm Ln ar ab d pl nb wl Lf dv j M' τ h') (T_aClass_42 (d : Int) σ) (C_1_readClass_88 G pr t c h) := by
  have OL := O.1
  have htz := At_t H
  unfold T_aClass_42 C_1_readClass_88
  refine RD_gd (At_kd H) (RD_need hG H Q (by omega) (.inr (.inr (by omega))) (by decide) (by decide) (fun q1 τ1 h1 H1 D1 X1 => ?_) (fun p τ T D => Fd_takes T (by rw [if_pos rfl]; exact aClass_74F T D _)))
  have hi1 := At_i H1
  have z1 : hz h1 = hz h := X1.2.2.2.2.2.2.2.2.1
  have y1 : hu h1 = hu h := X1.2.2.2.2.2.2.2.2.2.1
  have X1x := hx_onlyT X1
  have Q1 : DS G t m Z pr σ0 M0 d0 h0 HZ HU 60 700 62 (i + 1) M τ1 h1 := DS_step Q D1 X1x (Nat.le_refl _) (by omega) (by omega) (by omega)
  have s1 : ∀ a, a < hz h → a ≠ t → sameA a h h1 := fun a q r => hx_same X1x q r
  have P0 := Q.2.2.2.1
  have pf1 : ∀ f, fR h1 f pr = fR h f pr := fun f => (s1 pr P0.1.2.1 P0.1.2.2).2.2.1 f
  have W1 : clsΦ A S c w1 w2 Lm Ln ar ab 0 pl nb wl h1 := clsΦ_keep (z0 := hz h0) (am := hz h) r1 r2 r3 (fun q hq => ⟨(r4 q hq).1, (r4 q hq).2.1, (r4 q hq).2.2.1⟩) h h1 (fun a q r _ => s1 a r (by omega)) W
  have hL1 : ∀ f ∈ PFs, ll h1 (fR h1 f pr) = Lf f := fun f hf => by rw [pf1, X1.2.2.2.2.2.2.1]; exact hL f hf
  have hln1 : ∀ f ∈ PFs, (ll h1 (fR h1 f pr)).length ≤ i := fun f hf => by rw [pf1, X1.2.2.2.2.2.2.1]; exact hln f hf
  have da1 : ∀ f ∈ DA, ga τ1 f d = ga σ f d := fun f hf => D1.1.2 f (PA_DA hf) d
  have O1 := okV_hx O X1x
  have Oe1 : ll h1 Lm = [] := by rw [X1.2.2.2.2.2.2.1]; exact Oe
  rw [gd_pos (At_kd H1)]
  obtain ⟨ta1, ta2⟩ := t_takes H1.1 (k := 7) (by decide)
  obtain ⟨ca1, ca2⟩ := c_passes hG H1.2.1 (j := 12) (kk := 7) (bs := [116, 121, 112, 101]) (by rfl) (by decide)
  by_cases c7 : tokk S (i + 1) = 7
  · obtain ⟨τ2, u1, u2, u3⟩ := ta1 c7
    obtain ⟨h2, v1, v2, v3⟩ := ca1 c7
    rw [u1, v1]
    simp only [Option.bind_some]
    rw [if_neg (by decide), if_neg (by decide)]
    have H2 := At_onlyT H1 v3 v2 u2
    have hi2 := At_i H2
    have z2 : hz h2 = hz h1 := v3.2.2.2.2.2.2.2.2.1
    have y2 : hu h2 = hu h1 := v3.2.2.2.2.2.2.2.2.2.1
    have X2x := hx_onlyT v3
    have Q2 : DS G t m Z pr σ0 M0 d0 h0 HZ HU 80 1000 64 (i + 1 + 1) M τ2 h2 := DS_step Q1 u3 X2x (Nat.le_refl _) (by omega) (by omega) (by omega)
    refine RD_gd (At_kd H2) (RD_needK hG H2 Q2 (by omega) (e := 3) (by omega) rfl (fun q3 τ3 h3 H3 D3 X3 w3 z3 y3 => ?_) (fun p v τ T D => by rw [if_pos (by omega)]; exact Fd_need (Tfl_ua T (by simp)) (aClass_74F (Tfl_ua T (by simp)) (ndD_ua D (by simp) (by omega)) _)))
    have hi3 := At_i H3
    rw [if_pos (by omega), show ((d : Int)).toNat = d by omega]
    have X13 := hx_trans X2x X3
    have s3 : ∀ a, a < hz h1 → a ≠ t → sameA a h1 h3 := fun a q r => hx_same X13 q r
    obtain ⟨P3, L3⟩ := PL_hx Q2.2.2.2.1 X3
    have pf3 : ∀ f, fR h3 f pr = fR h1 f pr := fun f => (s3 pr Q1.2.2.2.1.1.2.1 P0.1.2.2).2.2.1 f
    have pl3 : ∀ f ∈ PFs, ll h3 (fR h1 f pr) = Lf f := fun f hf => by rw [X13.2.2.2.2.2.2.2.2.1 _ (Q1.2.2.2.1.2.1 f hf).1.1]; exact hL1 f hf
    have W3 := clsΦ_keep (z0 := hz h0) (am := hz h1) (by omega) (by omega) (by omega) (fun q hq => ⟨(r4 q hq).1, by have := (r4 q hq).2.1; omega, (r4 q hq).2.2.1⟩) h1 h3 (fun a q r _ => s3 a r (by omega)) W1
    -- the family's word
    have F4 : hp Z c h3 (sR h3 1214 c (hz h2)) := hp_sRx h3
    obtain ⟨P4, L4⟩ := PL_sR (f := 1214) (a := c) (x := hz h2) P3 (by omega)
    have pf4 : ∀ f, fR (sR h3 1214 c (hz h2)) f pr = fR h1 f pr := fun f => by rw [fR_na (by omega)]; exact pf3 f
    have e14 : fR (sR h3 1214 c (hz h2)) 1214 c = hz h2 := fR_eq
    have W4 : clsΦ A S c w1 w2 Lm Ln ar ab (hz h2) pl nb ((hz h2, i + 1 + 1) :: wl) (sR h3 1214 c (hz h2)) := by
      obtain ⟨⟨⟨b1, b2, b3, b4, b5, b6⟩, b7, b8, b9, b10⟩, b11⟩ := W3
      refine ⟨⟨⟨b1, b2, b3, by rw [fR_ne (by decide)]; exact b4, by rw [fR_ne (by decide)]; exact b5, fR_eq⟩, ⟨b7.1, b7.2.1, by rw [fR_ne (by decide)]; exact b7.2.2⟩, ⟨by rw [fR_ne (by decide)]; exact b8.1, by rw [fR_ne (by decide)]; exact b8.2.1, by rw [fR_ne (by decide)]; exact b8.2.2⟩, b9, b10⟩, fun q hq => ?_⟩
      have sa : ∀ a, a ≠ c → sameA a h3 (sR h3 1214 c (hz h2)) := fun a ha => ⟨rfl, fun _ => rfl, fun f => by rw [fR_na ha], rfl, fun _ => rfl, rfl, rfl⟩
      rcases List.mem_cons.mp hq with rfl | hq
      · exact wd_same w3 (sa _ (by show hz h2 ≠ c; omega))
      · exact wd_same (b11 q hq) (sa _ (r4 q hq).2.2.2)
    have kc3 : kd h3 c = 18 := W3.1.1.1
    rw [gd_pos ⟨kc3, P3.1.1, kc3, (P3.2.1 94 (by simp)).1.2.1⟩, e14, pf3]
    have O4 : okV G (sR h3 1214 c (hz h2)) Lm := okV_sR (okV_hx O1 X13)
    have Oe4 : ll (sR h3 1214 c (hz h2)) Lm = [] := by show ll h3 Lm = []; rw [X13.2.2.2.2.2.2.2.2.1 _ (by omega)]; exact Oe1
    have pl4 : ∀ f ∈ PFs, ll (sR h3 1214 c (hz h2)) (fR h1 f pr) = Lf f := pl3
    have z4 : hz (sR h3 1214 c (hz h2)) = hz h3 := rfl
    have y4 : hu (sR h3 1214 c (hz h2)) = hu h3 := rfl
    have k4 : ∀ a, kd (sR h3 1214 c (hz h2)) a = kd h3 a := fun _ => rfl
    have H4 : At G A t N S b m (i + 1 + 1 + 1) n M (ua τ3 610 d ((b + (i + 1 + 1) : Nat) : Int)) (sR h3 1214 c (hz h2)) := At_ua (At_sR H3 (by omega)) (by simp)
    have Zf : ∀ f ∈ PFs, Z (fR h1 f pr) := fun f hf => (Q1.2.2.2.1.2.1 f hf).2
    have hwk : kd h3 (hz h2) = 17 := w3.1
    generalize sR h3 1214 c (hz h2) = h4 at *
    obtain ⟨h5, b1, b2, b3, b4, b5, b6, b7, b8⟩ := PL_add (f := 94) (x := hz h2) P4 (by simp) (.inl ⟨by omega, by rw [k4]; omega, by rw [k4]; omega⟩) (by rw [pf4, pl4 94 (by simp), ← hL1 94 (by simp)]; have := hln1 94 (by simp); have := H.1.1.2.1; omega)
    rw [pf4] at b1 b2 b5
    obtain ⟨h6, e1, e2, e3, e4, e5, e6, e7, e8⟩ := PL_add (f := 102) (x := c) b3 (by simp) (.inl ⟨by have := b2.1; omega, by rw [b2.2.2.1 c (by omega), k4]; omega, by rw [b2.2.2.1 c (by omega), k4]; omega⟩) (by rw [b4, b6 102 (by simp) (by decide), pf4, pl4 102 (by simp), ← hL1 102 (by simp)]; have := hln1 102 (by simp); have := H.1.1.2.1; omega)
    rw [b4, pf4] at e1 e2 e5
    rw [b1]
    simp only [Option.bind_some]
    rw [gd_pos ⟨b3.1.1, (b3.2.1 102 (by simp)).1.2.1⟩, b4, pf4, e1]
    simp only [Option.bind_some]
    have z45 := b2.1
    have z56 := e2.1
    have F6 := hp_trans (hp_trans F4 (hxL_hp (Z := Z) (t := c) b2 (Zf 94 (by simp)))) (hxL_hp (Z := Z) (t := c) e2 (Zf 102 (by simp)))
    have H6 : At G A t N S b m (i + 1 + 1 + 1) n M (ua τ3 610 d ((b + (i + 1 + 1) : Nat) : Int)) h6 := hxL_At (hxL_At H4 b2) e2
    have nZ : ∀ a f, hz h0 ≤ a → f ∈ PFs → a ≠ fR h1 f pr := fun a f q hf z => by have := hZ _ (Zf f hf); omega
    have s6 : ∀ a, hz h0 ≤ a → a < hz h4 → sameA a h4 h6 := fun a q r => sameA_trans (hxL_same b2 (by omega) (nZ a 94 q (by simp))) (hxL_same e2 (by omega) (nZ a 102 q (by simp)))
    have pf6 : ∀ f, fR h6 f pr = fR h1 f pr := fun f => by rw [e4, b4, pf4]
    have pl6 : ∀ f ∈ PFs, ll h6 (fR h1 f pr) = if f = 94 then Lf 94 ++ [hz h2] else if f = 102 then Lf 102 ++ [c] else Lf f := by
      intro f hf
      by_cases f94 : f = 94
      · rw [if_pos f94, f94]
        have := e6 94 (by simp) (by decide)
        rw [b4, pf4] at this
        rw [this, b5, pl4 94 (by simp)]
      · rw [if_neg f94]
        by_cases f102 : f = 102
        · rw [if_pos f102, f102, e5]
          have := b6 102 (by simp) (by decide)
          rw [pf4] at this
          rw [this, pl4 102 (by simp)]
        · rw [if_neg f102]
          have := e6 f hf f102
          rw [b4, pf4] at this
          rw [this]
          have := b6 f hf f94
          rw [pf4] at this
          rw [this, pl4 f hf]
    have hp6 : hp Z t h0 h6 := hp_hpO (hp_trans Q2.2.2.1 (hx_hp X3)) F6 r1.1 (fun a z => .inl z)
    have q21 := Q2.1
    have q22 := Q2.2.1
    have q25 := Q2.2.2.2.2.1
    have q26 := Q2.2.2.2.2.2.1
    have q27 := Q2.2.2.2.2.2.2
    have Q6 : DS G t m Z pr σ0 M0 d0 h0 HZ HU 90 1200 64 (i + 1 + 1 + 1) M (ua τ3 610 d ((b + (i + 1 + 1) : Nat) : Int)) h6 := ⟨ndD_ua (ndD_nd q21 D3 q22) (by simp) hd.2, q22, hp6, e3, by omega, by omega, by omega⟩
    refine RD_gd (At_kd H6) (RD_need hG H6 Q6 (by omega) (.inr (.inr (by omega))) (by decide) (by decide) (fun q7 τ7 h7 H7 D7 X7 => ?_) (fun p τ T D => aClass_74F T D _))
    have hi7 := At_i H7
    have z7 : hz h7 = hz h6 := X7.2.2.2.2.2.2.2.2.1
    have y7 : hu h7 = hu h6 := X7.2.2.2.2.2.2.2.2.2.1
    have X7x := hx_onlyT X7
    have Q7 : DS G t m Z pr σ0 M0 d0 h0 HZ HU 20 340 60 (i + 1 + 1 + 1 + 1) M τ7 h7 := DS_step Q6 D7 X7x (Nat.le_refl _) (by omega) (by omega) (by omega)
    have s7 : ∀ a, hz h0 ≤ a → a < hz h4 → sameA a h4 h7 := fun a q r => sameA_trans (s6 a q r) (hx_same X7x (by omega) (by omega))
    have rr4 : ∀ q ∈ (hz h2, i + 1 + 1) :: wl, hz h0 ≤ q.1 ∧ q.1 < hz h4 ∧ q.1 ≠ Lm := fun q hq => by
      rcases List.mem_cons.mp hq with rfl | hq
      · show hz h0 ≤ hz h2 ∧ hz h2 < hz h4 ∧ hz h2 ≠ Lm; omega
      · have := r4 q hq; omega
    have W7 := clsΦ_keep (z0 := hz h0) (am := hz h4) (by omega) (by omega) (by omega) rr4 h4 h7 (fun a q r _ => s7 a q r) W4
    have O7 : okV G h7 Lm := okV_hx (okV_hxL (okV_hxL O4 (nZ _ 94 r5 (by simp)) b2) (nZ _ 102 r5 (by simp)) e2) X7x
    have pf7 : ∀ f, fR h7 f pr = fR h1 f pr := fun f => by rw [(hx_same X7x e3.1.2.1 e3.1.2.2).2.2.1, pf6]
    have da7 : ∀ f ∈ DA, ga τ7 f d = ga (ua τ3 610 d ((b + (i + 1 + 1) : Nat) : Int)) f d := fun f hf => D7.1.2 f (PA_DA hf) d
    have da3 : ∀ f ∈ DA, ga τ3 f d = ga σ f d := fun f hf => by rw [D3.1.2 f (PA_DA hf), u3.1.2 f (PA_DA hf), da1 f hf]
    refine RD_mono (cls_enter (M := M) (ib := ib) (Lf := fun f => if f = 94 then Lf 94 ++ [hz h2] else if f = 102 then Lf 102 ++ [c] else Lf f) (dv := fun f => if f = 610 then ((b + (i + 1 + 1) : Nat) : Int) else dv f) hG hn ht hpr hZ hd (by omega) H7 Q7 O7 (by rw [(s7 Lm r5 (by omega)).2.2.2.2.2.1]; exact Oe4) W7 (by omega) (by omega) (by omega) (fun q hq => by have := rr4 q hq; omega) r5 (fun f hf => by rw [pf7, X7.2.2.2.2.2.2.1]; exact pl6 f hf) (fun f hf c6 => ?_) ?_ (fun f hf => ?_)) (fun j M' τ h' _ w => .inr ⟨hz h2, i + 1 + 1, ⟨by omega, by omega⟩, q3, w⟩)
    · rw [da7 f hf, ga_ua]
      by_cases c610 : f = 610
      · rw [if_pos ⟨c610, rfl⟩, if_pos c610]
      · rw [if_neg (fun z => c610 z.1), if_neg c610, da3 f hf]; exact hdv f hf c6
    · rw [da7 602 (by simp), ga_ua, if_neg (by omega), da3 602 (by simp)]; exact h602
    · rw [pf7, X7.2.2.2.2.2.2.1, pl6 f hf]
      have a94 := hln1 94 (by simp)
      have a102 := hln1 102 (by simp)
      have af := hln1 f hf
      rw [hL1 94 (by simp)] at a94
      rw [hL1 102 (by simp)] at a102
      rw [hL1 f hf] at af
      split
      · rw [List.length_append]; simp; omega
      · split
        · rw [List.length_append]; simp; omega
        · omega
  · rw [ta2 c7, ca2 c7]
    simp only [Option.bind_some]
    rw [if_pos trivial, if_pos trivial]
    exact RD_mono (cls_enter (M := M) (ib := ib) (Lf := Lf) (dv := dv) hG hn ht hpr hZ hd (by omega) H1 (DS_step Q1 (nd_refl _ _) (hx_refl _ _) (Nat.le_refl _) (by omega) (by omega) (by omega)) O1 Oe1 W1 (by omega) (by omega) (by omega) (fun q hq => by have := r4 q hq; omega) r5 hL1 (fun f hf c6 => by rw [da1 f hf]; exact hdv f hf c6) (by rw [da1 602 (by simp)]; exact h602) (fun f hf => by have := hln1 f hf; omega)) (fun j M' τ h' _ w => .inl w)
end LK6
