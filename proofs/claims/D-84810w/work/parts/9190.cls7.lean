set_option maxRecDepth 100000
/-- a great that may be there -/
def owd (A : Nat) (S : List Int) (b : Nat) (h : om_H) (z0 ahi w : Nat) (x : Int) : Prop := (w = 0 ∧ x = -1) ∨ ∃ j : Nat, x = ((b + j : Nat) : Int) ∧ tokk S j = 3 ∧ w ≠ 0 ∧ z0 ≤ w ∧ w < ahi ∧ wd h A S w j
/-- a class as it is read: the object c, the declaration d; j0 its first token, j0 + 1 its great -/
def clsR (A : Nat) (S : List Int) (b : Nat) (h : om_H) (σ : tS) (lo hi z0 ahi c d j0 : Nat) (nb : Int) : Prop := ∃ (w1 w2 Lm Ln ar ab fam am : Nat) (ms ns : List Nat), clsO h c w1 w2 Lm Ln ar ab fam (tokq S j0 : Int) nb ∧ ((z0 ≤ c ∧ c < am) ∧ (z0 ≤ Lm ∧ Lm < am) ∧ (z0 ≤ Ln ∧ Ln < am) ∧ (z0 ≤ ar ∧ ar < am) ∧ am ≤ ahi) ∧ (z0 ≤ w1 ∧ w1 < am ∧ wd h A S w1 (j0 + 1) ∧ tokk S (j0 + 1) = 3) ∧ (z0 ≤ w2 ∧ w2 < am ∧ wd h A S w2 (j0 + 2) ∧ tokk S (j0 + 2) = 2) ∧ owd A S b h z0 am ab (ga σ 586 d) ∧ owd A S b h z0 am fam (ga σ 610 d) ∧ (kd h Lm = 42 ∧ ll h Lm = ms) ∧ mrows A S b h σ c 0 ms ns lo hi am ahi ∧ chain σ (ga σ 602 d) ns ∧ (∀ x ∈ ms, fI h 1259 x = 0 ∧ fR h 1262 x = 0) ∧ (ga σ 570 d = 5 ∧ ga σ 574 d = ((b + j0 : Nat) : Int) ∧ ga σ 578 d = ((b + (j0 + 1) : Nat) : Int) ∧ ga σ 582 d = ((b + (j0 + 2) : Nat) : Int)) ∧ ∀ k : Nat, ga σ 610 d = ((b + k : Nat) : Int) → j0 + 3 ≤ k
/-- the greats that a class tells -/
def clsG (h : om_H) (c : Nat) : List Nat := fR h 1206 c :: (if fR h 1214 c = 0 then [] else [fR h 1214 c])
/-- the program's lists behind it -/
def clsLf (Lf : Nat → List Nat) (h : om_H) (c f : Nat) : List Nat := if f = 82 then Lf 82 ++ [c] else if f = 94 then Lf 94 ++ clsG h c else if f = 102 then Lf 102 ++ (clsG h c).map (fun _ => c) else if f = 98 then Lf 98 ++ (ll h (fR h 1230 c)).map (fun x => fR h 1242 x) else if f = 106 then Lf 106 ++ (ll h (fR h 1230 c)).map (fun _ => 0) else if f = 110 then Lf 110 ++ ll h (fR h 1230 c) else Lf f
section LK7
variable {G : om_G} {A t : Nat} {N : List (List Int)} {S : List Int} {b m i : Nat} {n : Int} {M : Nat} {σ τ : tS} {h h' h1 h2 : om_H} {c pr : Nat} {Z Z' : Nat → Prop}
variable {σ0 : tS} {M0 d0 : Nat} {h0 : om_H} {HZ HU sz su sM : Nat}
def clsPost (G : om_G) (A t : Nat) (S : List Int) (b m : Nat) (Z : Nat → Prop) (pr : Nat) (σ0 : tS) (M0 d0 : Nat) (h0 : om_H) (HZ HU Mb d j0 : Nat) (Lf : Nat → List Nat) (j M' : Nat) (τ : tS) (h' : om_H) : Prop :=
  j0 < j ∧ DS G t m Z pr σ0 M0 d0 h0 HZ HU 20 300 60 j M' τ h' ∧ Mb ≤ M' ∧ (∃ c, clsR A S b h' τ Mb M' (hz h0) (hz h') c d j0 ((Lf 82).length : Int) ∧ ∀ f ∈ PFs, ll h' (fR h' f pr) = clsLf Lf h' c f) ∧ ∀ f ∈ PFs, (ll h' (fR h' f pr)).length ≤ j
theorem clsM_post {w1 w2 Lm Ln ar ab fam d j0 ib Mb : Nat} {wl : List (Nat × Nat)} {Lf Lf1 : Nat → List Nat} {dv : Nat → Int} {j M' : Nat} (hib : j0 < ib) (h1 : (w1, j0 + 1) ∈ wl ∧ tokk S (j0 + 1) = 3) (h2 : (w2, j0 + 2) ∈ wl ∧ tokk S (j0 + 2) = 2) (h3 : (ab = 0 ∧ dv 586 = -1) ∨ ∃ k : Nat, ab ≠ 0 ∧ (ab, k) ∈ wl ∧ tokk S k = 3 ∧ dv 586 = ((b + k : Nat) : Int)) (h4 : (fam = 0 ∧ dv 610 = -1) ∨ ∃ k : Nat, (fam ≠ 0 ∧ j0 + 3 ≤ k) ∧ (fam, k) ∈ wl ∧ tokk S k = 3 ∧ dv 610 = ((b + k : Nat) : Int)) (h5 : dv 570 = 5 ∧ dv 574 = ((b + j0 : Nat) : Int) ∧ dv 578 = ((b + (j0 + 1) : Nat) : Int) ∧ dv 582 = ((b + (j0 + 2) : Nat) : Int))
    (hL : ∀ f, Lf1 f = if f = 82 then Lf 82 ++ [c] else if f = 94 then Lf 94 ++ (w1 :: if fam = 0 then [] else [fam]) else if f = 102 then Lf 102 ++ (w1 :: if fam = 0 then [] else [fam]).map (fun _ => c) else Lf f)
    (w : clsM G A t S b m Z pr σ0 M0 d0 h0 HZ HU Mb ib c w1 w2 Lm Ln ar ab fam d (tokq S j0 : Int) ((Lf 82).length : Int) wl Lf1 dv j M' τ h') : clsPost G A t S b m Z pr σ0 M0 d0 h0 HZ HU Mb d j0 Lf j M' τ h' := by
  obtain ⟨p1, p2, ⟨am, ms, ns, p3, p4, p5, B⟩, p6⟩ := w
  obtain ⟨B1, B2, B3, B4, B5, B6, B7, B8, B9, B10⟩ := B
  obtain ⟨W1, W2⟩ := B10
  have hD : ∀ f ∈ DA, f ≠ 602 → ga τ f d = dv f := B9
  have r1 := p3 _ h1.1
  have r2 := p3 _ h2.1
  refine ⟨by omega, DSL_DS B3 p2, B1.2.2.2.2.2.2, ⟨c, ⟨w1, w2, Lm, Ln, ar, ab, fam, am, ms, ns, W1, ⟨⟨B1.1, B1.2.1⟩, ⟨B1.2.2.1, B1.2.2.2.1⟩, p4, p5, B1.2.2.2.2.2.1⟩, ⟨r1.1, r1.2.1, W2 _ h1.1, h1.2⟩, ⟨r2.1, r2.2.1, W2 _ h2.1, h2.2⟩, ?_, ?_, ⟨B3.2.1, B4⟩, B5, B6, B7, ?_, fun k ek => ?_⟩, fun f hf => ?_⟩, p6⟩
  · rw [hD 586 (by simp) (by decide)]
    rcases h3 with h3 | ⟨k, a1, a2, a3, a4⟩
    · exact .inl h3
    · have := p3 _ a2
      exact .inr ⟨k, a4, a3, a1, this.1, this.2.1, W2 _ a2⟩
  · rw [hD 610 (by simp) (by decide)]
    rcases h4 with h4 | ⟨k, a1, a2, a3, a4⟩
    · exact .inl h4
    · have := p3 _ a2
      exact .inr ⟨k, a4, a3, a1.1, this.1, this.2.1, W2 _ a2⟩
  · rw [hD 570 (by simp) (by decide), hD 574 (by simp) (by decide), hD 578 (by simp) (by decide), hD 582 (by simp) (by decide)]; exact h5
  · rw [hD 610 (by simp) (by decide)] at ek
    rcases h4 with h4 | ⟨k', a1, a2, a3, a4⟩
    · rw [h4.2] at ek; omega
    · rw [a4] at ek
      have := a1.2
      omega
  · rw [B8 f hf]
    have e6 : fR h' 1206 c = w1 := W1.1.2.2.2.1
    have e14 : fR h' 1214 c = fam := W1.1.2.2.2.2.2
    have e30 : fR h' 1230 c = Lm := W1.2.2.1.1
    unfold mL clsLf clsG
    rw [e6, e14, e30, B4, hL, hL, hL, hL]
    by_cases f98 : f = 98
    · subst f98; simp
    · by_cases f106 : f = 106
      · subst f106; simp
      · by_cases f110 : f = 110
        · subst f110; simp
        · simp [f98, f106, f110]
set_option maxHeartbeats 1000000 in
/-- A CLASS IS READ ALIKE (its first token being passed) -/
theorem class_rel (hG : om_okG G) (hn : 0 ≤ n ∧ n ≤ 20) {d j0 : Nat} {Lf : Nat → List Nat} (ht : t < hz h0) (hpr : pr < hz h0) (hZ : ∀ a, Z a → a < hz h0) (hd : d < 700 ∧ d0 ≤ d) (hz0 : hz h0 ≤ hz h)
    (H : At G A t N S b m (j0 + 1) n M σ h) (Q : DS G t m Z pr σ0 M0 d0 h0 HZ HU 40 600 60 (j0 + 1) M σ h)
    (hL : ∀ f ∈ PFs, ll h (fR h f pr) = Lf f) (hdv : ga σ 570 d = 5 ∧ ga σ 574 d = ((b + j0 : Nat) : Int) ∧ ga σ 586 d = -1 ∧ ga σ 602 d = -1 ∧ ga σ 610 d = -1) (hln : ∀ f ∈ PFs, (ll h (fR h f pr)).length ≤ j0 + 1) :
    RD G A t N S b m n Z pr σ0 M0 d0 h0 HZ HU (fun τ : tS => τ) (fun j M' τ h' _ => clsPost G A t S b m Z pr σ0 M0 d0 h0 HZ HU M d j0 Lf j M' τ h') (T_aClass (d : Int) σ) (C_1_readClass G pr t (tokq S j0 : Int) h) := by
  have htz := At_t H
  have d7 : (0 : Int) ≤ (d : Int) ∧ (d : Int) < 700 := by omega
  have dN : ((d : Int)).toNat = d := by omega
  unfold T_aClass C_1_readClass
  simp only [if_pos d7, dN]
  have tf42 : ∀ (p : Int) (τ : tS) (M' : Nat), Tfl τ N S b m p n M' → ndD σ0 τ M0 d0 → TFv N S b m n σ0 M0 d0 p ((T_takes 58 τ).bind fun p3 => if p3.1 = 0 then T_aClass_42 (d : Int) p3.2 else (T_needed 3 p3.2).bind fun p4 => T_aClass_42 (d : Int) (ua p4.2 586 d p4.1)) := fun p τ M' T D => Fd_takes T (by rw [if_pos rfl]; exact aClass_42F T D _)
  refine RD_gd (At_kd H) (RD_needK hG H Q (by omega) (e := 3) (by omega) rfl (fun q1 τ1 h1 H1 D1 X1 w1 z1 y1 => ?_) (fun p v τ T D => by
    refine Fd_needed (Tfl_ua T (by simp)) ?_
    exact tf42 p _ _ (Tfl_ua (Tfl_ua T (by simp)) (by simp)) (ndD_ua (ndD_ua D (by simp) hd.2) (by simp) hd.2)))
  have hi1 := At_i H1
  have H1n : At G A t N S b m (j0 + 1 + 1) n M (ua τ1 578 d ((b + (j0 + 1) : Nat) : Int)) (nO h1 18 11) := At_ua (At_nO H1 18 11) (by simp)
  have X1n := hx_trans X1 (hx_nO (t := t) h1 18 11)
  have zn : hz (nO h1 18 11) = hz h1 + 1 := rfl
  have yn : hu (nO h1 18 11) = hu h1 + 11 := rfl
  have Q1 : DS G t m Z pr σ0 M0 d0 h0 HZ HU 58 880 62 (j0 + 1 + 1) M (ua τ1 578 d ((b + (j0 + 1) : Nat) : Int)) (nO h1 18 11) := DS_ua (DS_step Q D1 X1n (Nat.le_refl _) (by omega) (by omega) (by omega)) (by simp) hd.2
  have kc : kd (nO h1 18 11) (hz h1) = 18 := by rw [kd_nO, if_pos rfl]
  have cI : ∀ f, fI (nO h1 18 11) f (hz h1) = 0 := fun f => by rw [fI_nO, if_pos rfl]
  have cR : ∀ f, fR (nO h1 18 11) f (hz h1) = 0 := fun f => by rw [fR_nO, if_pos rfl]
  have w1n : wd (nO h1 18 11) A S (hz h) (j0 + 1) := wd_same w1 (hx_same (hx_nO (t := t) h1 18 11) (by omega) (by omega))
  rw [gd_pos (At_kd H1n)]
  generalize nO h1 18 11 = g1 at *
  refine RD_needK hG H1n Q1 (by omega) (e := 2) (by omega) rfl (fun q2 τ2 h2 H2 D2 X2 w2 z2 y2 => ?_) (fun p v τ T D => by
    exact tf42 p _ _ (Tfl_ua T (by simp)) (ndD_ua D (by simp) hd.2))
  have hi2 := At_i H2
  have scc := hx_same X2 (a := hz h1) (by omega) (by omega)
  have w1' := wd_same w1n (hx_same X2 (a := hz h) (by omega) (by omega))
  obtain ⟨P2, L2⟩ := PL_hx Q1.2.2.2.1 X2
  have X12 := hx_trans X1n X2
  have P0 := Q.2.2.2.1
  have pf2 : ∀ f, fR h2 f pr = fR h f pr := fun f => (hx_same X12 P0.1.2.1 P0.1.2.2).2.2.1 f
  have pl2 : ∀ f ∈ PFs, ll h2 (fR h f pr) = Lf f := fun f hf => by rw [X12.2.2.2.2.2.2.2.2.1 _ (P0.2.1 f hf).1.1]; exact hL f hf
  have hm4 := H.1.1.2.1
  have hZ2 : ∀ a, Z a → a < hz h1 := fun a z => by have := hZ a z; omega
  obtain ⟨h6, k1, k2, k3, k4, k5, k6, k7, k8, k9, k10, k11, k12⟩ := class_put (G := G) (c := hz h1) (w1 := hz h) (w2 := hz g1) (pl := (tokq S j0 : Int)) P2 ⟨by omega, by rw [scc.1]; exact kc, by omega⟩ (fun f => by rw [scc.2.1]; exact cI f) (fun f => by rw [scc.2.2.1]; exact cR f) (.inl ⟨by omega, by rw [w1'.1]; omega, by rw [w1'.1]; omega⟩) (.inl ⟨by omega, by rw [w2.1]; omega, by rw [w2.1]; omega⟩) hZ2 (fun f hf => by rw [pf2, pl2 f hf, ← hL f hf]; have := hln f hf; omega)
  rw [gd_pos (by rw [scc.1]; exact kc), k1 (fun g => gd (kd g t = 15) ((C_14_passes_2 G t 58 g).bind fun p8 => if p8.1 = 0 then C_1_readClass_88 G pr t (hz h1) p8.2 else gd (kd p8.2 t = 15) (xc (C_14_need G t (om_cA G 3) p8.2) (fun t h => some (.inl t, h)) (fun p9 h9 => gd (kd h9 (hz h1) = 18) (C_1_readClass_88 G pr t (hz h1) (sR h9 1210 (hz h1) p9))))))]
  have H6 : At G A t N S b m (j0 + 1 + 1 + 1) n M (ua τ2 582 d ((b + (j0 + 1 + 1) : Nat) : Int)) h6 := At_ua (At_hp H2 k2 (by omega)) (by simp)
  have k21 := k2.1
  have hp6 : hp Z t h0 h6 := hp_hpO (hp_trans Q1.2.2.1 (hx_hp X2)) k2 (by omega) (fun a z => .inl z)
  have q15 := Q1.2.2.2.2.1
  have q16 := Q1.2.2.2.2.2.1
  have q17 := Q1.2.2.2.2.2.2
  have Q6 : DS G t m Z pr σ0 M0 d0 h0 HZ HU 60 1000 62 (j0 + 1 + 1 + 1) M (ua τ2 582 d ((b + (j0 + 1 + 1) : Nat) : Int)) h6 := ⟨ndD_ua (ndD_nd Q1.1 D2 Q1.2.1) (by simp) hd.2, Q1.2.1, hp6, k7, by omega, by omega, by omega⟩
  have pf6 : ∀ f, fR h6 f pr = fR h f pr := fun f => by rw [k8, pf2]
  have pl6 : ∀ f ∈ PFs, ll h6 (fR h6 f pr) = if f = 82 then Lf 82 ++ [hz h1] else if f = 94 then Lf 94 ++ [hz h] else if f = 102 then Lf 102 ++ [hz h1] else Lf f := fun f hf => by
    have e := k9 f hf
    rw [pf2, pf2, pf2, pf2, pl2 f hf, pl2 82 (by simp), pl2 94 (by simp), pl2 102 (by simp)] at e
    rw [pf6]; exact e
  have nb6 : ((ll h2 (fR h2 82 pr)).length : Int) = ((Lf 82).length : Int) := by rw [pf2, pl2 82 (by simp)]
  rw [nb6] at k3
  have s6 : ∀ a, hz h0 ≤ a → a < hz h2 → a ≠ hz h1 → sameA a h2 h6 := fun a q r s => hp_same k2 r s (fun z => by have := hZ a z; omega)
  have W6 : clsΦ A S (hz h1) (hz h) (hz g1) (hz h2) (hz h2 + 1) (hz h2 + 2) 0 0 (tokq S j0 : Int) ((Lf 82).length : Int) [(hz g1, j0 + 1 + 1), (hz h, j0 + 1)] h6 := by
    refine ⟨k3, fun q hq => ?_⟩
    simp only [List.mem_cons, List.not_mem_nil, or_false] at hq
    rcases hq with rfl | rfl
    · exact wd_same w2 (s6 _ (by show hz h0 ≤ hz g1; omega) (by show hz g1 < hz h2; omega) (by show hz g1 ≠ hz h1; omega))
    · exact wd_same w1' (s6 _ (by show hz h0 ≤ hz h; omega) (by show hz h < hz h2; omega) (by show hz h ≠ hz h1; omega))
  have da : ∀ f ∈ DA, ga (ua τ2 582 d ((b + (j0 + 1 + 1) : Nat) : Int)) f d = if f = 582 then ((b + (j0 + 1 + 1) : Nat) : Int) else if f = 578 then ((b + (j0 + 1) : Nat) : Int) else ga σ f d := fun f hf => by
    rw [ga_ua]
    by_cases f1 : f = 582
    · rw [if_pos ⟨f1, rfl⟩, if_pos f1]
    · rw [if_neg (fun z => f1 z.1), if_neg f1, D2.1.2 f (PA_DA hf), ga_ua]
      by_cases f2 : f = 578
      · rw [if_pos ⟨f2, rfl⟩, if_pos f2]
      · rw [if_neg (fun z => f2 z.1), if_neg f2, D1.1.2 f (PA_DA hf)]
  have hln6 : ∀ f ∈ PFs, (ll h6 (fR h6 f pr)).length ≤ j0 + 1 + 1 + 1 := fun f hf => by
    rw [pl6 f hf]
    have a82 := hln 82 (by simp)
    have a94 := hln 94 (by simp)
    have a102 := hln 102 (by simp)
    have af := hln f hf
    rw [hL 82 (by simp)] at a82
    rw [hL 94 (by simp)] at a94
    rw [hL 102 (by simp)] at a102
    rw [hL f hf] at af
    split
    · rw [List.length_append]; simp; omega
    · split
      · rw [List.length_append]; simp; omega
      · split
        · rw [List.length_append]; simp; omega
        · omega
  have rw6 : ∀ q ∈ [(hz g1, j0 + 1 + 1), (hz h, j0 + 1)], hz h0 ≤ q.1 ∧ q.1 < hz h2 ∧ q.1 ≠ hz h2 ∧ q.1 ≠ hz h1 := fun q hq => by
    simp only [List.mem_cons, List.not_mem_nil, or_false] at hq
    rcases hq with rfl | rfl
    · show hz h0 ≤ hz g1 ∧ hz g1 < hz h2 ∧ hz g1 ≠ hz h2 ∧ hz g1 ≠ hz h1; omega
    · show hz h0 ≤ hz h ∧ hz h < hz h2 ∧ hz h ≠ hz h2 ∧ hz h ≠ hz h1; omega
  clear k1 k2 k3 k8 k9 k12 P2 L2 pl2 s6 X12 X2 X1n X1 H2 H1n H1
  rw [gd_pos (At_kd H6)]
  obtain ⟨ta1, ta2⟩ := t_takes H6.1 (k := 58) (by decide)
  obtain ⟨ca1, ca2⟩ := c_passes2 hG H6.2.1 (v := 58) (by omega)
  rw [show sc 58 = 58 by decide] at ca1 ca2
  by_cases c58 : tokk S (j0 + 1 + 1 + 1) = 58
  · obtain ⟨τ3, u1, u2, u3⟩ := ta1 c58
    obtain ⟨h7, v1, v2, v3⟩ := ca1 c58
    rw [u1, v1]
    simp only [Option.bind_some]
    rw [if_neg (by decide), if_neg (by decide)]
    have H7 := At_onlyT H6 v3 v2 u2
    have hi7 := At_i H7
    have z7 : hz h7 = hz h6 := v3.2.2.2.2.2.2.2.2.1
    have y7 : hu h7 = hu h6 := v3.2.2.2.2.2.2.2.2.2.1
    have X7 := hx_onlyT v3
    have Q7 : DS G t m Z pr σ0 M0 d0 h0 HZ HU 80 1300 64 (j0 + 1 + 1 + 1 + 1) M τ3 h7 := DS_step Q6 u3 X7 (Nat.le_refl _) (by omega) (by omega) (by omega)
    refine RD_gd (At_kd H7) (RD_needK hG H7 Q7 (by omega) (e := 3) (by omega) rfl (fun q8 τ8 h8 H8 D8 X8 w8 z8 y8 => ?_) (fun p v τ T D => by exact aClass_42F (Tfl_ua T (by simp)) (ndD_ua D (by simp) hd.2) _))
    have hi8 := At_i H8
    have X68 := hx_trans X7 X8
    have s8 : ∀ a, a < hz h6 → a ≠ t → sameA a h6 h8 := fun a q r => hx_same X68 q r
    have W8 : clsΦ A S (hz h1) (hz h) (hz g1) (hz h2) (hz h2 + 1) (hz h2 + 2) 0 0 (tokq S j0 : Int) ((Lf 82).length : Int) [(hz g1, j0 + 1 + 1), (hz h, j0 + 1)] h8 := clsΦ_keep (z0 := hz h0) (am := hz h6) (by omega) (by omega) (by omega) (fun q hq => by have := rw6 q hq; omega) h6 h8 (fun a q r _ => s8 a r (by omega)) W6
    have kc8 : kd h8 (hz h1) = 18 := W8.1.1.1
    rw [gd_pos kc8]
    have W9 : clsΦ A S (hz h1) (hz h) (hz g1) (hz h2) (hz h2 + 1) (hz h2 + 2) (hz h7) 0 (tokq S j0 : Int) ((Lf 82).length : Int) ((hz h7, j0 + 1 + 1 + 1 + 1) :: [(hz g1, j0 + 1 + 1), (hz h, j0 + 1)]) (sR h8 1210 (hz h1) (hz h7)) := by
      obtain ⟨⟨⟨b1, b2, b3, b4, b5, b6⟩, b7, b8, b9, b10⟩, b11⟩ := W8
      refine ⟨⟨⟨b1, b2, b3, by rw [fR_ne (by decide)]; exact b4, fR_eq, by rw [fR_ne (by decide)]; exact b6⟩, ⟨b7.1, b7.2.1, by rw [fR_ne (by decide)]; exact b7.2.2⟩, ⟨by rw [fR_ne (by decide)]; exact b8.1, by rw [fR_ne (by decide)]; exact b8.2.1, by rw [fR_ne (by decide)]; exact b8.2.2⟩, b9, b10⟩, fun q hq => ?_⟩
      have sa : ∀ a, a ≠ hz h1 → sameA a h8 (sR h8 1210 (hz h1) (hz h7)) := fun a ha => ⟨rfl, fun _ => rfl, fun f => by rw [fR_na ha], rfl, fun _ => rfl, rfl, rfl⟩
      rcases List.mem_cons.mp hq with rfl | hq
      · exact wd_same w8 (sa _ (by show hz h7 ≠ hz h1; omega))
      · exact wd_same (b11 q hq) (sa _ (rw6 q hq).2.2.2)
    obtain ⟨P8, L8⟩ := PL_hx Q7.2.2.2.1 X8
    obtain ⟨P9, L9⟩ := PL_sR (f := 1210) (a := hz h1) (x := hz h7) P8 (by omega)
    have pf9 : ∀ f, fR (sR h8 1210 (hz h1) (hz h7)) f pr = fR h6 f pr := fun f => by rw [fR_na (by omega)]; exact (s8 pr k7.1.2.1 k7.1.2.2).2.2.1 f
    have pl9 : ∀ f ∈ PFs, ll (sR h8 1210 (hz h1) (hz h7)) (fR h6 f pr) = ll h6 (fR h6 f pr) := fun f hf => X68.2.2.2.2.2.2.2.2.1 _ (k7.2.1 f hf).1.1
    have O9 : okV G (sR h8 1210 (hz h1) (hz h7)) (hz h2) := okV_sR (okV_hx k4 X68)
    have Oe9 : ll (sR h8 1210 (hz h1) (hz h7)) (hz h2) = [] := by show ll h8 (hz h2) = []; rw [X68.2.2.2.2.2.2.2.2.1 _ (by omega)]; exact k5
    have H9 : At G A t N S b m (j0 + 1 + 1 + 1 + 1 + 1) n M (ua τ8 586 d ((b + (j0 + 1 + 1 + 1 + 1) : Nat) : Int)) (sR h8 1210 (hz h1) (hz h7)) := At_ua (At_sR H8 (by omega)) (by simp)
    have z9 : hz (sR h8 1210 (hz h1) (hz h7)) = hz h8 := rfl
    have y9 : hu (sR h8 1210 (hz h1) (hz h7)) = hu h8 := rfl
    have hp9 : hp Z t h0 (sR h8 1210 (hz h1) (hz h7)) := hp_sR (hp_trans Q7.2.2.1 (hx_hp X8)) (by omega)
    have q75 := Q7.2.2.2.2.1
    have q76 := Q7.2.2.2.2.2.1
    have q77 := Q7.2.2.2.2.2.2
    have Q9 : DS G t m Z pr σ0 M0 d0 h0 HZ HU 40 400 60 (j0 + 1 + 1 + 1 + 1 + 1) M (ua τ8 586 d ((b + (j0 + 1 + 1 + 1 + 1) : Nat) : Int)) (sR h8 1210 (hz h1) (hz h7)) := ⟨ndD_ua (ndD_nd Q7.1 D8 Q7.2.1) (by simp) hd.2, Q7.2.1, hp9, P9, by omega, by omega, by omega⟩
    have da9 : ∀ f ∈ DA, ga (ua τ8 586 d ((b + (j0 + 1 + 1 + 1 + 1) : Nat) : Int)) f d = if f = 586 then ((b + (j0 + 1 + 1 + 1 + 1) : Nat) : Int) else ga (ua τ2 582 d ((b + (j0 + 1 + 1) : Nat) : Int)) f d := fun f hf => by
      rw [ga_ua]
      by_cases f1 : f = 586
      · rw [if_pos ⟨f1, rfl⟩, if_pos f1]
      · rw [if_neg (fun z => f1 z.1), if_neg f1, D8.1.2 f (PA_DA hf), u3.1.2 f (PA_DA hf)]
    generalize sR h8 1210 (hz h1) (hz h7) = h9 at *
    refine RD_mono (cls_88 (M := M) (ib := j0 + 1) (Lf := fun f => if f = 82 then Lf 82 ++ [hz h1] else if f = 94 then Lf 94 ++ [hz h] else if f = 102 then Lf 102 ++ [hz h1] else Lf f) (dv := fun f => if f = 586 then ((b + (j0 + 1 + 1 + 1 + 1) : Nat) : Int) else if f = 582 then ((b + (j0 + 1 + 1) : Nat) : Int) else if f = 578 then ((b + (j0 + 1) : Nat) : Int) else ga σ f d) hG hn ht hpr hZ hd (by omega) H9 Q9 O9 Oe9 W9 (by omega) (by omega) (by omega) (fun q hq => ?_) (by omega) (by omega) (fun f hf => by rw [pf9, pl9 f hf]; exact pl6 f hf) (fun f hf c6 => by rw [da9 f hf, da f hf]) (by rw [da9 602 (by simp), da 602 (by simp), if_neg (by decide), if_neg (by decide), if_neg (by decide)]; exact hdv.2.2.2.1) (fun f hf => by rw [pf9, pl9 f hf]; have := hln6 f hf; omega)) (fun j M' τ h' _ w => ?_)
    · rcases List.mem_cons.mp hq with rfl | hq
      · show hz h0 ≤ hz h7 ∧ hz h7 < hz h9 ∧ hz h7 ≠ hz h2 ∧ hz h7 ≠ hz h1; omega
      · have := rw6 q hq; omega
    · rcases w with w | ⟨fam, jf, ⟨a1, a0⟩, a2, w⟩
      · exact clsM_post (Lf := Lf) (Nat.lt_succ_self _) ⟨by simp, q1⟩ ⟨by simp, q2⟩ (.inr ⟨j0 + 1 + 1 + 1 + 1, by omega, by simp, q8, by simp⟩) (.inl ⟨rfl, by simp; exact hdv.2.2.2.2⟩) ⟨by simp; exact hdv.1, by simp; exact hdv.2.1, by simp, by simp; omega⟩ (fun f => by simp) w
      · exact clsM_post (Lf := Lf) (Nat.lt_succ_self _) ⟨by simp, q1⟩ ⟨by simp, q2⟩ (.inr ⟨j0 + 1 + 1 + 1 + 1, by omega, by simp, q8, by simp⟩) (.inr ⟨jf, ⟨a1, by omega⟩, by simp, a2, by simp⟩) ⟨by simp; exact hdv.1, by simp; exact hdv.2.1, by simp, by simp; omega⟩ (fun f => by
        by_cases f94 : f = 94
        · subst f94; simp [a1]
        · by_cases f102 : f = 102
          · subst f102; simp [a1]
          · simp [f94, f102]) w
  · rw [ta2 c58, ca2 c58]
    simp only [Option.bind_some]
    rw [if_pos trivial, if_pos trivial]
    refine RD_mono (cls_88 (M := M) (ib := j0 + 1) (Lf := fun f => if f = 82 then Lf 82 ++ [hz h1] else if f = 94 then Lf 94 ++ [hz h] else if f = 102 then Lf 102 ++ [hz h1] else Lf f) (dv := fun f => if f = 582 then ((b + (j0 + 1 + 1) : Nat) : Int) else if f = 578 then ((b + (j0 + 1) : Nat) : Int) else ga σ f d) hG hn ht hpr hZ hd (by omega) H6 (DS_step Q6 (nd_refl _ _) (hx_refl _ _) (Nat.le_refl _) (by omega) (by omega) (by omega)) k4 k5 W6 (by omega) (by omega) (by omega) (fun q hq => by have := rw6 q hq; omega) (by omega) (by omega) pl6 (fun f hf _ => da f hf) (by rw [da 602 (by simp), if_neg (by decide), if_neg (by decide)]; exact hdv.2.2.2.1) hln6) (fun j M' τ h' _ w => ?_)
    rcases w with w | ⟨fam, jf, ⟨a1, a0⟩, a2, w⟩
    · exact clsM_post (Lf := Lf) (Nat.lt_succ_self _) ⟨by simp, q1⟩ ⟨by simp, q2⟩ (.inl ⟨rfl, by simp; exact hdv.2.2.1⟩) (.inl ⟨rfl, by simp; exact hdv.2.2.2.2⟩) ⟨by simp; exact hdv.1, by simp; exact hdv.2.1, by simp, by simp; omega⟩ (fun f => by simp) w
    · exact clsM_post (Lf := Lf) (Nat.lt_succ_self _) ⟨by simp, q1⟩ ⟨by simp, q2⟩ (.inl ⟨rfl, by simp; exact hdv.2.2.1⟩) (.inr ⟨jf, ⟨a1, by omega⟩, by simp, a2, by simp⟩) ⟨by simp; exact hdv.1, by simp; exact hdv.2.1, by simp, by simp; omega⟩ (fun f => by
        by_cases f94 : f = 94
        · subst f94; simp [a1]
        · by_cases f102 : f = 102
          · subst f102; simp [a1]
          · simp [f94, f102]) w
end LK7
