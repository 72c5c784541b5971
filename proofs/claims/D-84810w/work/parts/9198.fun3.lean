set_option maxRecDepth 100000
section LF3
variable {G : om_G} {A t : Nat} {N : List (List Int)} {S : List Int} {b m i : Nat} {n : Int} {M : Nat} {σ τ : tS} {h h' h1 h2 : om_H} {c pr : Nat} {Z Z' : Nat → Prop}
variable {σ0 : tS} {M0 d0 : Nat} {h0 : om_H} {HZ HU : Nat}
theorem wrow_wide {alo ahi alo' ahi' : Nat} (h1 : alo' ≤ alo) (h2 : ahi ≤ ahi') : ∀ {j : Nat} {ws : List Nat}, wrow A S h alo ahi j ws → wrow A S h alo' ahi' j ws
  | _, [], _ => trivial
  | j, w :: ws, ⟨a1, a2, a3, a4, a5⟩ => ⟨by omega, by omega, a3, a4, wrow_wide h1 h2 a5⟩
/-- the twin's loop over the names of a forall -/
noncomputable def TNf (d : Int) (x : tS) : Option tS := (om_loop (T_aFunction_48s d) x).bind fun y5 => (T_need 46 y5).bind fun p6 => T_aFunction_75 d p6
theorem TNf_in {d : Nat} (hd : d < 700) {σ τ : tS} (e : T_takes 2 σ = some (1, τ)) : TNf (d : Int) σ = TNf (d : Int) (ua τ 598 d (w32 (ga τ 598 d + 1))) := by
  have s : T_aFunction_48s (d : Int) σ = some (.inl (ua τ 598 d (w32 (ga τ 598 d + 1)))) := by
    unfold T_aFunction_48s
    rw [e]
    simp only [Option.bind_some]
    rw [if_neg (by decide), if_pos (by omega), show ((d : Int)).toNat = d by omega]
  unfold TNf
  rw [om_loop_in s]
theorem TNf_end {d : Int} (H : Tst σ N S b m i n M) (c : tokk S i ≠ 2) : TNf d σ = (T_need 46 σ).bind fun p6 => T_aFunction_75 d p6 := by
  have s : T_aFunction_48s d σ = some (.inr σ) := by
    unfold T_aFunction_48s
    rw [(t_takes H (k := 2) (by decide)).2 c]
    rfl
  unfold TNf
  rw [om_loop_out s]
  rfl
theorem TNf_F {p : Int} {d : Nat} (H : Tfl σ N S b m p n M) (D : ndD σ0 σ M0 d0) (h1 : M0 ≤ M) (h2 : M + 4 ≤ 8400) (hn : 0 ≤ n ∧ n ≤ 20) (hd : d < 700 ∧ d0 ≤ d) : TFv N S b m n σ0 M0 d0 p (TNf (d : Int) σ) := by
  have s : T_aFunction_48s (d : Int) σ = some (.inr σ) := by
    unfold T_aFunction_48s
    rw [t_takesF H]
    rfl
  unfold TNf
  rw [om_loop_out s]
  exact Fd_need H (aFunction_75F H D h1 h2 hn hd.1 hd.2)
/-- the component's -/
noncomputable def exN (G : om_G) (t f : Nat) (h : om_H) : Option ((Nat ⊕ Unit) × om_H) := gd (kd h t = 15) (xc (C_14_need_2 G t 46 h) (fun t h => some (.inl t, h)) (fun p11 h11 => C_1_readFunction_114 G t f h11))
noncomputable def CNf (G : om_G) (t f : Nat) (x : om_H) : Option ((Nat ⊕ Unit) × om_H) := (om_loop (C_1_readFunction_80s G t f) x).bind (Sum.elim (exN G t f) (fun v11 => some v11))
noncomputable def CNx (G : om_G) (t f : Nat) (h : om_H) : Option ((Nat ⊕ Unit) × om_H) := @ite _ (fR h 1134 t = om_cA G 2) (Classical.propDecidable _) (CNf G t f h) (exN G t f h)
theorem CNf_eq {f s L : Nat} (o : kd h f = 33 ∧ fR h 1542 f = s ∧ kd h s = 5 ∧ fR h 162 s = L) (ht : kd h t = 15) : CNf G t f h = xc (C_14_need G t (om_cA G 2) h) (fun t h => some (.inl t, h)) (fun p1 h1 => gd (kd h1 L = 42) ((P_J2_add G L p1 h1).bind fun p2 => gd (kd p2.2 t = 15) (CNx G t f p2.2))) := by
  unfold CNf
  rw [om_loop_eq]
  unfold C_1_readFunction_80s
  rw [o.2.1, o.2.2.2, gd_pos ⟨o.1, o.2.2.1, ht⟩]
  simp only [xc_bind, gd_bind, Option.bind_assoc, Option.bind_some, Sum.elim_inr]
  congr 1
  funext p1 h1
  congr 1
  congr 1; funext p2
  congr 1
  unfold CNx
  by_cases q : fR p2.2 1134 t = om_cA G 2
  · rw [if_pos q, if_pos q]; rfl
  · rw [if_neg q, if_neg q]; rfl
/-- what is kept while names are read -/
def pΦ (A : Nat) (S : List Int) (f w s Ls Lg j0 : Nat) (nb : Int) (h : om_H) : Prop := funO h f w s Ls Lg 0 0 nb ∧ wd h A S w j0 ∧ (kd h Lg = 42 ∧ ll h Lg = [] ∧ lc h Lg ≤ 10)
set_option maxHeartbeats 1000000 in
/-- A FUNCTION IS READ ALIKE -/
theorem function_rel (hG : om_okG G) (hN : ∃ N', N = [110, 105, 108] :: [99, 111, 110, 115] :: N') {d j0 : Nat} {Lf : Nat → List Nat} (ht : t < hz h0) (hpr : pr < hz h0) (hZ : ∀ a, Z a → a < hz h0) (hd : d < 700 ∧ d0 ≤ d) (hz0 : hz h0 ≤ hz h)
    (H : At G A t N S b m j0 0 M σ h) (Q : DS G t m Z pr σ0 M0 d0 h0 HZ HU 40 600 60 j0 M σ h) (C : PC h pr Lf) (hdv : ga σ 570 d = 2 ∧ ga σ 574 d = ((b + j0 : Nat) : Int) ∧ ga σ 594 d = -1 ∧ ga σ 598 d = 0 ∧ ga σ 606 d = -1) (hln : ∀ f ∈ PFs, (Lf f).length ≤ j0) :
    RD G A t N S b m 0 Z pr σ0 M0 d0 h0 HZ HU (fun τ : tS => τ) (fun j M' τ h' _ => fvR M M' d τ ∧ funPost G A t S b m Z pr σ0 M0 d0 h0 HZ HU M d j0 Lf j M' τ h') (T_aFunction (d : Int) σ) (C_1_readFunction G pr t h) := by
  have d7 : (0 : Int) ≤ (d : Int) ∧ (d : Int) < 700 := by omega
  have dN : ((d : Int)).toNat = d := by omega
  have htz := At_t H
  have hi := At_i H
  have q22 := Q.2.1
  have q27 := Q.2.2.2.2.2.2
  have hm4 := H.1.1.2.1
  have P0 := Q.2.2.2.1
  unfold T_aFunction C_1_readFunction
  simp only [if_pos d7, dN]
  have tfA : ∀ (p : Int) (τ : tS) (M' : Nat), Tfl τ N S b m p 0 M' → ndD σ0 τ M0 d0 → M0 ≤ M' → M' + 4 ≤ 8400 → TFv N S b m 0 σ0 M0 d0 p ((T_takes 8 τ).bind fun p3 => if p3.1 = 0 then T_aFunction_75 (d : Int) p3.2 else (T_need 2 (ua p3.2 594 d (gs p3.2 432))).bind fun p4 => (om_loop (T_aFunction_48s (d : Int)) (ua p4 598 d 1)).bind fun y5 => (T_need 46 y5).bind fun p6 => T_aFunction_75 (d : Int) p6) := fun p τ M' T D q1 q2 => Fd_takes T (by rw [if_pos rfl]; exact aFunction_75F T D q1 q2 (by omega) hd.1 hd.2)
  have Hn := At_nO H 33 7
  have Xn := hx_nO (t := t) h 33 7
  have zn : hz (nO h 33 7) = hz h + 1 := rfl
  have yn : hu (nO h 33 7) = hu h + 7 := rfl
  have Q1 : DS G t m Z pr σ0 M0 d0 h0 HZ HU 39 593 60 j0 M σ (nO h 33 7) := DS_step Q (nd_refl _ _) Xn (Nat.le_refl _) (by omega) (by omega) (by omega)
  have kf : kd (nO h 33 7) (hz h) = 33 := by rw [kd_nO, if_pos rfl]
  have fI0 : ∀ g, fI (nO h 33 7) g (hz h) = 0 := fun g => by rw [fI_nO, if_pos rfl]
  have fR0 : ∀ g, fR (nO h 33 7) g (hz h) = 0 := fun g => by rw [fR_nO, if_pos rfl]
  rw [gd_pos (At_kd Hn)]
  generalize nO h 33 7 = g0 at *
  refine RD_needK hG Hn Q1 (by omega) (e := 2) (by omega) rfl (fun c2 τ1 h1 H1 D1 X1 w1 z1 y1 => ?_) (fun p v τ T D => Fd_need (Tfl_ua T (by simp)) (tfA p _ _ (Tfl_ua T (by simp)) (ndD_ua D (by simp) hd.2) q22 (by omega)))
  have hi1 := At_i H1
  have sf := hx_same X1 (a := hz h) (by omega) (by omega)
  have X01 := hx_trans Xn X1
  obtain ⟨P1, L1⟩ := PL_hx P0 X01
  have C1 : PC h1 pr Lf := fun g hg => by rw [(hx_same X01 P0.1.2.1 P0.1.2.2).2.2.1, X01.2.2.2.2.2.2.2.2.1 _ (P0.2.1 g hg).1.1]; exact C g hg
  obtain ⟨h6, k1, k2, k3, k4, k5, k6, k7, k8, k9, k10, k11, k12⟩ := fun_put (G := G) (f := hz h) (w := hz g0) P1 C1 ⟨by omega, by rw [sf.1]; exact kf, by omega⟩ (fun g => by rw [sf.2.1]; exact fI0 g) (fun g => by rw [sf.2.2.1]; exact fR0 g) (.inl ⟨by omega, by rw [w1.1]; omega, by rw [w1.1]; omega⟩) (fun a z => by have := hZ a z; omega) (fun g hg => by have := hln g hg; omega)
  rw [gd_pos (by rw [sf.1]; exact kf), k1 (fun g => gd (kd g t = 15) (xc (C_14_need_2 G t 58 g) (fun t h => some (.inl t, h)) (fun p8 h8 => gd (kd h8 t = 15) ((C_14_passes G t 23 h8).bind fun p9 => if p9.1 = 0 then C_1_readFunction_114 G t (hz h) p9.2 else (om_loop (C_1_readFunction_80s G t (hz h)) p9.2).bind (Sum.elim (fun v10 => gd (kd v10 t = 15) (xc (C_14_need_2 G t 46 v10) (fun t h => some (.inl t, h)) (fun p11 h11 => C_1_readFunction_114 G t (hz h) h11))) (fun v11 => some v11))))))]
  have H6 : At G A t N S b m (j0 + 1) 0 M (ua τ1 578 d ((b + j0 : Nat) : Int)) h6 := At_ua (At_hp H1 k2 (by omega)) (by simp)
  have k21 := k2.1
  have hp6 : hp Z t h0 h6 := hp_hpO (hp_trans Q1.2.2.1 (hx_hp X1)) k2 (by omega) (fun a z => .inl z)
  have q15 := Q1.2.2.2.2.1
  have q16 := Q1.2.2.2.2.2.1
  have q17 := Q1.2.2.2.2.2.2
  obtain ⟨_, L1'⟩ := PL_hx Q1.2.2.2.1 X1
  have Q6 : DS G t m Z pr σ0 M0 d0 h0 HZ HU 50 880 62 (j0 + 1) M (ua τ1 578 d ((b + j0 : Nat) : Int)) h6 := ⟨ndD_ua (ndD_nd Q1.1 D1 q22) (by simp) hd.2, q22, hp6, k8, by omega, by omega, by omega⟩
  have w6 : wd h6 A S (hz g0) j0 := wd_same w1 (hp_same k2 (by omega) (by omega) (fun z => by have := hZ _ z; omega))
  have da6 : ∀ g ∈ DA, ga (ua τ1 578 d ((b + j0 : Nat) : Int)) g d = if g = 578 then ((b + j0 : Nat) : Int) else ga σ g d := fun g hg => by
    rw [ga_ua]
    by_cases g1 : g = 578
    · rw [if_pos ⟨g1, rfl⟩, if_pos g1]
    · rw [if_neg (fun z => g1 z.1), if_neg g1, D1.1.2 g (PA_DA hg)]
  have pΦ6 : pΦ A S (hz h) (hz g0) (hz h1) (hz h1 + 1) (hz h1 + 2) j0 ((Lf 90).length : Int) h6 := ⟨k3, w6, ⟨k5.2.1, k7, by have := k5.2.2.2.1; rw [k7] at this; simpa using this⟩⟩
  clear k1 k2 k3 P1 L1 C1 X01 sf
  refine RD_gd (At_kd H6) (RD_need hG H6 Q6 (by omega) (.inr (.inr (by omega))) (by decide) (by decide) (fun c58 τ7 h7 H7 D7 X7 => ?_) (fun p τ T D => tfA p _ _ T D q22 (by omega)))
  have hi7 := At_i H7
  have z7 : hz h7 = hz h6 := X7.2.2.2.2.2.2.2.2.1
  have y7 : hu h7 = hu h6 := X7.2.2.2.2.2.2.2.2.2.1
  have X7x := hx_onlyT X7
  have Q7 : DS G t m Z pr σ0 M0 d0 h0 HZ HU 70 1180 64 (j0 + 1 + 1) M τ7 h7 := DS_step Q6 D7 X7x (Nat.le_refl _) (by omega) (by omega) (by omega)
  have pKeep : ∀ (am : Nat), hz h1 + 2 < am → ∀ g g' : om_H, (∀ a, hz h0 ≤ a → a < am → a ≠ hz h1 + 1 → sameA a g g') → pΦ A S (hz h) (hz g0) (hz h1) (hz h1 + 1) (hz h1 + 2) j0 ((Lf 90).length : Int) g → pΦ A S (hz h) (hz g0) (hz h1) (hz h1 + 1) (hz h1 + 2) j0 ((Lf 90).length : Int) g' := by
    intro am ham g g' sm W
    have sL := sm (hz h1 + 2) (by omega) (by omega) (by omega)
    exact ⟨funO_keep W.1 (sm _ (by omega) (by omega) (by omega)) (sm _ (by omega) (by omega) (by omega)), wd_same W.2.1 (sm _ (by omega) (by omega) (by omega)), ⟨by rw [sL.1]; exact W.2.2.1, by rw [sL.2.2.2.2.2.1]; exact W.2.2.2.1, by rw [sL.2.2.2.2.2.2]; exact W.2.2.2.2⟩⟩
  have s7 : ∀ a, a < hz h6 → a ≠ t → sameA a h6 h7 := fun a q r => hx_same X7x q r
  have pΦ7 := pKeep (hz h6) (by omega) h6 h7 (fun a q r _ => s7 a r (by omega)) pΦ6
  have C7 : PC h7 pr (updL (updL (updL (updL Lf 90 (hz h)) 98 (hz g0)) 106 (hz h)) 110 0) := fun g hg => by rw [(s7 pr k8.1.2.1 k8.1.2.2).2.2.1, X7.2.2.2.2.2.2.1]; exact k9 g hg
  have O7 := okV_hx k4 X7x
  have Oe7 : ll h7 (hz h1 + 1) = [] := by rw [X7.2.2.2.2.2.2.1]; exact k6
  have okLg : ∀ g, pΦ A S (hz h) (hz g0) (hz h1) (hz h1 + 1) (hz h1 + 2) j0 ((Lf 90).length : Int) g → hz h1 + 2 < hz g → okV G g (hz h1 + 2) := fun g W q => ⟨q, W.2.2.1, by rw [W.2.2.2.1]; simp, by rw [W.2.2.2.1]; have := W.2.2.2.2; simp; omega, fun y hy => by rw [W.2.2.2.1] at hy; simp at hy⟩
  rw [gd_pos (At_kd H7)]
  have da7 : ∀ g ∈ DA, ga τ7 g d = if g = 578 then ((b + j0 : Nat) : Int) else ga σ g d := fun g hg => by rw [D7.1.2 g (PA_DA hg)]; exact da6 g hg
  obtain ⟨ta1, ta2⟩ := t_takes H7.1 (k := 8) (by decide)
  obtain ⟨ca1, ca2⟩ := c_passes hG H7.2.1 (j := 23) (kk := 8) (bs := [102, 111, 114, 97, 108, 108]) (by rfl) (by decide)
  by_cases c8 : tokk S (j0 + 1 + 1) = 8
  · obtain ⟨τ8, u1, u2, u3⟩ := ta1 c8
    obtain ⟨h8, v1, v2, v3⟩ := ca1 c8
    rw [u1, v1]
    simp only [Option.bind_some]
    rw [if_neg (by decide), if_neg (by decide)]
    have H8 := At_onlyT H7 v3 v2 u2
    have hi8 := At_i H8
    have z8 : hz h8 = hz h7 := v3.2.2.2.2.2.2.2.2.1
    have y8 : hu h8 = hu h7 := v3.2.2.2.2.2.2.2.2.2.1
    have X8 := hx_onlyT v3
    have Q8 : DS G t m Z pr σ0 M0 d0 h0 HZ HU 90 1480 66 (j0 + 1 + 1 + 1) M τ8 h8 := DS_step Q7 u3 X8 (Nat.le_refl _) (by omega) (by omega) (by omega)
    have e594 : gs τ8 432 = ((b + (j0 + 3) : Nat) : Int) := by rw [u2.2.1]
    rw [e594]
    have H8u : At G A t N S b m (j0 + 1 + 1 + 1) 0 M (ua τ8 594 d ((b + (j0 + 3) : Nat) : Int)) h8 := At_ua H8 (by simp)
    have Q8u := DS_ua (f := 594) (x := ((b + (j0 + 3) : Nat) : Int)) Q8 (by simp) hd.2
    have s8 : ∀ a, a < hz h7 → a ≠ t → sameA a h7 h8 := fun a q r => hx_same X8 q r
    have pΦ8 := pKeep (hz h7) (by omega) h7 h8 (fun a q r _ => s8 a r (by omega)) pΦ7
    show RD G A t N S b m 0 Z pr σ0 M0 d0 h0 HZ HU (fun τ : tS => τ) _ ((T_need 2 (ua τ8 594 d ((b + (j0 + 3) : Nat) : Int))).bind fun p4 => TNf (d : Int) (ua p4 598 d 1)) (CNf G t (hz h) h8)
    rw [CNf_eq (s := hz h1) (L := hz h1 + 1) ⟨pΦ8.1.1.1, pΦ8.1.1.2.2.2.1, pΦ8.1.2.2.1, pΦ8.1.2.2.2.1⟩ (At_kd H8)]
    refine RD_needW hG H8u Q8u (by omega) (e := 2) (by omega) rfl (fun c9 τ9 h9 H9 D9 X9 w9 z9 y9 => ?_) (fun p τ T D => TNf_F (Tfl_ua T (by simp)) (ndD_ua D (by simp) hd.2) q22 (by omega) (by omega) hd)
    have hi9 := At_i H9
    have X79 := hx_trans X8 X9
    have O9 := okV_hx O7 X79
    have s79 : ∀ a, a < hz h7 → a ≠ t → sameA a h7 h9 := fun a q r => hx_same X79 q r
    have Oe9 : ll h9 (hz h1 + 1) = [] := by rw [(s79 _ (by omega) (by omega)).2.2.2.2.2.1]; exact Oe7
    obtain ⟨a1, a2, a3, a4, a5, a6⟩ := v_add (x := hz h8) O9 (.inl ⟨by omega, by rw [w9.1]; omega, by rw [w9.1]; omega⟩) (by rw [Oe9]; simp)
    generalize addL h9 (hz h1 + 1) (hz h8) = h10 at a1 a2 a3 a4 a5 a6
    have H10 := hxL_At H9 a2
    rw [gd_pos O9.2.1, a1]
    simp only [Option.bind_some]
    rw [gd_pos (At_kd H10)]
    have a21 := a2.1
    have Q9 : DS G t m Z pr σ0 M0 d0 h0 HZ HU 100 1700 68 (j0 + 1 + 1 + 1 + 1) M τ9 h9 := DS_step Q8u D9 X9 (Nat.le_refl _) (by omega) (by omega) (by omega)
    obtain ⟨P10, L10⟩ := PL_hxL Q9.2.2.2.1 a2 (fun z => by have := hZ _ z; omega)
    have s710 : ∀ a, a < hz h7 → a ≠ t → a ≠ hz h1 + 1 → sameA a h7 h10 := fun a q r u => sameA_trans (s79 a q r) (hxL_same a2 (by omega) u)
    have pΦ10 := pKeep (hz h7) (by omega) h7 h10 (fun a q r u => s710 a r (by omega) u) pΦ7
    have C10 : PC h10 pr (updL (updL (updL (updL Lf 90 (hz h)) 98 (hz g0)) 106 (hz h)) 110 0) := fun g hg => by
      have P7 := Q7.2.2.2.1
      have az := (P7.2.1 g hg).1.1
      have zz := hZ _ (P7.2.1 g hg).2
      rw [(s710 pr P7.1.2.1 P7.1.2.2 (by omega)).2.2.1, (s710 (fR h7 g pr) az (fun z => by have e := (P7.2.1 g hg).1.2.1; rw [z, At_kd H7] at e; omega) (by omega)).2.2.2.2.2.1]
      exact C7 g hg
    have da9 : ∀ g ∈ DA, ga τ9 g d = if g = 594 then ((b + (j0 + 3) : Nat) : Int) else if g = 578 then ((b + j0 : Nat) : Int) else ga σ g d := fun g hg => by
      rw [D9.1.2 g (PA_DA hg), ga_ua]
      by_cases g1 : g = 594
      · rw [if_pos ⟨g1, rfl⟩, if_pos g1]
      · rw [if_neg (fun z => g1 z.1), if_neg g1, u3.1.2 g (PA_DA hg)]; exact da7 g hg
    obtain ⟨p1, p2, p3, p4, p5, p6, p7⟩ := Q9
    have lcL : lc h9 (hz h1 + 1) ≤ 10 := by have := O9.2.2.2.1; rw [Oe9] at this; simpa using this
    have l10 : (ll h10 (hz h1 + 1)).length = 1 := by rw [a4, Oe9]; rfl
    have c10 := a3.2.2.2.1
    rw [l10] at c10
    refine names_loop (am := hz h8) (d := d) (F := 598) (L := hz h1 + 1) (j1 := j0 + 3) (ib := j0 + 3) (Lf := updL (updL (updL (updL Lf 90 (hz h)) 98 (hz g0)) 106 (hz h)) 110 0) (dv := fun g => if g = 594 then ((b + (j0 + 3) : Nat) : Int) else if g = 578 then ((b + j0 : Nat) : Int) else ga σ g d) (Φ := fun _ g => pΦ A S (hz h) (hz g0) (hz h1) (hz h1 + 1) (hz h1 + 2) j0 ((Lf 90).length : Int) g) (TN := TNf (d : Int)) (CN := CNx G t (hz h)) hG ht hpr hZ hd (by simp) ?_ (fun σ τ e => TNf_in hd.1 e) ?_ ?_ (m - (j0 + 1 + 1 + 1 + 1) + 1) (j0 + 1 + 1 + 1 + 1) _ h10 [hz h8] (by omega) (by omega) (At_ua H10 (by simp)) ⟨ndD_ua p1 (by simp) hd.2, p2, hp_hxL p3 a2 (by omega), P10, by omega, by rw [l10, L10]; omega, by omega⟩ ⟨by omega, a3, by rw [a4, Oe9]; rfl, ⟨Nat.le_refl _, by omega, wd_same w9 (hxL_same a2 (by omega) (by omega)), c9, trivial⟩, by simp, by rw [ga_ua, if_pos ⟨rfl, rfl⟩]; rfl, fun g hg c => by rw [ga_ua, if_neg (fun z => c z.1)]; exact da9 g hg, C10, pΦ10⟩
    · exact fun _ _ g g' sm _ W => pKeep (hz h8) (by omega) g g' (fun a q r u => sm a q r (by simpa using u)) W
    · intro i _ g K k2 W
      have e2 := Cst_kind hG K (e := 2) (by decide)
      have s2 := kE_s (tokk_r S i).1 (e := 2) (by decide)
      refine ⟨fun g => gd (kd g t = 15) (CNx G t (hz h) g), ?_, fun g q => gd_pos q⟩
      have e : CNx G t (hz h) g = CNf G t (hz h) g := by
        unfold CNx
        exact if_pos (e2.mpr (s2.mpr k2))
      rw [e, CNf_eq (s := hz h1) (L := hz h1 + 1) ⟨W.1.1.1, W.1.1.2.2.2.1, W.1.2.2.1, W.1.2.2.2.1⟩ (Cst_kd K)]
    · intro i σ' g ws hib Hi Qi Bi ne2
      have hi' := At_i Hi
      obtain ⟨b1, b2, b3, b4, b5, b6, b7, b8, b9⟩ := Bi
      have Qi' := DSL_DS b2 Qi
      have e2 := Cst_kind hG Hi.2.1 (e := 2) (by decide)
      have s2 := kE_s (tokk_r S i).1 (e := 2) (by decide)
      have e : CNx G t (hz h) g = exN G t (hz h) g := by
        unfold CNx
        exact if_neg (fun z => ne2 (s2.mp (e2.mp z)))
      rw [TNf_end Hi.1 ne2, e]
      unfold exN
      refine RD_gd (At_kd Hi) (RD_need hG Hi Qi' (by omega) (.inr (.inr (by omega))) (by decide) (by decide) (fun c46 τa ha Ha Da Xa => ?_) (fun p τ T D => aFunction_75F T D (by have := Qi.2.1; omega) (by have := Qi.2.2.2.2.2.2; omega) (by omega) hd.1 hd.2))
      have hia := At_i Ha
      have za : hz ha = hz g := Xa.2.2.2.2.2.2.2.2.1
      have ya : hu ha = hu g := Xa.2.2.2.2.2.2.2.2.2.1
      have Xax := hx_onlyT Xa
      have sa : ∀ a, a < hz g → a ≠ t → sameA a g ha := fun a q r => hx_same Xax q r
      have Wa := pKeep (hz h8) (by omega) g ha (fun a q r _ => sa a (by omega) (by omega)) b9
      have sLs := sa (hz h1 + 1) (by omega) (by omega)
      have Pi := Qi.2.2.2.1
      refine fun_fv (v4 := ((b + (j0 + 3) : Nat) : Int)) (v8 := (ws.length : Int)) Ha (by omega) ?_
      exact fun_114 (am := hz ha) (w := hz g0) (s := hz h1) (Ls := hz h1 + 1) (Lg := hz h1 + 2) (j1 := j0 + 3) (ws := ws) (nb := ((Lf 90).length : Int)) (Lf := updL (updL (updL (updL Lf 90 (hz h)) 98 (hz g0)) 106 (hz h)) 110 0) (Lf0 := Lf) (dv := fun g => if g = 598 then (ws.length : Int) else if g = 594 then ((b + (j0 + 3) : Nat) : Int) else if g = 578 then ((b + j0 : Nat) : Int) else ga σ g d) hG hN ht hpr hZ hd (by omega) (by omega) (by omega) (by omega) (by omega) (by omega) (by omega) Ha (DS_step Qi' Da Xax (Nat.le_refl _) (by omega) (by omega) (by omega)) (okLg ha Wa (by omega)) Wa.2.2.2.1 ⟨Wa.1, Wa.2.1, by rw [sLs.1]; exact b2.2.1, by rw [sLs.2.2.2.2.2.1]; exact b3, wrow_wide (alo := hz h8) (ahi := hz g) (by omega) (by omega) (wrow_keep (fun a q r _ => sa a r (by omega)) (Nat.le_refl _) b4)⟩ (fun g' hg => by
        show ga τa g' d = if g' = 598 then (ws.length : Int) else if g' = 594 then ((b + (j0 + 3) : Nat) : Int) else if g' = 578 then ((b + j0 : Nat) : Int) else ga σ g' d
        rw [Da.1.2 g' (PA_DA hg)]
        by_cases c5 : g' = 598
        · rw [if_pos c5, c5]; exact b6
        · rw [if_neg c5]; exact b7 g' hg c5) (fun g' hg => by rw [(sa pr Pi.1.2.1 Pi.1.2.2).2.2.1, Xa.2.2.2.2.2.2.1]; exact b8 g' hg) c2 ⟨by simp; exact hdv.1, by simp; exact hdv.2.1, by simp, .inr (by simp), by simp, by simp; exact hdv.2.2.2.2⟩ rfl rfl ⟨by simp, by simp⟩
  · rw [ta2 c8, ca2 c8]
    simp only [Option.bind_some]
    rw [if_pos trivial, if_pos trivial]
    refine fun_fv (v4 := -1) (v8 := 0) H7 (by omega) ?_
    exact fun_114 (am := hz h7) (w := hz g0) (s := hz h1) (Ls := hz h1 + 1) (Lg := hz h1 + 2) (j1 := 0) (ws := []) (nb := ((Lf 90).length : Int)) (Lf := updL (updL (updL (updL Lf 90 (hz h)) 98 (hz g0)) 106 (hz h)) 110 0) (Lf0 := Lf) (dv := fun g => if g = 578 then ((b + j0 : Nat) : Int) else ga σ g d) hG hN ht hpr hZ hd (by omega) (by omega) (by omega) (by omega) (by omega) (by omega) (by omega) H7 (DS_step Q7 (nd_refl _ _) (hx_refl _ _) (Nat.le_refl _) (by omega) (by omega) (by omega)) (okLg h7 pΦ7 (by omega)) pΦ7.2.2.2.1 ⟨pΦ7.1, pΦ7.2.1, O7.2.1, Oe7, trivial⟩ da7 C7 c2 ⟨by simp; exact hdv.1, by simp; exact hdv.2.1, by simp, .inl ⟨rfl, by simp; exact hdv.2.2.1⟩, by simp; exact hdv.2.2.2.1, by simp; exact hdv.2.2.2.2⟩ rfl rfl ⟨by simp; exact hdv.2.2.1, by simp; exact hdv.2.2.2.1⟩
end LF3
