set_option maxRecDepth 100000
/-! EXS BECOME KNOWN ALIKE: cases -/
section LEC
variable {G : om_G} {A : Nat} {S : List Int} {b m : Nat} {N : List (List Int)} {cs : List Nat} {K : KT} {pr Ln : Nat} {Ls : List (List Int)} {sc : List Nat} {tb : Nat} {rest : List (Nat × List Nat)} {fo : List Nat} {F : FT} {mo : List (List Nat)} {Ms : List FT} {rs so Lb : Nat} {bLs : List (List Int)} {bd : List Nat} {z0 : Nat}
variable {h h' h1 : om_H} {ul fl ul' fl' : List Nat} {σ τ : tS} {n n' q lo hi alo ahi sp a v k kT kC : Nat} {X XC XT : Int}
set_option maxHeartbeats 2000000 in
/-- within two names that are bound -/
theorem inside2_rel {w w' j ex : Nat} (IH : EA G A S b m N cs K pr Ln Ls sc tb rest fo F mo Ms rs so Lb z0 k) (hT : k ≤ kT) (hC : k < kC) (H : EC G A S N cs K pr Ln Ls tb rest fo F mo Ms rs so Lb h ul fl bLs) (HU : EU S b m N K sc F Ms σ n bd sp) (B : bdL N bd bLs) (R : ER S lo hi alo ahi pr tb Lb h ul fl n sp) (Z : z0 ≤ hz h ∧ fR h 122 tb < z0 ∧ Lb < z0) (hl : bLs.length + 2 + 2 * k ≤ 600) (wd1 : wd h A S w j) (wl : w < hz h) (k2 : tokk S j = 2) (wd1' : wd h A S w' (j + 1)) (wl' : w' < hz h) (k2' : tokk S (j + 1) = 2) (W : X0 G A S b h σ k lo hi alo ahi ex v) : ∃ (σ1 σ2 τ : tS) (n' : Nat) (h1 h3 h' : om_H) (ul' fl' : List Nat) (XC XT : Int), T_binds ((b + j : Nat) : Int) σ = some σ1 ∧ T_binds ((b + (j + 1) : Nat) : Int) σ1 = some σ2 ∧ (∀ f, f ≠ 782 → ∀ i, ga σ1 f i = ga σ f i) ∧ (∀ f, f ≠ 782 → ∀ i, ga σ2 f i = ga σ f i) ∧ T_exKnownD kT (v : Int) σ2 = some τ ∧ P_J2_add G Lb w h = some (1, h1) ∧ (∀ y, y < hz h → y ≠ Lb → eqA y h h1) ∧ kd h1 rs = 35 ∧ C_35_inside G (C_35_exD G kC) rs w' ex h1 = some h3 ∧ (gd (kd h3 rs = 35 ∧ kd h3 (fR h3 1610 rs) = 42) ((P_J2_size G (fR h3 1610 rs) h3).bind fun p3 => gd (kd h3 (fR h3 1610 rs) = 42) ((P_J2_remove G (fR h3 1610 rs) (w32 (p3 - 1)) h3).bind fun p4 => some p4.2))) = some h' ∧ SE G A S N cs K pr Ln Ls tb rest fo F mo Ms rs so Lb bLs alo ahi h ul fl h' ul' fl' (hi - lo + 1) XC ∧ SU S b m N K sc F Ms bd sp lo hi σ n (us τ 788 (bd.length : Int)) n' (hi - lo) XT ∧ brkE S b m σ lo hi XC ∧ brkE S b m σ lo hi XT ∧ (scA N sc Ls → XC = XT ∧ (XC = 2147483647 → XS G A S b h' (us τ 788 (bd.length : Int)) (Psi1 S b N cs rest fo F mo Ms z0 h' ul' (us τ 788 (bd.length : Int)) n') k (bLs.length + 2) lo hi alo ahi ex v)) := by
  have hA := R.1.2.1
  have D0 := R.2.1
  have LbD : Lb < alo ∨ ahi ≤ Lb := D0 Lb (.inr (.inr rfl))
  have k0 : k ≠ 0 := fun z => by rw [z] at W; exact W
  have wb1 := wd_wb H.1.2.1.1 wd1
  obtain ⟨h1, a1, a2, a3, a4, a5, a6, a7, a8⟩ := c_push H wb1 wl (by rw [wd1.2.1]; exact H.1.2.1.2) (by omega)
  have kL := H.2.2.2.2.1.1.2.1
  have ew' := a3.2.2.2 w' wl' (fun z => by have z' : w' = Lb := z; have := wd1'.1; rw [z', kL] at this; omega)
  have wd2 : wd h1 A S w' (j + 1) := ⟨by rw [ew'.1]; exact wd1'.1, by rw [ew'.2.2.1]; exact wd1'.2.1, by rw [ew'.2.1]; exact wd1'.2.2.1, by rw [ew'.2.1]; exact wd1'.2.2.2⟩
  have hz1 := a3.1
  have wb2 := wd_wb a2.1.2.1.1 wd2
  have len1 : (bLs ++ [tokw S j]).length = bLs.length + 1 := by simp
  obtain ⟨h2, c1, c2, c3, c4, c5, c6, c7, c8⟩ := c_push a2 wb2 (by omega) (by rw [wd2.2.1]; exact a2.1.2.1.2) (by rw [len1]; omega)
  have hz2 := c3.1
  have bl := B.1
  obtain ⟨wn, σ1, b1, b2, b3, b4, b5⟩ := t_binds HU k2 (by omega)
  obtain ⟨wn', σ2, d1, d2, d3, d4, d5⟩ := t_binds b3 k2' (by simp; omega)
  have ez1 : fR h1 122 tb = fR h 122 tb := by
    have t3 := TB_3 H.1.1.1
    exact (a3.2.2.2 tb t3.2.2 (fun z => by have z' : tb = Lb := z; rw [← z', t3.1] at kL; omega)).2.2.1 122
  have ez2 : fR h2 122 tb = fR h1 122 tb := by
    have t3 := TB_3 a2.1.1.1
    have kL1 := a2.2.2.2.2.1.1.2.1
    exact (c3.2.2.2 tb t3.2.2 (fun z => by have z' : tb = Lb := z; rw [← z', t3.1] at kL1; omega)).2.2.1 122
  have W1 := X0_keep W (hk_Lb LbD hA a3) (nall_binds b4)
  have W2 := X0_keep W1 (hk_Lb LbD (by omega) c3) (nall_binds d4)
  obtain ⟨τ, n', h3, u3, f3, XC, XT, e1, e2, e3, e4, e5, e6, e7⟩ := EA_child (kT := kT) (kC := kC) IH hT hC c2 d3 (bdL_app (bdL_app B b2) d2) W2 (ER_Lb (ER_Lb R H a3) a2 c3) ⟨by omega, by rw [ez2, ez1]; exact Z.2.1, Z.2.2⟩ (by simp; omega)
  have D1 := (ER_Lb R H a3).2.1
  obtain ⟨h4, g1, g2, g3⟩ := c_popE a2 D1 (by omega) c3 c4 c5 c6 c7 c8 (SEe_0 e3)
  obtain ⟨h5, i1, i2, i3⟩ := c_popE H D0 hA a3 a4 a5 a6 a7 a8 g2
  have f12 : fr [788] [782] σ σ2 := fr_trans b4 d4
  have U := SU_in (bd' := bd ++ [wn] ++ [wn']) HU (by rw [List.append_assoc]; exact List.prefix_append _ _) f12 (fun i hi => (d5 i (by simp; omega)).trans (b5 i hi)) e4
  have bf : ∀ f ∈ [538, 542, 554], ∀ i, ga σ2 f i = ga σ f i := fun f hf i => f12.2 f (fun z => by rw [List.mem_singleton.mp z] at hf; exact absurd hf (by decide)) i
  refine ⟨σ1, σ2, τ, n', h1, h4, h5, u3, f3, XC, XT, b1, d1, fun f hf i => b4.2 f (fun z => hf (List.mem_singleton.mp z)) i, fun f hf i => f12.2 f (fun z => hf (List.mem_singleton.mp z)) i, e1, a1, fun y y1 y2 => a3.2.2.2 y y1 y2, a2.2.2.1.1, ?_, i1, SEe_2 i2, U, brkE_fr bf e5, brkE_fr bf e6, fun s => ⟨(e7 s).1, fun z => ?_⟩⟩
  · have r35 := a2.2.2.1
    unfold C_35_inside
    rw [r35.2.2.2.2.2, gd_pos ⟨r35.1, a2.2.2.2.2.1.1.2.1⟩, c1, Option.bind_some, gd_pos c2.2.2.1.1, e2, Option.bind_some]
    exact g1
  · have y := (e7 s).2 z
    have len : (bLs ++ [tokw S j] ++ [tokw S (j + 1)]).length = bLs.length + 2 := by simp
    rw [len] at y
    have hz3 := e3.2.1.1.1
    have y1 := XS_Lb (x := 0) y e3.1 LbD (by omega) Z.2.2 g3
    have hz4 := g3.1
    have y2 := XS_Lb (x := (bd.length : Int)) y1 g2.1 LbD (by omega) Z.2.2 i3
    rw [us_us] at y2
    exact y2
set_option maxHeartbeats 4000000 in
theorem case17 (IH : EA G A S b m N cs K pr Ln Ls sc tb rest fo F mo Ms rs so Lb z0 k) (hT : k ≤ kT) (hC : k < kC) (H : EC G A S N cs K pr Ln Ls tb rest fo F mo Ms rs so Lb h ul fl bLs) (HU : EU S b m N K sc F Ms σ n bd sp) (B : bdL N bd bLs) (R : ER S lo hi alo ahi pr tb Lb h ul fl n sp) (Z : z0 ≤ hz h ∧ fR h 122 tb < z0 ∧ Lb < z0) (hl : bLs.length + 2 * (k + 1) ≤ 600) (i1 : lo ≤ v) (i2 : v < hi) (i3 : alo ≤ a) (i4 : a < ahi) (w : X17 A S b h σ (Psi0 A S b h σ) (X0 G A S b h σ k) lo hi alo ahi a v) : EKp G A S b m N cs K pr Ln Ls sc tb rest fo F mo Ms rs so Lb z0 kT (k + 1) lo hi alo ahi a v h ul fl σ n bLs bd sp (C_35_exB G (C_35_exD G kC) rs a h) := by
  have h84 := R.1.2.2.1
  have hS := R.1.2.2.2
  have hA := R.1.2.1
  have D0 := R.2.1
  obtain ⟨w1, w2, w3, j, jx, p1, p2, p3, m1, m2, a1, a2, a3, a4, a5, w4, w5, w6, w7, w8, w8', t1, t2, t3, t4, t5, t6, w9, w10, w11, w12, w12', w13, w14, w15⟩ := w
  have j1 := XR_in _ _ _ _ _ _ _ w11
  have j2 := XR_in _ _ _ _ _ _ _ w12
  have j3 := XR_in _ _ _ _ _ _ _ w13
  have r35 := H.2.2.1.1
  -- the subject
  obtain ⟨τ1, n1, h1, u1, f1, XC1, XT1, e1, e2, e3, e4, e5, e6, e7⟩ := EA_child (kT := kT) (kC := kC) IH hT hC H HU B w11 (ER_sub R (Nat.le_refl _) (by omega) (by omega) (by omega)) Z (by omega)
  have x12 := X0_step w12 (djE_sub D0 (show alo ≤ a2 by omega) (show a3 ≤ ahi by omega)) e3 (by omega) (.inr (Nat.le_refl _)) e4 (.inr (Nat.le_refl _))
  have x13 := X0_step w13 (djE_sub D0 (show alo ≤ a4 by omega) (show a5 ≤ ahi by omega)) e3 (by omega) (.inr (by omega)) e4 (.inr (by omega))
  have D1 := djE_step D0 e3 hA
  have hz1 := e3.2.1.1.1
  have R1 := ER_next R e3 e4 (lo' := m1) (hi' := hi) (alo' := a2) (ahi' := ahi) (by omega) (Nat.le_refl _) (by omega) (Nat.le_refl _) (by omega)
  have Z1 := Z_step Z e3
  have eo1 := SE_own e3 D0 hA i3 i4 (.inl (by omega))
  -- nil
  obtain ⟨τ2, n2, h2, u2, f2, XC2, XT2, g1, g2, g3, g4, g5, g6, g7⟩ := EA_child (kT := kT) (kC := kC) IH hT hC e3.1 e4.1 B x12 (ER_sub R1 (Nat.le_refl _) (by omega) (Nat.le_refl _) (by omega)) Z1 (by omega)
  have x23 := X0_step x13 (djE_sub D1 (show alo ≤ a4 by omega) (show a5 ≤ ahi by omega)) g3 (by omega) (.inr (by omega)) g4 (.inr (by omega))
  have D2 := djE_step D1 g3 (by omega)
  have hz2 := g3.2.1.1.1
  have Z2 := Z_step Z1 g3
  have eo2 := eqA_trans eo1 (SE_own g3 D1 (by omega) i3 i4 (.inl (by omega)))
  have C1 := SE_wide e3 (show alo ≤ a1 by omega) (show a2 ≤ ahi by omega) hA D0
  have C2 := SE_wide g3 (show alo ≤ a2 by omega) (show a3 ≤ ahi by omega) (by omega) D1
  have C12 := SE_trans C1 C2
  have U12 := SU_trans (SU_wide e4 (Nat.le_refl lo) (show m1 ≤ hi by omega)) (SU_wide g4 (show lo ≤ m1 by omega) (show m2 ≤ hi by omega))
  have v4 : wd h2 A S (fR h 1446 a) jx := wd_hs C12.2.2.2.1 t3.1 t3.2 t4
  have v6 : wd h2 A S (fR h 1450 a) (jx + 1) := wd_hs C12.2.2.2.1 t5.1 t5.2 t6
  have wbx := wd_wb g3.1.1.2.1.1 v4
  have wby := wd_wb g3.1.1.2.1.1 v6
  obtain ⟨wn, c1, c2, c3⟩ := t_nameAt g4.1.1.2.1 (.inl t1)
  obtain ⟨wn', c1', c2', c3'⟩ := t_nameAt g4.1.1.2.1 (.inl t2)
  have iff : wn = wn' ↔ tokw S jx = tokw S (jx + 1) := by
    constructor
    · intro z; rw [z, c2'] at c2; exact (Option.some.inj c2).symm
    · intro z; rw [z] at c2; exact H.1.1.2 _ _ _ c2 c2'
  have t54 : ga τ2 554 v = ((b + jx : Nat) : Int) := by rw [SU_ga g4 (by decide), SU_ga e4 (by decide)]; exact w8
  have bm := HU.1.2.1.2.1
  have w54 : w32 (((b + jx : Nat) : Int) + 1) = ((b + (jx + 1) : Nat) : Int) := by rw [w32_s (by omega) (by omega)]; rfl
  -- two names alike
  obtain ⟨h3, τ3, Y, d1, d2, d3, d4, d5⟩ : ∃ (h3 : om_H) (τ3 : tS) (Y : Int), SE G A S N cs K pr Ln Ls tb rest fo F mo Ms rs so Lb bLs a4 a4 h2 u2 f2 h3 u2 f2 0 Y ∧ SU S b m N K sc F Ms bd sp m2 m2 τ2 n2 τ3 n2 0 Y ∧ (∀ l2 : Int, (if (wn : Int) ≠ (wn' : Int) then T_oneKnown_371 (T_exKnownD kT) (v : Int) l2 τ2 else if 0 ≤ (v : Int) ∧ (v : Int) < 8400 then ((T_breaks 2 (w32 ((ga τ2 554 v) + 1)) τ2).bind fun p5 => T_oneKnown_371 (T_exKnownD kT) (v : Int) l2 p5) else none) = T_oneKnown_371 (T_exKnownD kT) (v : Int) l2 τ3) ∧ ((if (if tokw S jx = tokw S (jx + 1) then (1 : Int) else 0) = 0 then C_35_cases_44 G (C_35_exD G kC) rs a h2 else gd (kd h2 rs = 35 ∧ kd h2 a = 27 ∧ kd h2 (fR h2 1450 a) = 17 ∧ kd h2 (fR h2 1598 rs) = 2) ((C_1_rule G (fR h2 1598 rs) (fI h2 1188 (fR h2 1450 a)) h2).bind fun p4 => C_35_cases_44 G (C_35_exD G kC) rs a p4)) = C_35_cases_44 G (C_35_exD G kC) rs a h3) ∧ (Y = 2147483647 ∨ Y = (tokq S (jx + 1) : Int)) := by
    by_cases c : tokw S jx = tokw S (jx + 1)
    · obtain ⟨h3, x1, x2⟩ := SC_rule g3.1.1 (tokq S (jx + 1) : Int)
      obtain ⟨τ3, y1, y2⟩ := ST_breaks g4.1.1 (j := jx + 1) (by omega) hS
      refine ⟨h3, τ3, (tokq S (jx + 1) : Int), SE_of g3.1 x2 (by omega) (djE_sub D2 (by omega) (by omega)), SU_of g4.1 y2, fun l2 => ?_, ?_, .inr rfl⟩
      · rw [if_neg (fun z => z (by rw [iff.mpr c])), if_pos (by omega), t54, w54, y1, Option.bind_some]
      · have r2 := g3.1.2.2.1
        rw [if_pos c, if_neg (by decide), eo2.2.2.1, r2.2.2.1, gd_pos ⟨r2.1, by rw [eo2.1]; exact w1, v6.1, g3.1.1.2.2.1.1.1.1⟩, v6.2.2.1, x1, Option.bind_some]
    · refine ⟨h2, τ2, 2147483647, SE_refl g3.1, SU_refl g4.1, fun l2 => ?_, ?_, .inl rfl⟩
      · rw [if_pos (fun z => c (iff.mp (by omega)))]
      · rw [if_neg c, if_pos rfl]
  have x33 := X0_step x23 (djE_sub D2 (show alo ≤ a4 by omega) (show a5 ≤ ahi by omega)) d1 (by omega) (.inr (Nat.le_refl _)) d2 (.inr (Nat.le_refl _))
  have D3 := djE_step D2 d1 (by omega)
  have hz3 := d1.2.1.1.1
  have R2 := ER_next R1 g3 g4 (lo' := m2) (hi' := hi) (alo' := a3) (ahi' := ahi) (by omega) (Nat.le_refl _) (by omega) (Nat.le_refl _) (by omega)
  have R3 := ER_next R2 d1 d2 (lo' := m2) (hi' := v) (alo' := a4) (ahi' := a5) (by omega) (by omega) (by omega) (by omega) (by omega)
  have Z3 := Z_step Z2 d1
  have C3w := SE_wide d1 (show alo ≤ a4 by omega) (show a4 ≤ ahi by omega) (by omega) D2
  have eo3 := eqA_trans eo2 (SE_own d1 D2 (by omega) i3 i4 (.inl (by omega)))
  have x4 : wd h3 A S (fR h 1446 a) jx := wd_hs C3w.2.2.2.1 t3.1 t3.2 v4
  have x6 : wd h3 A S (fR h 1450 a) (jx + 1) := wd_hs C3w.2.2.2.1 t5.1 t5.2 v6
  obtain ⟨σ4, σ5, τ6, n6, h4, h5, h6, u6, f6, XC3, XT3, q1, q2, q3, q4, q5, q6, q7, q8, q9, q10, q11, q12, q13, q14, q15⟩ := inside2_rel (kT := kT) (kC := kC) IH hT hC d1.1 d2.1 B R3 Z3 (by omega) x4 (by omega) t1 x6 (by omega) t2 x33
  have C := SE_trans (SE_trans C12 C3w) (SE_wide q11 (show alo ≤ a4 by omega) (show a5 ≤ ahi by omega) (by omega) D3)
  have U := SU_trans (SU_trans U12 (SU_wide d2 (show lo ≤ m2 by omega) (show m2 ≤ hi by omega))) (SU_wide q12 (show lo ≤ m2 by omega) (show v ≤ hi by omega))
  have b1 : ∀ f ∈ [538, 542, 554], ∀ i, ga τ1 f i = ga σ f i := fun f hf i => SU_ga e4 (by simp only [List.mem_cons, List.not_mem_nil, or_false] at hf ⊢; omega) i
  have b3 : ∀ f ∈ [538, 542, 554], ∀ i, ga τ3 f i = ga σ f i := fun f hf i => (SU_ga d2 (by simp only [List.mem_cons, List.not_mem_nil, or_false] at hf ⊢; omega) i).trans ((SU_ga g4 (by simp only [List.mem_cons, List.not_mem_nil, or_false] at hf ⊢; omega) i).trans (b1 f hf i))
  obtain ⟨k1, k2, k3, k4⟩ := C.2.2.2.1 a i3 i4
  obtain ⟨v1, v2, v3⟩ := SU_nss (lo' := lo) (hi' := hi) U v i1 i2
  have eo := eqA_trans eo3 (SE_own q11 D3 (by omega) i3 i4 (.inl (by omega)))
  have l1 := brkE_le hS e5
  have l2 := brkE_le hS g5
  have l3 := brkE_le hS q13
  have tq := tok_le S (jx + 1)
  have bY : brkE S b m σ lo hi Y := by
    rcases d5 with z | z
    · exact .inl z
    · exact .inr ⟨v, jx + 1, i1, i2, .inr ⟨w2, by rw [w8]; rfl⟩, by omega, z⟩
  have aLb : a ≠ Lb := fun z => by have := D0 Lb (.inr (.inr rfl)); omega
  have ea4 := q7 a (by omega) aLb
  have kL := H.2.2.2.2.1.1.2.1
  have c550 : ga τ1 550 v = ga σ 550 v := by
    rcases e4.2.2.1 v with z | z
    · omega
    · exact z
  refine ⟨us τ6 788 (bd.length : Int), n6, h6, u6, f6, _, _, DN_leaf (by omega) (by rw [w2]; decide) ?_, ?_, SE_le C (by omega), SU_le U (by omega), brkE_min (brkE_min (brkE_min (brkE_mono e5 (Nat.le_refl _) (by omega)) (brkE_fr b1 (brkE_mono g5 (by omega) (by omega)))) bY) (brkE_fr b3 (brkE_mono q13 (by omega) (by omega))), brkE_min (brkE_min (brkE_min (brkE_mono e6 (Nat.le_refl _) (by omega)) (brkE_fr b1 (brkE_mono g6 (by omega) (by omega)))) bY) (brkE_fr b3 (brkE_mono q14 (by omega) (by omega))), fun s => ?_⟩
  · have z54 : ga τ3 554 v = ((b + jx : Nat) : Int) := by rw [SU_ga d2 (by decide)]; exact t54
    have y54 : ga σ4 554 v = ((b + jx : Nat) : Int) := by rw [q3 554 (by decide)]; exact z54
    have y58 : ga σ5 558 v = (p3 : Int) := by rw [q4 558 (by decide), SU_ga d2 (by decide), SU_ga g4 (by decide), SU_ga e4 (by decide)]; exact w8'
    have e371 : T_oneKnown_371 (T_exKnownD kT) (v : Int) (gs σ 788) τ3 = some (us τ6 788 (bd.length : Int)) := by
      unfold T_oneKnown_371
      rw [if_pos (by omega), show ((v : Int)).toNat = v by omega, z54, q1, Option.bind_some, if_pos (by omega), y54, w54, q2, Option.bind_some, if_pos (by omega), y58, q5, Option.bind_some, HU.2.1.1]
    unfold T_oneKnown
    rw [if_pos (by omega), show ((v : Int)).toNat = v by omega, w2, if_neg (by decide), if_neg (by decide), if_neg (by decide), if_neg (by decide), if_neg (by decide), if_neg (by decide), if_neg (by decide)]
    unfold T_oneKnown_313
    rw [if_pos (by omega), show ((v : Int)).toNat = v by omega, w6, e1, Option.bind_some, if_pos (by omega), c550, w7, g1, Option.bind_some, if_pos (by omega), t54, c1, Option.bind_some, if_pos (by omega), w54, c1', Option.bind_some]
    have := d3 (gs σ 788)
    rw [t54, w54] at this
    rw [this]
    exact e371
  · have c1a := C1.2.2.2.1 a i3 i4
    have e44 : C_35_cases_44 G (C_35_exD G kC) rs a h3 = some h6 := by
      have r3 := d1.1.2.2.1
      have ka3 : kd h3 a = 27 := by rw [eo3.1]; exact w1
      unfold C_35_cases_44
      rw [r3.2.2.2.2.2, gd_pos ⟨r3.1, ka3, d1.1.2.2.2.2.1.1.2.1⟩, eo3.2.2.1, q6, Option.bind_some, gd_pos ⟨by rw [ea4.1]; exact ka3, q8⟩, ea4.2.2.1, eo3.2.2.1, ea4.2.2.1, eo3.2.2.1, q9, Option.bind_some]
      exact q10
    rw [exB_27 ⟨26, by decide, w1⟩ w1 r35]
    unfold C_35_cases
    rw [gd_pos ⟨w1, r35⟩, e2, Option.bind_some, gd_pos ⟨by rw [eo1.1]; exact w1, e3.1.2.2.1.1⟩, eo1.2.2.1, g2, Option.bind_some, gd_pos ⟨by rw [eo2.1]; exact w1, by rw [eo2.2.2.1]; exact v4.1⟩]
    have eis : C_16_is_2 G (fR h2 1446 a) (fR h2 1450 a) h2 = some (if tokw S jx = tokw S (jx + 1) then 1 else 0) := by
      rw [eo2.2.2.1, eo2.2.2.1]
      exact c_is2 wbx wby
    rw [eis, Option.bind_some, d4]
    exact e44
  · have s1 := e7 s
    have s2 := g7 s
    have s3 := q15 s
    refine ⟨by rw [s1.1, s2.1, s3.1], fun z => ?_⟩
    have y1 := s1.2 (by omega)
    have y2 := s2.2 (by omega)
    have y3 := s3.2 (by omega)
    have y12 := XS_step y1 e3.1 Z1.2 (djE_sub D1 (show alo ≤ a1 by omega) (show a2 ≤ ahi by omega)) g3 (by omega) (.inl (Nat.le_refl _)) g4 (.inl (Nat.le_refl _))
    have y13 := XS_step y12 g3.1 Z2.2 (djE_sub D2 (show alo ≤ a1 by omega) (show a2 ≤ ahi by omega)) d1 (by omega) (.inl (by omega)) d2 (.inl (by omega))
    have y14 := XS_step y13 d1.1 Z3.2 (djE_sub D3 (show alo ≤ a1 by omega) (show a2 ≤ ahi by omega)) q11 (by omega) (.inl (by omega)) q12 (.inl (by omega))
    have y23 := XS_step y2 g3.1 Z2.2 (djE_sub D2 (show alo ≤ a2 by omega) (show a3 ≤ ahi by omega)) d1 (by omega) (.inl (by omega)) d2 (.inl (by omega))
    have y24 := XS_step y23 d1.1 Z3.2 (djE_sub D3 (show alo ≤ a2 by omega) (show a3 ≤ ahi by omega)) q11 (by omega) (.inl (by omega)) q12 (.inl (by omega))
    refine ⟨i1, i2, i3, i4, .inr (.inr (.inr (.inr (.inr (.inl ⟨by rw [k1]; exact w1, by rw [v1 538 (by simp)]; exact w2, w3, j, jx, p1, p2, p3, m1, m2, a1, a2, a3, a4, a5, by rw [v1 542 (by simp)]; exact w4, by rw [k2 1372 (by decide)]; exact w5, by rw [v1 546 (by simp)]; exact w6, by rw [v3 (by rw [w2]; decide)]; exact w7, by rw [v1 554 (by simp)]; exact w8, by rw [v1 558 (by simp)]; exact w8', t1, t2, by rw [k3 1446 (by decide)]; exact t3, by rw [k3 1446 (by decide)]; exact wd_hs C.2.2.2.1 t3.1 t3.2 t4, by rw [k3 1450 (by decide)]; exact t5, by rw [k3 1450 (by decide)]; exact wd_hs C.2.2.2.1 t5.1 t5.2 t6, w9, w10, by rw [k3 1434 (by decide)]; exact y14, by rw [k3 1438 (by decide)]; exact y24, w12', by rw [k3 1442 (by decide)]; exact y3, w14, ⟨fun _ => ?_, fun q => absurd q (by decide), fun q => absurd q (by decide), fun q => absurd q (by decide), fun q => absurd q (by decide), fun q => absurd q (by decide)⟩⟩)))))⟩
    rw [eo.2.2.1]
    exact w15.1 (by decide)
end LEC
