set_option maxRecDepth 100000
/-! EXS BECOME KNOWN ALIKE: lets -/
section LEM
variable {G : om_G} {A : Nat} {S : List Int} {b m : Nat} {N : List (List Int)} {cs : List Nat} {K : KT} {pr Ln : Nat} {Ls : List (List Int)} {sc : List Nat} {tb : Nat} {rest : List (Nat × List Nat)} {fo : List Nat} {F : FT} {mo : List (List Nat)} {Ms : List FT} {rs so Lb : Nat} {bLs : List (List Int)} {bd : List Nat} {z0 : Nat}
variable {h h' h1 : om_H} {ul fl ul' fl' : List Nat} {σ τ : tS} {n n' q lo hi alo ahi sp a v k kT kC : Nat} {X XC XT : Int}
set_option maxHeartbeats 4000000 in
theorem case15 (IH : EA G A S b m N cs K pr Ln Ls sc tb rest fo F mo Ms rs so Lb z0 k) (hT : k ≤ kT) (hC : k < kC) (H : EC G A S N cs K pr Ln Ls tb rest fo F mo Ms rs so Lb h ul fl bLs) (HU : EU S b m N K sc F Ms σ n bd sp) (B : bdL N bd bLs) (R : ER S lo hi alo ahi pr tb Lb h ul fl n sp) (Z : z0 ≤ hz h ∧ fR h 122 tb < z0 ∧ Lb < z0) (hl : bLs.length + 2 * (k + 1) ≤ 600) (i1 : lo ≤ v) (i2 : v < hi) (i3 : alo ≤ a) (i4 : a < ahi) (w : X15 A S b h σ (Psi0 A S b h σ) (X0 G A S b h σ k) lo hi alo ahi a v) : EKp G A S b m N cs K pr Ln Ls sc tb rest fo F mo Ms rs so Lb z0 kT (k + 1) lo hi alo ahi a v h ul fl σ n bLs bd sp (C_35_exB G (C_35_exD G kC) rs a h) := by
  have h84 := R.1.2.2.1
  have hS := R.1.2.2.2
  have hA := R.1.2.1
  have D0 := R.2.1
  obtain ⟨w1, w2, w3, j, na, nb, m1, m2, a1, a2, a3, a4, w4, w5, w6, w7, w8, w9, w10, w10', w11, w12, w13, w14, w15, w16, w16', w17⟩ := w
  have ja := XR_in _ _ _ _ _ _ _ w16
  have jb := XR_in _ _ _ _ _ _ _ w16'
  obtain ⟨p1, _, p3⟩ := w15
  rw [if_neg (by decide), if_neg (by decide), if_pos rfl] at p3
  obtain ⟨_, p, p4, p5⟩ := p3
  have r35 := H.2.2.1.1
  obtain ⟨t, τ1, n1, x, h1, u1, f1, XC1, XT1, e1, e2, e3, e4, e5, e6, e7, e8, e9⟩ := type_step H HU p5 R (Nat.le_refl _) (by omega) (by omega) (by omega)
  obtain ⟨s1, s2, s3, s4, s5⟩ := e5 a i3 i4
  have ka : kd h1 a = 25 := by rw [s1]; exact w1
  have C2 := SE_sR (f := 1410) (x := x) H e3 (by decide) i3 i4 (.inr (.inl ka))
  have U2 := SU_550 (v := v) (x := t) e4 i1 i2 (by rw [w2]; decide)
  have g2 : ∀ f, f ∉ TYA → f ≠ 550 → ∀ i, ga (ua τ1 550 v t) f i = ga σ f i := fun f hf h5 i => by
    rw [ga_ua, if_neg (fun (z : f = 550 ∧ i = v) => h5 z.1)]
    exact e6 f hf i
  have g5 : ∀ i, i ≠ v → ga (ua τ1 550 v t) 550 i = ga σ 550 i := fun i hi => by
    rw [ga_ua, if_neg (fun (z : (550 : Nat) = 550 ∧ i = v) => hi z.2)]
    exact e6 550 (by decide) i
  have gv : ga (ua τ1 550 v t) 550 v = t := by rw [ga_ua, if_pos ⟨rfl, rfl⟩]
  have kb : hk a2 a4 h (sR h1 1410 a x) := fun y c d => by
    obtain ⟨q1, q2, q3, q4, q5⟩ := e5 y (by omega) (by omega)
    exact ⟨q1, q2, fun f => by rw [fR_na (show y ≠ a by omega)]; exact q3 f, q4, q5⟩
  have nb1 : nall m1 v σ (ua τ1 550 v t) := fun f hf i c d => by
    by_cases z : f = 550
    · rw [z]; exact g5 i (by omega)
    · exact g2 f (by simp only [List.mem_cons, List.not_mem_nil, or_false] at hf ⊢; omega) z i
  have W2a := X0_keep w16 (hk_sub kb (Nat.le_refl _) (by omega)) (fun f hf i c d => nb1 f hf i (by omega) (by omega))
  have W2b := X0_keep w16' (hk_sub kb (by omega) (Nat.le_refl _)) (fun f hf i c d => nb1 f hf i (by omega) (by omega))
  have D2 := djE_step D0 C2 hA
  have hz2 := C2.2.1.1.1
  have R2 := ER_next R C2 U2 (lo' := m1) (hi' := hi) (alo' := a2) (ahi' := ahi) (by omega) (Nat.le_refl _) (by omega) (Nat.le_refl _) (by omega)
  have Z2 := Z_step Z C2
  -- the first part
  have fc2 : fR (sR h1 1410 a x) 1414 a = fR h 1414 a := by rw [fR_ne (by decide), s3]
  obtain ⟨τ3, n3, h3, u3, f3, XC2, XT2, c1, c2, c3, c4, c5, c6, c7⟩ := EA_child (kT := kT) (kC := kC) IH hT hC C2.1 U2.1 B W2a (ER_sub R2 (Nat.le_refl _) (by omega) (Nat.le_refl _) (by omega)) Z2 (by omega)
  have W3b := X0_step W2b (djE_sub D2 (show alo ≤ a3 by omega) (show a4 ≤ ahi by omega)) c3 (by omega) (.inr (Nat.le_refl _)) c4 (.inr (Nat.le_refl _))
  have D3 := djE_step D2 c3 (by omega)
  have hz3 := c3.2.1.1.1
  have R3 := ER_next R2 c3 c4 (lo' := m2) (hi' := v) (alo' := a3) (ahi' := a4) (by omega) (by omega) (by omega) (by omega) (by omega)
  have Z3 := Z_step Z2 c3
  have eo1 := SE_own c3 D2 (by omega) i3 i4 (.inl (by omega))
  -- the body
  have aw : a ≠ fR h 1402 a := fun z => by have := w9.1; rw [← z] at this; omega
  have wd2 : wd (sR h1 1410 a x) A S (fR h 1402 a) (j + 1) := by
    obtain ⟨q1, q2, q3, q4, q5⟩ := e5 (fR h 1402 a) w8.1 w8.2
    exact ⟨by show kd h1 _ = _; rw [q1]; exact w9.1, by rw [fR_na (fun z => aw z.symm), q3]; exact w9.2.1, by show fI h1 _ _ = _; rw [q2]; exact w9.2.2.1, by show fI h1 _ _ = _; rw [q2]; exact w9.2.2.2⟩
  have C3w := SE_wide c3 (show alo ≤ a2 by omega) (show a3 ≤ ahi by omega) (by omega) D2
  have wd3 : wd h3 A S (fR h 1402 a) (j + 1) := wd_hs C3w.2.2.2.1 w8.1 w8.2 wd2
  obtain ⟨σ4, τ4, n4, h4, u4, f4, XC3, XT3, q1, q2, q3, q4, q5, q6, q7, q8, q9⟩ := inside_rel (kT := kT) (kC := kC) IH hT hC c3.1 c4.1 B R3 Z3 (by omega) wd3 (by omega) w5 W3b
  have C := SE_trans (SE_trans C2 C3w) (SE_wide q5 (show alo ≤ a3 by omega) (show a4 ≤ ahi by omega) (by omega) D3)
  have U := SU_trans (SU_trans U2 (SU_wide c4 (show lo ≤ m1 by omega) (show m2 ≤ hi by omega))) (SU_wide q6 (show lo ≤ m2 by omega) (show v ≤ hi by omega))
  have b1 : ∀ f ∈ [538, 542, 554], ∀ i, ga (ua τ1 550 v t) f i = ga σ f i := fun f hf i => g2 f (by simp only [List.mem_cons, List.not_mem_nil, or_false] at hf ⊢; omega) (by simp only [List.mem_cons, List.not_mem_nil, or_false] at hf; omega) i
  have b2 : ∀ f ∈ [538, 542, 554], ∀ i, ga τ3 f i = ga σ f i := fun f hf i => (SU_ga c4 (by simp only [List.mem_cons, List.not_mem_nil, or_false] at hf ⊢; omega) i).trans (b1 f hf i)
  obtain ⟨k1, k2, k3, k4⟩ := C.2.2.2.1 a i3 i4
  obtain ⟨v1, v2, v3⟩ := SU_nss (lo' := lo) (hi' := hi) U v i1 i2
  have eo2 := SE_own q5 D3 (by omega) i3 i4 (.inl (by omega))
  have eo := eqA_trans eo1 eo2
  have l1 := brk_le hS e7
  have l2 := brkE_le hS c5
  have l3 := brkE_le hS q7
  refine ⟨us τ4 788 (bd.length : Int), n4, h4, u4, f4, _, _, DN_leaf (by omega) (by rw [w2]; decide) ?_, ?_, SE_le C (by omega), SU_le U (by omega), brkE_min (brkE_min (brkE_of (brk_mono e7 (Nat.le_refl _) (by omega))) (brkE_fr b1 (brkE_mono c5 (by omega) (by omega)))) (brkE_fr b2 (brkE_mono q7 (by omega) (by omega))), brkE_min (brkE_min (brkE_of (brk_mono e8 (Nat.le_refl _) (by omega))) (brkE_fr b1 (brkE_mono c6 (by omega) (by omega)))) (brkE_fr b2 (brkE_mono q8 (by omega) (by omega))), fun s => ?_⟩
  · have t54 : ga τ1 554 v = (na : Int) := by rw [e6 554 (by decide)]; exact w10
    have t46 : ga τ3 546 v = ((b + (j + 1) : Nat) : Int) := by rw [SU_ga c4 (by decide), g2 546 (by decide) (by decide)]; exact w7
    have t58 : ga σ4 558 v = (nb : Int) := by rw [q2 558 (by decide), SU_ga c4 (by decide), g2 558 (by decide) (by decide)]; exact w10'
    unfold T_oneKnown
    rw [if_pos (by omega), show ((v : Int)).toNat = v by omega, w2, if_neg (by decide), if_neg (by decide), if_neg (by decide), if_neg (by decide), if_neg (by decide), if_pos rfl, if_pos (by omega), p4, e1, Option.bind_some, if_pos (by omega), t54, c1, Option.bind_some, if_pos (by omega), t46, q1, Option.bind_some, if_pos (by omega), t58, q3, Option.bind_some, HU.2.1.1]
  · have ka3 : kd h3 a = 25 := by rw [eo1.1]; exact ka
    rw [exB_25 ⟨24, by decide, w1⟩ w1 r35, e2, Option.bind_some, gd_pos ⟨ka, ka, e3.1.2.2.1.1⟩, s3, c2, Option.bind_some, gd_pos ⟨ka3, c3.1.2.2.1.1⟩, eo1.2.2.1, fR_ne (by decide), s3, eo1.2.2.1, fR_ne (by decide), s3, q4, Option.bind_some]
  · have s1' := e9.2.2.2 s
    have s2' := c7 s
    have s3' := q9 s
    refine ⟨by rw [s1'.1, s2'.1, s3'.1], fun z => ?_⟩
    have y1 := s2'.2 (by omega)
    have y2 := s3'.2 (by omega)
    have y1' := XS_step y1 c3.1 Z3.2 (djE_sub D3 (show alo ≤ a2 by omega) (show a3 ≤ ahi by omega)) q5 (by omega) (.inl (Nat.le_refl _)) q6 (.inl (Nat.le_refl _))
    obtain ⟨T, c0, c1', c2'⟩ := s1'.2 (by omega) 0 x t rfl rfl
    refine ⟨i1, i2, i3, i4, .inr (.inr (.inr (.inl ⟨by rw [k1]; exact w1, by rw [v1 538 (by simp)]; exact w2, w3, j, na, nb, m1, m2, a1, a2, a3, a4, by rw [v1 542 (by simp)]; exact w4, w5, by rw [k2 1372 (by decide)]; exact w6, by rw [v1 546 (by simp)]; exact w7, by rw [k3 1402 (by decide)]; exact w8, by rw [k3 1402 (by decide)]; exact wd_hs C.2.2.2.1 w8.1 w8.2 w9, by rw [v1 554 (by simp)]; exact w10, by rw [v1 558 (by simp)]; exact w10', w11, w12, w13, w14, ⟨fun _ => ?_, fun q => absurd q (by decide), fun q => absurd q (by decide), fun q => absurd q (by decide), fun _ => ?_, fun q => absurd q (by decide)⟩, by rw [k3 1414 (by decide)]; exact y1', by rw [k3 1418 (by decide)]; exact y2, w17⟩)))⟩
    · rw [eo.2.2.1, fR_ne (by decide), s3]
      exact p1 (by decide)
    · have ex : fR h4 1410 a = x := by rw [eo.2.2.1, fR_eq]
      have et : ga (us τ4 788 (bd.length : Int)) 550 v = t := by
        rcases q6.2.2.1 v with z | z
        · omega
        · rw [z]
          rcases c4.2.2.1 v with z | z
          · omega
          · rw [z]; exact gv
      rw [ex, et]
      exact ⟨T, c0, q5.2.1.2.2.2.2.2.1 T x (c3.2.1.2.2.2.2.2.1 T x (ky_wr e3.1 (.inr (.inl ka)) T x c1')), tyT_mono q6.2.2.2.2.2.1 (tyT_mono c4.2.2.2.2.2.1 (tyT_mono tx_550 c2'))⟩
end LEM
