set_option maxRecDepth 100000
/-! EXS BECOME KNOWN ALIKE: numbers, names, choices -/
section LE6
variable {G : om_G} {A : Nat} {S : List Int} {b m : Nat} {N : List (List Int)} {cs : List Nat} {K : KT} {pr Ln : Nat} {Ls : List (List Int)} {sc : List Nat} {tb : Nat} {rest : List (Nat × List Nat)} {fo : List Nat} {F : FT} {mo : List (List Nat)} {Ms : List FT} {rs so Lb : Nat} {bLs : List (List Int)} {bd : List Nat} {z0 : Nat}
variable {h h' : om_H} {σ τ : tS} {n n' q lo hi alo ahi sp a v k kT kC : Nat} {X XC XT : Int}
theorem XS_us {ul : List Nat} {e lo' hi' alo' ahi' : Nat} {x : Int} (W : XS G A S b h τ (Psi1 S b N cs rest fo F mo Ms z0 h ul τ n) k e lo' hi' alo' ahi' a v) : XS G A S b h (us τ 788 x) (Psi1 S b N cs rest fo F mo Ms z0 h ul (us τ 788 x) n) k e lo' hi' alo' ahi' a v := XS_keep W (fun _ => ⟨hs_refl, fun _ _ _ => ⟨fun _ _ => rfl, fun _ => rfl, fun _ => rfl⟩, Psi1_keep (fun _ _ _ => ⟨rfl, fun _ => rfl, fun _ => rfl, rfl, rfl⟩) (fun _ _ _ _ _ => rfl) (fun _ _ c => c) (tx_same (fun _ _ _ => rfl)) (Nat.le_refl _) (fun _ _ _ y3 => ⟨y3, rfl⟩)⟩)
end LE6
section LE7
variable {G : om_G} {A : Nat} {S : List Int} {b m : Nat} {N : List (List Int)} {cs : List Nat} {K : KT} {pr Ln : Nat} {Ls : List (List Int)} {sc : List Nat} {tb : Nat} {rest : List (Nat × List Nat)} {fo : List Nat} {F : FT} {mo : List (List Nat)} {Ms : List FT} {rs so Lb : Nat} {bLs : List (List Int)} {bd : List Nat} {z0 : Nat}
variable {h h' : om_H} {ul fl ul' fl' : List Nat} {σ τ : tS} {n n' q lo hi alo ahi sp a v k kT kC : Nat} {X XC XT : Int}
theorem case11 (H : EC G A S N cs K pr Ln Ls tb rest fo F mo Ms rs so Lb h ul fl bLs) (HU : EU S b m N K sc F Ms σ n bd sp) (R : ER S lo hi alo ahi pr tb Lb h ul fl n sp) (i1 : lo ≤ v) (i2 : v < hi) (i3 : alo ≤ a) (i4 : a < ahi) (w : X11 S b h σ (Psi0 A S b h σ) lo hi a v) : EKp G A S b m N cs K pr Ln Ls sc tb rest fo F mo Ms rs so Lb z0 kT (k + 1) lo hi alo ahi a v h ul fl σ n bLs bd sp (C_35_exB G (C_35_exD G kC) rs a h) := by
  have h84 := R.1.2.2.1
  obtain ⟨w1, w2, w3, j, w4, w5, w6, w7, w8⟩ := w
  have eT : T_oneKnown (T_exKnownD kT) (v : Int) σ = some (us σ 788 (bd.length : Int)) := by
    unfold T_oneKnown
    rw [if_pos (by omega), show ((v : Int)).toNat = v by omega, w2, if_neg (by decide), if_pos rfl, HU.2.1.1]
  refine ⟨us σ 788 (bd.length : Int), n, h, ul, fl, 2147483647, 2147483647, DN_leaf (by omega) (by rw [w2]; decide) eT, exB_29 ⟨28, by decide, w1⟩ w1, SE_le (SE_refl H) (Nat.zero_le _), SU_le (SU_788 (SU_refl HU)) (Nat.zero_le _), .inl rfl, .inl rfl, fun _ => ⟨rfl, fun _ => ?_⟩⟩
  exact ⟨i1, i2, i3, i4, .inl ⟨w1, w2, w3, j, w4, w5, w6, w7, ⟨fun _ => w8.1 (by decide), fun q => absurd q (by decide), fun q => absurd q (by decide), fun q => absurd q (by decide), fun q => absurd q (by decide), fun q => absurd q (by decide)⟩⟩⟩
theorem case10 (H : EC G A S N cs K pr Ln Ls tb rest fo F mo Ms rs so Lb h ul fl bLs) (HU : EU S b m N K sc F Ms σ n bd sp) (B : bdL N bd bLs) (R : ER S lo hi alo ahi pr tb Lb h ul fl n sp) (i1 : lo ≤ v) (i2 : v < hi) (i3 : alo ≤ a) (i4 : a < ahi) (w : X10 A S b h σ (Psi0 A S b h σ) lo hi alo ahi a v) : EKp G A S b m N cs K pr Ln Ls sc tb rest fo F mo Ms rs so Lb z0 kT (k + 1) lo hi alo ahi a v h ul fl σ n bLs bd sp (C_35_exB G (C_35_exD G kC) rs a h) := by
  have h84 := R.1.2.2.1
  obtain ⟨τ, h', XC, XT, e1, e2, e3, e4, e5, e6, e7, e8⟩ := name10 (z0 := z0) (r := T_exKnownD kT) H HU B R i1 i2 i3 i4 w
  refine ⟨τ, n, h', ul, fl, XC, XT, DN_leaf (by omega) (by rw [w.2.1]; decide) e1, (exB_28 ⟨27, by decide, w.1⟩ w.1 H.2.2.1.1).trans e2, e3, e4, e5, e6, fun _ => ⟨e7, fun z => ⟨i1, i2, i3, i4, .inr (.inl (e8 z))⟩⟩⟩
set_option maxHeartbeats 2000000 in
theorem case16 (IH : EA G A S b m N cs K pr Ln Ls sc tb rest fo F mo Ms rs so Lb z0 k) (hT : k ≤ kT) (hC : k < kC) (H : EC G A S N cs K pr Ln Ls tb rest fo F mo Ms rs so Lb h ul fl bLs) (HU : EU S b m N K sc F Ms σ n bd sp) (B : bdL N bd bLs) (R : ER S lo hi alo ahi pr tb Lb h ul fl n sp) (Z : z0 ≤ hz h ∧ fR h 122 tb < z0 ∧ Lb < z0) (hl : bLs.length + 2 * (k + 1) ≤ 600) (i1 : lo ≤ v) (i2 : v < hi) (i3 : alo ≤ a) (i4 : a < ahi) (w : X16 S b h σ (Psi0 A S b h σ) (X0 G A S b h σ k) lo hi alo ahi a v) : EKp G A S b m N cs K pr Ln Ls sc tb rest fo F mo Ms rs so Lb z0 kT (k + 1) lo hi alo ahi a v h ul fl σ n bLs bd sp (C_35_exB G (C_35_exD G kC) rs a h) := by
  have h84 := R.1.2.2.1
  have hS := R.1.2.2.2
  have hA := R.1.2.1
  have D0 := R.2.1
  obtain ⟨w1, w2, w3, j, p1, p2, p3, m1, m2, a1, a2, a3, a4, w4, w5, w6, w7, w8, w9, w10, w11, w12, w13, w14, w15⟩ := w
  have j1 := XR_in _ _ _ _ _ _ _ w11
  have j2 := XR_in _ _ _ _ _ _ _ w12
  have j3 := XR_in _ _ _ _ _ _ _ w13
  -- the first part
  obtain ⟨τ1, n1, h1, u1, f1, XC1, XT1, e1, e2, e3, e4, e5, e6, e7⟩ := EA_child (kT := kT) (kC := kC) IH hT hC H HU B w11 (ER_sub R (Nat.le_refl _) (by omega) (by omega) (by omega)) Z (by omega)
  have x12 := X0_step w12 (djE_sub D0 (show alo ≤ a2 by omega) (show a3 ≤ ahi by omega)) e3 (by omega) (.inr (Nat.le_refl _)) e4 (.inr (Nat.le_refl _))
  have x13 := X0_step w13 (djE_sub D0 (show alo ≤ a3 by omega) (show a4 ≤ ahi by omega)) e3 (by omega) (.inr (by omega)) e4 (.inr (by omega))
  have D1 := djE_step D0 e3 hA
  have hz1 := e3.2.1.1.1
  have R1 := ER_next R e3 e4 (lo' := m1) (hi' := hi) (alo' := a2) (ahi' := ahi) (by omega) (Nat.le_refl _) (by omega) (Nat.le_refl _) (by omega)
  have Z1 := Z_step Z e3
  -- the second
  obtain ⟨τ2, n2, h2, u2, f2, XC2, XT2, g1, g2, g3, g4, g5, g6, g7⟩ := EA_child (kT := kT) (kC := kC) IH hT hC e3.1 e4.1 B x12 (ER_sub R1 (Nat.le_refl _) (by omega) (Nat.le_refl _) (by omega)) Z1 (by omega)
  have x23 := X0_step x13 (djE_sub D1 (show alo ≤ a3 by omega) (show a4 ≤ ahi by omega)) g3 (by omega) (.inr (Nat.le_refl _)) g4 (.inr (Nat.le_refl _))
  have D2 := djE_step D1 g3 (by omega)
  have hz2 := g3.2.1.1.1
  have R2 := ER_next R1 g3 g4 (lo' := m2) (hi' := hi) (alo' := a3) (ahi' := ahi) (by omega) (Nat.le_refl _) (by omega) (Nat.le_refl _) (by omega)
  have Z2 := Z_step Z1 g3
  -- the third
  obtain ⟨τ3, n3, h3, u3, f3, XC3, XT3, q1, q2, q3, q4, q5, q6, q7⟩ := EA_child (kT := kT) (kC := kC) IH hT hC g3.1 g4.1 B x23 (ER_sub R2 (Nat.le_refl _) (by omega) (Nat.le_refl _) (by omega)) Z2 (by omega)
  -- all
  have C1 := SE_wide e3 (show alo ≤ a1 by omega) (show a2 ≤ ahi by omega) hA D0
  have C2 := SE_wide g3 (show alo ≤ a2 by omega) (show a3 ≤ ahi by omega) (by omega) D1
  have C3 := SE_wide q3 (show alo ≤ a3 by omega) (show a4 ≤ ahi by omega) (by omega) D2
  have C := SE_trans (SE_trans C1 C2) C3
  have U1 := SU_wide e4 (Nat.le_refl lo) (show m1 ≤ hi by omega)
  have U2 := SU_wide g4 (show lo ≤ m1 by omega) (show m2 ≤ hi by omega)
  have U3 := SU_wide q4 (show lo ≤ m2 by omega) (show v ≤ hi by omega)
  have U := SU_788 (SU_trans (SU_trans U1 U2) U3)
  have ql : m1 - lo + (m2 - m1) + (v - m2) ≤ hi - lo := by omega
  have l1 := brkE_le hS e5
  have l2 := brkE_le hS g5
  have l3 := brkE_le hS q5
  have b1 : ∀ f ∈ [538, 542, 554], ∀ i, ga τ1 f i = ga σ f i := fun f hf i => SU_ga e4 (by simp only [List.mem_cons, List.not_mem_nil, or_false] at hf ⊢; omega) i
  have b2 : ∀ f ∈ [538, 542, 554], ∀ i, ga τ2 f i = ga σ f i := fun f hf i => (SU_ga g4 (by simp only [List.mem_cons, List.not_mem_nil, or_false] at hf ⊢; omega) i).trans (b1 f hf i)
  have c550 : ∀ i, i = v → ga τ1 550 i = ga σ 550 i := fun i hi' => by
    rcases e4.2.2.1 i with z | z
    · omega
    · exact z
  have hsT := C.2.2.2.1
  have nsT := SU_nss (lo' := lo) (hi' := hi) U
  obtain ⟨k1, k2, k3, k4⟩ := hsT a i3 i4
  obtain ⟨v1, v2, v3⟩ := nsT v i1 i2
  refine ⟨us τ3 788 (bd.length : Int), n3, h3, u3, f3, _, _, DN_leaf (by omega) (by rw [w2]; decide) ?_, ?_, SE_le C ql, SU_le U ql, ?_, ?_, fun s => ?_⟩
  · unfold T_oneKnown
    have k54 : ga τ2 554 v = (p3 : Int) := by rw [b2 554 (by decide)]; exact w8
    have k50 : ga τ1 550 v = (p2 : Int) := by rw [c550 v rfl]; exact w7
    rw [if_pos (by omega), show ((v : Int)).toNat = v by omega, w2, if_neg (by decide), if_neg (by decide), if_neg (by decide), if_neg (by decide), if_neg (by decide), if_neg (by decide), if_pos rfl, if_pos (by omega), w6, e1, Option.bind_some, if_pos (by omega), k50, g1, Option.bind_some, if_pos (by omega), k54, q1, Option.bind_some, HU.2.1.1]
  · have r35 := H.2.2.1.1
    have m3 : (1426 : Nat) ∉ mR ∧ (1430 : Nat) ∉ mR := by decide
    have c1a := C1.2.2.2.1 a i3 i4
    have c2a := (SE_trans C1 C2).2.2.2.1 a i3 i4
    rw [exB_26 ⟨25, by decide, w1⟩ w1 r35, e2, Option.bind_some, gd_pos ⟨by rw [c1a.1]; exact w1, e3.1.2.2.1.1⟩, c1a.2.2.1 1426 m3.1, g2, Option.bind_some, gd_pos ⟨by rw [c2a.1]; exact w1, g3.1.2.2.1.1⟩, c2a.2.2.1 1430 m3.2, q2, Option.bind_some]
  · exact brkE_min (brkE_min (brkE_mono e5 (Nat.le_refl _) (by omega)) (brkE_fr b1 (brkE_mono g5 (by omega) (by omega)))) (brkE_fr b2 (brkE_mono q5 (by omega) (by omega)))
  · exact brkE_min (brkE_min (brkE_mono e6 (Nat.le_refl _) (by omega)) (brkE_fr b1 (brkE_mono g6 (by omega) (by omega)))) (brkE_fr b2 (brkE_mono q6 (by omega) (by omega)))
  · have s1 := e7 s
    have s2 := g7 s
    have s3 := q7 s
    refine ⟨by rw [s1.1, s2.1, s3.1], fun z => ?_⟩
    have y1 := s1.2 (by omega)
    have y2 := s2.2 (by omega)
    have y3 := s3.2 (by omega)
    have y12 := XS_step y1 e3.1 Z1.2 (djE_sub D1 (show alo ≤ a1 by omega) (show a2 ≤ ahi by omega)) g3 (by omega) (.inl (Nat.le_refl _)) g4 (.inl (Nat.le_refl _))
    have y13 := XS_step y12 g3.1 Z2.2 (djE_sub D2 (show alo ≤ a1 by omega) (show a2 ≤ ahi by omega)) q3 (by omega) (.inl (by omega)) q4 (.inl (by omega))
    have y23 := XS_step y2 g3.1 Z2.2 (djE_sub D2 (show alo ≤ a2 by omega) (show a3 ≤ ahi by omega)) q3 (by omega) (.inl (Nat.le_refl _)) q4 (.inl (Nat.le_refl _))
    refine ⟨i1, i2, i3, i4, .inr (.inr (.inr (.inr (.inl ⟨by rw [k1]; exact w1, by rw [v1 538 (by simp)]; exact w2, w3, j, p1, p2, p3, m1, m2, a1, a2, a3, a4, by rw [v1 542 (by simp)]; exact w4, by rw [k2 1372 (by decide)]; exact w5, by rw [v1 546 (by simp)]; exact w6, by rw [v3 (by rw [w2]; decide)]; exact w7, by rw [v1 554 (by simp)]; exact w8, w9, w10, by rw [k3 1422 (by decide)]; exact XS_us y13, by rw [k3 1426 (by decide)]; exact XS_us y23, by rw [k3 1430 (by decide)]; exact XS_us y3, w14, ⟨fun _ => ?_, fun q => absurd q (by decide), fun q => absurd q (by decide), fun q => absurd q (by decide), fun q => absurd q (by decide), fun q => absurd q (by decide)⟩⟩))))⟩
    have q0 : fR h 1382 a = 0 := w15.1 (by decide)
    have ea : ∀ {hh hh' : om_H} {uu ff uu' ff' : List Nat} {qq al ah : Nat} {XX : Int}, SE G A S N cs K pr Ln Ls tb rest fo F mo Ms rs so Lb bLs al ah hh uu ff hh' uu' ff' qq XX → djE hh tb ff pr Lb alo ahi → ahi ≤ hz hh → a < al → fR hh' 1382 a = fR hh 1382 a := fun CC DD hh1 lt => by
      refine (CC.2.1.1.2.2.2 a (by omega) (fun z => ?_)).2.2.1 1382
      rcases z with z | z | z | z
      · have := DD a (.inl z); omega
      · have := DD a (.inr (.inl z)); omega
      · have := DD a (.inr (.inr z)); omega
      · omega
    rw [ea q3 D2 (by omega) (by omega), ea g3 D1 (by omega) (by omega), ea e3 D0 hA (by omega)]
    exact q0
end LE7
