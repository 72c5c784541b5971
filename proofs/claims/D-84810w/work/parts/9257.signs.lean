set_option maxRecDepth 100000
/-! EXS BECOME KNOWN ALIKE: signs -/
section LJ0
variable {G : om_G} {A : Nat} {S : List Int} {b m : Nat} {N : List (List Int)} {cs : List Nat} {K : KT} {pr Ln : Nat} {Ls : List (List Int)} {sc : List Nat} {tb : Nat} {rest : List (Nat × List Nat)} {fo : List Nat} {F : FT} {mo : List (List Nat)} {Ms : List FT} {rs so Lb : Nat} {bLs : List (List Int)} {bd : List Nat} {z0 d : Nat}
variable {h h' : om_H} {ul fl ul' fl' : List Nat} {σ τ : tS} {n n' q q2 lo hi alo ahi sp a v k kT kC l s : Nat} {X X2 XC XT : Int}
/-- a sign and its right side, not known yet -/
abbrev J0 (G : om_G) (A : Nat) (S : List Int) (b k : Nat) (h : om_H) (σ : tS) : Nat → Nat → Nat → Nat → Nat → Nat × Nat → Nat → Prop := signR G S b σ (Psi0 A S b h σ) (X0 G A S b h σ k)
/-- known -/
abbrev J1 (G : om_G) (A : Nat) (S : List Int) (b : Nat) (N : List (List Int)) (cs : List Nat) (rest : List (Nat × List Nat)) (fo : List Nat) (F : FT) (mo : List (List Nat)) (Ms : List FT) (z0 k d : Nat) (h : om_H) (ul : List Nat) (σ : tS) (n : Nat) : Nat → Nat → Nat → Nat → Nat → Nat × Nat → Nat → Prop := signR G S b σ (Psi1 S b N cs rest fo F mo Ms z0 h ul σ n d) (XS G A S b h σ (Psi1 S b N cs rest fo F mo Ms z0 h ul σ n) k d)
theorem J0_keep {x : Nat × Nat} (K1 : hk alo ahi h h') (L1 : nall lo hi σ τ) (w : J0 G A S b k h σ lo hi alo ahi l x s) : J0 G A S b k h' τ lo hi alo ahi l x s := signR_keep (kp0 K1 L1) (XR_in k) (fun l1 l2 l3 l4 x n c1 c2 c3 c4 w => X0_keep w (hk_sub K1 c3 c4) (fun f hf i e1 e2 => L1 f hf i (by omega) (by omega))) w
theorem J1_keep {x : Nat × Nat} (H : KS N cs rest z0 lo hi alo ahi h ul σ n h' ul' τ n') (w : J1 G A S b N cs rest fo F mo Ms z0 k d h ul σ n lo hi alo ahi l x s) : J1 G A S b N cs rest fo F mo Ms z0 k d h' ul' τ n' lo hi alo ahi l x s := signR_keep (KS_kp H d) (XS_in k d) (KS_mW H) w
theorem J0_in : inI (J0 G A S b k h σ) := signR_in (XR_in k)
/-- the chain itself meanwhile -/
def gC (a Li : Nat) (all : List (Nat × Nat)) (ol : List Nat) (h : om_H) : Prop := kd h a = 32 ∧ fR h 1522 a = Li ∧ kd h Li = 42 ∧ ll h Li = ol ∧ ol.length ≤ 9000 ∧ all.length = ol.length ∧ ∀ (i : Nat) (x : Nat × Nat), all[i]? = some x → ol[i]? = some x.1
theorem gC_step {Li al ah : Nat} {all : List (Nat × Nat)} {ol : List Nat} (C : SE G A S N cs K pr Ln Ls tb rest fo F mo Ms rs so Lb bLs al ah h ul fl h' ul' fl' q X) (D : djE h tb fl pr Lb alo ahi) (hA : ahi ≤ hz h) (i3 : alo ≤ a ∧ a < ahi) (i4 : alo ≤ Li ∧ Li < ahi) (g : gC a Li all ol h) : gC a Li all ol h' := by
  obtain ⟨g1, g2, g3, g4, g5⟩ := g
  have e : ∀ y, alo ≤ y → y < ahi → kd h y ≠ 24 → kd h y ≠ 25 → kd h y ≠ 28 → eqA y h h' := fun y y1 y2 y3 y4 y5 => C.2.1.1.2.2.2 y (by omega) (fun z => by
    rcases z with z | z | z | z
    · have := D y (.inl z); omega
    · have := D y (.inr (.inl z)); omega
    · have := D y (.inr (.inr z)); omega
    · omega)
  have ea := e a i3.1 i3.2 (by omega) (by omega) (by omega)
  have eL := e Li i4.1 i4.2 (by omega) (by omega) (by omega)
  exact ⟨by rw [ea.1]; exact g1, by rw [ea.2.2.1]; exact g2, by rw [eL.1]; exact g3, by rw [eL.2.2.2.2.2.2.1]; exact g4, g5⟩
set_option maxHeartbeats 2000000 in
/-- one sign -/
theorem sign_step {Li i : Nat} {x : Nat × Nat} {all : List (Nat × Nat)} {ol : List Nat} (IH : EA G A S b m N cs K pr Ln Ls sc tb rest fo F mo Ms rs so Lb z0 k) (hT : k ≤ kT) (hC : k < kC) (H : EC G A S N cs K pr Ln Ls tb rest fo F mo Ms rs so Lb h ul fl bLs) (HU : EU S b m N K sc F Ms σ n bd sp) (B : bdL N bd bLs) (R : ER S lo hi alo ahi pr tb Lb h ul fl n sp) (Z : z0 ≤ hz h ∧ fR h 122 tb < z0 ∧ Lb < z0) (hl : bLs.length + 2 * k ≤ 600) (w : J0 G A S b k h σ lo hi alo ahi l x s) (g : gC a Li all ol h) (hi' : all[i]? = some x) : ∃ (τ : tS) (n' : Nat) (h' : om_H) (ul' fl' : List Nat) (XC XT : Int), (∀ l2 : Int, (if ga σ 538 s ≠ 13 then T_exKnown_108 (T_exKnownD kT) l2 (s : Int) σ else T_exKnown_89 (T_exKnownD kT) l2 (s : Int) σ) = some (.inl τ)) ∧ C_35_ex_305s G (C_35_exD G kC) rs a ((i : Int), h) = some (.inl (((i + 1 : Nat) : Int), h')) ∧ SE G A S N cs K pr Ln Ls tb rest fo F mo Ms rs so Lb bLs alo ahi h ul fl h' ul' fl' (hi - lo) XC ∧ SU S b m N K sc F Ms bd sp lo hi σ n τ n' (hi - lo) XT ∧ brkE S b m σ lo hi XC ∧ brkE S b m σ lo hi XT ∧ (scA N sc Ls → XC = XT ∧ (XC = 2147483647 → J1 G A S b N cs rest fo F mo Ms z0 k bLs.length h' ul' τ n' lo hi alo ahi l x s)) := by
  have h84 := R.1.2.2.1
  have hS := R.1.2.2.2
  have hA := R.1.2.1
  have D0 := R.2.1
  obtain ⟨g1, g2, g3, g4, g5, g6, g7⟩ := g
  obtain ⟨w1, w2, w3, w4, j, nx, w5, w6, w7, w8, w9, w10⟩ := w
  have il := (List.getElem?_eq_some_iff.mp hi').1
  have j1 := XR_in _ _ _ _ _ _ _ w9
  have r35 := H.2.2.1.1
  have ex := XR_exk w9
  have es : P_J2_size G Li h = some ((ol.length : Nat) : Int) := by unfold P_J2_size; rw [gd_pos g3, g4]
  have eg : P_J2_get G Li (i : Int) h = some x.1 := by
    unfold P_J2_get
    rw [gd_pos ⟨g3, by omega⟩, g4, show ((i : Int)).toNat = i by omega, g7 i x hi']
  have ew : w32 ((i : Int) + 1) = ((i + 1 : Nat) : Int) := by rw [w32_s (by omega) (by omega)]; rfl
  obtain ⟨τ, n', h1, u1, f1, XC, XT, e1, e2, e3, e4, e5, e6, e7⟩ := EA_child (kT := kT) (kC := kC) IH hT hC H HU B w9 (ER_sub R (Nat.le_refl _) (by omega) (Nat.le_refl _) (Nat.le_refl _)) Z hl
  have U := SU_wide e4 (Nat.le_refl lo) (show s ≤ hi by omega)
  obtain ⟨v1, v2, v3⟩ := SU_nss (lo' := lo) (hi' := hi) U s w1 (by omega)
  refine ⟨τ, n', h1, u1, f1, XC, XT, fun l2 => ?_, ?_, SE_le e3 (by omega), SU_le U (by omega), brkE_mono e5 (Nat.le_refl _) (by omega), brkE_mono e6 (Nat.le_refl _) (by omega), fun z => ⟨(e7 z).1, fun y => ?_⟩⟩
  · rw [if_pos (by rw [w3]; decide)]
    unfold T_exKnown_108
    rw [if_pos (by omega), show ((s : Int)).toNat = s by omega, w8, e1, Option.bind_some]
  · unfold C_35_ex_305s
    simp only
    rw [g2, gd_pos ⟨g1, g3⟩, es, Option.bind_some, if_neg (by omega), gd_pos ⟨g1, g3⟩, eg, Option.bind_some, gd_pos ⟨.inr ex, r35⟩, e2, Option.bind_some, ew]
  · exact ⟨w1, w2, by rw [v1 538 (by simp)]; exact w3, by rw [v1 546 (by simp)]; exact w4, j, nx, by rw [v1 542 (by simp)]; exact w5, w6, w7, by rw [v3 (by rw [w3]; decide)]; exact w8, (e7 z).2 y, ⟨fun q => absurd q (by decide), fun q => absurd q (by decide), fun q => absurd q (by decide), fun q => absurd q (by decide), fun q => absurd q (by decide), fun q => absurd q (by decide)⟩⟩
end LJ0
section LI3
variable {G : om_G} {A : Nat} {S : List Int} {b m : Nat} {N : List (List Int)} {cs : List Nat} {K : KT} {pr Ln : Nat} {Ls : List (List Int)} {sc : List Nat} {tb : Nat} {rest : List (Nat × List Nat)} {fo : List Nat} {F : FT} {mo : List (List Nat)} {Ms : List FT} {rs so Lb : Nat} {bLs : List (List Int)} {bd : List Nat} {z0 : Nat}
variable {q hi ahi sp a k kT kC : Nat} {X XC XT : Int}
set_option maxHeartbeats 4000000 in
theorem signs_rel {Li alo0 ahi0 : Nat} {all : List (Nat × Nat)} {ol : List Nat} (IH : EA G A S b m N cs K pr Ln Ls sc tb rest fo F mo Ms rs so Lb z0 k) (hT : k ≤ kT) (hC : k < kC) (B : bdL N bd bLs) (hl : bLs.length + 2 * k ≤ 600) (ra : alo0 ≤ a ∧ a < ahi0) (rL : alo0 ≤ Li ∧ Li < ahi0) :
    ∀ (ys : List (Nat × Nat)) (ss : List Nat) (l lo alo top i : Nat) (h : om_H) (ul fl : List Nat) (σ : tS) (n : Nat), EC G A S N cs K pr Ln Ls tb rest fo F mo Ms rs so Lb h ul fl bLs → EU S b m N K sc F Ms σ n bd (sp + ss.length) → spineS (J0 G A S b k h σ) ys ss l lo hi alo ahi top → ER S lo hi alo ahi pr tb Lb h ul fl n sp → djE h tb fl pr Lb alo0 ahi0 → ahi0 ≤ hz h → (z0 ≤ hz h ∧ fR h 122 tb < z0 ∧ Lb < z0) → onR σ sp ss → gC a Li all ol h → all.drop i = ys → i ≤ all.length →
    ∃ (τ : tS) (n' : Nat) (h' : om_H) (ul' fl' : List Nat) (XC XT : Int), (∀ l2 : Int, l2 ≤ (sp : Int) → om_loop (T_exKnown_50s (T_exKnownD kT) l2) σ = om_loop (T_exKnown_50s (T_exKnownD kT) l2) τ) ∧ om_loop (C_35_ex_305s G (C_35_exD G kC) rs a) ((i : Int), h) = some h' ∧ SE G A S N cs K pr Ln Ls tb rest fo F mo Ms rs so Lb bLs alo ahi h ul fl h' ul' fl' (hi - lo) XC ∧ SG S b m N K sc F Ms bd sp sp lo hi σ n τ n' (hi - lo) XT ∧ brkE S b m σ lo hi XC ∧ brkE S b m σ lo hi XT ∧ (scA N sc Ls → XC = XT ∧ (XC = 2147483647 → spineS (J1 G A S b N cs rest fo F mo Ms z0 k bLs.length h' ul' τ n') ys ss l lo hi alo ahi top))
  | [], [], l, lo, alo, top, i, h, ul, fl, σ, n, H, HU, W, R, D, hA, Z, o, g, hd, hi1 => by
    have il : all.length ≤ i := by
      have := congrArg List.length hd
      simp at this; omega
    refine ⟨σ, n, h, ul, fl, 2147483647, 2147483647, fun _ _ => rfl, om_loop_out ?_, SE_le (SE_refl H) (Nat.zero_le _), SG_le (SG_SU.mpr (SU_refl HU)) (Nat.zero_le _), .inl rfl, .inl rfl, fun _ => ⟨rfl, fun _ => W⟩⟩
    obtain ⟨g1, g2, g3, g4, g5, g6, g7⟩ := g
    unfold C_35_ex_305s
    simp only
    rw [g2, gd_pos ⟨g1, g3⟩, show P_J2_size G Li h = some ((ol.length : Nat) : Int) by unfold P_J2_size; rw [gd_pos g3, g4], Option.bind_some, if_pos (by omega)]
  | x :: ys, s :: ss, l, lo, alo, top, i, h, ul, fl, σ, n, H, HU, ⟨mid, amid, w, W⟩, R, D, hA, Z, ⟨o1, o2⟩, g, hd, hi1 => by
    obtain ⟨w1, w2, w3⟩ := J0_in _ _ _ _ _ _ _ w
    obtain ⟨r1, r2, r3, r4⟩ := spineS_in J0_in W
    obtain ⟨⟨ra1, ra2, ra3, ra4⟩, R2, R3, R4, R5⟩ := R
    have ex : all[i]? = some x := by
      have := List.getElem?_drop (xs := all) (i := i) (j := 0)
      rw [hd] at this
      simpa using this.symm
    have il := (List.getElem?_eq_some_iff.mp ex).1
    have ed : all.drop (i + 1) = ys := by
      have := drop_c ex
      rw [hd] at this
      injection this with _ z
      exact z.symm
    -- the lowest one is taken
    have HUp : EU S b m N K sc F Ms (us σ 856 ((sp + ss.length : Nat) : Int)) n bd (sp + ss.length) := EU_856 HU fr_us856 (by rw [gs_us, if_pos rfl])
    have wp : J0 G A S b k h (us σ 856 ((sp + ss.length : Nat) : Int)) lo mid alo amid l x s := J0_keep (σ := σ) (h := h) (fun _ _ _ => ⟨rfl, fun _ => rfl, fun _ => rfl, rfl, rfl⟩) (fun _ _ _ _ _ => rfl) w
    have Rp : ER S lo mid alo amid pr tb Lb h ul fl n (sp + ss.length) := ⟨⟨ra1, by omega, by omega, ra4⟩, djE_sub R2 (Nat.le_refl _) (by omega), by omega, by omega, by omega⟩
    obtain ⟨τ1, n1, h1, u1, f1, XC1, XT1, e1, e2, e3, e4, e5, e6, e7⟩ := sign_step (kT := kT) (kC := kC) IH hT hC H HUp B Rp Z hl wp g ex
    have hz1 := e3.2.1.1.1
    have K1 := SE_hk (djE_sub R2 (show alo ≤ amid by omega) (Nat.le_refl ahi)) e3 (by omega) (.inr (Nat.le_refl _))
    have L1 : nall mid hi σ τ1 := fun f hf i c1 c2 => SU_nall e4 (lo' := mid) (hi' := hi) (.inr (Nat.le_refl _)) f hf i c1 c2
    have W1 : spineS (J0 G A S b k h1 τ1) ys ss s mid hi amid ahi top := spineS_mono J0_in (fun lo' hi' alo' ahi' l x s c1 c2 c3 c4 q => J0_keep (hk_sub K1 c3 c4) (fun f hf i d1 d2 => L1 f hf i (by omega) (by omega)) q) W
    have z2 := e3.2.1.2.2.2.1
    have z3 := e4.2.2.2.2.2.2.1
    have D1 := djE_step R2 e3 ra2
    have R1 : ER S mid hi amid ahi pr tb Lb h1 u1 f1 n1 sp := ⟨⟨by omega, by omega, ra3, ra4⟩, djE_sub D1 (by omega) (Nat.le_refl _), by omega, by omega, by omega⟩
    have Z1 := Z_step Z e3
    have o2' : onR τ1 sp ss := onR_keep o2 (fun i hi => e4.2.2.2.2.1 i hi)
    obtain ⟨τ2, n2, h2, u2, f2, XC2, XT2, q1, q2, q3, q4, q5, q6, q7⟩ := signs_rel IH hT hC B hl ra rL ys ss s mid amid top (i + 1) h1 u1 f1 τ1 n1 e3.1 e4.1 W1 R1 (djE_step D e3 hA) (by omega) Z1 o2' (gC_step e3 D hA ra rL g) ed il
    have C := SE_trans (SE_wide e3 (Nat.le_refl alo) (show amid ≤ ahi by omega) ra2 R2) (SE_wide q3 (show alo ≤ amid by omega) (Nat.le_refl ahi) (by omega) D1)
    have G0 := SG_856 (lo := lo) (hi := hi) (sp := sp) HU (fr_us856 (x := ((sp + ss.length : Nat) : Int))) (by rw [gs_us, if_pos rfl]) (fun _ _ => rfl)
    have G1 := SG_wide (SG_of e4 (show sp ≤ sp + ss.length by omega)) (Nat.le_refl lo) (show mid ≤ hi by omega)
    have G2 := SG_wide q4 (show lo ≤ mid by omega) (Nat.le_refl hi)
    have GG := SG_trans (SG_trans G0 G1) G2
    have hS := ra4
    have l1 := brkE_le hS e5
    have l2 := brkE_le hS q5
    have l3 := brkE_le hS e6
    have l4 := brkE_le hS q6
    rw [show min (min 2147483647 XT1) XT2 = min XT1 XT2 by omega] at GG
    have bf : ∀ f ∈ [538, 542, 554], ∀ i, ga τ1 f i = ga σ f i := fun f hf i => SU_ga e4 (by simp only [List.mem_cons, List.not_mem_nil, or_false] at hf ⊢; omega) i
    have h84 : s < 8400 := by omega
    refine ⟨τ2, n2, h2, u2, f2, min XC1 XC2, min XT1 XT2, fun l2' hl2 => ?_, by rw [om_loop_in e2]; exact q2, SE_le C (by omega), SG_le GG (by omega), brkE_min (brkE_mono e5 (Nat.le_refl _) (by omega)) (brkE_fr bf (brkE_mono q5 (by omega) (Nat.le_refl _))), brkE_min (brkE_mono e6 (Nat.le_refl _) (by omega)) (brkE_fr bf (brkE_mono q6 (by omega) (Nat.le_refl _))), fun z => ⟨by rw [(e7 z).1, (q7 z).1], fun y => ?_⟩⟩
    · have st : T_exKnown_50s (T_exKnownD kT) l2' σ = some (.inl τ1) := by
        rw [spine_pop (ss := ss) (s := s) hl2 (by rw [HU.2.2.1]; rfl) o1 (by omega) h84]
        exact e1 l2'
      rw [om_loop_in st]
      exact q1 l2' hl2
    · have y1 := (e7 z).2 (by omega)
      have y2 := (q7 z).2 (by omega)
      have KK := KS_of (z0 := z0) (lo' := lo) (hi' := mid) (alo' := alo) (ahi' := amid) e3.1 Z1.2 (djE_sub D1 (Nat.le_refl alo) (by omega)) q3 (by omega) (.inl (Nat.le_refl _)) (SG_nall q4 (.inl (Nat.le_refl _))) q4.2.2.2.2.2.1
      exact ⟨mid, amid, J1_keep KK y1, y2⟩
  | [], _ :: _, _, _, _, _, _, _, _, _, _, _, _, _, W, _, _, _, _, _, _, _, _ => W.elim
  | _ :: _, [], _, _, _, _, _, _, _, _, _, _, _, _, W, _, _, _, _, _, _, _, _ => W.elim
end LI3
