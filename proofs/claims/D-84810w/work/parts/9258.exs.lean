set_option maxRecDepth 100000
/-! EXS BECOME KNOWN ALIKE -/
section LX9
variable {G : om_G} {A : Nat} {S : List Int} {b m : Nat} {N : List (List Int)} {cs : List Nat} {K : KT} {pr Ln : Nat} {Ls : List (List Int)} {sc : List Nat} {tb : Nat} {rest : List (Nat × List Nat)} {fo : List Nat} {F : FT} {mo : List (List Nat)} {Ms : List FT} {rs so Lb : Nat} {bLs : List (List Int)} {bd : List Nat} {z0 : Nat}
variable {h h' : om_H} {ul fl ul' fl' : List Nat} {σ τ : tS} {n n' q lo hi alo ahi sp a v k kT kC : Nat} {X XC XT : Int}
set_option maxHeartbeats 4000000 in
theorem case32 (IH : EA G A S b m N cs K pr Ln Ls sc tb rest fo F mo Ms rs so Lb z0 k) (hT : k ≤ kT) (hC : k < kC) (H : EC G A S N cs K pr Ln Ls tb rest fo F mo Ms rs so Lb h ul fl bLs) (HU : EU S b m N K sc F Ms σ n bd sp) (B : bdL N bd bLs) (R : ER S lo hi alo ahi pr tb Lb h ul fl n sp) (Z : z0 ≤ hz h ∧ fR h 122 tb < z0 ∧ Lb < z0) (hl : bLs.length + 2 * (k + 1) ≤ 600) (i1 : lo ≤ v) (i2 : v < hi) (i3 : alo ≤ a) (i4 : a < ahi) (w : X32 G S b h σ (Psi0 A S b h σ) (X0 G A S b h σ k) lo hi alo ahi a v) : EKp G A S b m N cs K pr Ln Ls sc tb rest fo F mo Ms rs so Lb z0 kT (k + 1) lo hi alo ahi a v h ul fl σ n bLs bd sp (C_35_exB G (C_35_exD G kC) rs a h) := by
  have R0 := R.1.1
  have h84 := R.1.2.2.1
  have hS := R.1.2.2.2
  have hA := R.1.2.1
  have D0 := R.2.1
  have r35 := H.2.2.1.1
  obtain ⟨w1, w2, w3, w4, w5, w6, w7, j, nh, mid, a1, a2, a3, a4, w8, w9, w10, w11, w12, w13, w14, w15, w16⟩ := w
  have j1 := XR_in _ _ _ _ _ _ _ w8
  obtain ⟨ss, sp1⟩ := spineR_S w12
  obtain ⟨s1, s2, s3, s4⟩ := spineS_in J0_in sp1
  have R1 := R.2.2.1
  have R2 := R.2.2.2.1
  have R3 := R.2.2.2.2
  have e856 := HU.2.2.1
  obtain ⟨o1, o2⟩ := pshL_on e856 ss
  have fp := pshL_fr (σ := σ) ss
  have gp : gs (pshL ss σ) 856 = ((sp + ss.length : Nat) : Int) := by rw [pshL_gs, e856]; rfl
  have HUp := EU_856 HU fp gp
  have np : ∀ lo' hi', nall lo' hi' σ (pshL ss σ) := fun lo' hi' f hf i _ _ => fp.2 f (fun z => by rw [List.mem_singleton.mp z] at hf; exact absurd hf (by decide)) i
  have w8p : X0 G A S b h (pshL ss σ) k lo mid a1 a2 (fR h 1518 a) nh := X0_keep w8 (fun _ _ _ => ⟨rfl, fun _ => rfl, fun _ => rfl, rfl, rfl⟩) (np lo mid)
  -- the head
  obtain ⟨τ1, n1, h1, u1, f1, XC1, XT1, e1, e2, e3, e4, e5, e6, e7⟩ := IH kT kC (by omega) hC lo mid a1 a2 (fR h 1518 a) nh h ul fl (pshL ss σ) n bLs bd (sp + ss.length) H HUp B w8p ⟨⟨by omega, by omega, by omega, hS⟩, djE_sub D0 (by omega) (by omega), by omega, by omega, by omega⟩ Z (by omega)
  have hz1 := e3.2.1.1.1
  have z2 := e3.2.1.2.2.2.1
  have z3 := e4.2.2.2.2.2.2.1
  have K1 := SE_hk (djE_sub D0 (show alo ≤ a3 by omega) (show a4 ≤ ahi by omega)) e3 (by omega) (.inr (by omega))
  have L1 : nall mid hi σ τ1 := fun f hf i c1 c2 => (SU_nall e4 (lo' := mid) (hi' := hi) (.inr (Nat.le_refl _)) f hf i c1 c2).trans (np mid hi f hf i c1 c2)
  have W1 := spineS_mono (I' := J0 G A S b k h1 τ1) J0_in (fun lo' hi' alo' ahi' l x s c1 c2 c3 c4 q => J0_keep (hk_sub K1 c3 c4) (fun f hf i d1 d2 => L1 f hf i (by omega) (by omega)) q) sp1
  have D1 := djE_step D0 e3 hA
  have Z1 := Z_step Z e3
  have g0 : gC a (fR h 1522 a) ((ll h (fR h 1522 a)).zip (ll h (fR h 1526 a))) (ll h (fR h 1522 a)) h := by
    refine ⟨w1, rfl, w3, rfl, ?_, by rw [List.length_zip, w6, Nat.min_self], fun i x hx => ?_⟩
    · rw [List.length_zip, w6, Nat.min_self] at s1
      omega
    · rw [List.getElem?_zip_eq_some] at hx
      exact hx.1
  have g1 := gC_step e3 D0 hA ⟨i3, i4⟩ w2 g0
  obtain ⟨τ2, n2, h2, u2, f2, XC2, XT2, q1, q2, q3, q4, q5, q6, q7⟩ := signs_rel (kT := kT) (kC := kC) IH hT hC B (by omega) ⟨i3, i4⟩ w2 _ ss nh mid a3 v 0 h1 u1 f1 τ1 n1 e3.1 e4.1 W1 ⟨⟨by omega, by omega, h84, hS⟩, djE_sub D1 (by omega) (by omega), by omega, by omega, by omega⟩ D1 (by omega) Z1 (onR_keep o1 (fun i hi => e4.2.2.2.2.1 i hi)) g1 rfl (Nat.zero_le _)
  have C := SE_trans (SE_wide e3 (show alo ≤ a1 by omega) (show a2 ≤ ahi by omega) hA D0) (SE_wide q3 (show alo ≤ a3 by omega) (show a4 ≤ ahi by omega) (by omega) D1)
  have G0 := SG_856 (lo := lo) (hi := hi) (sp := sp) HU fp gp o2
  have G1 := SG_wide (SG_of e4 (show sp ≤ sp + ss.length by omega)) (Nat.le_refl lo) (show mid ≤ hi by omega)
  have G2 := SG_wide q4 (show lo ≤ mid by omega) (Nat.le_refl hi)
  have GG := SG_trans (SG_trans G0 G1) G2
  have l1 := brkE_le hS e5
  have l2 := brkE_le hS q5
  have l3 := brkE_le hS e6
  have l4 := brkE_le hS q6
  rw [show min (min 2147483647 XT1) XT2 = min XT1 XT2 by omega] at GG
  have U := SG_SU.mp GG
  have bp : ∀ f ∈ [538, 542, 554], ∀ i, ga (pshL ss σ) f i = ga σ f i := fun f hf i => fp.2 f (fun z => by rw [List.mem_singleton.mp z] at hf; exact absurd hf (by decide)) i
  have bf : ∀ f ∈ [538, 542, 554], ∀ i, ga τ1 f i = ga σ f i := fun f hf i => (SU_ga e4 (by simp only [List.mem_cons, List.not_mem_nil, or_false] at hf ⊢; omega) i).trans (bp f hf i)
  obtain ⟨k1, k2, k3, k4⟩ := C.2.2.2.1 a i3 i4
  obtain ⟨v1, v2, v3⟩ := SG_nss (lo' := lo) (hi' := hi) GG v i1 i2
  have kLo := C.2.2.2.1 _ w2.1 w2.2
  have kLs := C.2.2.2.1 _ w4.1 w4.2
  have eo := eqA_trans (SE_own e3 D0 hA i3 i4 (.inr (by omega))) (SE_own q3 D1 (by omega) i3 i4 (.inl (by omega)))
  refine ⟨τ2, n2, h2, u2, f2, min XC1 XC2, min XT1 XT2, fun l2' hl2 => ?_, ?_, SE_le C (by omega), SU_le U (by omega), brkE_min (brkE_mono (brkE_fr bp e5) (Nat.le_refl _) (by omega)) (brkE_fr bf (brkE_mono q5 (by omega) (Nat.le_refl _))), brkE_min (brkE_mono (brkE_fr bp e6) (Nat.le_refl _) (by omega)) (brkE_fr bf (brkE_mono q6 (by omega) (Nat.le_refl _))), fun z => ⟨by rw [(e7 z).1, (q7 z).1], fun y => ?_⟩⟩
  · rw [spine_down (σ := σ) (fun lo' hi' alo' ahi' l x s q => ⟨q.2.2.2.1, .inr (.inr q.2.2.1), q.1, q.2.1, (J0_in _ _ _ _ _ _ _ q).2.2⟩) e856 sp1 (Nat.le_trans h84 (by decide)) (by omega)]
    exact (e1 l2' (by omega)).trans (q1 l2' hl2)
  · rw [exB_32 ⟨31, by decide, w1⟩ w1 r35, e2, Option.bind_some]
    exact q2
  · have y1 := (e7 z).2 (by omega)
    have y2 := (q7 z).2 (by omega)
    have KK := KS_of (z0 := z0) (lo' := lo) (hi' := mid) (alo' := a1) (ahi' := a2) e3.1 Z1.2 (djE_sub D1 (by omega) (by omega)) q3 (by omega) (.inl (by omega)) (SG_nall q4 (.inl (Nat.le_refl _))) q4.2.2.2.2.2.1
    refine ⟨i1, i2, i3, i4, .inr (.inr (.inr (.inr (.inr (.inr (.inr ⟨by rw [k1]; exact w1, by rw [k3 1522 (by decide)]; exact w2, by rw [k3 1522 (by decide), kLo.1]; exact w3, by rw [k3 1526 (by decide)]; exact w4, by rw [k3 1526 (by decide), kLs.1]; exact w5, by rw [k3 1522 (by decide), k3 1526 (by decide), kLo.2.2.2, kLs.2.2.2]; exact w6, by rw [k3 1522 (by decide), k3 1526 (by decide), kLo.2.2.2, kLs.2.2.2]; exact w7, j, nh, mid, a1, a2, a3, a4, by rw [k3 1518 (by decide)]; exact KS_XS KK y1, w9, w10, w11, ?_, w13, by rw [v1 542 (by simp)]; exact w14, by rw [k2 1372 (by decide)]; exact w15, ⟨fun _ => ?_, fun q => absurd q (by decide), fun q => absurd q (by decide), fun q => absurd q (by decide), fun q => absurd q (by decide), fun q => absurd q (by decide)⟩⟩))))))⟩
    · rw [k3 1522 (by decide), k3 1526 (by decide), kLo.2.2.2, kLs.2.2.2]
      exact spineS_R y2
    · rw [eo.2.2.1]
      exact w16.1 (by decide)
/-- items that are @s of a name: nothing is done -/
theorem skip_items {Li : Nat} {all ys : List Nat} {rC : Nat → Nat → om_H → Option om_H} (g : gU a Li all h) : ∀ (xs : List Nat) (i : Nat), all.drop i = xs ++ ys → (∀ x ∈ xs, kd h x = 31 ∧ fR h 1498 x = 0 ∧ fR h 1502 x = 0) → om_loop (C_35_ex_202s G rC rs a) ((i : Int), h) = om_loop (C_35_ex_202s G rC rs a) (((i + xs.length : Nat) : Int), h)
  | [], i, _, _ => rfl
  | x :: xs, i, hd, kx => by
    obtain ⟨g1, g2, g3, g4, g5⟩ := id g
    have ex : all[i]? = some x := by
      have := List.getElem?_drop (xs := all) (i := i) (j := 0)
      rw [hd] at this
      simpa using this.symm
    have il := (List.getElem?_eq_some_iff.mp ex).1
    have ed : all.drop (i + 1) = xs ++ ys := by
      have := drop_c ex
      rw [hd] at this
      injection this with _ z
      exact z.symm
    have eg : P_J2_get G Li (i : Int) h = some x := by
      unfold P_J2_get
      rw [gd_pos ⟨g3, by omega⟩, g4, show ((i : Int)).toNat = i by omega, ex]
    obtain ⟨x1, x2, x3⟩ := kx x List.mem_cons_self
    have st : C_35_ex_202s G rC rs a ((i : Int), h) = some (.inl (((i + 1 : Nat) : Int), h)) := by
      unfold C_35_ex_202s
      simp only
      rw [g2, gd_pos ⟨g1, g3⟩, show P_J2_size G Li h = some ((all.length : Nat) : Int) by unfold P_J2_size; rw [gd_pos g3, g4], Option.bind_some, if_neg (by omega), gd_pos ⟨g1, g3⟩, eg, Option.bind_some, gd_pos ⟨.inr x1, x1⟩, if_pos x2, gd_pos x1, if_pos x3, w32_s (by omega) (by omega)]
      rfl
    rw [om_loop_in st, skip_items g xs (i + 1) ed (fun y hy => kx y (List.mem_cons_of_mem _ hy))]
    rw [show i + 1 + xs.length = i + (x :: xs).length by simp; omega]
end LX9
