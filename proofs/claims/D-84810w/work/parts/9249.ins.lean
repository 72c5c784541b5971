set_option maxRecDepth 100000
/-! EXS BECOME KNOWN ALIKE: within a name that is bound -/
section LIN0
variable {G : om_G} {A : Nat} {S : List Int} {b m : Nat} {N : List (List Int)} {cs : List Nat} {K : KT} {pr Ln : Nat} {Ls : List (List Int)} {sc : List Nat} {tb : Nat} {rest : List (Nat × List Nat)} {fo : List Nat} {F : FT} {mo : List (List Nat)} {Ms : List FT} {rs so Lb : Nat} {bLs : List (List Int)} {bd : List Nat} {z0 : Nat}
variable {h h' h2 h3 : om_H} {ul fl : List Nat} {σ τ : tS} {n n' q lo hi alo ahi sp a v k kT kC e : Nat} {X XC XT : Int}
/-- the list of bound names is written, and how many are bound -/
theorem XS_Lb {x : Int} (W : XS G A S b h2 τ (Psi1 S b N cs rest fo F mo Ms z0 h2 ul τ n) k e lo hi alo ahi a v) (H : EC G A S N cs K pr Ln Ls tb rest fo F mo Ms rs so Lb h2 ul fl bLs) (D : Lb < alo ∨ ahi ≤ Lb) (hA : ahi ≤ hz h2) (zL : Lb < z0) (Y : hT (fun y => y = Lb) h2 h3) : XS G A S b h3 (us τ 788 x) (Psi1 S b N cs rest fo F mo Ms z0 h3 ul (us τ 788 x) n) k e lo hi alo ahi a v := by
  have eq : ∀ y, y < hz h2 → y ≠ Lb → eqA y h2 h3 := fun y y1 y2 => Y.2.2.2 y y1 y2
  have dd := (EC_Lb H Y).2
  have kL := H.2.2.2.2.1.1.2.1
  refine XS_keep W (fun _ => ⟨fun y c d => ?_, fun _ _ _ => ⟨fun _ _ => rfl, fun _ => rfl, fun _ => rfl⟩, Psi1_keep (fun y c d => ?_) (fun _ _ _ _ _ => rfl) (fun T y c => tyC_hT Y dd (fun y hy z => ?_) (fun y hy => hy) (fun _ _ z => z) c) (tx_same (fun _ _ _ => rfl)) Y.1 (fun y y1 y2 y3 => ?_)⟩)
  · have q := eq y (by omega) (by omega)
    exact ⟨q.1, fun f _ => q.2.1 f, fun f _ => q.2.2.1 f, q.2.2.2.2.2.2.1⟩
  · have q := eq y (by omega) (by omega)
    exact ⟨q.1, q.2.1, q.2.2.1, q.2.2.2.2.2.2.1, q.2.2.2.2.2.2.2⟩
  · have u := (TB_U34 H.1.1.1 hy).1
    have z' : y = Lb := z
    rw [z', kL] at u; omega
  · have q := eq y y2 (by omega)
    exact ⟨by rw [q.1]; exact y3, q.2.2.2.2.2.2.1⟩
/-- nothing of a range is touched when only Lb is written -/
theorem hk_Lb (D : Lb < alo ∨ ahi ≤ Lb) (hA : ahi ≤ hz h) (Y : hT (fun y => y = Lb) h h2) : hk alo ahi h h2 := fun y c d => by
  have q := Y.2.2.2 y (by omega) (show y ≠ Lb by omega)
  exact ⟨q.1, q.2.1, q.2.2.1, q.2.2.2.2.2.2.1, q.2.2.2.2.2.2.2⟩
theorem ER_Lb (R : ER S lo hi alo ahi pr tb Lb h ul fl n sp) (H : EC G A S N cs K pr Ln Ls tb rest fo F mo Ms rs so Lb h ul fl bLs) (Y : hT (fun y => y = Lb) h h2) : ER S lo hi alo ahi pr tb Lb h2 ul fl n sp := by
  obtain ⟨r1, r2, r3⟩ := R
  have kL := H.2.2.2.2.1.1.2.1
  have t3 := TB_3 H.1.1.1
  have etb := Y.2.2.2 tb t3.2.2 (fun z => by have z' : tb = Lb := z; rw [z', kL] at t3; omega)
  have z1 := Y.1
  refine ⟨⟨r1.1, by omega, r1.2.2⟩, fun y hy => ?_, r3⟩
  rcases hy with (z | z | z | z) | z
  · exact r2 y (.inl (.inl z))
  · rw [etb.2.2.1] at z; exact r2 y (.inl (.inr (.inl z)))
  · rw [etb.2.2.1] at z; exact r2 y (.inl (.inr (.inr (.inl z))))
  · exact r2 y (.inl (.inr (.inr (.inr z))))
  · exact r2 y (.inr z)
theorem nall_binds {σ1 : tS} (R : fr [788] [782] σ σ1) : nall lo hi σ σ1 := fun f hf i _ _ => R.2 f (fun z => by rw [List.mem_singleton.mp z] at hf; exact absurd hf (by decide)) i
set_option maxHeartbeats 1000000 in
/-- an ex within a name that is bound -/
theorem inside_rel {w j ex : Nat} (IH : EA G A S b m N cs K pr Ln Ls sc tb rest fo F mo Ms rs so Lb z0 k) (hT : k ≤ kT) (hC : k < kC) (H : EC G A S N cs K pr Ln Ls tb rest fo F mo Ms rs so Lb h ul fl bLs) (HU : EU S b m N K sc F Ms σ n bd sp) (B : bdL N bd bLs) (R : ER S lo hi alo ahi pr tb Lb h ul fl n sp) (Z : z0 ≤ hz h ∧ fR h 122 tb < z0 ∧ Lb < z0) (hl : bLs.length + 1 + 2 * k ≤ 600) (wd1 : wd h A S w j) (wl : w < hz h) (k2 : tokk S j = 2) (W : X0 G A S b h σ k lo hi alo ahi ex v) : ∃ (σ1 τ : tS) (n' : Nat) (h' : om_H) (ul' fl' : List Nat) (XC XT : Int), T_binds ((b + j : Nat) : Int) σ = some σ1 ∧ (∀ f, f ≠ 782 → ∀ i, ga σ1 f i = ga σ f i) ∧ T_exKnownD kT (v : Int) σ1 = some τ ∧ C_35_inside G (C_35_exD G kC) rs w ex h = some h' ∧ SE G A S N cs K pr Ln Ls tb rest fo F mo Ms rs so Lb bLs alo ahi h ul fl h' ul' fl' (hi - lo + 1) XC ∧ SU S b m N K sc F Ms bd sp lo hi σ n (us τ 788 (bd.length : Int)) n' (hi - lo) XT ∧ brkE S b m σ lo hi XC ∧ brkE S b m σ lo hi XT ∧ (scA N sc Ls → XC = XT ∧ (XC = 2147483647 → XS G A S b h' (us τ 788 (bd.length : Int)) (Psi1 S b N cs rest fo F mo Ms z0 h' ul' (us τ 788 (bd.length : Int)) n') k (bLs.length + 1) lo hi alo ahi ex v)) := by
  have hA := R.1.2.1
  have D0 := R.2.1
  have LbD : Lb < alo ∨ ahi ≤ Lb := D0 Lb (.inr (.inr rfl))
  have k0 : k ≠ 0 := fun z => by rw [z] at W; exact W
  have wb1 := wd_wb H.1.2.1.1 wd1
  obtain ⟨h1, a1, a2, a3, a4, a5, a6, a7, a8⟩ := c_push H wb1 wl (by rw [wd1.2.1]; exact H.1.2.1.2) (by omega)
  obtain ⟨wn, σ1, b1, b2, b3, b4, b5⟩ := t_binds HU k2 (by rw [B.1]; omega)
  have hz1 := a3.1
  have ez1 : fR h1 122 tb = fR h 122 tb := by
    have t3 := TB_3 H.1.1.1
    exact (a3.2.2.2 tb t3.2.2 (fun z => by have z' : tb = Lb := z; have := H.2.2.2.2.1.1.2.1; rw [← z', t3.1] at this; omega)).2.2.1 122
  obtain ⟨τ, n', h2, u2, f2, XC, XT, e1, e2, e3, e4, e5, e6, e7⟩ := EA_child (kT := kT) (kC := kC) IH hT hC a2 b3 (bdL_app B b2) (X0_keep W (hk_Lb LbD hA a3) (nall_binds b4)) (ER_Lb R H a3) ⟨by omega, by rw [ez1]; exact Z.2.1, Z.2.2⟩ (by simp; omega)
  obtain ⟨h3, c1, c2, c3⟩ := c_pop H D0 hA a3 a4 a5 a6 a7 a8 e3
  have U := SU_in HU (List.prefix_append bd [wn]) b4 b5 e4
  have bf : ∀ f ∈ [538, 542, 554], ∀ i, ga σ1 f i = ga σ f i := fun f hf i => b4.2 f (fun z => by rw [List.mem_singleton.mp z] at hf; exact absurd hf (by decide)) i
  have r35 := H.2.2.1
  refine ⟨σ1, τ, n', h3, u2, f2, XC, XT, b1, fun f hf i => b4.2 f (fun z => hf (List.mem_singleton.mp z)) i, e1, ?_, c2, U, brkE_fr bf e5, brkE_fr bf e6, fun s => ⟨(e7 s).1, fun z => ?_⟩⟩
  · unfold C_35_inside
    rw [r35.2.2.2.2.2, gd_pos ⟨r35.1, H.2.2.2.2.1.1.2.1⟩, a1, Option.bind_some, gd_pos a2.2.2.1.1, e2, Option.bind_some]
    exact c1
  · have y := (e7 s).2 z
    have len : (bLs ++ [tokw S j]).length = bLs.length + 1 := by simp
    rw [len] at y
    exact XS_Lb y e3.1 LbD (by have := e3.2.1.1.1; omega) Z.2.2 c3
end LIN0
