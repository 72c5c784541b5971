set_option maxRecDepth 100000
/-! EXS BECOME KNOWN ALIKE: items of a use -/
/-- all stays as it was in a range -/
def KS (N : List (List Int)) (cs : List Nat) (rest : List (Nat × List Nat)) (z0 lo hi alo ahi : Nat) (h : om_H) (us : List Nat) (σ : tS) (n : Nat) (h' : om_H) (us' : List Nat) (τ : tS) (n' : Nat) : Prop := hk alo ahi h h' ∧ nall lo hi σ τ ∧ (∀ T y, tyC h N (clF cs) (UU us rest) T y → tyC h' N (clF cs) (UU us' rest) T y) ∧ tx σ n τ n' ∧ hz h ≤ hz h' ∧ ∀ y, z0 ≤ y → y < hz h → kd h y = 42 → kd h' y = 42 ∧ ll h' y = ll h y
section LIT
variable {G : om_G} {A : Nat} {S : List Int} {b m : Nat} {N : List (List Int)} {cs : List Nat} {K : KT} {pr Ln : Nat} {Ls : List (List Int)} {sc : List Nat} {tb : Nat} {rest : List (Nat × List Nat)} {fo : List Nat} {F : FT} {mo : List (List Nat)} {Ms : List FT} {rs so Lb : Nat} {bLs : List (List Int)} {bd : List Nat} {z0 d : Nat}
variable {h h' : om_H} {ul fl ul' fl' : List Nat} {σ τ : tS} {n n' q q2 lo hi alo ahi sp a v k kT kC l s : Nat} {X X2 XC XT : Int}
theorem KS_sub {lo' hi' alo' ahi' : Nat} (H : KS N cs rest z0 lo hi alo ahi h ul σ n h' ul' τ n') (h1 : lo ≤ lo') (h2 : hi' ≤ hi) (h3 : alo ≤ alo') (h4 : ahi' ≤ ahi) : KS N cs rest z0 lo' hi' alo' ahi' h ul σ n h' ul' τ n' := ⟨hk_sub H.1 h3 h4, fun f hf i c e => H.2.1 f hf i (by omega) (by omega), H.2.2⟩
theorem KS_kp (H : KS N cs rest z0 lo hi alo ahi h ul σ n h' ul' τ n') (e : Nat) : kp lo hi alo ahi h h' σ τ (Psi1 S b N cs rest fo F mo Ms z0 h ul σ n e) (Psi1 S b N cs rest fo F mo Ms z0 h' ul' τ n' e) := by
  obtain ⟨k1, k2, k3, k4, k5, k6⟩ := H
  refine ⟨fun y c1 c2 => ⟨(k1 y c1 c2).1, fun f _ => (k1 y c1 c2).2.1 f, fun f _ => (k1 y c1 c2).2.2.1 f, (k1 y c1 c2).2.2.2.1⟩, fun i c1 c2 => ⟨fun f hf => k2 f (by simp only [List.mem_cons, List.not_mem_nil, or_false] at hf ⊢; omega) i c1 c2, fun _ => k2 562 (by decide) i c1 c2, fun _ => k2 550 (by decide) i c1 c2⟩, Psi1_keep k1 k2 k3 k4 k5 k6⟩
theorem KS_XS {e : Nat} (H : KS N cs rest z0 lo hi alo ahi h ul σ n h' ul' τ n') (W : XS G A S b h σ (Psi1 S b N cs rest fo F mo Ms z0 h ul σ n) k e lo hi alo ahi a v) : XS G A S b h' τ (Psi1 S b N cs rest fo F mo Ms z0 h' ul' τ n') k e lo hi alo ahi a v := XS_keep W (fun e => KS_kp H e)
theorem KS_mW (H : KS N cs rest z0 lo hi alo ahi h ul σ n h' ul' τ n') : mW lo hi alo ahi (XS G A S b h σ (Psi1 S b N cs rest fo F mo Ms z0 h ul σ n) k d) (XS G A S b h' τ (Psi1 S b N cs rest fo F mo Ms z0 h' ul' τ n') k d) := fun _ _ _ _ _ _ c1 c2 c3 c4 w => KS_XS (KS_sub H c1 c2 c3 c4) w
/-- a step elsewhere -/
theorem KS_of {lo' hi' alo' ahi' : Nat} (H : EC G A S N cs K pr Ln Ls tb rest fo F mo Ms rs so Lb h ul fl bLs) (zc : fR h 122 tb < z0 ∧ Lb < z0) (D : djE h tb fl pr Lb alo' ahi') (C : SE G A S N cs K pr Ln Ls tb rest fo F mo Ms rs so Lb bLs alo ahi h ul fl h' ul' fl' q X) (hA : ahi' ≤ hz h) (dj1 : ahi' ≤ alo ∨ ahi ≤ alo') (L1 : nall lo' hi' σ τ) (T1 : tx σ n τ n') : KS N cs rest z0 lo' hi' alo' ahi' h ul σ n h' ul' τ n' := by
  refine ⟨SE_hk D C hA dj1, L1, C.2.1.2.2.2.2.2.1, T1, C.2.1.1.1, fun y y1 y2 y3 => ?_⟩
  have ey := C.2.1.1.2.2.2 y y2 (fun z => by
    rcases z with z | z | z | z
    · exact nDT H.1.1.1 (by rw [y3]; decide) (by omega) z
    · have := H.1.2.2.1.1.1.1; rw [z] at y3; omega
    · omega
    · omega)
  exact ⟨by rw [ey.1]; exact y3, ey.2.2.2.2.2.2.1⟩
/-- an item that is not known yet -/
abbrev I0 (G : om_G) (A : Nat) (S : List Int) (b k : Nat) (h : om_H) (σ : tS) : Nat → Nat → Nat → Nat → Nat → Nat → Nat → Prop := itemR S b h σ (Psi0 A S b h σ) (X0 G A S b h σ k)
/-- one that is known -/
abbrev I1 (G : om_G) (A : Nat) (S : List Int) (b : Nat) (N : List (List Int)) (cs : List Nat) (rest : List (Nat × List Nat)) (fo : List Nat) (F : FT) (mo : List (List Nat)) (Ms : List FT) (z0 k d : Nat) (h : om_H) (ul : List Nat) (σ : tS) (n : Nat) : Nat → Nat → Nat → Nat → Nat → Nat → Nat → Prop := itemR S b h σ (Psi1 S b N cs rest fo F mo Ms z0 h ul σ n d) (XS G A S b h σ (Psi1 S b N cs rest fo F mo Ms z0 h ul σ n) k d)
theorem I0_keep {x : Nat} (K1 : hk alo ahi h h') (L1 : nall lo hi σ τ) (w : I0 G A S b k h σ lo hi alo ahi l x s) : I0 G A S b k h' τ lo hi alo ahi l x s := itemR_keep (kp0 K1 L1) (XR_in k) (fun l1 l2 l3 l4 x n c1 c2 c3 c4 w => X0_keep w (hk_sub K1 c3 c4) (fun f hf i e1 e2 => L1 f hf i (by omega) (by omega))) w
theorem I1_keep {x : Nat} (H : KS N cs rest z0 lo hi alo ahi h ul σ n h' ul' τ n') (w : I1 G A S b N cs rest fo F mo Ms z0 k d h ul σ n lo hi alo ahi l x s) : I1 G A S b N cs rest fo F mo Ms z0 k d h' ul' τ n' lo hi alo ahi l x s := itemR_keep (KS_kp H d) (XS_in k d) (KS_mW H) w
theorem spineS_mono {α : Type} {I I' : Nat → Nat → Nat → Nat → Nat → α → Nat → Prop} (hIn : inI I) : ∀ {xs : List α} {ss : List Nat} {l lo hi alo ahi top : Nat}, (∀ lo' hi' alo' ahi' l x s, lo ≤ lo' → hi' ≤ hi → alo ≤ alo' → ahi' ≤ ahi → I lo' hi' alo' ahi' l x s → I' lo' hi' alo' ahi' l x s) → spineS I xs ss l lo hi alo ahi top → spineS I' xs ss l lo hi alo ahi top
  | [], [], l, lo, hi, alo, ahi, top, _, r => r
  | x :: xs, s :: ss, l, lo, hi, alo, ahi, top, hI, ⟨mid, amid, w, r⟩ => by
    obtain ⟨w1, w2, w3⟩ := hIn _ _ _ _ _ _ _ w
    obtain ⟨r1, r2, r3, r4⟩ := spineS_in hIn r
    exact ⟨mid, amid, hI _ _ _ _ _ _ _ (Nat.le_refl _) (by omega) (Nat.le_refl _) r2 w, spineS_mono hIn (fun lo' hi' alo' ahi' l x s c1 c2 c3 c4 => hI lo' hi' alo' ahi' l x s (by omega) c2 (by omega) c4) r⟩
  | [], _ :: _, _, _, _, _, _, _, _, r => r.elim
  | _ :: _, [], _, _, _, _, _, _, _, r => r.elim
/-- the use itself meanwhile -/
def gU (a Li : Nat) (all : List Nat) (h : om_H) : Prop := kd h a = 30 ∧ fR h 1494 a = Li ∧ kd h Li = 42 ∧ ll h Li = all ∧ all.length ≤ 9000
theorem gU_step {Li al ah : Nat} {all : List Nat} (C : SE G A S N cs K pr Ln Ls tb rest fo F mo Ms rs so Lb bLs al ah h ul fl h' ul' fl' q X) (D : djE h tb fl pr Lb alo ahi) (hA : ahi ≤ hz h) (i3 : alo ≤ a ∧ a < ahi) (i4 : alo ≤ Li ∧ Li < ahi) (g : gU a Li all h) : gU a Li all h' := by
  obtain ⟨g1, g2, g3, g4, g5⟩ := g
  have e : ∀ y, alo ≤ y → y < ahi → kd h y ≠ 24 → kd h y ≠ 25 → kd h y ≠ 28 → eqA y h h' := fun y y1 y2 y3 y4 y5 => C.2.1.1.2.2.2 y (by omega) (fun z => by
    rcases z with z | z | z | z
    · have := D y (.inl z); omega
    · have := D y (.inr (.inl z)); omega
    · have := D y (.inr (.inr z)); omega
    · omega)
  have ea := e a i3.1 i3.2 (by omega) (by omega) (by omega)
  have eL := e Li i4.1 i4.2 (by omega) (by omega) (by omega)
  exact ⟨by rw [ea.1]; exact g1, by rw [ea.2.2.1]; exact g2, by rw [eL.1]; exact g3, by rw [eL.2.2.2.2.2.2.1]; exact g4, g5⟩
set_option maxHeartbeats 2000000 in
/-- one item -/
theorem item_step {x Li i : Nat} {all : List Nat} (IH : EA G A S b m N cs K pr Ln Ls sc tb rest fo F mo Ms rs so Lb z0 k) (hT : k ≤ kT) (hC : k < kC) (H : EC G A S N cs K pr Ln Ls tb rest fo F mo Ms rs so Lb h ul fl bLs) (HU : EU S b m N K sc F Ms σ n bd sp) (B : bdL N bd bLs) (R : ER S lo hi alo ahi pr tb Lb h ul fl n sp) (Z : z0 ≤ hz h ∧ fR h 122 tb < z0 ∧ Lb < z0) (hl : bLs.length + 2 * k ≤ 600) (w : I0 G A S b k h σ lo hi alo ahi l x s) (g : gU a Li all h) (hi' : all[i]? = some x) : ∃ (τ : tS) (n' : Nat) (h' : om_H) (ul' fl' : List Nat) (XC XT : Int), (∀ l2 : Int, (if ga σ 538 s ≠ 13 then T_exKnown_108 (T_exKnownD kT) l2 (s : Int) σ else T_exKnown_89 (T_exKnownD kT) l2 (s : Int) σ) = some (.inl τ)) ∧ C_35_ex_202s G (C_35_exD G kC) rs a ((i : Int), h) = some (.inl (((i + 1 : Nat) : Int), h')) ∧ SE G A S N cs K pr Ln Ls tb rest fo F mo Ms rs so Lb bLs alo ahi h ul fl h' ul' fl' (hi - lo) XC ∧ SU S b m N K sc F Ms bd sp lo hi σ n τ n' (hi - lo) XT ∧ brkE S b m σ lo hi XC ∧ brkE S b m σ lo hi XT ∧ (scA N sc Ls → XC = XT ∧ (XC = 2147483647 → I1 G A S b N cs rest fo F mo Ms z0 k bLs.length h' ul' τ n' lo hi alo ahi l x s)) := by
  have h84 := R.1.2.2.1
  have hS := R.1.2.2.2
  have hA := R.1.2.1
  have D0 := R.2.1
  obtain ⟨g1, g2, g3, g4, g5⟩ := g
  obtain ⟨w1, w2, w3, w4, w5, w6, w7⟩ := w
  have il := (List.getElem?_eq_some_iff.mp hi').1
  have r35 := H.2.2.1.1
  have es : P_J2_size G Li h = some ((all.length : Nat) : Int) := by unfold P_J2_size; rw [gd_pos g3, g4]
  have eg : P_J2_get G Li (i : Int) h = some x := by
    unfold P_J2_get
    rw [gd_pos ⟨g3, by omega⟩, g4, show ((i : Int)).toNat = i by omega, hi']
  have ew : w32 ((i : Int) + 1) = ((i + 1 : Nat) : Int) := by rw [w32_s (by omega) (by omega)]; rfl
  rcases w7 with ⟨ne, a2, c1, c2, c3, c4, c5, c6, c7⟩ | ⟨j, a2, c1, c2, c3, c4, c5, c6, c7⟩
  · have j1 := XR_in _ _ _ _ _ _ _ c4
    obtain ⟨τ, n', h1, u1, f1, XC, XT, e1, e2, e3, e4, e5, e6, e7⟩ := EA_child (kT := kT) (kC := kC) IH hT hC H HU B c4 (ER_sub R (Nat.le_refl _) (by omega) (Nat.le_refl _) (by omega)) Z hl
    have C := SE_wide e3 (Nat.le_refl alo) (show a2 ≤ ahi by omega) hA D0
    have U := SU_wide e4 (Nat.le_refl lo) (show s ≤ hi by omega)
    obtain ⟨k1, k2, k3, k4⟩ := C.2.2.2.1 x w1 w2
    obtain ⟨v1, v2, v3⟩ := SU_nss (lo' := lo) (hi' := hi) U s w4 (by omega)
    have ji := C.2.2.2.1 _ j1.2.2.1 (show fR h 1498 x < ahi by omega)
    refine ⟨τ, n', h1, u1, f1, XC, XT, fun l2 => ?_, ?_, SE_le C (by omega), SU_le U (by omega), brkE_mono e5 (Nat.le_refl _) (by omega), brkE_mono e6 (Nat.le_refl _) (by omega), fun z => ⟨(e7 z).1, fun y => ?_⟩⟩
    · rw [if_pos (by rw [c1]; decide)]
      unfold T_exKnown_108
      rw [if_pos (by omega), show ((s : Int)).toNat = s by omega, c3, e1, Option.bind_some]
    · unfold C_35_ex_202s
      simp only
      rw [g2, gd_pos ⟨g1, g3⟩, es, Option.bind_some, if_neg (by omega), gd_pos ⟨g1, g3⟩, eg, Option.bind_some, gd_pos ⟨.inr w3, w3⟩, if_neg c2, gd_pos ⟨w3, r35⟩, e2, Option.bind_some, ew]
    · refine ⟨w1, w2, by rw [k1]; exact w3, w4, w5, by rw [v1 546 (by simp)]; exact w6, .inl ⟨ne, a2, by rw [v1 538 (by simp)]; exact c1, by rw [k3 1498 (by decide)]; exact c2, by rw [v3 (by rw [c1]; decide)]; exact c3, by rw [k3 1498 (by decide)]; exact (e7 z).2 y, c5, ?_, ⟨fun q => absurd q (by decide), fun q => absurd q (by decide), fun q => absurd q (by decide), fun q => absurd q (by decide), fun q => absurd q (by decide), fun q => absurd q (by decide)⟩⟩⟩
      rw [k2 1504 (by decide), k3 1498 (by decide), ji.2.1 1372 (by decide)]
      exact c6
  · obtain ⟨_, _, p3⟩ := c7
    rw [if_neg (by decide), if_neg (by decide), if_neg (by decide), if_pos rfl] at p3
    obtain ⟨_, p, p4, p5⟩ := p3
    have wi := WR_in p5
    obtain ⟨t, τ1, n1, y, h1, u1, f1, XC1, XT1, e1, e2, e3, e4, e5, e6, e7, e8, e9⟩ := type_step H HU p5 R (Nat.le_refl _) (by omega) (Nat.le_refl _) (by omega)
    have U2 := SU_550 (v := s) (x := t) e4 w4 (by omega) (by rw [c1]; decide)
    obtain ⟨k1, k2, k3, k4, k5⟩ := e5 x w1 w2
    obtain ⟨v1, v2, v3⟩ := SU_nss (lo' := lo) (hi' := hi) U2 s w4 (by omega)
    have y0 := (e9.2.1 y List.mem_cons_self).1
    refine ⟨ua τ1 550 s t, n1, h1, u1, f1, XC1, XT1, fun l2 => ?_, ?_, SE_le e3 (by omega), SU_le U2 (by omega), brkE_of (brk_mono e7 (Nat.le_refl _) (by omega)), brkE_of (brk_mono e8 (Nat.le_refl _) (by omega)), fun z => ⟨(e9.2.2.2 z).1, fun _ => ?_⟩⟩
    · rw [if_neg (by rw [c1]; decide)]
      unfold T_exKnown_89
      rw [if_pos (by omega), show ((s : Int)).toNat = s by omega, p4, e1, Option.bind_some, if_pos (by omega)]
    · unfold C_35_ex_202s
      simp only
      rw [g2, gd_pos ⟨g1, g3⟩, es, Option.bind_some, if_neg (by omega), gd_pos ⟨g1, g3⟩, eg, Option.bind_some, gd_pos ⟨.inr w3, w3⟩, if_pos c2, gd_pos w3, if_neg c3, gd_pos ⟨w3, r35⟩, e2, Option.bind_some, if_pos y0, ew]
    · exact ⟨w1, w2, by rw [k1]; exact w3, w4, w5, by rw [v1 546 (by simp)]; exact w6, .inr ⟨j, a2, by rw [v1 538 (by simp)]; exact c1, by rw [k3]; exact c2, by rw [k3]; exact c3, by rw [v1 542 (by simp)]; exact c4, by rw [k2]; exact c5, c6, ⟨fun q => absurd q (by decide), fun q => absurd q (by decide), fun q => absurd q (by decide), fun q => absurd q (by decide), fun q => absurd q (by decide), fun q => absurd q (by decide)⟩⟩⟩
end LIT
