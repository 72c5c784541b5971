set_option maxRecDepth 100000
/-! EXS BECOME KNOWN ALIKE: uses; all exs -/
theorem atW_len {A : Nat} {S : List Int} {b : Nat} {h : om_H} {σ : tS} {z : Nat} : ∀ {ws os : List Nat} {lo hi alo ahi : Nat}, atW A S b h σ z ws os lo hi alo ahi → ws.length + lo ≤ hi
  | [], [], _, _, _, _, q => by have := q.1; simp; omega
  | w :: ws, o :: os, _, _, _, _, ⟨kk, a1, a2, p, q1, q3, r1, r2, r3⟩ => by
    have := atW_len r3
    have := WR_in r1
    simp; omega
  | [], _ :: _, _, _, _, _, q => q.elim
  | _ :: _, [], _, _, _, _, q => q.elim
section LXU
variable {G : om_G} {A : Nat} {S : List Int} {b m : Nat} {N : List (List Int)} {cs : List Nat} {K : KT} {pr Ln : Nat} {Ls : List (List Int)} {sc : List Nat} {tb : Nat} {rest : List (Nat × List Nat)} {fo : List Nat} {F : FT} {mo : List (List Nat)} {Ms : List FT} {rs so Lb : Nat} {bLs : List (List Int)} {bd : List Nat} {z0 : Nat}
variable {h h' : om_H} {ul fl ul' fl' : List Nat} {σ τ : tS} {n n' q lo hi alo ahi sp a v k kT kC : Nat} {X XC XT : Int}
set_option maxHeartbeats 4000000 in
/-- a use whose first one is known -/
theorem use_tail {nh mid a1 a2 a3 a4 n1 : Nat} {xs ys ss : List Nat} {h1 : om_H} {u1 f1 : List Nat} {τ1 : tS} {XC1 XT1 : Int} {HR : om_H → List Nat → tS → Nat → Prop} (IH : EA G A S b m N cs K pr Ln Ls sc tb rest fo F mo Ms rs so Lb z0 k) (hT : k ≤ kT) (hC : k < kC) (H : EC G A S N cs K pr Ln Ls tb rest fo F mo Ms rs so Lb h ul fl bLs) (HU : EU S b m N K sc F Ms σ n bd sp) (B : bdL N bd bLs) (R : ER S lo hi alo ahi pr tb Lb h ul fl n sp) (Z : z0 ≤ hz h ∧ fR h 122 tb < z0 ∧ Lb < z0) (hl : bLs.length + 2 * (k + 1) ≤ 600) (i1 : lo ≤ v) (i2 : v < hi) (i3 : alo ≤ a) (i4 : a < ahi) (w1 : kd h a = 30) (w2 : alo ≤ fR h 1494 a ∧ fR h 1494 a < ahi) (w3 : kd h (fR h 1494 a) = 42) (w5 : ll h (fR h 1494 a) = xs ++ ys) (wx : ∀ x ∈ xs, (a1 ≤ x ∧ x < a2) ∧ kd h x = 31 ∧ fR h 1498 x = 0 ∧ fR h 1502 x = 0) (xl : xs.length ≤ mid - lo) (w7 : alo ≤ a1) (w9 : a < a3) (w10 : a2 ≤ a3) (sp1 : spineS (I0 G A S b k h σ) ys ss nh mid hi a3 a4 v) (w12 : a4 ≤ ahi) (lm : lo ≤ mid) (a12 : a1 ≤ a2)
    (e1 : DN (T_exKnownD kT) nh (pshL ss σ) τ1 (sp + ss.length)) (e2 : C_35_exD G kC rs (fR h 1490 a) h = some h1) (e3 : SE G A S N cs K pr Ln Ls tb rest fo F mo Ms rs so Lb bLs a1 a2 h ul fl h1 u1 f1 (mid - lo) XC1) (e4 : SU S b m N K sc F Ms bd (sp + ss.length) lo mid (pshL ss σ) n τ1 n1 (mid - lo) XT1) (e5 : brkE S b m σ lo mid XC1) (e6 : brkE S b m σ lo mid XT1) (e7 : scA N sc Ls → XC1 = XT1 ∧ (XC1 = 2147483647 → HR h1 u1 τ1 n1)) (hk1 : ∀ {h1 h2 : om_H} {u1 u2 : List Nat} {t1 t2 : tS} {m1 m2 : Nat}, KS N cs rest z0 lo mid a1 a2 h1 u1 t1 m1 h2 u2 t2 m2 → HR h1 u1 t1 m1 → HR h2 u2 t2 m2) :
    ∃ (τ : tS) (n' : Nat) (h' : om_H) (us' fs' : List Nat) (XC XT : Int), DN (T_exKnownD kT) v σ τ sp ∧ C_35_exB G (C_35_exD G kC) rs a h = some h' ∧ SE G A S N cs K pr Ln Ls tb rest fo F mo Ms rs so Lb bLs alo ahi h ul fl h' us' fs' (hi - lo) XC ∧ SU S b m N K sc F Ms bd sp lo hi σ n τ n' (hi - lo) XT ∧ brkE S b m σ lo hi XC ∧ brkE S b m σ lo hi XT ∧ (scA N sc Ls → XC = XT ∧ (XC = 2147483647 → HR h' us' τ n' ∧ spineR (I1 G A S b N cs rest fo F mo Ms z0 k bLs.length h' us' τ n') ys nh mid hi a3 a4 v)) := by
  have R0 := R.1.1
  have h84 := R.1.2.2.1
  have hS := R.1.2.2.2
  have hA := R.1.2.1
  have D0 := R.2.1
  have r35 := H.2.2.1.1
  obtain ⟨s1, s2, s3, s4⟩ := spineS_in I0_in sp1
  have R1 := R.2.2.1
  have R2 := R.2.2.2.1
  have R3 := R.2.2.2.2
  have e856 := HU.2.2.1
  obtain ⟨o1, o2⟩ := pshL_on e856 ss
  have fp := pshL_fr (σ := σ) ss
  have gp : gs (pshL ss σ) 856 = ((sp + ss.length : Nat) : Int) := by rw [pshL_gs, e856]; rfl
  have np : ∀ lo' hi', nall lo' hi' σ (pshL ss σ) := fun lo' hi' f hf i _ _ => fp.2 f (fun z => by rw [List.mem_singleton.mp z] at hf; exact absurd hf (by decide)) i
  have hz1 := e3.2.1.1.1
  have z2 := e3.2.1.2.2.2.1
  have z3 := e4.2.2.2.2.2.2.1
  have K1 := SE_hk (djE_sub D0 (show alo ≤ a3 by omega) (show a4 ≤ ahi by omega)) e3 (by omega) (.inr (by omega))
  have L1 : nall mid hi σ τ1 := fun f hf i c1 c2 => (SU_nall e4 (lo' := mid) (hi' := hi) (.inr (Nat.le_refl _)) f hf i c1 c2).trans (np mid hi f hf i c1 c2)
  have W1 := spineS_mono (I' := I0 G A S b k h1 τ1) I0_in (fun lo' hi' alo' ahi' l x s c1 c2 c3 c4 q => I0_keep (hk_sub K1 c3 c4) (fun f hf i d1 d2 => L1 f hf i (by omega) (by omega)) q) sp1
  have D1 := djE_step D0 e3 hA
  have Z1 := Z_step Z e3
  have g0 : gU a (fR h 1494 a) (xs ++ ys) h := ⟨w1, rfl, w3, w5, by rw [List.length_append]; omega⟩
  have g1 := gU_step e3 D0 hA ⟨i3, i4⟩ w2 g0
  have sk := skip_items (G := G) (rs := rs) (ys := ys) (rC := C_35_exD G kC) g1 xs 0 rfl (fun x hx => by
    obtain ⟨x1, x2, x3, x4⟩ := wx x hx
    have ex := e3.2.1.1.2.2.2 x (by omega) (fun z => by
      rcases z with z | z | z | z
      · have := D0 x (.inl z); omega
      · have := D0 x (.inr (.inl z)); omega
      · have := D0 x (.inr (.inr z)); omega
      · omega)
    exact ⟨by rw [ex.1]; exact x2, by rw [ex.2.2.1]; exact x3, by rw [ex.2.2.1]; exact x4⟩)
  rw [Nat.zero_add] at sk
  obtain ⟨τ2, n2, h2, u2, f2, XC2, XT2, q1, q2, q3, q4, q5, q6, q7⟩ := items_rel (kT := kT) (kC := kC) IH hT hC B (by omega) ⟨i3, i4⟩ w2 ys ss nh mid a3 v xs.length h1 u1 f1 τ1 n1 e3.1 e4.1 W1 ⟨⟨by omega, by omega, h84, hS⟩, djE_sub D1 (by omega) (by omega), by omega, by omega, by omega⟩ D1 (by omega) Z1 (onR_keep o1 (fun i hi => e4.2.2.2.2.1 i hi)) g1 (by simp) (by simp)
  have C := SE_trans (SE_wide e3 (show alo ≤ a1 by omega) (show a2 ≤ ahi by omega) hA D0) (SE_wide q3 (show alo ≤ a3 by omega) (show a4 ≤ ahi by omega) (by omega) D1)
  have G0 := SG_856 (lo := lo) (hi := hi) (sp := sp) HU fp gp o2
  have G1 := SG_wide (SG_of e4 (show sp ≤ sp + ss.length by omega)) (Nat.le_refl lo) (show mid ≤ hi by omega)
  have G2 := SG_wide q4 (show lo ≤ mid by omega) (Nat.le_refl hi)
  have GG := SG_trans (SG_trans G0 G1) G2
  have l1 := brkE_le hS e5
  have l2 := brkE_le hS q5
  have l3 := brkE_le hS e6
  have l4 := brkE_le hS q6
  rw [show min (min 2147483647 XT1) XT2 = min XT1 XT2 by omega] at GG
  have U := SG_SU.mp GG
  have bp : ∀ f ∈ [538, 542, 554], ∀ i, ga (pshL ss σ) f i = ga σ f i := fun f hf i => fp.2 f (fun z => by rw [List.mem_singleton.mp z] at hf; exact absurd hf (by decide)) i
  have bf : ∀ f ∈ [538, 542, 554], ∀ i, ga τ1 f i = ga σ f i := fun f hf i => (SU_ga e4 (by simp only [List.mem_cons, List.not_mem_nil, or_false] at hf ⊢; omega) i).trans (bp f hf i)
  refine ⟨τ2, n2, h2, u2, f2, min XC1 XC2, min XT1 XT2, fun l2' hl2 => ?_, ?_, SE_le C (by omega), SU_le U (by omega), brkE_min (brkE_mono e5 (Nat.le_refl _) (by omega)) (brkE_fr bf (brkE_mono q5 (by omega) (Nat.le_refl _))), brkE_min (brkE_mono e6 (Nat.le_refl _) (by omega)) (brkE_fr bf (brkE_mono q6 (by omega) (Nat.le_refl _))), fun z => ⟨by rw [(e7 z).1, (q7 z).1], fun y => ?_⟩⟩
  · rw [spine_down (σ := σ) (fun lo' hi' alo' ahi' l x s q => ⟨q.2.2.2.2.2.1, q.2.2.2.2.2.2.elim (fun ⟨_, _, c, _⟩ => .inl c) (fun ⟨_, _, c, _⟩ => .inr (.inl c)), q.2.2.2.1, q.2.2.2.2.1, (I0_in _ _ _ _ _ _ _ q).2.2⟩) e856 sp1 (Nat.le_trans h84 (by decide)) (by omega)]
    exact (e1 l2' (by omega)).trans (q1 l2' hl2)
  · rw [exB_30 ⟨29, by decide, w1⟩ w1 r35, e2, Option.bind_some, show ((0 : Int)) = ((0 : Nat) : Int) from rfl, sk, q2, Option.bind_some]
    rfl
  · have y1 := (e7 z).2 (by omega)
    have y2 := (q7 z).2 (by omega)
    have KK := KS_of (z0 := z0) (lo' := lo) (hi' := mid) (alo' := a1) (ahi' := a2) e3.1 Z1.2 (djE_sub D1 (by omega) (by omega)) q3 (by omega) (.inl (by omega)) (SG_nall q4 (.inl (Nat.le_refl _))) q4.2.2.2.2.2.1
    exact ⟨hk1 KK y1, spineS_R y2⟩
theorem atsR_x {al ah : Nat} : ∀ {xs os : List Nat}, atsR S b h σ al ah xs os → (∀ x ∈ xs, (al ≤ x ∧ x < ah) ∧ kd h x = 31 ∧ fR h 1498 x = 0 ∧ fR h 1502 x = 0) ∧ xs.length = os.length
  | [], [], _ => ⟨fun x hx => absurd hx List.not_mem_nil, rfl⟩
  | x :: xs, o :: os, ⟨c1, c2, d, r⟩ => by
    obtain ⟨r1, r2⟩ := atsR_x (xs := xs) (os := os) r
    refine ⟨fun y hy => ?_, by simp [r2]⟩
    rcases List.mem_cons.mp hy with rfl | hy
    · exact ⟨⟨c1, c2⟩, d.1, d.2.1, d.2.2.1⟩
    · exact r1 y hy
  | [], _ :: _, r => r.elim
  | _ :: _, [], r => r.elim
set_option maxHeartbeats 2000000 in
theorem case30 (IH : EA G A S b m N cs K pr Ln Ls sc tb rest fo F mo Ms rs so Lb z0 k) (hT : k ≤ kT) (hC : k < kC) (H : EC G A S N cs K pr Ln Ls tb rest fo F mo Ms rs so Lb h ul fl bLs) (HU : EU S b m N K sc F Ms σ n bd sp) (B : bdL N bd bLs) (R : ER S lo hi alo ahi pr tb Lb h ul fl n sp) (Z : z0 ≤ hz h ∧ fR h 122 tb < z0 ∧ Lb < z0) (hl : bLs.length + 2 * (k + 1) ≤ 600) (i1 : lo ≤ v) (i2 : v < hi) (i3 : alo ≤ a) (i4 : a < ahi) (w : X30 A S b h σ (Psi0 A S b h σ) (X0 G A S b h σ k) lo hi alo ahi a v) : EKp G A S b m N cs K pr Ln Ls sc tb rest fo F mo Ms rs so Lb z0 kT (k + 1) lo hi alo ahi a v h ul fl σ n bLs bd sp (C_35_exB G (C_35_exD G kC) rs a h) := by
  have R0 := R.1.1
  have h84 := R.1.2.2.1
  have hS := R.1.2.2.2
  have hA := R.1.2.1
  have D0 := R.2.1
  have R1 := R.2.2.1
  have R2 := R.2.2.2.1
  have R3 := R.2.2.2.2
  obtain ⟨w1, w2, w3, w4, nh, mid, a1, a2, a3, a4, xs, ys, w5, w7, w9, w10, w11, w12, w13, w15⟩ := w
  obtain ⟨ss, sp1⟩ := spineR_S w11
  obtain ⟨s1, s2, s3, s4⟩ := spineS_in I0_in sp1
  have e856 := HU.2.2.1
  have fp := pshL_fr (σ := σ) ss
  have gp : gs (pshL ss σ) 856 = ((sp + ss.length : Nat) : Int) := by rw [pshL_gs, e856]; rfl
  have HUp := EU_856 HU fp gp
  have np : ∀ lo' hi', nall lo' hi' σ (pshL ss σ) := fun lo' hi' f hf i _ _ => fp.2 f (fun z => by rw [List.mem_singleton.mp z] at hf; exact absurd hf (by decide)) i
  have hr : hk a1 a2 h h := fun _ _ _ => ⟨rfl, fun _ => rfl, fun _ => rfl, rfl, rfl⟩
  have bp : ∀ f ∈ [538, 542, 554], ∀ i, ga (pshL ss σ) f i = ga σ f i := fun f hf i => fp.2 f (fun z => by rw [List.mem_singleton.mp z] at hf; exact absurd hf (by decide)) i
  -- the use itself at the end
  have fin : ∀ {h2 : om_H} {u2 f2 : List Nat} {τ2 : tS} {n2 : Nat} {XC XT : Int}, SE G A S N cs K pr Ln Ls tb rest fo F mo Ms rs so Lb bLs alo ahi h ul fl h2 u2 f2 (hi - lo) XC → SU S b m N K sc F Ms bd sp lo hi σ n τ2 n2 (hi - lo) XT → (alo ≤ fR h 1490 a ∧ fR h 1490 a < ahi) → spineR (I1 G A S b N cs rest fo F mo Ms z0 k bLs.length h2 u2 τ2 n2) ys nh mid hi a3 a4 v → ((xs = [] ∧ XS G A S b h2 τ2 (Psi1 S b N cs rest fo F mo Ms z0 h2 u2 τ2 n2) k bLs.length lo mid a1 a2 (fR h 1490 a) nh ∧ a2 ≤ a) ∨ XN A S b h2 τ2 (Psi1 S b N cs rest fo F mo Ms z0 h2 u2 τ2 n2 bLs.length) lo mid a1 a2 (fR h 1490 a) nh xs) → XS G A S b h2 τ2 (Psi1 S b N cs rest fo F mo Ms z0 h2 u2 τ2 n2) (k + 1) bLs.length lo hi alo ahi a v := by
    intro h2 u2 f2 τ2 n2 XC XT C U hr2 y1 y2
    obtain ⟨k1, k2, k3, k4⟩ := C.2.2.2.1 a i3 i4
    have kLi := C.2.2.2.1 _ w2.1 w2.2
    have khd := C.2.2.2.1 _ hr2.1 hr2.2
    have ea : eqA a h h2 := C.2.1.1.2.2.2 a (by omega) (fun z => by
      rcases z with z | z | z | z
      · have := D0 a (.inl z); omega
      · have := D0 a (.inr (.inl z)); omega
      · have := D0 a (.inr (.inr z)); omega
      · omega)
    refine ⟨i1, i2, i3, i4, .inr (.inr (.inr (.inr (.inr (.inr (.inl ⟨by rw [k1]; exact w1, by rw [k3 1494 (by decide)]; exact w2, by rw [k3 1494 (by decide), kLi.1, kLi.2.2.2]; exact w3, by rw [k2 1372 (by decide), k3 1490 (by decide), khd.2.1 1372 (by decide)]; exact w4, nh, mid, a1, a2, a3, a4, xs, ys, by rw [k3 1494 (by decide), kLi.2.2.2]; exact w5, w7, w9, w10, y1, w12, by rw [k3 1490 (by decide)]; exact y2, ⟨fun _ => ?_, fun q => absurd q (by decide), fun q => absurd q (by decide), fun q => absurd q (by decide), fun q => absurd q (by decide), fun q => absurd q (by decide)⟩⟩))))))⟩
    rw [ea.2.2.1]
    exact w15.1 (by decide)
  rcases w13 with ⟨x0, w13, wa⟩ | w13
  · have j1 := XR_in _ _ _ _ _ _ _ w13
    have w8p : X0 G A S b h (pshL ss σ) k lo mid a1 a2 (fR h 1490 a) nh := X0_keep w13 hr (np lo mid)
    obtain ⟨τ1, n1, h1, u1, f1, XC1, XT1, e1, e2, e3, e4, e5, e6, e7⟩ := IH kT kC (by omega) hC lo mid a1 a2 (fR h 1490 a) nh h ul fl (pshL ss σ) n bLs bd (sp + ss.length) H HUp B w8p ⟨⟨by omega, by omega, by omega, hS⟩, djE_sub D0 (by omega) (by omega), by omega, by omega, by omega⟩ Z (by omega)
    obtain ⟨τ2, n2, h2, u2, f2, XC, XT, q1, q2, q3, q4, q5, q6, q7⟩ := use_tail (HR := fun hh u t n => XS G A S b hh t (Psi1 S b N cs rest fo F mo Ms z0 hh u t n) k bLs.length lo mid a1 a2 (fR h 1490 a) nh) (xs := xs) IH hT hC H HU B R Z hl i1 i2 i3 i4 w1 w2 w3.1 w5 (fun x hx => by rw [x0] at hx; cases hx) (by rw [x0]; simp) w7 w9 w10 sp1 w12 (by omega) (by omega) e1 e2 e3 e4 (brkE_fr bp e5) (brkE_fr bp e6) e7 (fun kk y => KS_XS kk y)
    exact ⟨τ2, n2, h2, u2, f2, XC, XT, q1, q2, q3, q4, q5, q6, fun z => ⟨(q7 z).1, fun y => fin q3 q4 ⟨by omega, by omega⟩ ((q7 z).2 y).2 (.inl ⟨x0, ((q7 z).2 y).1, wa⟩)⟩⟩
  · have j1 : (lo ≤ nh ∧ nh < mid) ∧ a1 ≤ fR h 1490 a ∧ fR h 1490 a < a2 := ⟨⟨w13.1, w13.2.1⟩, w13.2.2.1, w13.2.2.2.1⟩
    have w13p : XN A S b h (pshL ss σ) (Psi0 A S b h (pshL ss σ)) lo mid a1 a2 (fR h 1490 a) nh xs := XN_keep (kp0 hr (np lo mid)) w13
    obtain ⟨τ1, n1, h1, u1, f1, XC1, XT1, e1, e2, e3, e4, e5, e6, e7⟩ := nameN (z0 := z0) (r := T_exKnownD kT) H HUp B (⟨⟨by omega, by omega, by omega, hS⟩, djE_sub D0 (by omega) (by omega), by omega, by omega, by omega⟩ : ER S lo mid a1 a2 pr tb Lb h ul fl n (sp + ss.length)) Z.1 w13p
    obtain ⟨kC', eC⟩ : ∃ kC', kC = kC' + 1 := ⟨kC - 1, by omega⟩
    have e2' : C_35_exD G kC rs (fR h 1490 a) h = some h1 := by
      rw [eC]
      show C_35_exB G (C_35_exD G kC') rs (fR h 1490 a) h = some h1
      rw [exB_28 ⟨27, by decide, w13.2.2.2.2.1⟩ w13.2.2.2.2.1 H.2.2.1.1]
      exact e2
    have k10 : ga (pshL ss σ) 538 nh = 10 := w13p.2.2.2.2.2.1
    have dn : DN (T_exKnownD kT) nh (pshL ss σ) τ1 (sp + ss.length) := DN_leaf (by omega) (by rw [k10]; decide) e1
    obtain ⟨_, _, _, _, _, _, _, j, os, c1, c2, _, _, _, _, _, _, _, x10, _, _, _, x17, _, _, x20, x21⟩ := id w13
    obtain ⟨ax1, ax2⟩ := atsR_x x21
    have xl : xs.length ≤ mid - lo := by
      obtain ⟨_, _, p3⟩ := x20
      rw [if_pos rfl] at p3
      obtain ⟨os', _, _, _, p7⟩ := p3
      have := atW_len p7
      omega
    obtain ⟨τ2, n2, h2, u2, f2, XC, XT, q1, q2, q3, q4, q5, q6, q7⟩ := use_tail (HR := fun hh u t n => XN A S b hh t (Psi1 S b N cs rest fo F mo Ms z0 hh u t n bLs.length) lo mid a1 a2 (fR h 1490 a) nh xs) (xs := xs) IH hT hC H HU B R Z hl i1 i2 i3 i4 w1 w2 w3.1 w5 ax1 xl w7 w9 w10 sp1 w12 (by omega) (by omega) dn e2' e3 e4 (brkE_fr bp e5) (brkE_fr bp e6) e7 (fun kk y => XN_keep (KS_kp kk bLs.length) y)
    exact ⟨τ2, n2, h2, u2, f2, XC, XT, q1, q2, q3, q4, q5, q6, fun z => ⟨(q7 z).1, fun y => fin q3 q4 ⟨by omega, by omega⟩ ((q7 z).2 y).2 (.inr ((q7 z).2 y).1)⟩⟩
end LXU
