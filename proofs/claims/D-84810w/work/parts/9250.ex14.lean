set_option maxRecDepth 100000
/-! EXS BECOME KNOWN ALIKE: functions, lets -/
section LEL
variable {G : om_G} {A : Nat} {S : List Int} {b m : Nat} {N : List (List Int)} {cs : List Nat} {K : KT} {pr Ln : Nat} {Ls : List (List Int)} {sc : List Nat} {tb : Nat} {rest : List (Nat × List Nat)} {fo : List Nat} {F : FT} {mo : List (List Nat)} {Ms : List FT} {rs so Lb : Nat} {bLs : List (List Int)} {bd : List Nat} {z0 : Nat}
variable {h h' h1 : om_H} {ul fl ul' fl' : List Nat} {σ τ : tS} {n n' q lo hi alo ahi sp a v k kT kC : Nat} {X XC XT : Int}
theorem ky_wr {f x : Nat} (H : EC G A S N cs K pr Ln Ls tb rest fo F mo Ms rs so Lb h ul fl bLs) (k1 : kd h a = 24 ∨ kd h a = 25 ∨ kd h a = 28) : ∀ T y, tyC h N (clF cs) (UU ul rest) T y → tyC (sR h f a x) N (clF cs) (UU ul rest) T y := fun T y c => tyC_hT (hT_sR (a := a)) (fun y hy => by
    have hy' : y = a := hy
    rw [hy']
    exact ⟨by omega, by omega, fun z => by omega⟩) (fun y hy z => by
    have u := (TB_U34 H.1.1.1 hy).1
    have z' : y = a := z
    rw [z'] at u; omega) (fun y hy => hy) (fun _ _ z => z) c
/-- an ex's own fields while its parts become known -/
theorem SE_own {al ah : Nat} (C : SE G A S N cs K pr Ln Ls tb rest fo F mo Ms rs so Lb bLs al ah h ul fl h' ul' fl' q X) (D : djE h tb fl pr Lb alo ahi) (hA : ahi ≤ hz h) (i3 : alo ≤ a) (i4 : a < ahi) (lt : a < al ∨ ah ≤ a) : eqA a h h' := by
  refine C.2.1.1.2.2.2 a (by omega) (fun z => ?_)
  rcases z with z | z | z | z
  · have := D a (.inl z); omega
  · have := D a (.inr (.inl z)); omega
  · have := D a (.inr (.inr z)); omega
  · omega
theorem tx_550 {x : Int} : tx σ n (ua σ 550 v x) n := tx_same (fun f hf i => by rw [ga_ua, if_neg (fun (z : f = 550 ∧ i = v) => by rw [z.1] at hf; exact absurd hf (by decide))])
set_option maxHeartbeats 2000000 in
theorem case14 (IH : EA G A S b m N cs K pr Ln Ls sc tb rest fo F mo Ms rs so Lb z0 k) (hT : k ≤ kT) (hC : k < kC) (H : EC G A S N cs K pr Ln Ls tb rest fo F mo Ms rs so Lb h ul fl bLs) (HU : EU S b m N K sc F Ms σ n bd sp) (B : bdL N bd bLs) (R : ER S lo hi alo ahi pr tb Lb h ul fl n sp) (Z : z0 ≤ hz h ∧ fR h 122 tb < z0 ∧ Lb < z0) (hl : bLs.length + 2 * (k + 1) ≤ 600) (i1 : lo ≤ v) (i2 : v < hi) (i3 : alo ≤ a) (i4 : a < ahi) (w : X14 A S b h σ (Psi0 A S b h σ) (X0 G A S b h σ k) lo hi alo ahi a v) : EKp G A S b m N cs K pr Ln Ls sc tb rest fo F mo Ms rs so Lb z0 kT (k + 1) lo hi alo ahi a v h ul fl σ n bLs bd sp (C_35_exB G (C_35_exD G kC) rs a h) := by
  have h84 := R.1.2.2.1
  have hS := R.1.2.2.2
  have hA := R.1.2.1
  have D0 := R.2.1
  obtain ⟨w1, w2, w3, j, nb, mid, a1, a2, a3, w4, w5, w6, w7, w8, w9, w10, w11, w12, w13, w14, w15, w16, w17⟩ := w
  have jb := XR_in _ _ _ _ _ _ _ w16
  obtain ⟨p1, _, p3⟩ := w15
  rw [if_neg (by decide), if_pos rfl] at p3
  obtain ⟨_, p, p4, p5⟩ := p3
  have r35 := H.2.2.1.1
  obtain ⟨t, τ1, n1, x, h1, u1, f1, XC1, XT1, e1, e2, e3, e4, e5, e6, e7, e8, e9⟩ := type_step H HU p5 R (Nat.le_refl _) (by omega) (by omega) (by omega)
  obtain ⟨s1, s2, s3, s4, s5⟩ := e5 a i3 i4
  have ka : kd h1 a = 24 := by rw [s1]; exact w1
  have C2 := SE_sR (f := 1394) (x := x) H e3 (by decide) i3 i4 (.inl ka)
  have U2 := SU_550 (v := v) (x := t) e4 i1 i2 (by rw [w2]; decide)
  have g2 : ∀ f, f ∉ TYA → f ≠ 550 → ∀ i, ga (ua τ1 550 v t) f i = ga σ f i := fun f hf h5 i => by
    rw [ga_ua, if_neg (fun (z : f = 550 ∧ i = v) => h5 z.1)]
    exact e6 f hf i
  have g5 : ∀ i, i ≠ v → ga (ua τ1 550 v t) 550 i = ga σ 550 i := fun i hi => by
    rw [ga_ua, if_neg (fun (z : (550 : Nat) = 550 ∧ i = v) => hi z.2)]
    exact e6 550 (by decide) i
  have gv : ga (ua τ1 550 v t) 550 v = t := by rw [ga_ua, if_pos ⟨rfl, rfl⟩]
  have hk2 : ∀ y, alo ≤ y → y < ahi → y ≠ a → eqA y h (sR h1 1394 a x) ∨ True := fun _ _ _ _ => .inr trivial
  have kb : hk a2 a3 h (sR h1 1394 a x) := fun y c d => by
    obtain ⟨q1, q2, q3, q4, q5⟩ := e5 y (by omega) (by omega)
    exact ⟨q1, q2, fun f => by rw [fR_na (show y ≠ a by omega)]; exact q3 f, q4, q5⟩
  have nb1 : nall mid v σ (ua τ1 550 v t) := fun f hf i c d => by
    by_cases z : f = 550
    · rw [z]; exact g5 i (by omega)
    · exact g2 f (by simp only [List.mem_cons, List.not_mem_nil, or_false] at hf ⊢; omega) z i
  have W2 := X0_keep w16 kb nb1
  have D2 := djE_step D0 C2 hA
  have hz2 := C2.2.1.1.1
  have R2 := ER_next R C2 U2 (lo' := mid) (hi' := v) (alo' := a2) (ahi' := a3) (by omega) (by omega) (by omega) (by omega) (by omega)
  have Z2 := Z_step Z C2
  have aw : a ≠ fR h 1386 a := fun z => by have := w9.1; rw [← z] at this; omega
  have wd2 : wd (sR h1 1394 a x) A S (fR h 1386 a) (j + 1) := by
    obtain ⟨q1, q2, q3, q4, q5⟩ := e5 (fR h 1386 a) w8.1 w8.2
    exact ⟨by show kd h1 _ = _; rw [q1]; exact w9.1, by rw [fR_na (fun z => aw z.symm), q3]; exact w9.2.1, by show fI h1 _ _ = _; rw [q2]; exact w9.2.2.1, by show fI h1 _ _ = _; rw [q2]; exact w9.2.2.2⟩
  obtain ⟨σ3, τ4, n4, h4, u4, f4, XC2, XT2, q1, q2, q3, q4, q5, q6, q7, q8, q9⟩ := inside_rel (kT := kT) (kC := kC) IH hT hC C2.1 U2.1 B R2 Z2 (by omega) wd2 (by omega) w5 W2
  have fb2 : fR (sR h1 1394 a x) 1398 a = fR h 1398 a := by rw [fR_ne (by decide), s3]
  rw [← fb2] at q4
  have C := SE_trans C2 (SE_wide q5 (show alo ≤ a2 by omega) (show a3 ≤ ahi by omega) (by omega) D2)
  have U := SU_trans U2 (SU_wide q6 (show lo ≤ mid by omega) (show v ≤ hi by omega))
  have b1 : ∀ f ∈ [538, 542, 554], ∀ i, ga (ua τ1 550 v t) f i = ga σ f i := fun f hf i => g2 f (by simp only [List.mem_cons, List.not_mem_nil, or_false] at hf ⊢; omega) (by simp only [List.mem_cons, List.not_mem_nil, or_false] at hf; omega) i
  obtain ⟨k1, k2, k3, k4⟩ := C.2.2.2.1 a i3 i4
  obtain ⟨v1, v2, v3⟩ := SU_nss (lo' := lo) (hi' := hi) U v i1 i2
  have eo := SE_own q5 D2 (by omega) i3 i4 (.inl (by omega))
  have l1 := brk_le hS e7
  have l2 := brkE_le hS q7
  refine ⟨us τ4 788 (bd.length : Int), n4, h4, u4, f4, _, _, DN_leaf (by omega) (by rw [w2]; decide) ?_, ?_, SE_le C (by omega), SU_le U (by omega), brkE_min (brkE_of (brk_mono e7 (Nat.le_refl _) (by omega))) (brkE_fr b1 (brkE_mono q7 (by omega) (by omega))), brkE_min (brkE_of (brk_mono e8 (Nat.le_refl _) (by omega))) (brkE_fr b1 (brkE_mono q8 (by omega) (by omega))), fun s => ?_⟩
  · have t46 : ga τ1 546 v = ((b + (j + 1) : Nat) : Int) := by rw [e6 546 (by decide)]; exact w7
    have t54 : ga σ3 554 v = (nb : Int) := by rw [q2 554 (by decide), g2 554 (by decide) (by decide)]; exact w10
    unfold T_oneKnown
    rw [if_pos (by omega), show ((v : Int)).toNat = v by omega, w2, if_neg (by decide), if_neg (by decide), if_neg (by decide), if_neg (by decide), if_pos rfl, if_pos (by omega), p4, e1, Option.bind_some, if_pos (by omega), t46, q1, Option.bind_some, if_pos (by omega), t54, q3, Option.bind_some, HU.2.1.1]
  · rw [exB_24 ⟨23, by decide, w1⟩ w1 r35, e2, Option.bind_some, gd_pos ⟨ka, ka, e3.1.2.2.1.1⟩, s3, s3]
    rw [fb2] at q4
    exact q4
  · have s1' := e9.2.2.2 s
    have s2' := q9 s
    refine ⟨by rw [s1'.1, s2'.1], fun z => ?_⟩
    have y := s2'.2 (by omega)
    obtain ⟨T, c0, c1, c2⟩ := s1'.2 (by omega) 0 x t rfl rfl
    refine ⟨i1, i2, i3, i4, .inr (.inr (.inl ⟨by rw [k1]; exact w1, by rw [v1 538 (by simp)]; exact w2, w3, j, nb, mid, a1, a2, a3, by rw [v1 542 (by simp)]; exact w4, w5, by rw [k2 1372 (by decide)]; exact w6, by rw [v1 546 (by simp)]; exact w7, by rw [k3 1386 (by decide)]; exact w8, by rw [k3 1386 (by decide)]; exact wd_hs C.2.2.2.1 w8.1 w8.2 w9, by rw [v1 554 (by simp)]; exact w10, w11, w12, w13, w14, ⟨fun _ => ?_, fun q => absurd q (by decide), fun q => absurd q (by decide), fun _ => ?_, fun q => absurd q (by decide), fun q => absurd q (by decide)⟩, by rw [k3 1398 (by decide)]; exact y, w17⟩))⟩
    · rw [eo.2.2.1, fR_ne (by decide), s3]
      exact p1 (by decide)
    · have ex : fR h4 1394 a = x := by rw [eo.2.2.1, fR_eq]
      have et : ga (us τ4 788 (bd.length : Int)) 550 v = t := by
        rcases q6.2.2.1 v with z | z
        · omega
        · rw [z]; exact gv
      rw [ex, et]
      exact ⟨T, c0, q5.2.1.2.2.2.2.2.1 T x (ky_wr e3.1 (.inl ka) T x c1), tyT_mono q6.2.2.2.2.2.1 (tyT_mono tx_550 c2)⟩
end LEL
