set_option maxRecDepth 100000
/-! THE TWIN JUDGES: cases -/
section LJC
variable {E : JE} {B : Nat}
theorem jf_eOk (J : JOk E B) {k w pl : Nat} {e e' : Et} {T : Ty} {s s' : JS} {b p : Nat} (hb : 2700 ≤ b) (hb2 : b ≤ 1000000) (H : eOk E.2.2.2.1 b e ∧ ePl e = p) (q : jf E k w pl e s = some (.inr (e', T, s'))) : (eOk E.2.2.2.1 b e' ∧ ePl e' = p) ∧ tyOk E.2.2.2.1 T ∧ tsz T ≤ b ∧ isK k w T = true := by
  obtain ⟨zz, ezz, kz⟩ := jf_ok J (k := k) (w := w) (pl := pl) (s := s) hb hb2 H
  rw [q] at ezz
  exact kz (e', T, s') (Option.some.inj ezz).symm
/-- CASES -/
theorem jh_case (J : JOk E B) {r : Int → tS → Option (Int × tS)} {lb lb' : XL} {u u' : Unit} {t' : Nat} {l r1 r2 : Xt} (Hl : JR E r l) (H1 : JR E r r1) (H2 : JR E r r2) : JHd E r (.inner 17 lb u l (.inner t' lb' u' r1 r2)) := by
  intro Γ s z σ n lo hi v sp b H
  obtain ⟨e, A, XP, ok, gl, ⟨hb, hb2⟩, hbd, hsp, R⟩ := H
  have i84 := XTg_in XP
  unfold XTp at XP
  rw [XTg_e] at XP
  obtain ⟨_, h538, _, h4⟩ := XP
  rw [if_neg (by decide), if_neg (by decide), if_neg (by decide), if_neg (by decide), if_neg (by decide), if_neg (by decide), if_neg (by decide)] at h4
  obtain ⟨h5, h6, h7, h4⟩ := h4
  rw [if_neg (by decide), if_pos rfl] at h4
  obtain ⟨m, m', xa, xb, xc', h8, h9, h10, ha, hB, hC⟩ := h4
  rw [xok_e] at ok
  have ok' : xok E l Γ.length ∧ xok E r1 Γ.length ∧ xok E r2 (Γ.length + 2) := by
    unfold xokB at ok
    rw [if_neg (by decide), if_neg (by decide), if_neg (by decide), if_neg (by decide), if_neg (by decide), if_neg (by decide), if_neg (by decide)] at ok
    simp only at ok
    rw [if_neg (by decide), if_pos trivial] at ok
    exact ok
  rw [jd_e] at e
  have e' : (jd E l Γ s).bind (Sum.elim (fun e => some (.inl e)) fun a => jb (jf E 1 2 (ePl a.1) a.1 a.2) fun f => jb (jd E r1 Γ f.2.2) fun c => jb (jd E r2 (Γ ++ [tL f.2.1, f.2.1]) c.2) fun d => jb (jw E (eTy c.1) d.1 d.2) fun e => some (.inr (en 17 lb (eTy c.1) .leaf [] f.1 (en t' lb' .leaf .leaf [] c.1 e.1), e.2))) = some z := by
    unfold jdB at e
    rw [if_neg (by decide), if_neg (by decide), if_neg (by decide), if_neg (by decide), if_neg (by decide), if_neg (by decide), if_neg (by decide)] at e
    simp only at e
    rw [if_neg (by decide), if_pos trivial] at e
    exact e
  have ect : jct E (.inner 17 lb u l (.inner t' lb' u' r1 r2)) = jct E l + jct E (.inner t' lb' u' r1 r2) := by
    show (if (17 : Nat) = 10 then _ else if (17 : Nat) = 14 then 1 else 0) + jct E l + _ = _
    rw [if_neg (by decide), if_neg (by decide), Nat.zero_add]
  have ect2 : jct E r1 + jct E r2 ≤ jct E (.inner t' lb' u' r1 r2) := by
    show _ ≤ _ + jct E r1 + jct E r2
    omega
  have ebd : 2 + max (xbd l) (max (xbd r1) (xbd r2)) ≤ xbd (.inner 17 lb u l (.inner t' lb' u' r1 r2)) := by
    show _ ≤ (if (17 : Nat) = 14 ∨ (17 : Nat) = 15 then 1 else if (17 : Nat) = 17 then 2 else 0) + max (xbd l) (_ + max (xbd r1) (xbd r2))
    rw [if_neg (by decide), if_pos rfl]
    omega
  have esz : xsz (.inner 17 lb u l (.inner t' lb' u' r1 r2)) = 1 + 2 * tsz (lbT lb) + xsz l + (1 + 2 * tsz (lbT lb') + xsz r1 + xsz r2) := rfl
  rw [ect] at R
  rw [esz] at hb2
  have ia := XTg_in ha
  have ib := XTg_in hB
  have ic := XTg_in hC
  have vN : ((v : Int)).toNat = v := by omega
  have X0 := JX_0 (lo := lo) (hi := hi) (v := v) A ⟨i84.1, i84.2.1⟩
  obtain ⟨A0, F0, T0, s0, _⟩ := id X0
  cases q1 : jd E l Γ s with
  | none => rw [q1] at e'; cases e'
  | some z1 =>
  rw [q1, Option.bind_some] at e'
  obtain ⟨y1, σ1, n1, ra, F1, ⟨y1a, y1b, _⟩, k1, k2⟩ := JX_r Hl X0 q1 ha ok'.1 gl ⟨hb, by omega⟩ (by omega) (by omega) (by omega) ⟨Nat.le_refl _, by omega, .inr (by omega)⟩
  have arr : ∀ τ : tS, fr JFS JFA σ τ → ga τ 546 v = (xa : Int) ∧ ga τ 550 v = (xb : Int) ∧ ga τ 558 v = (xc' : Int) := fun τ F => ⟨by rw [F.2 546 (by decide)]; exact h8, by rw [F.2 550 (by decide)]; exact h9, by rw [F.2 558 (by decide)]; exact h10⟩
  have xbN : ((xb : Int)).toNat = xb := by omega
  have FJ1 : fr JFS JFA σ σ1 := fr_trans F0.1 F1.1
  have vb : 0 ≤ (v : Int) ∧ (v : Int) < 8400 := by omega
  have run1 : T_judgeOne r (v : Int) (ua σ 846 v (-1)) = T_judgeOne_273 r (v : Int) (gs (ua σ 846 v (-1)) 788) (ua σ 846 v (-1)) := by
    unfold T_judgeOne
    rw [if_pos A0.2.2.1, if_pos vb, vN, F0.1.2 538 (by decide), h538, if_neg (by decide), if_neg (by decide), if_neg (by decide), if_neg (by decide), if_neg (by decide), if_neg (by decide), if_neg (by decide)]
  rw [run1]
  unfold T_judgeOne_273
  rw [if_pos vb, vN, (arr _ F0.1).1, ra, Option.bind_some]
  simp only
  cases z1 with
  | inl kp =>
    have ez : z = .inl kp := (Option.some.inj e').symm
    have F := k1 kp.1 kp.2 rfl
    rw [if_neg (by rw [F.2.2.2.1.2.1]; have := F.2.2.2.1.1; omega)]
    exact ⟨y1, _, n1, rfl, JXF_end F (by rw [ect]; omega) ⟨y1a, y1b⟩ ⟨i84.1, i84.2.1⟩ ez ⟨_, rfl⟩⟩
  | inr a =>
  obtain ⟨a, sa⟩ := a
  obtain ⟨X1, T1, Ha, ey1⟩ := k2 a sa rfl
  have oka := jd_eOk J q1 ok'.1 gl hb (by omega)
  have e2 : (jf E 1 2 (ePl a) a sa).bind (Sum.elim (fun e => some (.inl e)) fun f => jb (jd E r1 Γ f.2.2) fun c => jb (jd E r2 (Γ ++ [tL f.2.1, f.2.1]) c.2) fun d => jb (jw E (eTy c.1) d.1 d.2) fun e => some (.inr (en 17 lb (eTy c.1) .leaf [] f.1 (en t' lb' .leaf .leaf [] c.1 e.1), e.2))) = some z := e'
  obtain ⟨A1, F1', T1', _, ⟨x1a, x1b⟩, _⟩ := id X1
  have h300 := A1.2.2.2.1.2
  have pl1 := t_placeOf a lo m xa Ha
  rw [ePl_g] at pl1
  rw [if_pos A1.2.2.1, if_pos vb, (arr σ1 F1'.1).1, pl1, Option.bind_some]
  cases q2 : jf E 1 2 (ePl a) a sa with
  | none => rw [q2] at e2; cases e2
  | some z2 =>
  rw [q2, Option.bind_some] at e2
  obtain ⟨x2, σ2, n2, w1, W, w2⟩ := t_formed J A1.1.1 A1.1.2 Ha oka.1.1 (Nat.le_trans oka.1.2 (by omega)) q2 A1.2.2.2.1.1 A1.2.2.2.1.2 (by omega) A1.2.2.1
  obtain ⟨F2, T2, ⟨f842, _⟩, k3, k4⟩ := JX_W X1 W ⟨by omega, by omega, by omega⟩
  have w1' : T_formed (xa : Int) 1 2 ((ePl a : Nat) : Int) σ1 = some (x2, σ2) := w1
  rw [w1', Option.bind_some]
  simp only
  cases z2 with
  | inl kp =>
    have ez : z = .inl kp := (Option.some.inj e2).symm
    have F := k3 kp.1 kp.2 rfl
    rw [if_neg (by rw [F.2.2.2.1.2.1]; have := F.2.2.2.1.1; omega)]
    exact ⟨y1, _, n2, rfl, JXF_end F (by rw [ect]; omega) ⟨y1a, y1b⟩ ⟨i84.1, i84.2.1⟩ ez ⟨_, rfl⟩⟩
  | inr fb =>
  obtain ⟨f, U, sf⟩ := fb
  have X2 := k4 (f, U) sf rfl
  obtain ⟨Hf, cU⟩ := w2 f U sf rfl
  obtain ⟨⟨okf, _⟩, okU, szU, isU⟩ := jf_eOk J (by omega) (by omega) oka q2
  obtain ⟨A2, F2', T2', _⟩ := id X2
  rw [if_pos A2.2.2.1, if_pos vb, (arr σ2 F2'.1).2.1]
  have e3 : (jd E r1 Γ sf).bind (Sum.elim (fun e => some (.inl e)) fun c => jb (jd E r2 (Γ ++ [tL U, U]) c.2) fun d => jb (jw E (eTy c.1) d.1 d.2) fun e => some (.inr (en 17 lb (eTy c.1) .leaf [] f (en t' lb' .leaf .leaf [] c.1 e.1), e.2))) = some z := e2
  cases q3 : jd E r1 Γ sf with
  | none => rw [q3] at e3; cases e3
  | some z3 =>
  rw [q3, Option.bind_some] at e3
  obtain ⟨y3, σ3, n3, rb, F3, ⟨y3a, y3b, g3⟩, k5, k6⟩ := JX_r H1 X2 q3 hB ok'.2.1 gl ⟨hb, by omega⟩ (by omega) (by omega) (by omega) ⟨by omega, by omega, .inr (by omega)⟩
  rw [rb, Option.bind_some]
  simp only
  have x2r := tyT_lt cU
  have x2n : x2 ≠ -1 := fun w => okU.1 ((tyT_0 cU).mpr w)
  have n126 := A2.1.1.1.2.1
  rw [if_pos (show 0 ≤ x2 ∧ x2 < 126000 by omega)]
  cases z3 with
  | inl kp =>
    have ez : z = .inl kp := (Option.some.inj e3).symm
    have F := k5 kp.1 kp.2 rfl
    obtain ⟨σ4, b1, F4, g4⟩ := JXF_b F (by rw [g3]; exact A2.2.1.1) ⟨Nat.le_refl _, by omega⟩ (ga σ3 510 x2.toNat)
    obtain ⟨σ5, b2, F5, g5⟩ := JXF_b F4 g4 ⟨by omega, by omega⟩ x2
    rw [b1, Option.bind_some, b2, Option.bind_some, if_neg (by rw [F5.2.2.2.1.2.1]; have := F5.2.2.2.1.1; omega)]
    exact ⟨y3, _, n3, rfl, JXF_end F5 (by rw [ect]; omega) ⟨y3a, y3b⟩ ⟨i84.1, i84.2.1⟩ ez ⟨_, rfl⟩⟩
  | inr c =>
  obtain ⟨c, sc⟩ := c
  obtain ⟨X3, T3, Hc, ey3⟩ := k6 c sc rfl
  have okc := jd_eOk J q3 ok'.2.1 gl hb (by omega)
  have cU3 : tyT σ3 n3 U x2 := tyT_mono T3 cU
  obtain ⟨uu, tl, tr, eU⟩ := isK_iff isU
  have cL3 : tyT σ3 n3 (tL U) (ga σ3 510 x2.toNat) := by
    rw [eU] at cU3 ⊢
    obtain ⟨mm, d1, d2, d3, d4, d5, d6⟩ := cU3
    rw [show x2.toNat = mm by omega]
    exact d5
  have okL : tyOk E.2.2.2.1 (tL U) ∧ tsz (tL U) ≤ b + xsz l := by
    rw [eU] at okU szU ⊢
    have : 1 + tsz tl + tsz tr ≤ b + xsz l := szU
    exact ⟨(tyOk_parts okU (.inr ⟨rfl, Nat.le_refl _⟩)).1, by show tsz tl ≤ _; omega⟩
  obtain ⟨σ4, b1, X4, F4, T4, f4⟩ := JX_b X3 cL3 (by omega)
  obtain ⟨σ5, b2, X5', F5, T5, f5⟩ := JX_b X4 (tyT_mono T4 cU3) (by rw [List.length_append, List.length_singleton]; omega)
  have X5 : JX E σ n s lo hi v sp Γ.length σ5 n3 (Γ ++ [tL U, U]) sc (0 + jct E l + jct E r1) := by
    have := X5'
    rw [List.append_assoc] at this
    exact this
  rw [b1, Option.bind_some, b2, Option.bind_some, if_pos X5.1.2.2.1, if_pos vb, (arr σ5 X5.2.1.1).2.2]
  have e4 : (jd E r2 (Γ ++ [tL U, U]) sc).bind (Sum.elim (fun e => some (.inl e)) fun d => jb (jw E (eTy c) d.1 d.2) fun e => some (.inr (en 17 lb (eTy c) .leaf [] f (en t' lb' .leaf .leaf [] c e.1), e.2))) = some z := e3
  cases q4 : jd E r2 (Γ ++ [tL U, U]) sc with
  | none => rw [q4] at e4; cases e4
  | some z4 =>
  rw [q4, Option.bind_some] at e4
  have gl' : ∀ T ∈ Γ ++ [tL U, U], tyOk E.2.2.2.1 T ∧ tsz T ≤ b + xsz l := fun T hT => by
    rcases List.mem_append.mp hT with h | h
    · exact ⟨(gl T h).1, Nat.le_trans (gl T h).2 (Nat.le_add_right _ _)⟩
    · rcases List.mem_cons.mp h with h | h
      · rw [h]; exact okL
      · rw [List.mem_singleton.mp h]; exact ⟨okU, szU⟩
  have len2 : (Γ ++ [tL U, U]).length = Γ.length + 2 := by rw [List.length_append]; rfl
  obtain ⟨y6, σ6, n6, rc, F6, ⟨y6a, y6b, _⟩, k7, k8⟩ := JX_r H2 X5 q4 hC (by rw [len2]; exact ok'.2.2) gl' ⟨by omega, by omega⟩ (by rw [len2]; omega) (by omega) (by omega) ⟨by omega, by omega, .inr (Nat.le_refl _)⟩
  rw [rc, Option.bind_some]
  simp only
  have fin : ∀ τ : tS, fr JFS JFA σ τ → (if 0 ≤ (v : Int) ∧ (v : Int) < 8400 ∧ 0 ≤ ga τ 550 v ∧ ga τ 550 v < 8400 then ((T_wanted (ga τ 558 v) (ga τ 842 (ga τ 550 v).toNat) τ).bind fun p8 => if 0 ≤ (v : Int) ∧ (v : Int) < 8400 ∧ 0 ≤ ga p8 550 v ∧ ga p8 550 v < 8400 then (some (ga p8 842 (ga p8 550 v).toNat, us p8 788 (gs (ua σ 846 v (-1)) 788))) else none) else none) = (T_wanted (xc' : Int) (ga τ 842 xb) τ).bind fun p8 => if 0 ≤ (v : Int) ∧ (v : Int) < 8400 ∧ 0 ≤ ga p8 550 v ∧ ga p8 550 v < 8400 then (some (ga p8 842 (ga p8 550 v).toNat, us p8 788 (gs (ua σ 846 v (-1)) 788))) else none := fun τ F => by
    rw [(arr τ F).2.1, if_pos (by omega), (arr τ F).2.2, xbN]
  cases z4 with
  | inl kp =>
    have ez : z = .inl kp := (Option.some.inj e4).symm
    have F := k7 kp.1 kp.2 rfl
    rw [fin σ6 F.1.1, t_wantedF (by rw [F.2.2.2.1.2.1]; have := F.2.2.2.1.1; omega), Option.bind_some, (arr σ6 F.1.1).2.1, if_pos (by omega), xbN]
    exact ⟨_, _, n6, rfl, JXF_end F (by rw [ect]; omega) (F.2.2.1 xb) ⟨i84.1, i84.2.1⟩ ez ⟨_, rfl⟩⟩
  | inr d =>
  obtain ⟨d, sd⟩ := d
  obtain ⟨X6, T6, Hd, ey6⟩ := k8 d sd rfl
  have okd := jd_eOk J q4 (by rw [len2]; exact ok'.2.2) gl' (by omega) (by omega)
  have e5 : (jw E (eTy c) d sd).bind (Sum.elim (fun e => some (.inl e)) fun e => some (.inr (en 17 lb (eTy c) .leaf [] f (en t' lb' .leaf .leaf [] c e.1), e.2))) = some z := e4
  cases q5 : jw E (eTy c) d sd with
  | none => rw [q5] at e5; cases e5
  | some z5 =>
  rw [q5, Option.bind_some] at e5
  obtain ⟨A6, F6', T6', _, ⟨x6a, x6b⟩, _⟩ := id X6
  have h300' := A6.2.2.2.1.2
  have kc : ∀ i, m ≤ i → i < m' → ga σ6 842 i = ga σ3 842 i ∧ ga σ6 846 i = ga σ3 846 i := fun i j1 j2 => by
    have w6 := F6.2.1 i (.inl (by omega))
    rw [w6.1, w6.2, (f5 i).1, (f5 i).2, (f4 i).1, (f4 i).2]
    exact ⟨rfl, rfl⟩
  have T36 := tx_trans T4 (tx_trans T5 T6)
  have Hc6 : XTe σ6 n6 c m m' xb := XTe_keep (fr_trans F4.1 (fr_trans F5.1 F6.1)) T36 kc Hc
  obtain ⟨σ7, n7, w3, W7, w4⟩ := t_wanted J A6.1.1 A6.1.2 Hd (XTe_ty Hc6) okc.1.1 (Nat.le_trans okc.1.2 (by omega)) okd.1.1 (Nat.le_trans okd.1.2 (by omega)) q5 A6.2.2.2.1.1 A6.2.2.2.1.2 (by omega) A6.2.2.1
  obtain ⟨F7, T7, ⟨f842', _⟩, k9, k10⟩ := JX_W X6 W7 ⟨by omega, by omega, by omega⟩
  rw [fin σ6 F6'.1, w3, Option.bind_some]
  cases z5 with
  | inl kp =>
    have ez : z = .inl kp := (Option.some.inj e5).symm
    have F := k9 kp.1 kp.2 rfl
    rw [(arr σ7 F.1.1).2.1, if_pos (by omega), xbN]
    exact ⟨_, _, n7, rfl, JXF_end F (by rw [ect]; omega) (F.2.2.1 xb) ⟨i84.1, i84.2.1⟩ ez ⟨_, rfl⟩⟩
  | inr g =>
  obtain ⟨g, sg⟩ := g
  have ez : z = .inr (en 17 lb (eTy c) .leaf [] f (en t' lb' .leaf .leaf [] c g), sg) := (Option.some.inj e5).symm
  have X7 := k10 g sg rfl
  have Hg := w4 g sg rfl
  rw [(arr σ7 X7.2.1.1).2.1, if_pos (by omega), xbN]
  have N7 := X7.1.2.2.2.2.2
  refine ⟨_, _, n7, rfl, JX_end X7 (by rw [ect]; omega) (N7 xb) ⟨i84.1, i84.2.1⟩ ez (fun τ Fσ Tσ Tτ Fτ kτ v842 v846 => ?_)⟩
  unfold XTe
  rw [XTg_e]
  unfold XTb
  rw [if_neg (by decide), if_neg (by decide), if_neg (by decide), if_neg (by decide), if_neg (by decide), if_neg (by decide), if_neg (by decide)]
  have Hf' : XTe τ n7 f lo m xa := by
    refine XTe_keep (fr_trans F3.1 (fr_trans F4.1 (fr_trans F5.1 (fr_trans F6.1 (fr_trans F7.1 Fτ))))) (tx_trans T3 (tx_trans T36 (tx_trans T7 Tτ))) (fun i j1 j2 => ?_) Hf
    have w := kτ i (by omega)
    have w7 := F7.2.1 i (.inl (by omega))
    have w6 := F6.2.1 i (.inl (by omega))
    have w3 := F3.2.1 i (.inl (by omega))
    rw [w.1, w.2, w7.1, w7.2, w6.1, w6.2, (f5 i).1, (f5 i).2, (f4 i).1, (f4 i).2, w3.1, w3.2]
    exact ⟨rfl, rfl⟩
  have Hc7 : XTe σ7 n7 c m m' xb := XTe_mv F7 T7 (.inl (by omega)) Hc6
  have Hc' : XTe τ n7 c m m' xb := XTe_keep Fτ Tτ (fun i j1 j2 => kτ i (by omega)) Hc7
  have Hg' : XTe τ n7 g m' v xc' := XTe_keep Fτ Tτ (fun i j1 j2 => kτ i (by omega)) Hg
  refine ⟨i84, by rw [Fσ.2 538 (by decide)]; exact h538, ⟨?_, v846⟩, h5, tkP_keep Fσ h6, h7, ?_⟩
  · show tyT τ n7 (eTy c) (ga τ 842 v)
    rw [v842]
    exact tyT_mono Tτ (XTe_ty Hc7)
  · rw [if_neg (by decide), if_pos rfl]
    exact ⟨m, m', xa, xb, xc', (arr τ Fσ).1, (arr τ Fσ).2.1, (arr τ Fσ).2.2, Hf', Hc', Hg'⟩
end LJC
