set_option maxRecDepth 100000
/-! THE TWIN JUDGES: ifs -/
section LJI
variable {E : JE} {B : Nat}
/-- IFS -/
theorem jh_if (J : JOk E B) {r : Int → tS → Option (Int × tS)} {lb lb' : XL} {u u' : Unit} {t' : Nat} {l r1 r2 : Xt} (Hl : JR E r l) (H1 : JR E r r1) (H2 : JR E r r2) : JHd E r (.inner 16 lb u l (.inner t' lb' u' r1 r2)) := by
  intro Γ s z σ n lo hi v sp b H
  obtain ⟨e, A, XP, ok, gl, ⟨hb, hb2⟩, hbd, hsp, R⟩ := H
  have i84 := XTg_in XP
  unfold XTp at XP
  rw [XTg_e] at XP
  obtain ⟨_, h538, _, h4⟩ := XP
  rw [if_neg (by decide), if_neg (by decide), if_neg (by decide), if_neg (by decide), if_neg (by decide), if_neg (by decide), if_neg (by decide)] at h4
  obtain ⟨h5, h6, h7, h4⟩ := h4
  rw [if_pos rfl] at h4
  obtain ⟨m, m', xa, xb, xc', h8, h9, h10, ha, hB, hC⟩ := h4
  rw [xok_e] at ok
  have ok' : xok E l Γ.length ∧ xok E r1 Γ.length ∧ xok E r2 Γ.length := by
    unfold xokB at ok
    rw [if_neg (by decide), if_neg (by decide), if_neg (by decide), if_neg (by decide), if_neg (by decide), if_neg (by decide), if_neg (by decide)] at ok
    simp only at ok
    rw [if_pos trivial] at ok
    exact ok
  rw [jd_e] at e
  have e' : (jd E l Γ s).bind (Sum.elim (fun e => some (.inl e)) fun a => jb (jw E tBool a.1 a.2) fun b => jb (jd E r1 Γ b.2) fun c => jb (jd E r2 Γ c.2) fun d => jb (jw E (eTy c.1) d.1 d.2) fun e => some (.inr (en 16 lb (eTy c.1) .leaf [] b.1 (en t' lb' .leaf .leaf [] c.1 e.1), e.2))) = some z := by
    unfold jdB at e
    rw [if_neg (by decide), if_neg (by decide), if_neg (by decide), if_neg (by decide), if_neg (by decide), if_neg (by decide), if_neg (by decide)] at e
    simp only at e
    rw [if_pos trivial] at e
    exact e
  have ect : jct E (.inner 16 lb u l (.inner t' lb' u' r1 r2)) = jct E l + jct E (.inner t' lb' u' r1 r2) := by
    show (if (16 : Nat) = 10 then _ else if (16 : Nat) = 14 then 1 else 0) + jct E l + _ = _
    rw [if_neg (by decide), if_neg (by decide), Nat.zero_add]
  have ect2 : jct E r1 + jct E r2 ≤ jct E (.inner t' lb' u' r1 r2) := by
    show _ ≤ _ + jct E r1 + jct E r2
    omega
  have ebd : max (xbd l) (max (xbd r1) (xbd r2)) ≤ xbd (.inner 16 lb u l (.inner t' lb' u' r1 r2)) := by
    show _ ≤ _ + max (xbd l) (_ + max (xbd r1) (xbd r2))
    omega
  have esz : xsz (.inner 16 lb u l (.inner t' lb' u' r1 r2)) = 1 + 2 * tsz (lbT lb) + xsz l + (1 + 2 * tsz (lbT lb') + xsz r1 + xsz r2) := rfl
  rw [ect] at R
  rw [esz] at hb2
  have ia := XTg_in ha
  have ib := XTg_in hB
  have ic := XTg_in hC
  have vN : ((v : Int)).toNat = v := by omega
  have X0 := JX_0 (lo := lo) (hi := hi) (v := v) A ⟨i84.1, i84.2.1⟩
  obtain ⟨A0, F0, T0, s0, _⟩ := id X0
  cases q1 : jd E l Γ s with
  | none => rw [q1] at e'; cases e'
  | some z1 =>
  rw [q1, Option.bind_some] at e'
  obtain ⟨y1, σ1, n1, ra, F1, _, k1, k2⟩ := JX_r Hl X0 q1 ha ok'.1 gl ⟨hb, by omega⟩ (by omega) (by omega) (by omega) ⟨Nat.le_refl _, by omega, .inr (by omega)⟩
  have arr : ∀ τ : tS, fr JFS JFA σ τ → ga τ 546 v = (xa : Int) ∧ ga τ 550 v = (xb : Int) ∧ ga τ 554 v = (xc' : Int) := fun τ F => ⟨by rw [F.2 546 (by decide)]; exact h8, by rw [F.2 550 (by decide)]; exact h9, by rw [F.2 554 (by decide)]; exact h10⟩
  have xbN : ((xb : Int)).toNat = xb := by omega
  have run1 : ∀ σ1', fr JFS JFA σ σ1' → r (xa : Int) (ua σ 846 v (-1)) = some (y1, σ1') → T_judgeOne r (v : Int) (ua σ 846 v (-1)) = (T_wanted (xa : Int) (gs σ1' 864) σ1').bind fun p10 => if (gs p10 452) ≠ 0 then T_judgeOne_219 r (v : Int) (gs (ua σ 846 v (-1)) 788) p10 else (r (ga p10 550 v) p10).bind fun p11 => T_judgeOne_219 r (v : Int) (gs (ua σ 846 v (-1)) 788) p11.2 := fun σ1' F' r' => by
    unfold T_judgeOne
    rw [if_pos A0.2.2.1, if_pos (by omega), vN, F0.1.2 538 (by decide), h538, if_neg (by decide), if_neg (by decide), if_neg (by decide), if_neg (by decide), if_neg (by decide), if_neg (by decide), if_pos (by decide), if_pos (by omega), (arr _ F0.1).1, r', Option.bind_some, if_pos (by omega), (arr _ F').1]
    simp only [if_pos (show 0 ≤ (v : Int) ∧ (v : Int) < 8400 by omega)]
  -- behind a fault
  have e237 : ∀ τ : tS, fr JFS JFA σ τ → T_judgeOne_237 r (v : Int) (gs (ua σ 846 v (-1)) 788) τ = (T_wanted (xc' : Int) (ga τ 842 xb) τ).bind fun p1 => if 0 ≤ (v : Int) ∧ (v : Int) < 8400 ∧ 0 ≤ ga p1 550 v ∧ ga p1 550 v < 8400 then some (ga p1 842 (ga p1 550 v).toNat, us p1 788 (gs (ua σ 846 v (-1)) 788)) else none := fun τ F => by
    unfold T_judgeOne_237
    rw [vN, (arr τ F).2.1, if_pos (by omega), (arr τ F).2.2, xbN]
  have bad237 : ∀ (σ2 : tS) (n2 k p C : Nat), C ≤ jct E l + jct E (.inner t' lb' u' r1 r2) → JXF σ n s lo hi sp Γ.length C σ2 n2 k p → z = .inl (k, p) → ∃ (x : Int) (σ3 : tS) (n' : Nat), T_judgeOne_237 r (v : Int) (gs (ua σ 846 v (-1)) 788) σ2 = some (x, σ3) ∧ JPost E (.inner 16 lb u l (.inner t' lb' u' r1 r2)) Γ s z σ n lo hi v sp x (ua σ3 842 v x) n' := fun σ2 n2 k p C hC F ez => by
    rw [e237 σ2 F.1.1, t_wantedF (by rw [F.2.2.2.1.2.1]; have := F.2.2.2.1.1; omega), Option.bind_some, (arr σ2 F.1.1).2.1, if_pos (by omega), xbN]
    exact ⟨_, _, n2, rfl, JXF_end F (by rw [ect]; exact hC) (F.2.2.1 xb) ⟨i84.1, i84.2.1⟩ ez ⟨_, rfl⟩⟩
  have bad219 : ∀ (σ2 : tS) (n2 k p C : Nat), C ≤ jct E l + jct E (.inner t' lb' u' r1 r2) → JXF σ n s lo hi sp Γ.length C σ2 n2 k p → z = .inl (k, p) → ∃ (x : Int) (σ3 : tS) (n' : Nat), T_judgeOne_219 r (v : Int) (gs (ua σ 846 v (-1)) 788) σ2 = some (x, σ3) ∧ JPost E (.inner 16 lb u l (.inner t' lb' u' r1 r2)) Γ s z σ n lo hi v sp x (ua σ3 842 v x) n' := fun σ2 n2 k p C hC F ez => by
    unfold T_judgeOne_219
    rw [if_pos (by rw [F.2.2.2.1.2.1]; have := F.2.2.2.1.1; omega)]
    exact bad237 σ2 n2 k p C hC F ez
  have FJ1 : fr JFS JFA σ σ1 := fr_trans F0.1 F1.1
  rw [run1 σ1 FJ1 ra]
  cases z1 with
  | inl kp =>
    have ez : z = .inl kp := (Option.some.inj e').symm
    have F := k1 kp.1 kp.2 rfl
    have f452 : gs σ1 452 ≠ 0 := by rw [F.2.2.2.1.2.1]; have := F.2.2.2.1.1; omega
    rw [t_wantedF f452, Option.bind_some, if_pos f452]
    exact bad219 σ1 n1 kp.1 kp.2 _ (by omega) F ez
  | inr a =>
  obtain ⟨a, sa⟩ := a
  obtain ⟨X1, T1, Ha, ey1⟩ := k2 a sa rfl
  have oka := jd_eOk J q1 ok'.1 gl hb (by omega)
  have e2 : (jw E tBool a sa).bind (Sum.elim (fun e => some (.inl e)) fun b => jb (jd E r1 Γ b.2) fun c => jb (jd E r2 Γ c.2) fun d => jb (jw E (eTy c.1) d.1 d.2) fun e => some (.inr (en 16 lb (eTy c.1) .leaf [] b.1 (en t' lb' .leaf .leaf [] c.1 e.1), e.2))) = some z := e'
  cases q2 : jw E tBool a sa with
  | none => rw [q2] at e2; cases e2
  | some z2 =>
  rw [q2, Option.bind_some] at e2
  obtain ⟨A1, F1', T1', _, ⟨x1a, x1b⟩, _⟩ := id X1
  have h300 := A1.2.2.2.1.2
  have tB : tyOk E.2.2.2.1 tBool := tyOk_con (by decide) (by rw [if_neg (by decide)]) (by rw [if_neg (by decide)])
  obtain ⟨σ2, n2, w1, W, w2⟩ := t_wanted J A1.1.1 A1.1.2 Ha (A1.1.2.2.2.2.2.2) tB (by show 1 + 0 + 0 ≤ _; omega) oka.1.1 (Nat.le_trans oka.1.2 (by omega)) q2 A1.2.2.2.1.1 A1.2.2.2.1.2 (by omega) A1.2.2.1
  obtain ⟨F2, T2, ⟨f842, _⟩, k3, k4⟩ := JX_W X1 W ⟨by omega, by omega, by omega⟩
  rw [w1, Option.bind_some]
  cases z2 with
  | inl kp =>
    have ez : z = .inl kp := (Option.some.inj e2).symm
    have F := k3 kp.1 kp.2 rfl
    rw [if_pos (by rw [F.2.2.2.1.2.1]; have := F.2.2.2.1.1; omega)]
    exact bad219 σ2 n2 kp.1 kp.2 _ (by omega) F ez
  | inr bb =>
  obtain ⟨bb, sb⟩ := bb
  have X2 := k4 bb sb rfl
  have Hb := w2 bb sb rfl
  obtain ⟨A2, F2', T2', _⟩ := id X2
  rw [if_neg (by rw [A2.2.2.1]; exact fun w => w rfl), (arr σ2 F2'.1).2.1]
  have e3 : (jd E r1 Γ sb).bind (Sum.elim (fun e => some (.inl e)) fun c => jb (jd E r2 Γ c.2) fun d => jb (jw E (eTy c.1) d.1 d.2) fun e => some (.inr (en 16 lb (eTy c.1) .leaf [] bb (en t' lb' .leaf .leaf [] c.1 e.1), e.2))) = some z := e2
  cases q3 : jd E r1 Γ sb with
  | none => rw [q3] at e3; cases e3
  | some z3 =>
  rw [q3, Option.bind_some] at e3
  obtain ⟨y3, σ3, n3, rb, F3, _, k5, k6⟩ := JX_r H1 X2 q3 hB ok'.2.1 gl ⟨hb, by omega⟩ (by omega) (by omega) (by omega) ⟨by omega, by omega, .inr (by omega)⟩
  rw [rb, Option.bind_some]
  simp only
  cases z3 with
  | inl kp =>
    have ez : z = .inl kp := (Option.some.inj e3).symm
    exact bad219 σ3 n3 kp.1 kp.2 _ (by omega) (k5 kp.1 kp.2 rfl) ez
  | inr c =>
  obtain ⟨c, sc⟩ := c
  obtain ⟨X3, T3, Hc, ey3⟩ := k6 c sc rfl
  have okc := jd_eOk J q3 ok'.2.1 gl hb (by omega)
  have e4 : (jd E r2 Γ sc).bind (Sum.elim (fun e => some (.inl e)) fun d => jb (jw E (eTy c) d.1 d.2) fun e => some (.inr (en 16 lb (eTy c) .leaf [] bb (en t' lb' .leaf .leaf [] c e.1), e.2))) = some z := e3
  cases q4 : jd E r2 Γ sc with
  | none => rw [q4] at e4; cases e4
  | some z4 =>
  rw [q4, Option.bind_some] at e4
  obtain ⟨y4, σ4, n4, rc, F4, _, k7, k8⟩ := JX_r H2 X3 q4 hC ok'.2.2 gl ⟨hb, by omega⟩ (by omega) (by omega) (by omega) ⟨by omega, by omega, .inr (Nat.le_refl _)⟩
  have un219 : T_judgeOne_219 r (v : Int) (gs (ua σ 846 v (-1)) 788) σ3 = T_judgeOne_237 r (v : Int) (gs (ua σ 846 v (-1)) 788) σ4 := by
    unfold T_judgeOne_219
    rw [if_neg (by rw [X3.1.2.2.1]; exact fun w => w rfl), if_pos (by omega), vN, (arr σ3 X3.2.1.1).2.2, rc]
    rfl
  rw [un219]
  cases z4 with
  | inl kp =>
    have ez : z = .inl kp := (Option.some.inj e4).symm
    exact bad237 σ4 n4 kp.1 kp.2 _ (by omega) (k7 kp.1 kp.2 rfl) ez
  | inr d =>
  obtain ⟨d, sd⟩ := d
  obtain ⟨X4, T4, Hd, ey4⟩ := k8 d sd rfl
  have okd := jd_eOk J q4 ok'.2.2 gl hb (by omega)
  have e5 : (jw E (eTy c) d sd).bind (Sum.elim (fun e => some (.inl e)) fun e => some (.inr (en 16 lb (eTy c) .leaf [] bb (en t' lb' .leaf .leaf [] c e.1), e.2))) = some z := e4
  cases q5 : jw E (eTy c) d sd with
  | none => rw [q5] at e5; cases e5
  | some z5 =>
  rw [q5, Option.bind_some] at e5
  obtain ⟨A4, F4', T4', _, ⟨x4a, x4b⟩, _⟩ := id X4
  have h300' := A4.2.2.2.1.2
  have Hc4 : XTe σ4 n4 c m m' xb := XTe_mv F4 T4 (.inl (Nat.le_refl _)) Hc
  obtain ⟨σ5, n5, w3, W5, w4⟩ := t_wanted J A4.1.1 A4.1.2 Hd (XTe_ty Hc4) okc.1.1 (Nat.le_trans okc.1.2 (by omega)) okd.1.1 (Nat.le_trans okd.1.2 (by omega)) q5 A4.2.2.2.1.1 A4.2.2.2.1.2 (by omega) A4.2.2.1
  obtain ⟨F5, T5, ⟨f842', _⟩, k9, k10⟩ := JX_W X4 W5 ⟨by omega, by omega, by omega⟩
  rw [e237 σ4 F4'.1, w3, Option.bind_some]
  cases z5 with
  | inl kp =>
    have ez : z = .inl kp := (Option.some.inj e5).symm
    have F := k9 kp.1 kp.2 rfl
    rw [(arr σ5 F.1.1).2.1, if_pos (by omega), xbN]
    exact ⟨_, _, n5, rfl, JXF_end F (by rw [ect]; omega) (F.2.2.1 xb) ⟨i84.1, i84.2.1⟩ ez ⟨_, rfl⟩⟩
  | inr f =>
  obtain ⟨f, sf⟩ := f
  have ez : z = .inr (en 16 lb (eTy c) .leaf [] bb (en t' lb' .leaf .leaf [] c f), sf) := (Option.some.inj e5).symm
  have X5 := k10 f sf rfl
  have Hf := w4 f sf rfl
  rw [(arr σ5 X5.2.1.1).2.1, if_pos (by omega), xbN]
  have N5 := X5.1.2.2.2.2.2
  refine ⟨_, _, n5, rfl, JX_end X5 (by rw [ect]; omega) (N5 xb) ⟨i84.1, i84.2.1⟩ ez (fun τ Fσ Tσ Tτ Fτ kτ v842 v846 => ?_)⟩
  unfold XTe
  rw [XTg_e]
  unfold XTb
  rw [if_neg (by decide), if_neg (by decide), if_neg (by decide), if_neg (by decide), if_neg (by decide), if_neg (by decide), if_neg (by decide)]
  have Hb' : XTe τ n5 bb lo m xa := by
    refine XTe_keep (fr_trans F3.1 (fr_trans F4.1 (fr_trans F5.1 Fτ))) (tx_trans T3 (tx_trans T4 (tx_trans T5 Tτ))) (fun i j1 j2 => ?_) Hb
    have w := kτ i (by omega)
    have w5 := F5.2.1 i (.inl (by omega))
    have w4 := F4.2.1 i (.inl (by omega))
    have w3 := F3.2.1 i (.inl (by omega))
    rw [w.1, w.2, w5.1, w5.2, w4.1, w4.2, w3.1, w3.2]
    exact ⟨rfl, rfl⟩
  have Hc5 : XTe σ5 n5 c m m' xb := XTe_mv F5 T5 (.inl (by omega)) Hc4
  have Hc' : XTe τ n5 c m m' xb := XTe_keep Fτ Tτ (fun i j1 j2 => kτ i (by omega)) Hc5
  have Hf' : XTe τ n5 f m' v xc' := XTe_keep Fτ Tτ (fun i j1 j2 => kτ i (by omega)) Hf
  refine ⟨i84, by rw [Fσ.2 538 (by decide)]; exact h538, ⟨?_, v846⟩, h5, tkP_keep Fσ h6, h7, ?_⟩
  · show tyT τ n5 (eTy c) (ga τ 842 v)
    rw [v842]
    exact tyT_mono Tτ (XTe_ty Hc5)
  · rw [if_pos rfl]
    exact ⟨m, m', xa, xb, xc', (arr τ Fσ).1, (arr τ Fσ).2.1, (arr τ Fσ).2.2, Hb', Hc', Hf'⟩
end LJI
