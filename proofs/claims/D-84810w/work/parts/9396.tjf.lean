set_option maxRecDepth 100000
/-! THE TWIN JUDGES: functions, lets -/
section LJF
variable {E : JE} {B : Nat}
/-- FUNCTIONS -/
theorem jh_fun (J : JOk E B) {r : Int → tS → Option (Int × tS)} {lb : XL} {u : Unit} {l r' : Xt} (Hr : JR E r l) : JHd E r (.inner 14 lb u l r') := by
  intro Γ s z σ n lo hi v sp b H
  obtain ⟨e, A, XP, ok, gl, ⟨hb, hb2⟩, hbd, hsp, R⟩ := H
  have i84 := XTg_in XP
  unfold XTp at XP
  rw [XTg_e] at XP
  obtain ⟨_, h538, _, h4⟩ := XP
  rw [if_neg (by decide), if_neg (by decide), if_neg (by decide), if_neg (by decide), if_pos rfl] at h4
  obtain ⟨h5, h6, h7, m, xl, h8, h9, h10⟩ := h4
  rw [xok_e] at ok
  have ok' : tyOk E.2.2.2.1 (lbT lb) ∧ xok E l (Γ.length + 1) := by unfold xokB at ok; rw [if_neg (by decide), if_neg (by decide), if_neg (by decide), if_neg (by decide), if_pos rfl] at ok; exact ok
  rw [jd_e] at e
  have e' : jb (jd E l (Γ ++ [lbT lb]) s) (fun a => some (.inr (en 14 lb (tArr (lbT lb) (eTy a.1)) .leaf [] a.1 .leaf, a.2))) = some z := by unfold jdB at e; rw [if_neg (by decide), if_neg (by decide), if_neg (by decide), if_neg (by decide), if_pos rfl] at e; exact e
  have ect : jct E (.inner 14 lb u l r') = 1 + jct E l + jct E r' := by
    show (if (14 : Nat) = 10 then _ else if (14 : Nat) = 14 then 1 else 0) + jct E l + jct E r' = _
    rw [if_neg (by decide), if_pos rfl]
  have ebd : xbd (.inner 14 lb u l r') = 1 + max (xbd l) (xbd r') := by
    show (if (14 : Nat) = 14 ∨ (14 : Nat) = 15 then 1 else _) + max (xbd l) (xbd r') = _
    rw [if_pos (.inl rfl)]
  have esz : xsz (.inner 14 lb u l r') = 1 + 2 * tsz (lbT lb) + xsz l + xsz r' := rfl
  rw [ect] at R
  rw [ebd] at hbd
  rw [esz] at hb2
  have il := XTg_in h10
  have vN : ((v : Int)).toNat = v := by omega
  obtain ⟨A0, F0, X0, s0, a0, c0⟩ := off846 (v := v) A
  have c550 : tyT (ua σ 846 v (-1)) n (lbT lb) (ga (ua σ 846 v (-1)) 550 v) := by rw [a0 550 v (by decide)]; exact tyT_mono X0 h7
  obtain ⟨σ1, b1, A1, F1, X1, g1, g2, g3, g4⟩ := JSt_bind (lo := lo) (hi := hi) A0 c550 (by omega)
  cases q : jd E l (Γ ++ [lbT lb]) s with
  | none => rw [q] at e'; cases e'
  | some z1 =>
  have e'' := e'
  unfold jb at e''
  rw [q, Option.bind_some] at e''
  have XL1 : XTp σ1 n l m v xl := XTp_mv (fr_trans F0.1 F1.1) (tx_trans X0 X1) h10
  obtain ⟨y, σ2, n2, r1, F2, ⟨k1, k2, k3, k4, k5⟩, k6, k7⟩ := Hr (Γ ++ [lbT lb]) s z1 σ1 n m v xl sp (b + tsz (lbT lb)) ⟨q, A1, XL1, by rw [List.length_append]; exact ok'.2, fun T hT => by
    rcases List.mem_append.mp hT with h | h
    · exact ⟨(gl T h).1, Nat.le_trans (gl T h).2 (Nat.le_add_right _ _)⟩
    · rw [List.mem_singleton.mp h]; exact ⟨ok'.1, Nat.le_add_left _ _⟩, ⟨by omega, by omega⟩, by rw [List.length_append, List.length_singleton]; omega, by omega, by omega⟩
  have e554 : ga σ1 554 v = (xl : Int) := by rw [F1.1.2 554 (by decide), a0 554 v (by decide)]; exact h9
  have e550 : ga σ2 550 v = ga (ua σ 846 v (-1)) 550 v := by rw [F2.1.2 550 (by decide), F1.1.2 550 (by decide)]
  have c846 : ga σ2 846 v = -1 := by
    rw [(F2.2.1 v (.inr (Nat.le_refl _))).2]
    exact (b846 b1 v).trans c0
  have F02 : JFr σ σ2 lo hi Γ.length sp := JFr_trans (JFr_trans (JFr_mono F0 (by omega) (by omega) (Nat.le_refl _) (Nat.le_refl _)) F1) (JFr_mono F2 h8 (by omega) (by rw [List.length_append]; omega) (Nat.le_refl _))
  have ty := tyT_lt c550
  have n126 := A.1.1.1.2.1
  have run : T_judgeOne r (v : Int) (ua σ 846 v (-1)) = (T_aType 3 0 (ga σ2 550 v) y σ2).bind (fun p4 => some (p4.1, us p4.2 788 (gs (ua σ 846 v (-1)) 788))) := by
    unfold T_judgeOne
    rw [if_pos A0.2.2.1, if_pos (by omega), vN, a0 538 v (by decide), h538, if_neg (by decide), if_neg (by decide), if_neg (by decide), if_neg (by decide), if_pos (by decide), if_pos (by omega), b1, Option.bind_some, if_pos (by omega), e554, r1, Option.bind_some, if_pos (by omega)]
  rw [run]
  cases z1 with
  | inl kp =>
    have ez : z = .inl kp := (Option.some.inj e'').symm
    obtain ⟨⟨w1, w2, w3⟩, w4, w5, w6⟩ := k6 kp.1 kp.2 rfl
    obtain ⟨t, σ3, n3, t1, t2, t3, t4, t5, t6⟩ := t_aTypeW (k := 3) (w := 0) (o := ga σ2 550 v) (u := y) w4 (by rw [e550]; omega) (by omega) (by omega)
    obtain ⟨v1, v2, v3, v4, v5, v6, v7⟩ := us788 (σ := σ3) (n := n3) (lo := lo) (hi := hi) (g := Γ.length) (sp := sp) (c := gs (ua σ 846 v (-1)) 788)
    have F3 : fr NFS NFA σ2 σ3 := fr_sub t6 (by decide) (by decide)
    obtain ⟨y1, y2, y3, y4⟩ := JFr_N (lo := lo) (hi := hi) (g := Γ.length) (sp := sp) F3
    rw [t1]
    have lt := t2.2.1
    exact ⟨(t : Int), _, n3, rfl, hd_fault (JFr_trans (JFr_trans F02 y1) v1) (by rw [v3, s0]) (by rw [v2 856 (by decide), y3, k2, g2, s0]) (v4 (y4 k3)) ⟨by omega, by omega⟩ ⟨i84.1, i84.2.1⟩ ez w1 (by rw [v2 452 (by decide), t6.1 452 (by decide)]; exact w2) (by rw [v2 456 (by decide), t6.1 456 (by decide)]; exact w3) (v5 t2) ⟨tx_trans (tx_trans (tx_trans X0 X1) w5) (tx_trans t4 v7), by rw [ect]; have := w5.1; omega⟩⟩
  | inr a =>
    have ez : z = .inr (en 14 lb (tArr (lbT lb) (eTy a.1)) .leaf [] a.1 .leaf, a.2) := (Option.some.inj e'').symm
    obtain ⟨⟨w1, w2, w3, w3'⟩, ⟨w4, w5, w6⟩, ⟨w7, w8⟩, D, w9, w10⟩ := k7 a.1 a.2 rfl
    have cy : tyT σ2 n2 (eTy a.1) y := by rw [w8]; exact XTe_ty w7
    have cT : tyT σ2 n2 (lbT lb) (ga σ2 550 v) := by rw [e550]; exact tyT_mono (tx_trans X1 w5) c550
    have oka : eTy a.1 ≠ .leaf := by
      obtain ⟨zz, ezz, kz⟩ := jd_ok J l (Γ ++ [lbT lb]) s (b + tsz (lbT lb)) (by rw [List.length_append]; exact ok'.2) (fun T hT => by
        rcases List.mem_append.mp hT with h | h
        · exact ⟨(gl T h).1, Nat.le_trans (gl T h).2 (Nat.le_add_right _ _)⟩
        · rw [List.mem_singleton.mp h]; exact ⟨ok'.1, Nat.le_add_left _ _⟩) (by omega) (by omega)
      rw [q] at ezz
      exact (kz a (Option.some.inj ezz).symm).1.1.1
    obtain ⟨t, σ3, n3, t1, t2, t3, t4, t5, t6, _⟩ := t_get (k := 3) (w := 0) w4 (by decide) cT cy (by omega) (.inr (.inr (.inr ⟨rfl, rfl, fun w => ok'.1.1 ((tyT_0 cT).mpr w), fun w => oka ((tyT_0 cy).mpr w)⟩)))
    obtain ⟨v1, v2, v3, v4, v5, v6, v7⟩ := us788 (σ := σ3) (n := n3) (lo := lo) (hi := hi) (g := Γ.length) (sp := sp) (c := gs (ua σ 846 v (-1)) 788)
    have F3 : fr NFS NFA σ2 σ3 := fr_sub t6 (by decide) (by decide)
    obtain ⟨y1, y2, y3, y4⟩ := JFr_N (lo := lo) (hi := hi) (g := Γ.length) (sp := sp) F3
    have t1' : T_aType 3 0 (ga σ2 550 v) y σ2 = some (t, σ3) := t1
    rw [t1']
    have lt := tyT_lt t5
    have n3' := t2.1.2.1
    have hx : -1 ≤ t ∧ t < 126000 := by omega
    have FF := JFr_trans (JFr_trans F02 y1) v1
    refine ⟨t, _, n3, rfl, hd_fine FF (by rw [v3, s0]) (by rw [v2 856 (by decide), y3, k2, g2, s0]) (v4 (y4 k3)) hx ⟨i84.1, i84.2.1⟩ ez (by rw [v2 452 (by decide), t6.1 452 (by decide)]; exact w1) (by rw [v2 812 (by decide), t6.1 812 (by decide)]; exact w2) ⟨w3, w3'⟩ (v6 t2) (tx_trans (tx_trans (tx_trans X0 X1) w5) (tx_trans t3 v7)) (by rw [ect]; omega) ?_ ⟨D, w9, fun Y hY => by obtain ⟨t0, h0⟩ := w10 Y hY; exact ⟨t0, tyT_mono (tx_trans t3 v7) h0⟩⟩⟩
    obtain ⟨z1, z2, z3, z4, z5, z6, z7, z8⟩ := ua842 (σ := us σ3 788 (gs (ua σ 846 v (-1)) 788)) (n := n3) (v := v) (g := Γ.length) (sp := sp) hx
    have Ff := fr_trans FF.1 z1.1
    have Xf := tx_trans (tx_trans (tx_trans (tx_trans X0 X1) w5) (tx_trans t3 v7)) z6
    have Xc := tx_trans (tx_trans t3 v7) z6
    unfold XTe
    rw [XTg_e]
    unfold XTb
    rw [if_neg (by decide), if_neg (by decide), if_neg (by decide), if_neg (by decide), if_pos rfl]
    refine ⟨i84, by rw [Ff.2 538 (by decide)]; exact h538, ⟨?_, ?_⟩, h5, tkP_keep Ff h6, by rw [Ff.2 550 (by decide)]; exact tyT_mono Xf h7, m, xl, h8, by rw [Ff.2 554 (by decide)]; exact h9, ?_⟩
    · show tyT _ n3 (tArr (lbT lb) (eTy a.1)) _
      rw [z7]
      exact tyT_mono (tx_trans v7 z6) t5
    · show ga _ 846 v = -1
      rw [z8, gaus, t6.2 846 (by decide)]
      exact c846
    · refine XTe_keep (fr_trans (fr_trans (fr_NJ F3) v1.1) z1.1) Xc (fun i j1 j2 => ?_) w7
      have := z1.2.1 i (by omega)
      rw [this.1, this.2, gaus, gaus, t6.2 842 (by decide), t6.2 846 (by decide)]
      exact ⟨rfl, rfl⟩
end LJF
