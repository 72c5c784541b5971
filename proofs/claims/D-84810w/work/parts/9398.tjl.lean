set_option maxRecDepth 100000
/-! THE TWIN JUDGES: lets -/
section LJL
variable {E : JE} {B : Nat}
theorem jd_eOk (J : JOk E B) {t : Xt} {Γ : List Ty} {s s' : JS} {e : Et} {b : Nat} (q : jd E t Γ s = some (.inr (e, s'))) (ok : xok E t Γ.length) (gl : ∀ T ∈ Γ, tyOk E.2.2.2.1 T ∧ tsz T ≤ b) (hb : 2700 ≤ b) (hb2 : b + xsz t ≤ 1000000) : eOk E.2.2.2.1 (b + xsz t) e ∧ ePl e = xPl t := by
  obtain ⟨zz, ezz, kz⟩ := jd_ok J t Γ s b ok gl hb hb2
  rw [q] at ezz
  exact kz (e, s') (Option.some.inj ezz).symm
theorem jw_eOk {T : Ty} {e e' : Et} {s s' : JS} {b p : Nat} (H : eOk E.2.2.2.1 b e ∧ ePl e = p) (q : jw E T e s = some (.inr (e', s'))) : eOk E.2.2.2.1 b e' ∧ ePl e' = p := by
  obtain ⟨zz, ezz, kz⟩ := jw_ok (T := T) (s := s) H
  rw [q] at ezz
  exact kz (e', s') (Option.some.inj ezz).symm
/-- LETS -/
theorem jh_let (J : JOk E B) {r : Int → tS → Option (Int × tS)} {lb : XL} {u : Unit} {l r' : Xt} (Hl : JR E r l) (Hr : JR E r r') : JHd E r (.inner 15 lb u l r') := by
  intro Γ s z σ n lo hi v sp b H
  obtain ⟨e, A, XP, ok, gl, ⟨hb, hb2⟩, hbd, hsp, R⟩ := H
  have i84 := XTg_in XP
  unfold XTp at XP
  rw [XTg_e] at XP
  obtain ⟨_, h538, _, h4⟩ := XP
  rw [if_neg (by decide), if_neg (by decide), if_neg (by decide), if_neg (by decide), if_neg (by decide), if_pos rfl] at h4
  obtain ⟨h5, h6, h7, m, m', xl, xr, h8, h9, h9', h10, h11⟩ := h4
  rw [xok_e] at ok
  have ok' : tyOk E.2.2.2.1 (lbT lb) ∧ xok E l Γ.length ∧ xok E r' (Γ.length + 1) := by unfold xokB at ok; rw [if_neg (by decide), if_neg (by decide), if_neg (by decide), if_neg (by decide), if_neg (by decide), if_pos rfl] at ok; exact ok
  rw [jd_e] at e
  have e' : jb (jd E l Γ s) (fun a => jb (jw E (lbT lb) a.1 a.2) fun b => jb (jd E r' (Γ ++ [lbT lb]) b.2) fun c => some (.inr (en 15 lb (eTy c.1) .leaf [] b.1 c.1, c.2))) = some z := by unfold jdB at e; rw [if_neg (by decide), if_neg (by decide), if_neg (by decide), if_neg (by decide), if_neg (by decide), if_pos rfl] at e; exact e
  have ect : jct E (.inner 15 lb u l r') = jct E l + jct E r' := by
    show (if (15 : Nat) = 10 then _ else if (15 : Nat) = 14 then 1 else 0) + jct E l + jct E r' = _
    rw [if_neg (by decide), if_neg (by decide), Nat.zero_add]
  have ebd : xbd (.inner 15 lb u l r') = 1 + max (xbd l) (xbd r') := by
    show (if (15 : Nat) = 14 ∨ (15 : Nat) = 15 then 1 else _) + max (xbd l) (xbd r') = _
    rw [if_pos (.inr rfl)]
  have esz : xsz (.inner 15 lb u l r') = 1 + 2 * tsz (lbT lb) + xsz l + xsz r' := rfl
  rw [ect] at R
  rw [ebd] at hbd
  rw [esz] at hb2
  have il := XTg_in h10
  have ir := XTg_in h11
  have vN : ((v : Int)).toNat = v := by omega
  have X0 := JX_0 (lo := lo) (hi := hi) (v := v) A ⟨i84.1, i84.2.1⟩
  obtain ⟨A0, F0, T0, s0, _⟩ := id X0
  unfold jb at e'
  cases q1 : jd E l Γ s with
  | none => rw [q1] at e'; cases e'
  | some z1 =>
  rw [q1, Option.bind_some] at e'
  obtain ⟨y1, σ1, n1, r1, F1, ⟨y1a, y1b, g1⟩, k1, k2⟩ := JX_r Hl X0 q1 h10 ok'.2.1 gl ⟨hb, by omega⟩ (by omega) (by omega) (by omega) ⟨h8, by omega, .inr (by omega)⟩
  have g788 : gs σ1 788 = (Γ.length : Int) := by rw [g1]; exact A0.2.1.1
  have e554 : ga (ua σ 846 v (-1)) 554 v = (xl : Int) := by rw [F0.1.2 554 (by decide)]; exact h9
  have e554' : ga σ1 554 v = (xl : Int) := by rw [F1.1.2 554 (by decide)]; exact e554
  have run1 : T_judgeOne r (v : Int) (ua σ 846 v (-1)) = (T_wanted (xl : Int) (ga σ1 550 v) σ1).bind fun p6 => (T_bindsType (ga p6 550 v) p6).bind fun p7 => if (gs p7 452) ≠ 0 then some (y1, us p7 788 (gs (ua σ 846 v (-1)) 788)) else (r (ga p7 558 v) p7).bind fun p8 => some (p8.1, us p8.2 788 (gs (ua σ 846 v (-1)) 788)) := by
    unfold T_judgeOne
    rw [if_pos A0.2.2.1, if_pos (by omega), vN, F0.1.2 538 (by decide), h538, if_neg (by decide), if_neg (by decide), if_neg (by decide), if_neg (by decide), if_neg (by decide), if_pos (by decide), if_pos (by omega), e554, r1, Option.bind_some, if_pos (by omega), e554']
    simp only [if_pos (show 0 ≤ (v : Int) ∧ (v : Int) < 8400 by omega)]
  rw [run1]
  have c550 : ∀ (τ : tS) (m : Nat), fr JFS JFA σ τ → tx σ n τ m → tyT τ m (lbT lb) (ga τ 550 v) := fun τ m F T => by rw [F.2 550 (by decide)]; exact tyT_mono T h7
  -- behind a fault
  have bad : ∀ (σ2 : tS) (n2 k p C : Nat), C ≤ jct E l + jct E r' → JXF σ n s lo hi sp Γ.length C σ2 n2 k p → gs σ2 788 = (Γ.length : Int) → z = .inl (k, p) → ∃ (x : Int) (σ3 : tS) (n' : Nat), ((T_bindsType (ga σ2 550 v) σ2).bind fun p7 => if (gs p7 452) ≠ 0 then some (y1, us p7 788 (gs (ua σ 846 v (-1)) 788)) else (r (ga p7 558 v) p7).bind fun p8 => some (p8.1, us p8.2 788 (gs (ua σ 846 v (-1)) 788))) = some (x, σ3) ∧ JPost E (.inner 15 lb u l r') Γ s z σ n lo hi v sp x (ua σ3 842 v x) n' := fun σ2 n2 k p C hC F eg ez => by
    obtain ⟨σ3, b1, F3, _⟩ := JXF_b F eg ⟨Nat.le_refl _, by omega⟩ (ga σ2 550 v)
    rw [b1, Option.bind_some, if_pos (by rw [F3.2.2.2.1.2.1]; have := F3.2.2.2.1.1; omega)]
    exact ⟨y1, _, n2, rfl, JXF_end F3 (by rw [ect]; exact hC) ⟨y1a, y1b⟩ ⟨i84.1, i84.2.1⟩ ez ⟨_, rfl⟩⟩
  cases z1 with
  | inl kp =>
    have ez : z = .inl kp := (Option.some.inj e').symm
    have F := k1 kp.1 kp.2 rfl
    rw [t_wantedF (by rw [F.2.2.2.1.2.1]; have := F.2.2.2.1.1; omega), Option.bind_some]
    exact bad σ1 n1 kp.1 kp.2 _ (by omega) F g788 ez
  | inr a =>
  obtain ⟨a, sa⟩ := a
  obtain ⟨X1, T1, H1, ey1⟩ := k2 a sa rfl
  have oka := jd_eOk J q1 ok'.2.1 gl hb (by omega)
  have e2 : (jw E (lbT lb) a sa).bind (Sum.elim (fun e => some (.inl e)) fun b => (jd E r' (Γ ++ [lbT lb]) b.2).bind (Sum.elim (fun e => some (.inl e)) fun c => some (.inr (en 15 lb (eTy c.1) .leaf [] b.1 c.1, c.2)))) = some z := e'
  cases q2 : jw E (lbT lb) a sa with
  | none => rw [q2] at e2; cases e2
  | some z2 =>
  rw [q2, Option.bind_some] at e2
  obtain ⟨A1, F1', T1', _, ⟨x1a, x1b⟩, _⟩ := id X1
  have h300 := A1.2.2.2.1.2
  obtain ⟨σ2, n2, w1, W, w2⟩ := t_wanted J A1.1.1 A1.1.2 H1 (c550 σ1 n1 F1'.1 T1') ok'.1 (by omega) oka.1.1 (Nat.le_trans oka.1.2 (by omega)) q2 A1.2.2.2.1.1 A1.2.2.2.1.2 (by omega) A1.2.2.1
  obtain ⟨F2, T2, ⟨f842, g2⟩, k3, k4⟩ := JX_W X1 W ⟨by omega, by omega, by omega⟩
  rw [w1, Option.bind_some]
  have g788' : gs σ2 788 = (Γ.length : Int) := by rw [g2]; exact g788
  cases z2 with
  | inl kp =>
    have ez : z = .inl kp := (Option.some.inj e2).symm
    exact bad σ2 n2 kp.1 kp.2 _ (by omega) (k3 kp.1 kp.2 rfl) g788' ez
  | inr bb =>
  obtain ⟨bb, sb⟩ := bb
  have X2 := k4 bb sb rfl
  have H2 := w2 bb sb rfl
  obtain ⟨A2, F2', T2', _⟩ := id X2
  obtain ⟨σ3, b1, X3, F3, T3, f3⟩ := JX_b X2 (c550 σ2 n2 F2'.1 T2') (by omega)
  rw [b1, Option.bind_some, if_neg (by rw [X3.1.2.2.1]; exact fun w => w rfl)]
  have e3 : (jd E r' (Γ ++ [lbT lb]) sb).bind (Sum.elim (fun e => some (.inl e)) fun c => some (.inr (en 15 lb (eTy c.1) .leaf [] bb c.1, c.2))) = some z := e2
  cases q3 : jd E r' (Γ ++ [lbT lb]) sb with
  | none => rw [q3] at e3; cases e3
  | some z3 =>
  rw [q3, Option.bind_some] at e3
  have e558 : ga σ3 558 v = (xr : Int) := by rw [X3.2.1.1.2 558 (by decide)]; exact h9'
  have gl' : ∀ T ∈ Γ ++ [lbT lb], tyOk E.2.2.2.1 T ∧ tsz T ≤ b + tsz (lbT lb) := fun T hT => by
    rcases List.mem_append.mp hT with h | h
    · exact ⟨(gl T h).1, Nat.le_trans (gl T h).2 (Nat.le_add_right _ _)⟩
    · rw [List.mem_singleton.mp h]; exact ⟨ok'.1, Nat.le_add_left _ _⟩
  obtain ⟨y4, σ4, n4, r4, F4, ⟨y4a, y4b, _⟩, k5, k6⟩ := JX_r Hr X3 q3 h11 (by rw [List.length_append]; exact ok'.2.2) gl' ⟨by omega, by omega⟩ (by rw [List.length_append, List.length_singleton]; omega) (by omega) (by omega) ⟨by omega, by omega, .inr (Nat.le_refl _)⟩
  rw [e558, r4, Option.bind_some]
  cases z3 with
  | inl kp =>
    have ez : z = .inl kp := (Option.some.inj e3).symm
    exact ⟨y4, _, n4, rfl, JXF_end (k5 kp.1 kp.2 rfl) (by rw [ect]; omega) ⟨y4a, y4b⟩ ⟨i84.1, i84.2.1⟩ ez ⟨_, rfl⟩⟩
  | inr c =>
  obtain ⟨c, sc⟩ := c
  have ez : z = .inr (en 15 lb (eTy c) .leaf [] bb c, sc) := (Option.some.inj e3).symm
  obtain ⟨X4, T4, H4, ey4⟩ := k6 c sc rfl
  refine ⟨y4, _, n4, rfl, JX_end X4 (by rw [ect]; omega) ⟨y4a, y4b⟩ ⟨i84.1, i84.2.1⟩ ez (fun τ Fσ Tσ Tτ Fτ kτ v842 v846 => ?_)⟩
  unfold XTe
  rw [XTg_e]
  unfold XTb
  rw [if_neg (by decide), if_neg (by decide), if_neg (by decide), if_neg (by decide), if_neg (by decide), if_pos rfl]
  have H2' : XTe τ n4 bb m m' xl := by
    refine XTe_keep (fr_trans F3.1 (fr_trans F4.1 Fτ)) (tx_trans T3 (tx_trans T4 Tτ)) (fun i j1 j2 => ?_) H2
    have w := kτ i (by omega)
    have w2 := F4.2.1 i (.inl (by omega))
    rw [w.1, w.2, w2.1, w2.2]
    exact f3 i
  have H4' : XTe τ n4 c m' v xr := XTe_keep Fτ Tτ (fun i j1 j2 => kτ i (by omega)) H4
  refine ⟨i84, by rw [Fσ.2 538 (by decide)]; exact h538, ⟨?_, v846⟩, h5, tkP_keep Fσ h6, c550 τ n4 Fσ Tσ, m, m', xl, xr, h8, by rw [Fσ.2 554 (by decide)]; exact h9, by rw [Fσ.2 558 (by decide)]; exact h9', H2', H4'⟩
  show tyT τ n4 (eTy c) (ga τ 842 v)
  rw [v842, ey4]
  exact tyT_mono Tτ (XTe_ty H4)
end LJL
