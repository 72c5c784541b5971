set_option maxRecDepth 100000
theorem Cst_beg {G : om_G} {h : om_H} {t : Nat} {S : List Int} {i : Nat} {n x : Int} (H : Cst G h t S i n) : Cst G (sI h 1148 t x) t S i x ∧ hx t h (sI h 1148 t x) := by
  obtain ⟨⟨T, a1, a2, a3, a4, a5, a6, a7, a8⟩, b1, b2, b3⟩ := H
  exact ⟨⟨⟨tkT_sI T (by decide), by rw [fI_ne (by decide)]; exact a1, a2, by rw [fI_ne (by decide)]; exact a3, by rw [fI_ne (by decide)]; exact a4, by rw [fI_ne (by decide)]; exact a5, by rw [fI_ne (by decide)]; exact a6, by rw [fI_ne (by decide)]; exact a7, by rw [fI_ne (by decide)]; exact a8⟩, fI_eq, b2, b3⟩, Nat.le_refl _, Nat.le_refl _, fun _ _ => rfl, fun f a _ d => fI_na d, fun _ _ _ _ => rfl, fun _ _ => rfl, fun _ _ _ => rfl, fun _ _ _ => rfl, fun _ _ => rfl, fun _ _ => rfl⟩
section LY
variable {G : om_G} {A t : Nat} {N : List (List Int)} {S : List Int} {b m i : Nat} {n : Int} {M : Nat} {σ : tS} {h : om_H} {rT : tS → Option (Int × tS)} {rC : Nat → om_H → Option ((Nat ⊕ Nat) × om_H)}
/-- no piece begins here -/
theorem ground_bad (H : Tst σ N S b m i n M) (RF : RFall N S b m n 1 rT) (hc : ¬ (tokk S i = 3 ∨ tokk S i = 2 ∨ tokk S i = 40)) (hM : M + 1 ≤ 8400) : ∃ (x : Int) (τ : tS) (M' : Nat), T_ground rT σ = some (x, τ) ∧ Tfl τ N S b m (tokq S i) n M' ∧ nd σ τ M ∧ M ≤ M' ∧ M' ≤ M + 1 := by
  have hp : ∃ (x : Int) (τ : tS) (M' : Nat), T_piece rT σ = some (x, τ) ∧ Tfl τ N S b m (tokq S i) n M' ∧ nd σ τ M ∧ M ≤ M' ∧ M' ≤ M + 1 := by
    unfold T_piece
    rw [H.2.2.2.2.1, if_pos rfl, t_is H, t_is H]
    simp only [Option.bind_some]
    rw [if_neg (fun z => hc (.inl z)), if_neg (by decide), if_neg (fun z => hc (.inr (.inl z))), if_pos rfl]
    obtain ⟨τ1, u1, u2, u3⟩ := (t_need H (k := 40) (by decide)).2 (fun z => hc (.inr (.inr z)))
    obtain ⟨x, τ2, M', w1, w2, w3, w4, w5⟩ := RF _ _ _ u2 hM
    rw [u1]
    simp only [Option.bind_some]
    rw [w1]
    simp only [Option.bind_some]
    rw [t_needF w2]
    exact ⟨x, τ2, M', rfl, w2, nd_trans u3 w3 (Nat.le_refl _), w4, w5⟩
  obtain ⟨x, τ, M', p1, p2⟩ := hp
  refine ⟨x, τ, M', ?_, p2⟩
  unfold T_ground
  rw [t_is H]
  simp only [Option.bind_some]
  rw [if_neg (fun z => hc (.inl z)), if_neg (by decide), p1]
  rfl
/-- the component's begun, one less -/
theorem c_96 (K : Cst G h t S i (n + 1)) (hn : 0 ≤ n ∧ n ≤ 30) {r : Nat → om_H → Option ((Nat ⊕ Nat) × om_H)} (a : Nat) : C_0_readType_96 G r t a h = some (.inr a, sI h 1148 t n) := by
  unfold C_0_readType_96
  rw [gd_pos (Cst_kd K), K.2.1, w32_s (by omega) (by omega), show n + 1 - 1 = n by omega]
/-- what comes ahead: the component's test and both ones' begun -/
theorem rtB_begins (hG : om_okG G) (K : Cst G h t S i n) (r : Nat → om_H → Option ((Nat ⊕ Nat) × om_H)) : C_0_readTypeB G r t h = C_0_readType_34 G r t (if tokk S i = 3 ∨ tokk S i = 2 ∨ tokk S i = 40 then 1 else 0) h := by
  have h3 := Cst_kind hG K (e := 3) (by decide)
  have h2 := Cst_kind hG K (e := 2) (by decide)
  have s3 := kE_s (tokk_r S i).1 (e := 3) (by decide)
  have s2 := kE_s (tokk_r S i).1 (e := 2) (by decide)
  unfold C_0_readTypeB
  rw [gd_pos (Cst_kd K), gd_pos (Cst_kd K), gd_pos (Cst_kd K), c_isSign hG K (v := 40) (.inr (.inr (by omega))), show sc 40 = 40 from by decide]
  simp only [Option.bind_some]
  by_cases c3 : tokk S i = 3
  · rw [if_pos (h3.mpr (s3.mpr c3)), if_pos (.inl c3)]
  · rw [if_neg (fun z => c3 (s3.mp (h3.mp z)))]
    by_cases c2 : tokk S i = 2
    · rw [if_pos (h2.mpr (s2.mpr c2)), if_pos (.inr (.inl c2))]
    · rw [if_neg (fun z => c2 (s2.mp (h2.mp z)))]
      by_cases c40 : tokk S i = 40
      · rw [if_pos (show tokk S i = 3 ∨ tokk S i = 2 ∨ tokk S i = 40 from .inr (.inr c40))]
        simp [c40]
      · rw [if_neg (show ¬ (tokk S i = 3 ∨ tokk S i = 2 ∨ tokk S i = 40) by omega)]
        simp [c40]
/-- a type can't begin here, or too many are begun -/
theorem rt_bad {B : Nat} (hG : om_okG G) (H : Tst σ N S b m i n M) (K : Cst G h t S i n) (hn : 0 ≤ n ∧ n ≤ 20) (hM : M + (m - i) + 60 ≤ 8400) (RF : RFall N S b m (n + 1) 1 rT) (hc : n = 20 ∨ ¬ (tokk S i = 3 ∨ tokk S i = 2 ∨ tokk S i = 40)) : RelT B G A t N S b m i n M σ h (T_readTypeB rT σ) (C_0_readTypeB G rC t h) := by
  have hC : ∃ e h', C_0_readTypeB G rC t h = some (.inl e, h') ∧ thr t S i h h' e := by
    rw [rtB_begins hG K]
    unfold C_0_readType_34
    by_cases hb : tokk S i = 3 ∨ tokk S i = 2 ∨ tokk S i = 40
    · have h20 : n = 20 := hc.resolve_right (fun z => z hb)
      obtain ⟨e, h', e1, e2⟩ := (c_begin K hn).2 h20
      refine ⟨e, h', ?_, e2⟩
      rw [if_pos hb, if_pos (by decide), gd_pos (Cst_kd K), e1]
      rfl
    · obtain ⟨h', e1, e2, e3, e4, e5, e6⟩ := c_wrong K
      refine ⟨hz h, h', ?_, e2, e4, by omega, by omega⟩
      rw [if_neg hb, if_neg (by decide), gd_pos (Cst_kd K), e1]
      simp only [Option.bind_some]
      rw [gd_pos e4.2.2.2]
  have hT : ∃ x τ M', T_readTypeB rT σ = some (x, τ) ∧ Tfl τ N S b m (tokq S i) n M' ∧ nd σ τ M ∧ M ≤ M' ∧ M' ≤ M + 1 := by
    unfold T_readTypeB
    have fin : ∀ {τ1 : tS} {x : Int} {τ2 : tS} {M' : Nat}, T_enter σ = some τ1 → nd σ τ1 M → T_ground rT τ1 = some (x, τ2) → Tfl τ2 N S b m (tokq S i) (n + 1) M' → nd τ1 τ2 M → M ≤ M' → M' ≤ M + 1 → ∃ x τ M', ((T_enter σ).bind fun p1 => (T_ground rT p1).bind fun p2 => (T_takes 16 p2.2).bind fun p3 => if p3.1 = 0 then some (p2.1, us p3.2 436 (w32 ((gs p3.2 436) - 1))) else (rT p3.2).bind fun p4 => if 0 ≤ p2.1 ∧ p2.1 < 8400 then ((T_node 3 (ga p4.2 542 p2.1.toNat) p2.1 p4.1 (-1) (-1) p4.2).bind fun p5 => some (p5.1, us p5.2 436 (w32 ((gs p5.2 436) - 1)))) else none) = some (x, τ) ∧ Tfl τ N S b m (tokq S i) n M' ∧ nd σ τ M ∧ M ≤ M' ∧ M' ≤ M + 1 := by
      intro τ1 x τ2 M' e1 e2 f1 f2 f3 f4 f5
      rw [e1]
      simp only [Option.bind_some]
      rw [f1]
      simp only [Option.bind_some]
      rw [t_takesF f2]
      simp only [Option.bind_some]
      rw [if_pos trivial, f2.2.2.1, w32_s (by omega) (by omega), show n + 1 - 1 = n by omega]
      obtain ⟨g1, g2⟩ := Tfl_beg (x := n) f2
      exact ⟨_, _, M', rfl, g1, nd_trans e2 (nd_trans f3 g2 f4) (Nat.le_refl _), f4, f5⟩
    by_cases h20 : n = 20
    · obtain ⟨τ1, e1, e2, e3⟩ := (t_enter H hn).2 h20
      obtain ⟨τ2, f1, f2, f3⟩ := groundF e2 (by omega) rT
      exact fin e1 e3 f1 f2 f3 (by omega) (Nat.le_refl _)
    · obtain ⟨τ1, e1, e2, e3⟩ := (t_enter H hn).1 h20
      obtain ⟨x, τ2, M', f1, f2, f3, f4, f5⟩ := ground_bad e2 RF (hc.resolve_left h20) (by omega)
      exact fin e1 e3 f1 f2 f3 f4 f5
  obtain ⟨e, h', c1, c2⟩ := hC
  obtain ⟨x, τ, M', d1, d2, d3, d4, d5⟩ := hT
  exact .inr ⟨i, M', τ, x, e, h', Nat.le_refl _, H.2.2.1, d1, c1, d2, d3, c2.1, c2.2.1, d4, by omega, by have := c2.2.2.1; omega, by have := c2.2.2.2; omega⟩
end LY
