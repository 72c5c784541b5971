set_option maxRecDepth 100000
section LE
variable {G : om_G} {A t : Nat} {N : List (List Int)} {S : List Int} {b m K : Nat} {nc p : Int} {i M : Nat} {h h' : om_H} {σ τ : tS} {rT : tS → Option (Int × tS)} {rC : Nat → om_H → Option ((Nat ⊕ Nat) × om_H)}
/-- what an ex can begin with -/
abbrev isX (S : List Int) (i : Nat) : Prop := tokk S i = 92 ∨ tokk S i = 12 ∨ tokk S i = 9 ∨ tokk S i = 14 ∨ isA S i
theorem exB_C (hG : om_okG G) (H : Cst G h t S i nc) : C_0_readExB G rC t h = if isX S i then C_0_readEx_48 G rC t 1 h else C_0_readEx_48 G rC t 0 h := by
  unfold C_0_readExB
  rw [gd_pos (Cst_kd H), c_isSign hG H (by omega), show sc 92 = 92 by decide, gd_pos (Cst_kd H), c_isWord2 hG H (j := 14) (kk := 12) (bs := [108, 101, 116]) (by rfl) (by decide), gd_pos (Cst_kd H), c_isWord2 hG H (j := 15) (kk := 9) (bs := [105, 102]) (by rfl) (by decide), gd_pos (Cst_kd H), c_isWord2 hG H (j := 16) (kk := 14) (bs := [99, 97, 115, 101]) (by rfl) (by decide), c_isAtom hG H]
  simp only [Option.bind_some]
  by_cases c1 : tokk S i = 92
  · rw [if_pos (by rw [if_pos c1]; decide), if_pos (.inl c1)]
  · rw [if_neg (by rw [if_neg c1]; decide)]
    by_cases c2 : tokk S i = 12
    · rw [if_pos (by rw [if_pos c2]; decide), if_pos (.inr (.inl c2))]
    · rw [if_neg (by rw [if_neg c2]; decide)]
      by_cases c3 : tokk S i = 9
      · rw [if_pos (by rw [if_pos c3]; decide), if_pos (.inr (.inr (.inl c3)))]
      · rw [if_neg (by rw [if_neg c3]; decide)]
        by_cases c4 : tokk S i = 14
        · rw [if_pos (by rw [if_pos c4]; decide), if_pos (.inr (.inr (.inr (.inl c4))))]
        · rw [if_neg (by rw [if_neg c4]; decide)]
          by_cases c5 : isA S i
          · rw [if_neg (by rw [if_pos c5]; decide), if_pos (.inr (.inr (.inr (.inr c5))))]
          · rw [if_pos (by rw [if_neg c5]), if_neg (by rintro (z | z | z | z | z); exact c1 z; exact c2 z; exact c3 z; exact c4 z; exact c5 z)]
/-- the twin reads what can't begin an ex -/
theorem compare_bad (RF : RFall N S b m nc 1 rT) (H : Tst σ N S b m i nc M) (hM : M + 1 ≤ 8400) (c : ¬ isA S i) : ∃ x τ M1, T_compare rT σ = some (x, τ) ∧ Tfl τ N S b m (tokq S i) nc M1 ∧ nd σ τ M ∧ M ≤ M1 ∧ M1 ≤ M + 1 := by
  have c2 : tokk S i ≠ 2 := fun z => c (.inl z)
  have c4 : tokk S i ≠ 4 := fun z => c (.inr (.inl z))
  have c40 : tokk S i ≠ 40 := fun z => c (.inr (.inr z))
  obtain ⟨τ1, u1, u2, u3⟩ := (t_need H (k := 40) (by decide)).2 c40
  obtain ⟨x, τ, M1, e1, e2, e3, e4, e5⟩ := RF _ _ _ u2 hM
  refine ⟨x, τ, M1, ?_, e2, nd_trans u3 e3 (Nat.le_refl _), e4, e5⟩
  have hT : T_atom rT σ = some (x, τ) := by
    unfold T_atom
    rw [H.2.2.2.2.1, if_pos rfl, t_is H, t_is H, if_neg c2, if_neg c4]
    simp only [Option.bind_some]
    rw [if_pos trivial, if_pos trivial, u1]
    simp only [Option.bind_some]
    rw [e1]
    simp only [Option.bind_some]
    rw [t_needF e2]
    rfl
  have hU : T_use rT σ = some (x, τ) := by
    show (T_is 2 σ).bind (fun p1 => (T_atom rT σ).bind fun p2 => TL rT (gs σ 432) (p1, p2.1, -1, p2.2)) = _
    rw [t_is H, hT]
    simp only [Option.bind_some]
    rw [TL_F e2]
  have hP : T_product rT σ = some (x, τ) := by
    show ((T_use rT σ).bind fun p1 => TLp rT (p1.1, p1.2)) = _
    rw [hU]
    exact TLp_F e2 x
  have hS : T_sum rT σ = some (x, τ) := by
    show ((T_product rT σ).bind fun p1 => TLs rT (p1.1, p1.2)) = _
    rw [hP]
    exact TLs_F e2 x
  unfold T_compare
  rw [hS]
  simp only [Option.bind_some]
  rw [e2.2.2.2.1, if_pos (by decide)]
/-- behind the begin of an ex -/
theorem ex_wrap {Ki : Nat} (hn : 0 ≤ nc ∧ nc ≤ 20) (hi : i ≤ m) (h84 : M + 3 * (m - i) + 60 ≤ 8400) {σ1 : tS} {h1 : om_H} {X : Option (Int × tS)} {Y : Option ((Nat ⊕ Nat) × om_H)} (ht : t < hz h) (D : nd σ σ1 M) (X1 : hx t h h1) (z1 : hz h1 = hz h) (y1 : hu h1 = hu h) (R : RO G A t N S b m i (nc + 1) M σ1 h1 (PX G A S b Ki i M h1) X Y) : RO G A t N S b m i nc M σ h (PX G A S b Ki i M h) (X.bind fun p => some (p.1, us p.2 436 (w32 ((gs p.2 436) - 1)))) (xc Y (fun t h => some (.inl t, h)) (fun q g => C_0_readEx_144 G rC t q g)) := by
  refine RO_bind 0 (⟨Nat.le_refl _, D, Nat.le_refl _, X1, by omega, by omega⟩ : lnk t i M σ h i M σ1 h1) (by omega) h84 hi R (fun j M' τ h' v w q1 H1 D1 X2 m1 P1 => ?_) (fun p v τ M' T1 T2 T3 T4 => TF_beg T1 T2 T3 rfl (by omega))
  obtain ⟨nT, rfl, g2, W2, g3, g4, g5, g6⟩ := P1
  unfold C_0_readEx_144
  rw [gd_pos (At_kd H1), H1.2.1.2.1, H1.1.2.2.2.1, w32_s (by omega) (by omega), show nc + 1 - 1 = nc by omega]
  obtain ⟨b1, b2⟩ := Tst_beg (x := nc) H1.1
  obtain ⟨K9, X9⟩ := Cst_beg (x := nc) H1.2.1
  refine .inl ⟨j, M', _, _, _, _, rfl, rfl, by omega, ⟨b1, K9, H1.2.2⟩, nd_trans (nd_trans D D1 (Nat.le_refl _)) b2 m1, hx_trans X1 (hx_trans X2 X9), m1, nT, rfl, g2, ?_, g3, g4, by rw [hz_sI]; omega, by rw [hu_sI]; omega⟩
  rw [hz_sI, ← z1]
  exact X0_keep W2 (fun z d e => ⟨rfl, fun f => fI_na (by omega), fun f => rfl, rfl, rfl⟩) (nd_nall b2 (Nat.le_refl _))
theorem PX_up {Ki Kj : Nat} (hk : Ki ≤ Kj) {X : Option (Int × tS)} {Y : Option ((Nat ⊕ Nat) × om_H)} (R : RO G A t N S b m i nc M σ h (PX G A S b Ki i M h) X Y) : RO G A t N S b m i nc M σ h (PX G A S b Kj i M h) X Y := RO_id R (fun j M' τ h' v w ⟨n, q1, q2, q3, q4⟩ => ⟨n, q1, q2, XR_le hk q3, q4⟩)
/-- an ex, well begun -/
theorem ex_ok (hG : om_okG G) (hN : ∃ N', N = [110, 105, 108] :: [99, 111, 110, 115] :: N') (hn : 0 ≤ nc ∧ nc < 20) (R : RXall G A t N S b m K (nc + 1) rT rC) (RF : RFall N S b m (nc + 1) 1 rT) (H : At G A t N S b m i nc M σ h) (h84 : M + 3 * (m - i) + 60 ≤ 8400) (c : isX S i) : RO G A t N S b m i nc M σ h (PX G A S b (K + 5) i M h) (T_readExB rT σ) (C_0_readExB G rC t h) := by
  rw [exB_C hG H.2.1, if_pos c]
  obtain ⟨σ1, e1, e2, e3⟩ := (t_enter H.1 (by omega)).1 (by omega)
  obtain ⟨h1, f1, f2, f3, f4, f5, f6⟩ := (c_begin H.2.1 (by omega)).1 (by omega)
  have H1 : At G A t N S b m i (nc + 1) M σ1 h1 := ⟨e2, f2, by rw [f6]; exact H.2.2⟩
  have hi := At_i H
  have ht := At_t H
  unfold T_readExB C_0_readEx_48
  rw [if_pos (by decide), gd_pos (At_kd H), e1, f1]
  simp only [Option.bind_some, xc_v]
  rw [e2.2.2.2.2.1, if_pos rfl, gd_pos (At_kd H1), e2.2.1, Cst_q f2]
  clear e1 f1
  obtain ⟨ta1, ta2⟩ := t_takes e2 (k := 92) (by decide)
  obtain ⟨ca1, ca2⟩ := c_passes2 hG f2 (v := 92) (by omega)
  rw [show sc 92 = 92 by decide] at ca1 ca2
  by_cases c1 : tokk S i = 92
  · obtain ⟨τ, u1, u2, u3⟩ := ta1 c1
    obtain ⟨h2, v1, v2, v3⟩ := ca1 c1
    rw [u1, v1]
    simp only [Option.bind_some]
    rw [if_neg (by decide), if_neg (by decide)]
    have W := ex_wrap (rC := rC) (Ki := K + 1) (by omega) hi h84 ht e3 f3 f4 f5 (lam_rel hG R RF (by omega) (At_onlyT H1 v3 v2 u2) u3 (hx_onlyT v3) v3.2.2.2.2.2.2.2.2.1 v3.2.2.2.2.2.2.2.2.2.1 h84)
    unfold lamT at W
    simp only [Option.bind_assoc, Option.bind_some] at W
    exact PX_up (by omega) W
  rw [ta2 c1, ca2 c1]
  simp only [Option.bind_some]
  rw [if_pos trivial, if_pos trivial, gd_pos (At_kd H1)]
  clear ta1 ta2 ca1 ca2
  obtain ⟨ta1, ta2⟩ := t_takes e2 (k := 12) (by decide)
  obtain ⟨ca1, ca2⟩ := c_passes hG f2 (j := 14) (kk := 12) (bs := [108, 101, 116]) (by rfl) (by decide)
  by_cases c2 : tokk S i = 12
  · obtain ⟨τ, u1, u2, u3⟩ := ta1 c2
    obtain ⟨h2, v1, v2, v3⟩ := ca1 c2
    rw [u1, v1]
    simp only [Option.bind_some]
    rw [if_neg (by decide), if_neg (by decide)]
    have W := ex_wrap (rC := rC) (Ki := K + 1) (by omega) hi h84 ht e3 f3 f4 f5 (let_rel hG R RF (by omega) (At_onlyT H1 v3 v2 u2) u3 (hx_onlyT v3) v3.2.2.2.2.2.2.2.2.1 v3.2.2.2.2.2.2.2.2.2.1 h84)
    unfold letT at W
    simp only [Option.bind_assoc, Option.bind_some] at W
    exact PX_up (by omega) W
  rw [ta2 c2, ca2 c2]
  simp only [Option.bind_some]
  rw [if_pos trivial, if_pos trivial, gd_pos (At_kd H1)]
  clear ta1 ta2 ca1 ca2
  obtain ⟨ta1, ta2⟩ := t_takes e2 (k := 9) (by decide)
  obtain ⟨ca1, ca2⟩ := c_passes hG f2 (j := 15) (kk := 9) (bs := [105, 102]) (by rfl) (by decide)
  by_cases c3 : tokk S i = 9
  · obtain ⟨τ, u1, u2, u3⟩ := ta1 c3
    obtain ⟨h2, v1, v2, v3⟩ := ca1 c3
    rw [u1, v1]
    simp only [Option.bind_some]
    rw [if_neg (by decide), if_neg (by decide)]
    have W := ex_wrap (rC := rC) (Ki := K + 1) (by omega) hi h84 ht e3 f3 f4 f5 (if_rel hG R RF (by omega) (At_onlyT H1 v3 v2 u2) u3 (hx_onlyT v3) v3.2.2.2.2.2.2.2.2.1 v3.2.2.2.2.2.2.2.2.2.1 h84)
    unfold ifT at W
    simp only [Option.bind_assoc, Option.bind_some] at W
    exact PX_up (by omega) W
  rw [ta2 c3, ca2 c3]
  simp only [Option.bind_some]
  rw [if_pos trivial, if_pos trivial, gd_pos (At_kd H1)]
  clear ta1 ta2 ca1 ca2
  obtain ⟨ta1, ta2⟩ := t_takes e2 (k := 14) (by decide)
  obtain ⟨ca1, ca2⟩ := c_passes hG f2 (j := 16) (kk := 14) (bs := [99, 97, 115, 101]) (by rfl) (by decide)
  by_cases c4 : tokk S i = 14
  · obtain ⟨τ, u1, u2, u3⟩ := ta1 c4
    obtain ⟨h2, v1, v2, v3⟩ := ca1 c4
    rw [u1, v1]
    simp only [Option.bind_some]
    rw [if_neg (by decide), if_neg (by decide)]
    have W := ex_wrap (rC := rC) (Ki := K + 1) (by omega) hi h84 ht e3 f3 f4 f5 (case_rel hG hN R RF (by omega) (At_onlyT H1 v3 v2 u2) u3 (hx_onlyT v3) v3.2.2.2.2.2.2.2.2.1 v3.2.2.2.2.2.2.2.2.2.1 h84)
    exact PX_up (by omega) W
  rw [ta2 c4, ca2 c4]
  simp only [Option.bind_some]
  rw [if_pos trivial, if_pos trivial]
  exact ex_wrap (rC := rC) (Ki := K + 5) (by omega) hi h84 ht e3 f3 f4 f5 (compare_rel hG (by omega) R RF i M σ1 h1 H1 h84)
/-- an ex that can't be read -/
theorem ex_bad (hG : om_okG G) (hn : 0 ≤ nc ∧ nc ≤ 20) (RF : RFall N S b m (nc + 1) 1 rT) (H : At G A t N S b m i nc M σ h) (h84 : M + 3 * (m - i) + 60 ≤ 8400) (c : nc = 20 ∨ ¬ isX S i) : RO G A t N S b m i nc M σ h (PX G A S b K i M h) (T_readExB rT σ) (C_0_readExB G rC t h) := by
  have hi := At_i H
  have hC : ∃ e h', C_0_readExB G rC t h = some (.inl e, h') ∧ thr t S i h h' e := by
    rw [exB_C hG H.2.1]
    by_cases c1 : isX S i
    · rcases c with c | c
      · obtain ⟨e, h', f1, f2⟩ := (c_begin H.2.1 (by omega)).2 c
        refine ⟨e, h', ?_, f2⟩
        rw [if_pos c1]
        unfold C_0_readEx_48
        rw [if_pos (by decide), gd_pos (At_kd H), f1]
        rfl
      · exact absurd c1 c
    · obtain ⟨h', f1, f2, f3, f4, f5, f6⟩ := c_wrong H.2.1
      refine ⟨hz h, h', ?_, f2, f4, by omega, by omega⟩
      rw [if_neg c1]
      unfold C_0_readEx_48
      rw [if_neg (by decide), gd_pos (At_kd H), f1]
      simp only [Option.bind_some]
      rw [gd_pos f4.2.2.2]
  have hT : ∃ x τ M1, T_readExB rT σ = some (x, τ) ∧ Tfl τ N S b m (tokq S i) nc M1 ∧ nd σ τ M ∧ M ≤ M1 ∧ M1 ≤ M + 1 := by
    unfold T_readExB
    by_cases c1 : nc = 20
    · obtain ⟨σ1, e1, e2, e3⟩ := (t_enter H.1 (by omega)).2 c1
      rw [e1]
      simp only [Option.bind_some]
      rw [if_neg (by rw [e2.2.2.2.1]; decide)]
      obtain ⟨τ, g1, g2, g3⟩ := t_nodeF e2 (by omega) 11 (gs σ1 432) (-1) (-1) (-1) (-1)
      rw [g1]
      simp only [Option.bind_some]
      rw [g2.2.2.1, w32_s (by omega) (by omega), show nc + 1 - 1 = nc by omega]
      obtain ⟨b1, b2⟩ := Tfl_beg (x := nc) g2
      exact ⟨_, _, M + 1, rfl, b1, nd_trans (nd_trans e3 g3 (Nat.le_refl _)) b2 (by omega), by omega, by omega⟩
    · have c2 : ¬ isX S i := by rcases c with c | c; exact absurd c c1; exact c
      obtain ⟨σ1, e1, e2, e3⟩ := (t_enter H.1 (by omega)).1 c1
      rw [e1]
      simp only [Option.bind_some]
      rw [if_pos e2.2.2.2.2.1, (t_takes e2 (k := 92) (by decide)).2 (fun z => c2 (.inl z))]
      simp only [Option.bind_some]
      rw [if_pos trivial, (t_takes e2 (k := 12) (by decide)).2 (fun z => c2 (.inr (.inl z)))]
      simp only [Option.bind_some]
      rw [if_pos trivial, (t_takes e2 (k := 9) (by decide)).2 (fun z => c2 (.inr (.inr (.inl z))))]
      simp only [Option.bind_some]
      rw [if_pos trivial, (t_takes e2 (k := 14) (by decide)).2 (fun z => c2 (.inr (.inr (.inr (.inl z)))))]
      simp only [Option.bind_some]
      rw [if_pos trivial]
      obtain ⟨x, τ, M1, g1, g2, g3, g4, g5⟩ := compare_bad RF e2 (by omega) (fun z => c2 (.inr (.inr (.inr (.inr z)))))
      rw [g1]
      simp only [Option.bind_some]
      rw [g2.2.2.1, w32_s (by omega) (by omega), show nc + 1 - 1 = nc by omega]
      obtain ⟨b1, b2⟩ := Tfl_beg (x := nc) g2
      exact ⟨_, _, M1, rfl, b1, nd_trans (nd_trans e3 g3 (Nat.le_refl _)) b2 (by omega), g4, g5⟩
  obtain ⟨e, h', f1, f2, f3, f4, f5⟩ := hC
  obtain ⟨x, τ, M1, g1, g2, g3, g4, g5⟩ := hT
  rw [f1, g1]
  exact .inr ⟨i, M1, τ, x, e, h', rfl, rfl, Nat.le_refl _, hi, g2, g3, f2, f3, g4, by omega, by omega, by omega⟩
theorem exF {n : Int} (hn : 0 ≤ n ∧ n ≤ 900) (D : Nat) : RFall N S b m n 1 (T_readExD (D + 1)) := by
  intro p M σ H hM
  show ∃ x τ M', T_readExB (T_readExD D) σ = some (x, τ) ∧ _
  obtain ⟨σ1, e1, e2, e3⟩ := t_enterF H (by omega)
  unfold T_readExB
  rw [e1]
  simp only [Option.bind_some]
  rw [if_neg (by rw [e2.2.2.2.1]; decide)]
  obtain ⟨τ, g1, g2, g3⟩ := t_nodeF e2 (by omega) 11 (gs σ1 432) (-1) (-1) (-1) (-1)
  rw [g1]
  simp only [Option.bind_some]
  rw [g2.2.2.1, w32_s (by omega) (by omega), show n + 1 - 1 = n by omega]
  obtain ⟨b1, b2⟩ := Tfl_beg (x := n) g2
  exact ⟨_, _, M + 1, rfl, b1, nd_trans (nd_trans e3 g3 (Nat.le_refl _)) b2 (by omega), by omega, by omega⟩
/-- EXS ARE READ ALIKE -/
theorem readEx_rel (hG : om_okG G) (hN : ∃ N', N = [110, 105, 108] :: [99, 111, 110, 115] :: N') : ∀ (k D D' : Nat) (n : Int), n + (k : Int) = 20 → 0 ≤ n → k + 2 ≤ D → k + 1 ≤ D' → RXall G A t N S b m (5 * k) n (T_readExD D) (C_0_readExD G D')
  | k, D + 1, D' + 1, n, hk, hn, hD, hD' => by
    intro i M σ h H h84
    show RO G A t N S b m i n M σ h (PX G A S b (5 * k) i M h) (T_readExB (T_readExD D) σ) (C_0_readExB G (C_0_readExD G D') t h)
    cases D with
    | zero => omega
    | succ D =>
      cases k with
      | zero => exact ex_bad hG (by omega) (exF (by omega) D) H h84 (.inl (by omega))
      | succ k =>
        by_cases hc : isX S i
        · exact ex_ok hG hN (by omega) (readEx_rel hG hN k (D + 1) D' (n + 1) (by omega) (by omega) (by omega) (by omega)) (exF (by omega) D) H h84 hc
        · exact ex_bad hG (by omega) (exF (by omega) D) H h84 (.inr hc)
  | k, 0, D', n, hk, hn, hD, hD' => by omega
  | k, D + 1, 0, n, hk, hn, hD, hD' => by omega
end LE
