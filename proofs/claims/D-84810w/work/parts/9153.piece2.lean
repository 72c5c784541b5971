set_option maxRecDepth 100000
theorem hx_flt {t : Nat} {h h1 h2 : om_H} {e : Nat} {k p : Int} (X : hx t h1 h2) (F : flt h1 e k p) (he : e < hz h1) (het : e ≠ t) : flt h2 e k p := by
  obtain ⟨c0, c1, c2, c3, c4, c5, c6, c7, c8, c9⟩ := X
  exact ⟨by rw [c2 e he]; exact F.1, by rw [c3 _ e he het]; exact F.2.1, by rw [c3 _ e he het]; exact F.2.2.1, F.2.2.2⟩
theorem hx_hk {t alo ahi : Nat} {h h' : om_H} (X : hx t h h') (h1 : ahi ≤ hz h) (h2 : t < alo) : hk alo ahi h h' := by
  obtain ⟨c0, c1, c2, c3, c4, c5, c6, c7, c8, c9⟩ := X
  exact fun a d e => ⟨c2 a (by omega), fun f => c3 f a (by omega) (by omega), fun f => c4 f a (by omega) (by omega), c8 a (by omega), c9 a (by omega)⟩
theorem nd_nk {σ τ : tS} {M lo hi n : Nat} (D : nd σ τ M) (h : hi ≤ M) : nk lo hi n σ τ := ⟨fun f hf _ i _ e => D.2 f hf i (by omega), fun i _ e _ => D.2 562 (by simp) i (by omega)⟩
section LP2
variable {G : om_G} {A t : Nat} {N : List (List Int)} {S : List Int} {b m i : Nat} {n p : Int} {M : Nat} {σ : tS} {h : om_H} {rT : tS → Option (Int × tS)} {rC : Nat → om_H → Option ((Nat ⊕ Nat) × om_H)}
/-- what reading a type gives, for every place -/
def RTall (B : Nat) (G : om_G) (A t : Nat) (N : List (List Int)) (S : List Int) (b m : Nat) (n : Int) (rT : tS → Option (Int × tS)) (rC : Nat → om_H → Option ((Nat ⊕ Nat) × om_H)) : Prop :=
  ∀ (i M : Nat) (σ : tS) (h : om_H), Tst σ N S b m i n M → Cst G h t S i n → fR h 1122 t = A → M + (m - i) + 60 ≤ 8400 → RelT B G A t N S b m i n M σ h (rT σ) (rC t h)
/-- the twin goes on reading behind a fault: one node, nothing else -/
def RFall (N : List (List Int)) (S : List Int) (b m : Nat) (n : Int) (c : Nat) (rT : tS → Option (Int × tS)) : Prop :=
  ∀ (p : Int) (M : Nat) (σ : tS), Tfl σ N S b m p n M → M + c ≤ 8400 → ∃ (x : Int) (τ : tS) (M' : Nat), rT σ = some (x, τ) ∧ Tfl τ N S b m p n M' ∧ nd σ τ M ∧ M ≤ M' ∧ M' ≤ M + c
theorem piece_rel {B : Nat} (hG : om_okG G) (R : RTall (B + 1) G A t N S b m n rT rC) (RF : RFall N S b m n 1 rT) (H : Tst σ N S b m i n M) (K : Cst G h t S i n) (hA : fR h 1122 t = A) (hM : M + (m - i) + 60 ≤ 8400) : RelT (B + 1) G A t N S b m i n M σ h (T_piece rT σ) (C_0_readPiece G rC t h) := by
  have h3 := Cst_kind hG K (e := 3) (by decide)
  have h2 := Cst_kind hG K (e := 2) (by decide)
  have s3 := kE_s (tokk_r S i).1 (e := 3) (by decide)
  have s2 := kE_s (tokk_r S i).1 (e := 2) (by decide)
  have ht := K.2.2.1
  unfold T_piece C_0_readPiece
  rw [H.2.2.2.2.1, if_pos rfl, gd_pos (Cst_kd K), gd_pos (Cst_kd K), t_is H, t_is H]
  simp only [Option.bind_some]
  by_cases c3 : tokk S i = 3
  · rw [if_pos c3, if_pos (by decide), if_neg (fun z => z (h3.mpr (s3.mpr c3)))]
    have e37 : T_piece_37 rT σ = T_piece_51 rT 1 σ := by unfold T_piece_37; rw [t_is H, if_pos c3]; simp
    rw [e37]
    exact leaf_rel hG H K hA (by omega) c3 (.inr ⟨rfl, rfl, rfl⟩)
  · rw [if_neg c3, if_neg (by decide), if_pos (fun z => c3 (s3.mp (h3.mp z)))]
    by_cases c2 : tokk S i = 2
    · rw [if_pos c2, if_neg (by decide), if_neg (fun z => z (h2.mpr (s2.mpr c2)))]
      have e37 : T_piece_37 rT σ = T_piece_51 rT 0 σ := by unfold T_piece_37; rw [t_is H, if_neg c3]; simp
      rw [e37]
      exact leaf_rel hG H K hA (by omega) c2 (.inl ⟨rfl, rfl, rfl⟩)
    · rw [if_neg c2, if_pos rfl, if_pos (fun z => c2 (s2.mp (h2.mp z)))]
      rw [gd_pos (Cst_kd K)]
      have hs40 : sc 40 = 40 := by decide
      have hs41 : sc 41 = 41 := by decide
      obtain ⟨tn1, tn2⟩ := t_need H (k := 40) (by decide)
      obtain ⟨cn1, cn2⟩ := c_need2 hG K (v := 40) (.inr (.inr (by omega)))
      rw [hs40] at cn1 cn2
      by_cases c40 : tokk S i = 40
      · obtain ⟨τ1, u1, u2, u3⟩ := tn1 c40
        obtain ⟨h1, v1, v2, v3⟩ := cn1 c40
        have X1 := hx_onlyT v3
        have z1 : hz h1 = hz h := v3.2.2.2.2.2.2.2.2.1
        have y1 : hu h1 = hu h := v3.2.2.2.2.2.2.2.2.2.1
        have hA1 : fR h1 1122 t = A := by rw [v3.2.2.2.2.2.2.2.2.2.2.2.2]; exact hA
        rw [u1, v1]
        simp only [Option.bind_some, xc_v]
        have hi1 := u2.2.2.1
        rcases R (i + 1) M τ1 h1 u2 v2 hA1 (by omega) with ⟨j, M', τ, a, nT, h', k, q1, q2, q3, q4, q5, q6, q7, q8, q9, q10, qn, q11, q12, q13, q14⟩ | ⟨jf, M', τ, x, e, h', q1, q2, q3, q4, q5, q6, q7, q8, q9, q10, q11, q12⟩
        · rw [q3, q4]
          simp only [Option.bind_some, xc_v]
          obtain ⟨tm1, tm2⟩ := t_need q5 (k := 41) (by decide)
          obtain ⟨cm1, cm2⟩ := c_need2 hG q7 (v := 41) (.inr (.inr (by omega)))
          rw [hs41] at cm1 cm2
          rw [gd_pos (Cst_kd q7)]
          by_cases c41 : tokk S j = 41
          · obtain ⟨τ2, u4, u5, u6⟩ := tm1 c41
            obtain ⟨h2', v4, v5, v6⟩ := cm1 c41
            have X2 := hx_onlyT v6
            have z2 : hz h2' = hz h' := v6.2.2.2.2.2.2.2.2.1
            have y2 : hu h2' = hu h' := v6.2.2.2.2.2.2.2.2.2.1
            rw [u4, v4]
            refine .inl ⟨j + 1, M', τ2, a, nT, h2', k, by omega, u5.2.2.1, rfl, rfl, u5, nd_trans u3 (nd_trans q6 u6 (by omega)) (Nat.le_refl _), v5, hx_trans X1 (hx_trans q8 X2), ?_, ?_, ?_, q11, by omega, by omega, by omega⟩
            · rw [v6.2.2.2.2.2.2.2.2.2.2.2.2]; exact q9
            · rw [← z1, z2]
              exact WR_keep q10 (hx_hk X2 (Nat.le_refl _) (by omega)) (nd_nk u6 (Nat.le_refl _))
            · rw [u6.2 562 (by simp) nT (WR_in q10).2.1]; exact qn
          · obtain ⟨τ2, u4, u5, u6⟩ := tm2 c41
            obtain ⟨e, h2', v4, v5⟩ := cm2 c41
            rw [u4, v4]
            exact .inr ⟨j, M', τ2, (nT : Int), e, h2', by omega, q2, rfl, rfl, u5, nd_trans u3 (nd_trans q6 u6 (by omega)) (Nat.le_refl _), hx_trans X1 (hx_trans q8 v5.1), v5.2.1, by omega, by omega, by have := v5.2.2.1; omega, by have := v5.2.2.2; omega⟩
        · rw [q3, q4]
          simp only [Option.bind_some, xc_t]
          rw [t_needF q5]
          exact .inr ⟨jf, M', τ, x, e, h', by omega, q2, rfl, rfl, q5, nd_trans u3 q6 (Nat.le_refl _), hx_trans X1 q7, q8, q9, by omega, by omega, by omega⟩
      · obtain ⟨τ1, u1, u2, u3⟩ := tn2 c40
        obtain ⟨e, h1, v1, v2⟩ := cn2 c40
        obtain ⟨x, τ2, M', w1, w2, w3, w4, w5⟩ := RF _ _ _ u2 (by omega)
        rw [u1, v1]
        simp only [Option.bind_some, xc_t]
        rw [w1]
        simp only [Option.bind_some]
        rw [t_needF w2]
        exact .inr ⟨i, M', τ2, x, e, h1, Nat.le_refl _, H.2.2.1, rfl, rfl, w2, nd_trans u3 w3 (Nat.le_refl _), v2.1, v2.2.1, w4, by omega, by have := v2.2.2.1; omega, by have := v2.2.2.2; omega⟩
theorem pieceF (H : Tfl σ N S b m p n M) (hM : M + 1 ≤ 8400) (r : tS → Option (Int × tS)) : ∃ τ, T_piece r σ = some ((M : Int), τ) ∧ Tfl τ N S b m p n (M + 1) ∧ nd σ τ M := by
  unfold T_piece
  rw [H.2.2.2.1, if_neg (by decide)]
  obtain ⟨τ, e1, e2, e3⟩ := t_nodeF H (by omega) 0 (gs σ 432) (-1) (-1) (-1) (-1)
  exact ⟨τ, by rw [e1]; rfl, e2, e3⟩
theorem groundF (H : Tfl σ N S b m p n M) (hM : M + 1 ≤ 8400) (r : tS → Option (Int × tS)) : ∃ τ, T_ground r σ = some ((M : Int), τ) ∧ Tfl τ N S b m p n (M + 1) ∧ nd σ τ M := by
  have H0 := H
  obtain ⟨T, ⟨i, hi, ha⟩, hn, hf, hp, hM'⟩ := H
  unfold T_ground
  have his : T_is 3 σ = some (if tokk S i = 3 then 1 else 0) := by
    unfold T_is T_is_18
    rw [ha, if_pos ⟨by omega, by have := T.2.1; omega⟩, show (((b + i : Nat) : Int)).toNat = b + i by omega, (T.1 i hi).1]
    by_cases c : tokk S i = 3
    · rw [if_neg (fun z => z c), if_pos c]; rfl
    · rw [if_pos c, if_neg c]; rfl
  rw [his]
  simp only [Option.bind_some]
  by_cases c : tokk S i = 3
  · rw [if_pos c, if_pos (by decide)]
    obtain ⟨τ, e1, e2, e3⟩ := t_nodeF H0 (by omega) 1 (gs σ 432) (-1) (-1) (-1) (-1)
    rw [e1]
    simp only [Option.bind_some]
    have h432 : gs τ 432 = ((b + i : Nat) : Int) := by
      have := t_node0 (σ := σ) hM' (by omega) 1 (gs σ 432) (-1) (-1) (-1) (-1)
      obtain ⟨τ', f1, f2, f3, f4, f5, f6⟩ := this
      rw [e1] at f1
      injection f1 with f1
      injection f1 with f0 f1
      rw [f1, f5 _ (by decide)]
      exact ha
    rw [h432, w32_s (by have := T.2.1; omega) (by have := T.2.1; omega)]
    have hne : i ≠ m := by
      intro z
      rw [z, T.2.2.1] at c
      omega
    have E : Tfl (us τ 432 (((b + i : Nat) : Int) + 1)) N S b m p n (M + 1) ∧ nd τ (us τ 432 (((b + i : Nat) : Int) + 1)) (M + 1) := by
      have A : fr PF PA τ (us τ 432 (((b + i : Nat) : Int) + 1)) := fr_us (fr_refl _ _ _) (by simp)
      exact ⟨⟨TT_fr A e2.1, ⟨i + 1, by omega, by rw [gs_us, if_pos rfl]; omega⟩, by rw [gs_us, if_neg (by decide)]; exact e2.2.2.1, by rw [gs_us, if_neg (by decide)]; exact e2.2.2.2.1, by rw [gs_us, if_neg (by decide)]; exact e2.2.2.2.2.1, by rw [gs_us, if_neg (by decide)]; exact e2.2.2.2.2.2⟩, A, fun _ _ _ _ => rfl⟩
    have hl : om_loop (T_ground_39s r (M : Int)) (-1, us τ 432 (((b + i : Nat) : Int) + 1)) = some (us τ 432 (((b + i : Nat) : Int) + 1)) := by
      refine om_loop_out ?_
      unfold T_ground_39s
      rw [t_isPieceF E.1]
      simp
    rw [hl]
    exact ⟨_, rfl, E.1, nd_trans e3 E.2 (by omega)⟩
  · rw [if_neg c, if_neg (by decide)]
    obtain ⟨τ, e1, e2, e3⟩ := pieceF H0 hM r
    rw [e1]
    exact ⟨τ, rfl, e2, e3⟩
/-- a type behind a fault -/
theorem typeF {n : Int} (hn : 0 ≤ n ∧ n ≤ 900) (D : Nat) : RFall N S b m n 1 (T_readTypeD (D + 1)) := by
  intro p M σ H hM
  show ∃ x τ M', T_readTypeB (T_readTypeD D) σ = some (x, τ) ∧ _
  unfold T_readTypeB
  obtain ⟨τ1, e1, e2, e3⟩ := t_enterF H (by omega)
  obtain ⟨τ2, f1, f2, f3⟩ := groundF e2 hM (T_readTypeD D)
  rw [e1]
  simp only [Option.bind_some]
  rw [f1]
  simp only [Option.bind_some]
  rw [t_takesF f2]
  simp only [Option.bind_some]
  rw [if_pos trivial, f2.2.2.1, w32_s (by omega) (by omega), show n + 1 - 1 = n by omega]
  obtain ⟨g1, g2⟩ := Tfl_beg (x := n) f2
  exact ⟨_, _, M + 1, rfl, g1, nd_trans e3 (nd_trans f3 g2 (by omega)) (Nat.le_refl _), by omega, Nat.le_refl _⟩
end LP2
