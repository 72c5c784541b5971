set_option maxRecDepth 100000
section LY2
variable {G : om_G} {A t : Nat} {N : List (List Int)} {S : List Int} {b m i : Nat} {n : Int} {M : Nat} {σ : tS} {h : om_H} {rT : tS → Option (Int × tS)} {rC : Nat → om_H → Option ((Nat ⊕ Nat) × om_H)}
set_option maxHeartbeats 8000000 in
theorem rt_ok {B : Nat} (hG : om_okG G) (R : RTall (B + 1) G A t N S b m (n + 1) rT rC) (RF : RFall N S b m (n + 1) 1 rT) (H : Tst σ N S b m i n M) (K : Cst G h t S i n) (hA : fR h 1122 t = A) (hn : 0 ≤ n ∧ n < 20) (hM : M + (m - i) + 60 ≤ 8400) (hc : tokk S i = 3 ∨ tokk S i = 2 ∨ tokk S i = 40) : RelT (B + 3) G A t N S b m i n M σ h (T_readTypeB rT σ) (C_0_readTypeB G rC t h) := by
  rw [rtB_begins hG K, if_pos hc]
  unfold T_readTypeB C_0_readType_34
  rw [if_pos (by decide), gd_pos (Cst_kd K)]
  obtain ⟨τ1, e1, e2, e3⟩ := (t_enter H (by omega)).1 (by omega)
  obtain ⟨h1, f1, f2, f3, f4, f5, f6⟩ := (c_begin K (by omega)).1 (by omega)
  rw [e1, f1]
  simp only [Option.bind_some, xc_v]
  have ht := K.2.2.1
  rcases ground_rel hG R RF e2 f2 (by rw [f6]; exact hA) hM with ⟨j, M1, τ2, a, nT, h2, k1, q1, q2, q3, q4, q5, q6, q7, q8, q9, q10, qn, q11, q12, q13, q14⟩ | ⟨jf, M1, τ2, x, e, h2, q1, q2, q3, q4, q5, q6, q7, q8, q9, q10, q11, q12⟩
  · rw [q3, q4]
    simp only [Option.bind_some, xc_v]
    rw [gd_pos (Cst_kd q7)]
    have z2 := q8.1
    obtain ⟨ta1, ta2⟩ := t_takes q5 (k := 16) (by decide)
    obtain ⟨ca1, ca2⟩ := c_passes2 hG q7 (v := 257) (.inr (.inl rfl))
    rw [show sc 257 = 16 from by decide] at ca1 ca2
    by_cases c16 : tokk S j = 16
    · obtain ⟨τ3, u1, u2, u3⟩ := ta1 c16
      obtain ⟨h3, v1, v2, v3⟩ := ca1 c16
      rw [u1, v1]
      simp only [Option.bind_some]
      rw [if_neg (by decide), if_neg (by decide)]
      have X3 := hx_onlyT v3
      have z3 : hz h3 = hz h2 := v3.2.2.2.2.2.2.2.2.1
      have y3 : hu h3 = hu h2 := v3.2.2.2.2.2.2.2.2.2.1
      have hA3 : fR h3 1122 t = A := by rw [v3.2.2.2.2.2.2.2.2.2.2.2.2]; exact q9
      -- a Written for the arrow
      have ht3 : t < hz h3 := v2.2.2.1
      have hb3 : fR h3 1122 t < hz h3 := v2.2.2.2
      have k4 : kd (nO h3 20 3) (hz h3) = 20 := by rw [kd_nO, if_pos rfl]
      have z4 : hz (nO h3 20 3) = hz h3 + 1 := rfl
      have W5 := c_Winit (G := G) (h := nO h3 20 3) (a := hz h3) (w := 0) (g := 0) (by omega) k4 (.inl rfl)
      rw [gd_pos k4, W5]
      simp only [Option.bind_some]
      have z5 : hz (mkW (nO h3 20 3) (hz h3) 0 0) = hz h3 + 2 := rfl
      have y5 : hu (mkW (nO h3 20 3) (hz h3) 0 0) = hu h3 + 6 := rfl
      have L74 : fR (mkW (nO h3 20 3) (hz h3) 0 0) 1274 (hz h3) = hz h3 + 1 := mkW_74
      have L66 : fR (mkW (nO h3 20 3) (hz h3) 0 0) 1266 (hz h3) = 0 := mkW_66
      have L71 : fI (mkW (nO h3 20 3) (hz h3) 0 0) 1271 (hz h3) = 0 := mkW_71
      have kd5 : ∀ x, x < hz h3 → kd (mkW (nO h3 20 3) (hz h3) 0 0) x = kd h3 x := fun x hx => by rw [mkW_kd (by omega), if_neg (by omega), kd_nO, if_neg (by omega)]
      have ka5 : kd (mkW (nO h3 20 3) (hz h3) 0 0) (hz h3) = 20 := by rw [mkW_kd (by omega), if_neg (by omega)]; exact k4
      have kL5 : kd (mkW (nO h3 20 3) (hz h3) 0 0) (hz h3 + 1) = 42 := by rw [mkW_kd (by omega), if_pos (by omega)]
      have ll5 : ll (mkW (nO h3 20 3) (hz h3) 0 0) (hz h3 + 1) = [] := by rw [mkW_ll, if_pos (by omega)]
      have lc5 : lc (mkW (nO h3 20 3) (hz h3) 0 0) (hz h3 + 1) = 0 := by rw [mkW_lc, if_pos (by omega)]
      have X5 : hx t h3 (mkW (nO h3 20 3) (hz h3) 0 0) := hx_mkW (hx_nO h3 20 3) (Nat.le_refl _)
      have K5 : Cst G (mkW (nO h3 20 3) (hz h3) 0 0) t S (j + 1) (n + 1) := Cst_sameT v2 X5 ⟨fun f => by rw [mkW_fI (by omega) (by omega), fI_nO, if_neg (by omega)], fun f => by rw [mkW_fR (by omega) (by omega), fR_nO, if_neg (by omega)]⟩
      have A5 : fR (mkW (nO h3 20 3) (hz h3) 0 0) 1122 t = A := by rw [mkW_fR (by omega) (by omega), fR_nO, if_neg (by omega)]; exact hA3
      generalize mkW (nO h3 20 3) (hz h3) 0 0 = h5 at *
      rw [L74]
      have wi := WR_in q10
      have ka3 : kd h3 a = 20 := by
        have : kd h2 a = 20 := by
          exact q10.2.2.2.2.1
        rw [X3.2.2.1 a (by omega)]; exact this
      have o5 : okL G h5 (hz h3 + 1) := ⟨kL5, by rw [ll5, lc5]; simp, by rw [ll5, lc5]; simp, fun y hy => by rw [ll5] at hy; simp at hy⟩
      have ad5 := c_add (x := a) o5 (om_obj_kd (K := 20) (by decide) (by decide) (by rw [kd5 a (by omega)]; exact ka3)) (by rw [ll5]; simp)
      rw [gd_pos ⟨ka5, kL5⟩, ad5]
      simp only [Option.bind_some]
      obtain ⟨r1, r2, r3, r4, r5, r6, r7⟩ := addL_room h5 (hz h3 + 1) a o5.2.1 o5.2.2.1
      have k6 : ∀ x, kd (addL h5 (hz h3 + 1) a) x = kd h5 x := fun x => addL_kd _ _ _ _ kL5
      have l6 : ll (addL h5 (hz h3 + 1) a) (hz h3 + 1) = [a] := by rw [addL_ll _ _ _ _ o5.2.1, if_pos rfl, ll5]; rfl
      have X6 : hx t h3 (addL h5 (hz h3 + 1) a) := hx_add X5 (by omega) kL5 o5.2.1 o5.2.2.1
      have K6 : Cst G (addL h5 (hz h3 + 1) a) t S (j + 1) (n + 1) := Cst_add K5 kL5 o5.2.1 o5.2.2.1
      have A6 : fR (addL h5 (hz h3 + 1) a) 1122 t = A := by rw [addL_fR]; exact A5
      have f74 : fR (addL h5 (hz h3 + 1) a) 1274 (hz h3) = hz h3 + 1 := by rw [addL_fR]; exact L74
      have f66 : fR (addL h5 (hz h3 + 1) a) 1266 (hz h3) = 0 := by rw [addL_fR]; exact L66
      have f71 : fI (addL h5 (hz h3 + 1) a) 1271 (hz h3) = 0 := by rw [addL_fI]; exact L71
      rw [ll5] at r1 r2
      rw [lc5] at r3 r7
      simp only [List.length_nil] at r1 r2
      generalize addL h5 (hz h3 + 1) a = h6 at *
      have ka6 : kd h6 (hz h3) = 20 := by rw [k6]; exact ka5
      have kL6 : kd h6 (hz h3 + 1) = 42 := by rw [k6]; exact kL5
      rw [gd_pos ka6, f74]
      have hjm := u2.2.2.1
      rcases R (j + 1) M1 τ3 h6 u2 K6 A6 (by omega) with ⟨j2, M2, τ4, y, ny, h7, k2, s1, s2, s3, s4, s5, s6, s7, s8, s9, s10, sn, s11, s12, s13, s14⟩ | ⟨jf, M2, τ4, x, e, h7, s1, s2, s3, s4, s5, s6, s7, s8, s9, s10, s11, s12⟩
      · rw [s3, s4]
        simp only [Option.bind_some, xc_v]
        have wj := WR_in s10
        obtain ⟨c0, c1, c2, c3, c4, c5, c6', c7, c8, c9⟩ := s8
        have kL7 : kd h7 (hz h3 + 1) = 42 := by rw [c2 _ (by omega)]; exact kL6
        have l7 : ll h7 (hz h3 + 1) = [a] := by rw [c8 _ (by omega)]; exact l6
        have lc7 : lc h7 (hz h3 + 1) = lc h6 (hz h3 + 1) := c9 _ (by omega)
        have ky7 : kd h7 y = 20 := s10.2.2.2.2.1
        have ka7 : kd h7 a = 20 := by rw [c2 a (by omega), k6, kd5 a (by omega)]; exact ka3
        have o7 : okL G h7 (hz h3 + 1) := ⟨kL7, by rw [l7, lc7]; simp; omega, by rw [l7, lc7]; simp; omega, fun z hz => by
          rw [l7] at hz
          simp at hz
          rw [hz]
          exact om_obj_kd (K := 20) (by decide) (by decide) ka7⟩
        have ad7 := c_add (x := y) o7 (om_obj_kd (K := 20) (by decide) (by decide) ky7) (by rw [l7]; simp)
        rw [gd_pos kL7, ad7]
        simp only [Option.bind_some]
        obtain ⟨t1, t2, t3, t4, t5, t6, t7⟩ := addL_room h7 (hz h3 + 1) y o7.2.1 o7.2.2.1
        have k8 : ∀ x, kd (addL h7 (hz h3 + 1) y) x = kd h7 x := fun x => addL_kd _ _ _ _ kL7
        have l8 : ll (addL h7 (hz h3 + 1) y) (hz h3 + 1) = [a, y] := by rw [addL_ll _ _ _ _ o7.2.1, if_pos rfl, l7]; rfl
        have g8 : ∀ f x, fR (addL h7 (hz h3 + 1) y) f x = fR h7 f x := fun f x => addL_fR _ _ _ _ _
        have i8 : ∀ f x, fI (addL h7 (hz h3 + 1) y) f x = fI h7 f x := fun f x => addL_fI _ _ _ _ _
        have hk8 : ∀ alo ahi, ahi ≤ hz h3 + 1 ∨ hz h3 + 2 ≤ alo → hk alo ahi h7 (addL h7 (hz h3 + 1) y) := fun alo ahi q z d e => ⟨k8 z, fun f => i8 f z, fun f => g8 f z, by rw [addL_ll _ _ _ _ o7.2.1, if_neg (by omega)], addL_lc _ _ _ _ (by omega)⟩
        have X8 : hx t h3 (addL h7 (hz h3 + 1) y) := hx_add (hx_trans X6 ⟨c0, c1, c2, c3, c4, c5, c6', c7, c8, c9⟩) (by omega) kL7 o7.2.1 o7.2.2.1
        have K8 : Cst G (addL h7 (hz h3 + 1) y) t S j2 (n + 1) := Cst_add s7 kL7 o7.2.1 o7.2.2.1
        rw [l7] at t1 t2
        rw [lc7] at t3 t7
        simp only [List.length_singleton] at t1 t2
        generalize addL h7 (hz h3 + 1) y = h8 at *
        rw [c_96 K8 (by omega)]
        obtain ⟨K9, X9⟩ := Cst_beg (x := n) K8
        -- the twin's node
        have hnT : nT < 8400 := by omega
        rw [if_pos ⟨by omega, by omega⟩]
        obtain ⟨τ5, d1, d2, d3, d4, d5⟩ := t_node s5 (by omega) 3 (ga τ4 542 ((nT : Int)).toNat) (nT : Int) (ny : Int) (-1) (-1)
        rw [d1]
        simp only [Option.bind_some]
        rw [d2.2.2.2.1, w32_s (by omega) (by omega), show n + 1 - 1 = n by omega]
        obtain ⟨b1, b2⟩ := Tst_beg (x := n) d2
        have a9 : hk (hz h) (hz h8) h8 (sI h8 1148 t n) := fun z d e => ⟨rfl, fun f => fI_na (by omega), fun f => rfl, rfl, rfl⟩
        refine .inl ⟨j2, M2 + 1, _, hz h3, M2, sI h8 1148 t n, 0, by omega, s2, rfl, rfl, b1, ?_, K9, ?_, ?_, ?_, d3.2.2.2.2.2.2, by omega, by omega, ?_, ?_⟩
        · exact nd_trans e3 (nd_trans q6 (nd_trans u3 (nd_trans s6 (nd_trans d4 b2 (by omega)) (by omega)) (Nat.le_refl _)) (by omega)) (Nat.le_refl _)
        · exact hx_trans f3 (hx_trans q8 (hx_trans X3 (hx_trans X8 X9)))
        · show fR h8 1122 t = A
          rw [g8]; exact s9
        · have hL9 : fR (sI h8 1148 t n) 1274 (hz h3) = hz h3 + 1 := by
            show fR h8 1274 (hz h3) = _
            rw [g8, c4 _ _ (by omega) (by omega)]; exact f74
          have nkL : nk M M1 nT τ2 (us τ5 436 n) := ⟨fun f hf c z d e => by
              show ga τ5 f z = _
              rw [d5 f hf z (by omega), s6.2 f hf z e, u3.2 f hf z e], fun z d e c => by
              show ga τ5 562 z = _
              rw [d5 562 (by simp) z (by omega), s6.2 562 (by simp) z e, u3.2 562 (by simp) z e]⟩
          have nkR : nk M1 M2 ny τ4 (us τ5 436 n) := ⟨fun f hf c z d e => by
              show ga τ5 f z = _
              rw [d5 f hf z (by omega)], fun z d e c => by
              show ga τ5 562 z = _
              rw [d5 562 (by simp) z (by omega)]⟩
          have hkL : hk (hz h1) (hz h2) h2 (sI h8 1148 t n) := by
            intro z d e
            obtain ⟨m1, m2, m3, m4, m5⟩ := hx_hk (alo := hz h1) X3 (Nat.le_refl _) (by omega) z d e
            obtain ⟨n1, n2, n3, n4, n5⟩ := hx_hk (alo := hz h1) (ahi := hz h3) X8 (Nat.le_refl _) (by omega) z d (by omega)
            obtain ⟨o1, o2, o3, o4, o5'⟩ := a9 z (by omega) (by omega)
            exact ⟨by rw [o1, n1, m1], fun f => by rw [o2, n2, m2], fun f => by rw [o3, n3, m3], by rw [o4, n4, m4], by rw [o5', n5, m5]⟩
          have hkR : hk (hz h6) (hz h7) h7 (sI h8 1148 t n) := by
            intro z d e
            obtain ⟨m1, m2, m3, m4, m5⟩ := hk8 (hz h6) (hz h7) (.inr (by omega)) z d e
            obtain ⟨o1, o2, o3, o4, o5'⟩ := a9 z (by omega) (by omega)
            exact ⟨by rw [o1, m1], fun f => by rw [o2, m2], fun f => by rw [o3, m3], by rw [o4, m4], by rw [o5', m5]⟩
          refine ⟨by omega, by omega, by omega, ?_, ?_, by rw [hL9]; omega, ?_, ?_, .inr (.inr ⟨a, y, nT, ny, M1, hz h2, hz h6, ?_, ?_, ?_, ?_, ?_, ?_, rfl, ?_, ?_, by omega, by omega, by rw [hL9]; omega, by rw [hL9]; omega⟩)⟩
          · show hz h3 < hz h8; omega
          · show kd h8 (hz h3) = 20
            rw [k8, c2 _ (by omega)]; exact ka6
          · rw [hL9]; show hz h3 + 1 < hz h8; omega
          · rw [hL9]; show kd h8 (hz h3 + 1) = 42; rw [k8]; exact kL7
          · exact d3.1
          · show fR h8 1266 (hz h3) = 0
            rw [g8, c4 _ _ (by omega) (by omega)]; exact f66
          · rw [fI_na (by omega), i8, c3 _ _ (by omega) (by omega)]; exact f71
          · rw [hL9]; exact l8
          · exact d3.2.2.1
          · exact d3.2.2.2.1
          · have := WR_keep q10 hkL nkL
            rw [f4] at this
            exact this
          · have := WR_keep s10 hkR nkR
            exact WR_wide (WR_more this) (Nat.le_refl _) (by show hz h7 ≤ hz h8; omega)
        · show hz h8 + 1 ≤ _
          omega
        · show hu h8 + 30 ≤ _
          omega
      · rw [s3, s4]
        simp only [Option.bind_some, xc_t]
        have hnT : nT < 8400 := by omega
        rw [if_pos ⟨by omega, by omega⟩]
        obtain ⟨τ5, d1, d2, d3⟩ := t_nodeF s5 (by omega) 3 (ga τ4 542 ((nT : Int)).toNat) (nT : Int) x (-1) (-1)
        rw [d1]
        simp only [Option.bind_some]
        rw [d2.2.2.1, w32_s (by omega) (by omega), show n + 1 - 1 = n by omega]
        obtain ⟨b1, b2⟩ := Tfl_beg (x := n) d2
        refine .inr ⟨jf, M2 + 1, _, (M2 : Int), e, h7, by omega, s2, rfl, rfl, b1, ?_, hx_trans f3 (hx_trans q8 (hx_trans X3 (hx_trans X6 s7))), s8, by omega, by omega, by omega, by omega⟩
        exact nd_trans e3 (nd_trans q6 (nd_trans u3 (nd_trans s6 (nd_trans d3 b2 (by omega)) (by omega)) (Nat.le_refl _)) (by omega)) (Nat.le_refl _)
    · rw [ta2 c16, ca2 c16]
      simp only [Option.bind_some]
      rw [if_pos trivial, if_pos trivial, c_96 q7 (by omega), q5.2.2.2.1, w32_s (by omega) (by omega), show n + 1 - 1 = n by omega]
      obtain ⟨b1, b2⟩ := Tst_beg (x := n) q5
      obtain ⟨K9, X9⟩ := Cst_beg (x := n) q7
      have wi := WR_in q10
      refine .inl ⟨j, M1, _, a, nT, sI h2 1148 t n, k1, q1, q2, rfl, rfl, b1, nd_trans e3 (nd_trans q6 b2 (by omega)) (Nat.le_refl _), K9, hx_trans f3 (hx_trans q8 X9), q9, ?_, qn, q11, q12, by show hz h2 + 1 ≤ _; omega, by show hu h2 + 30 ≤ _; omega⟩
      have := WR_keep q10 (hx_hk X9 (Nat.le_refl _) (by omega)) (nd_nk b2 (Nat.le_refl _))
      rw [f4] at this
      exact WR_more this
  · rw [q3, q4]
    simp only [Option.bind_some, xc_t]
    rw [t_takesF q5]
    simp only [Option.bind_some]
    rw [if_pos trivial, q5.2.2.1, w32_s (by omega) (by omega), show n + 1 - 1 = n by omega]
    obtain ⟨b1, b2⟩ := Tfl_beg (x := n) q5
    exact .inr ⟨jf, M1, _, x, e, h2, q1, q2, rfl, rfl, b1, nd_trans e3 (nd_trans q6 b2 (by omega)) (Nat.le_refl _), hx_trans f3 q7, q8, q9, q10, by omega, by omega⟩
/-- A TYPE IS READ ALIKE -/
theorem readType_rel (hG : om_okG G) : ∀ (k D D' : Nat) (n : Int), n + (k : Int) = 20 → 0 ≤ n → k + 2 ≤ D → k + 1 ≤ D' → RTall (2 * k + 1) G A t N S b m n (T_readTypeD D) (C_0_readTypeD G D')
  | k, D + 1, D' + 1, n, hk, hn, hD, hD' => by
    intro i M σ h H K hA hM
    show RelT (2 * k + 1) G A t N S b m i n M σ h (T_readTypeB (T_readTypeD D) σ) (C_0_readTypeB G (C_0_readTypeD G D') t h)
    cases k with
    | zero =>
      cases D with
      | zero => omega
      | succ D => exact rt_bad hG H K (by omega) hM (typeF (by omega) D) (.inl (by omega))
    | succ k =>
      cases D with
      | zero => omega
      | succ D =>
        by_cases hc : tokk S i = 3 ∨ tokk S i = 2 ∨ tokk S i = 40
        · exact rt_ok (B := 2 * k) hG (readType_rel hG k (D + 1) D' (n + 1) (by omega) (by omega) (by omega) (by omega)) (typeF (by omega) D) H K hA (by omega) hM hc
        · exact rt_bad hG H K (by omega) hM (typeF (by omega) D) (.inr hc)
  | k, 0, D', n, hk, hn, hD, hD' => by omega
  | k, D + 1, 0, n, hk, hn, hD, hD' => by omega
end LY2
