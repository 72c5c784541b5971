set_option maxRecDepth 100000
section LG2
variable {G : om_G} {A t : Nat} {N : List (List Int)} {S : List Int} {b m i : Nat} {n : Int} {M : Nat} {σ : tS} {h : om_H} {rT : tS → Option (Int × tS)} {rC : Nat → om_H → Option ((Nat ⊕ Nat) × om_H)}
set_option maxHeartbeats 4000000 in
theorem ground_rel {B : Nat} (hG : om_okG G) (R : RTall (B + 1) G A t N S b m n rT rC) (RF : RFall N S b m n 1 rT) (H : Tst σ N S b m i n M) (K : Cst G h t S i n) (hA : fR h 1122 t = A) (hM : M + (m - i) + 60 ≤ 8400) : RelT (B + 2) G A t N S b m i n M σ h (T_ground rT σ) (C_0_readGround G rC t h) := by
  have h3 := Cst_kind hG K (e := 3) (by decide)
  have s3 := kE_s (tokk_r S i).1 (e := 3) (by decide)
  have ht := K.2.2.1
  have hbb := K.2.2.2
  unfold T_ground C_0_readGround
  rw [t_is H, gd_pos (Cst_kd K)]
  simp only [Option.bind_some]
  by_cases c3 : tokk S i = 3
  · rw [if_pos c3, if_pos (by decide), if_pos (h3.mpr (s3.mpr c3))]
    have hlt : i < m := by
      by_cases c : i = m
      · have := H.1.2.2.1
        rw [← c, c3] at this
        omega
      · have := H.2.2.1; omega
    obtain ⟨τ1, e1, e2, e3, e4, e5⟩ := t_node H (by omega) 1 (gs σ 432) (-1) (-1) (-1) (-1)
    obtain ⟨g1, g2⟩ := Tst_at e2 (by omega)
    rw [e1]
    simp only [Option.bind_some]
    rw [e2.2.1, w32_s (by have := H.1.2.1; omega) (by have := H.1.2.1; omega), show ((b + i : Nat) : Int) + 1 = ((b + (i + 1) : Nat) : Int) by omega]
    -- the component
    have K0 : Cst G (nO h 20 3) t S i n := Cst_sameT K (hx_nO h 20 3) ⟨fun f => by rw [fI_nO, if_neg (by omega)], fun f => by rw [fR_nO, if_neg (by omega)]⟩
    obtain ⟨h1, c1, c2, cX, c4, c5, c6, c7⟩ := (c_need hG K0 (e := 3) (by omega)).1 c3
    have z0 : hz (nO h 20 3) = hz h + 1 := rfl
    have r0 : fR (nO h 20 3) 1122 t = fR h 1122 t := by rw [fR_nO, if_neg (by omega)]
    have k1 : kd h1 (hz h) = 20 := by
      rw [cX.2.2.1 _ (by omega), kd_nO, if_pos rfl]
    have hY : C_19_init G (hz h) (hz (nO h 20 3)) 1 h1 = some (mkW h1 (hz h) (hz (nO h 20 3)) 1) := c_Winit (by omega) k1 (by omega)
    have X1 : hx t h h1 := hx_trans (hx_nO h 20 3) cX
    have X2 : hx t h (mkW h1 (hz h) (hz (nO h 20 3)) 1) := hx_mkW X1 (Nat.le_refl _)
    have hb1 : fR h1 1122 t < hz h := by rw [c7, r0]; exact hbb
    have K2 : Cst G (mkW h1 (hz h) (hz (nO h 20 3)) 1) t S (i + 1) n := by
      refine Cst_gen c2 ?_ ?_ rfl (fun _ => rfl) (fun f => mkW_fI (by omega) (by omega)) (fun f => mkW_fR (by omega) (by omega)) (by rw [mkW_hz]; omega)
      · rw [mkW_kd (by omega), if_neg (by omega)]
      · rw [mkW_kd (by omega), if_neg (by omega)]
    have hA2 : fR (mkW h1 (hz h) (hz (nO h 20 3)) 1) 1122 t = A := by rw [mkW_fR (by omega) (by omega), c7, r0, hA]
    have w0 : wd (mkW h1 (hz h) (hz (nO h 20 3)) 1) A S (hz (nO h 20 3)) i := by
      obtain ⟨d1, d2, d3, d4⟩ := c4
      exact ⟨by rw [mkW_kd (by omega), if_neg (by omega)]; exact d1, by rw [mkW_fR (by omega) (by omega), d2, r0, hA], by rw [mkW_fI (by omega) (by omega)]; exact d3, by rw [mkW_fI (by omega) (by omega)]; exact d4⟩
    have hwz : hz (mkW h1 (hz h) (hz (nO h 20 3)) 1) = hz h1 + 1 := mkW_hz
    have hwu : hu (mkW h1 (hz h) (hz (nO h 20 3)) 1) = hu h1 + 3 := mkW_hu
    have hu0 : hu (nO h 20 3) = hu h + 3 := rfl
    have Q : Gst B G A t S b σ h M (hz h) (hz h1) (hz (nO h 20 3)) (i + 1) (i + 1) (M + 1) (us τ1 432 ((b + (i + 1) : Nat) : Int)) (mkW h1 (hz h) (hz (nO h 20 3)) 1) (-1) := by
      have hl : ll (mkW h1 (hz h) (hz (nO h 20 3)) 1) (hz h1) = [] := by rw [mkW_ll, if_pos rfl]
      have hlc : lc (mkW h1 (hz h) (hz (nO h 20 3)) 1) (hz h1) = 0 := by rw [mkW_lc, if_pos rfl]
      refine ⟨[], 0, hz (mkW h1 (hz h) (hz (nO h 20 3)) 1), by omega, e3.2.2.2.2.2.2, e3.1, ?_, ?_, .inl ⟨rfl, rfl, e3.2.2.1⟩, Nat.le_refl _, by omega, by omega, by omega, by omega, by omega, by omega, Nat.le_refl _, ht, ?_, mkW_74, mkW_66, mkW_71, w0, ?_, ?_, ?_, ?_, ?_, nd_trans e4 g2 (by omega), X2, ?_, Nat.le_refl _, by omega, ?_⟩
      · rw [show (i + 1 - 1) = i by omega]
        rw [show ga (us τ1 432 ((b + (i + 1) : Nat) : Int)) 542 M = ga τ1 542 M from rfl, e3.2.1, H.2.1]
      · rw [show ga (us τ1 432 ((b + (i + 1) : Nat) : Int)) 546 M = ga τ1 546 M from rfl, e3.2.2.1]
        rfl
      · rw [mkW_kd (by omega), if_neg (by omega)]; exact k1
      · rw [mkW_kd (by omega), if_pos rfl]
      · rw [hl]; simp
      · rw [hl, hlc]; simp
      · rw [hl]; intro y hy; simp at hy
      · rw [hl]; exact ⟨rfl, Nat.le_refl _⟩
      · rw [hl]; simp
      · rw [hl, hlc]; simp; omega
    rw [gd_pos (Cst_kd K0), c1]
    simp only [xc_v]
    rw [gd_pos k1, hY]
    simp only [Option.bind_some]
    rcases ground_loop hG R RF (m - (i + 1)) (i + 1) (M + 1) _ _ (-1) (Nat.le_refl _) g1 K2 hA2 (by omega) Q with ⟨j, M', τ, h', last', p1, p2, p3, p4, p5, p6, p7, p8⟩ | ⟨jf, M', τ, e, h', p1, p2, p3, p4, p5, p6, p7, p8, p9, p10, p11, p12⟩
    · rw [p2, p3]
      obtain ⟨ns, k, amid, q1, q2, q3, q4, q5, q6, q7, q8, q9, q10, q11, q12, q13, q14, q15, q16, q17, q18, q19, q20, q21, q22, q23, q24, q25, q26, q27, q28, q29, q30, q31⟩ := p7
      refine .inl ⟨j, M', τ, hz h, M, h', k + 1, by omega, p4.2.2.1, rfl, rfl, p4, q26, p5, q27, p6, ?_, q2, by omega, by omega, by omega, by omega⟩
      refine ⟨Nat.le_refl _, q1, Nat.le_refl _, by omega, q16, by rw [q17]; omega, by rw [q17]; omega, by rw [q17]; exact q21, .inr (.inl ⟨i, ns, amid, q3, ?_, c3, by rw [q18]; omega, by rw [q18]; omega, ?_, q19, rfl, by omega, by rw [q17]; omega, by omega, q5, ?_⟩)⟩
      · rw [q4, show i + 1 - 1 = i by omega]
      · rw [q18]; rw [show i + 1 - 1 = i by omega] at q20; exact q20
      · rw [q17]; exact q25
    · rw [p3, p4]
      exact .inr ⟨jf, M', τ, (M : Int), e, h', by omega, p2, rfl, rfl, p5, p6, p7, p8, by omega, by omega, by omega, by omega⟩
  · rw [if_neg c3, if_neg (by decide), if_neg (fun z => c3 (s3.mp (h3.mp z)))]
    rcases piece_rel hG R RF H K hA hM with ⟨j, M1, τ1, a, nT, h1, k1, q1, q2, q3, q4, q5, q6, q7, q8, q9, q10, qn, q11, q12, q13, q14⟩ | ⟨jf, M1, τ1, x, e, h1, q1, q2, q3, q4, q5, q6, q7, q8, q9, q10, q11, q12⟩
    · rw [q3, q4]
      exact .inl ⟨j, M1, τ1, a, nT, h1, k1, q1, q2, rfl, rfl, q5, q6, q7, q8, q9, WR_more q10, qn, q11, q12, q13, q14⟩
    · rw [q3, q4]
      exact .inr ⟨jf, M1, τ1, x, e, h1, q1, q2, rfl, rfl, q5, q6, q7, q8, q9, q10, q11, q12⟩
end LG2
