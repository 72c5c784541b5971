set_option maxRecDepth 100000
theorem Cst_gen {G : om_G} {h h' : om_H} {t : Nat} {S : List Int} {i : Nat} {n : Int} (H : Cst G h t S i n) (k1 : kd h' t = kd h t) (k2 : kd h' (fR h 1122 t) = kd h (fR h 1122 t)) (k3 : an h' (fR h 1122 t) = an h (fR h 1122 t)) (k4 : ∀ p, aI h' (fR h 1122 t) p = aI h (fR h 1122 t) p) (fi : ∀ f, fI h' f t = fI h f t) (fr_ : ∀ f, fR h' f t = fR h f t) (hh : hz h ≤ hz h') : Cst G h' t S i n := by
  obtain ⟨⟨⟨k, ⟨x1, x2, x3, x4, x5⟩, m⟩, a1, a2, a3, a4, a5, a6, a7, a8⟩, b1, b2, b3⟩ := H
  refine ⟨⟨⟨by rw [k1]; exact k, ⟨?_, ?_, x3, ?_, x5⟩, by rw [fi]; exact m⟩, by rw [fi]; exact a1, by rw [fr_]; exact a2, by rw [fi]; exact a3, by rw [fi]; exact a4, by rw [fi]; exact a5, by rw [fi]; exact a6, by rw [fi]; exact a7, by rw [fi]; exact a8⟩, by rw [fi]; exact b1, by omega, by rw [fr_]; omega⟩
  · rw [fr_, k2]; exact x1
  · rw [fr_, k3]; exact x2
  · intro p y e; rw [fr_, k4]; exact x4 p y e
/-- what comes of reading a type, in both -/
def RelT (B : Nat) (G : om_G) (A t : Nat) (N : List (List Int)) (S : List Int) (b m i : Nat) (n : Int) (M : Nat) (σ : tS) (h : om_H) (X : Option (Int × tS)) (Y : Option ((Nat ⊕ Nat) × om_H)) : Prop :=
  (∃ (j M' : Nat) (τ : tS) (a nT : Nat) (h' : om_H) (k : Nat), i < j ∧ j ≤ m ∧ X = some ((nT : Int), τ) ∧ Y = some (.inr a, h') ∧ Tst τ N S b m j n M' ∧ nd σ τ M ∧ Cst G h' t S j n ∧ hx t h h' ∧ fR h' 1122 t = A ∧ WR A S b h' τ B M M' (hz h) (hz h') a nT ∧ ga τ 562 nT = -1 ∧ M < M' ∧ M' ≤ M + (j - i) ∧ hz h' + 1 ≤ hz h + 8 * (j - i) ∧ hu h' + 30 ≤ hu h + 100 * (j - i)) ∨
  (∃ (jf M' : Nat) (τ : tS) (x : Int) (e : Nat) (h' : om_H), i ≤ jf ∧ jf ≤ m ∧ X = some (x, τ) ∧ Y = some (.inl e, h') ∧ Tfl τ N S b m (tokq S jf) n M' ∧ nd σ τ M ∧ hx t h h' ∧ flt h' e 1 (tokq S jf) ∧ M ≤ M' ∧ M' ≤ M + (jf - i) + 3 ∧ hz h' ≤ hz h + 8 * (jf - i) + 8 ∧ hu h' ≤ hu h + 100 * (jf - i) + 100)
section LP
variable {G : om_G} {A t : Nat} {N : List (List Int)} {S : List Int} {b m i : Nat} {n : Int} {M : Nat} {σ : tS} {h : om_H}
/-- a name or a great alone -/
theorem leaf_rel {B : Nat} (hG : om_okG G) (H : Tst σ N S b m i n M) (K : Cst G h t S i n) (hA : fR h 1122 t = A) (hM : M < 8400) {r : tS → Option (Int × tS)} {e : Nat} {g kk : Int} (he : tokk S i = (e : Int)) (hc : (e = 2 ∧ g = 0 ∧ kk = 0) ∨ (e = 3 ∧ g = 1 ∧ kk = 1)) :
    RelT (B + 1) G A t N S b m i n M σ h (T_piece_51 r kk σ) (gd (kd (nO h 20 3) t = 15) (xc (C_14_need G t (om_cA G e) (nO h 20 3)) (fun t h => some (.inl t, h)) (fun p4 h4 => gd (kd h4 (hz h) = 20) ((C_19_init G (hz h) p4 g h4).bind fun p5 => some (.inr (hz h), p5))))) := by
  have ht := K.2.2.1
  have hb := K.2.2.2
  have hi := H.2.2.1
  have hlt : i < m := by
    by_cases c : i = m
    · have := H.1.2.2.1
      rw [← c, he] at this
      omega
    · omega
  -- the twin
  obtain ⟨τ1, e1, e2, e3, e4, e5⟩ := t_node H hM kk (gs σ 432) (-1) (-1) (-1) (-1)
  obtain ⟨g1, g2⟩ := Tst_at e2 (by omega)
  have hT : T_piece_51 r kk σ = some ((M : Int), us τ1 432 ((b + (i + 1) : Nat) : Int)) := by
    unfold T_piece_51
    rw [e1]
    simp only [Option.bind_some]
    rw [e2.2.1, w32_s (by have := H.1.2.1; omega) (by have := H.1.2.1; omega)]
    rfl
  -- the component
  have K0 : Cst G (nO h 20 3) t S i n := Cst_sameT K (hx_nO h 20 3) ⟨fun f => by rw [fI_nO, if_neg (by omega)], fun f => by rw [fR_nO, if_neg (by omega)]⟩
  obtain ⟨h1, c1, c2, c3, c4, c5, c6, c7⟩ := (c_need hG K0 (e := e) (by omega)).1 he
  have z0 : hz (nO h 20 3) = hz h + 1 := rfl
  have r0 : fR (nO h 20 3) 1122 t = fR h 1122 t := by rw [fR_nO, if_neg (by omega)]
  have k1 : kd h1 (hz h) = 20 := by
    rw [c3.2.2.1 _ (by omega), kd_nO, if_pos rfl]
  have hY : C_19_init G (hz h) (hz (nO h 20 3)) g h1 = some (mkW h1 (hz h) (hz (nO h 20 3)) g) := c_Winit (by omega) k1 (by omega)
  have X1 : hx t h h1 := hx_trans (hx_nO h 20 3) c3
  have X2 : hx t h (mkW h1 (hz h) (hz (nO h 20 3)) g) := hx_mkW X1 (Nat.le_refl _)
  have K2 : Cst G (mkW h1 (hz h) (hz (nO h 20 3)) g) t S (i + 1) n := by
    have hb1 : fR h1 1122 t < hz h := by rw [c7, r0]; exact hb
    refine Cst_gen c2 ?_ ?_ rfl (fun _ => rfl) (fun f => mkW_fI (by omega) (by omega)) (fun f => mkW_fR (by omega) (by omega)) (by rw [mkW_hz]; omega)
    · rw [mkW_kd (by omega), if_neg (by omega)]
    · rw [mkW_kd (by omega), if_neg (by omega)]
  refine .inl ⟨i + 1, M + 1, _, hz h, M, mkW h1 (hz h) (hz (nO h 20 3)) g, 1, by omega, by omega, hT, ?_, g1, nd_trans e4 g2 (by omega), K2, X2, ?_, ?_, e3.2.2.2.2.2.2, by omega, by omega, ?_, ?_⟩
  · rw [gd_pos (Cst_kd K0), c1]
    simp only [xc_v]
    rw [gd_pos k1, hY]
    rfl
  · rw [mkW_fR (by omega) (by omega), c7, r0, hA]
  · have hn : ∀ f ∈ PA, ga (us τ1 432 ((b + (i + 1) : Nat) : Int)) f M = ga τ1 f M := fun _ _ => rfl
    have w0 : wd (mkW h1 (hz h) (hz (nO h 20 3)) g) A S (hz (nO h 20 3)) i := by
      obtain ⟨d1, d2, d3, d4⟩ := c4
      refine ⟨by rw [mkW_kd (by omega), if_neg (by omega)]; exact d1, by rw [mkW_fR (by omega) (by omega), d2, r0, hA], by rw [mkW_fI (by omega) (by omega)]; exact d3, by rw [mkW_fI (by omega) (by omega)]; exact d4⟩
    refine ⟨Nat.le_refl _, by omega, Nat.le_refl _, by rw [mkW_hz]; omega, by rw [mkW_kd (by omega), if_neg (by omega)]; exact k1, by rw [mkW_74]; omega, by rw [mkW_74, mkW_hz]; omega, by rw [mkW_74, mkW_kd (by omega), if_pos rfl], ?_⟩
    rw [mkW_74, mkW_66, mkW_71, mkW_ll, if_pos rfl]
    rcases hc with ⟨q1, q2, q3⟩ | ⟨q1, q2, q3⟩
    · refine .inl ⟨i, by rw [hn 538 (by simp), e3.1, q3], by rw [hn 542 (by simp), e3.2.1, H.2.1], by rw [he, q1]; rfl, by omega, by rw [mkW_hz]; omega, w0, q2, rfl, rfl, rfl⟩
    · refine .inr (.inl ⟨i, [], hz (mkW h1 (hz h) (hz (nO h 20 3)) g), by rw [hn 538 (by simp), e3.1, q3], by rw [hn 542 (by simp), e3.2.1, H.2.1], by rw [he, q1]; rfl, by omega, by rw [mkW_hz]; omega, w0, q2, rfl, by rw [mkW_hz]; omega, by rw [mkW_hz]; omega, by rw [mkW_hz]; omega, ?_, ?_⟩)
      · rw [hn 546 (by simp), e3.2.2.1]; rfl
      · exact ⟨rfl, Nat.le_refl _⟩
  · rw [mkW_hz]; omega
  · rw [mkW_hu, c6, hu_nO]; omega
end LP
