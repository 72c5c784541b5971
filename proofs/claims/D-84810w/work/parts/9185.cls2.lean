set_option maxRecDepth 100000
section LK2
variable {G : om_G} {A t : Nat} {N : List (List Int)} {S : List Int} {b m i : Nat} {n : Int} {M : Nat} {σ τ : tS} {h h' h1 h2 : om_H} {c pr : Nat} {Z : Nat → Prop}
variable {σ0 : tS} {M0 d0 : Nat} {h0 : om_H} {HZ HU : Nat}
theorem hp_same (X : hp Z t h h') {a : Nat} (h1 : a < hz h) (h2 : a ≠ t) (h3 : ¬ Z a) : sameA a h h' := ⟨X.2.2.1 a h1, fun f => X.2.2.2.1 f a h1 h2, fun f => X.2.2.2.2.1 f a h1 h2, X.2.2.2.2.2.1 a h1, fun k => X.2.2.2.2.2.2.2.1 a k h1, X.2.2.2.2.2.2.2.2.1 a h1 h3, X.2.2.2.2.2.2.2.2.2 a h1 h3⟩
theorem hp_hk (X : hp Z t h h') {alo ahi : Nat} (h1 : ahi ≤ hz h) (h2 : t < alo) (h3 : ∀ a, alo ≤ a → ¬ Z a) : hk alo ahi h h' := fun a d e => by
  obtain ⟨s1, s2, s3, s4, s5, s6, s7⟩ := hp_same X (a := a) (by omega) (by omega) (h3 a d)
  exact ⟨s1, s2, s3, s6, s7⟩
theorem hp_mono {Z' : Nat → Prop} (X : hp Z t h h') (hZ : ∀ a, Z a → Z' a) : hp Z' t h h' := by
  obtain ⟨c0, c1, c2, c3, c4, c5, c6, c7, c8, c9⟩ := X
  exact ⟨c0, c1, c2, c3, c4, c5, c6, c7, fun a q r => c8 a q (fun z => r (hZ a z)), fun a q r => c9 a q (fun z => r (hZ a z))⟩
theorem hp_refl (Z : Nat → Prop) (t : Nat) (h : om_H) : hp Z t h h := hx_hp (hx_refl t h)
/-- where we are, a list of one's own being filled -/
def DSL (G : om_G) (t m : Nat) (Z : Nat → Prop) (pr : Nat) (σ0 : tS) (M0 d0 : Nat) (h0 : om_H) (HZ HU L : Nat) (sz su sM i M : Nat) (σ : tS) (h : om_H) : Prop := ndD σ0 σ M0 d0 ∧ M0 ≤ M ∧ hp Z t h0 h ∧ PL G h pr t Z ∧ hz h + 20 * (m - i) + sz ≤ HZ ∧ hu h + 300 * (m - i) + su + 8 * (ll h L).length + 40 ≤ HU + 4 * lcs h pr + 4 * lc h L ∧ M + 2 * (m - i) + sM ≤ 2700
theorem DSL_DS {L sz su sM : Nat} (O : okV G h L) (Q : DSL G t m Z pr σ0 M0 d0 h0 HZ HU L sz su sM i M σ h) : DS G t m Z pr σ0 M0 d0 h0 HZ HU sz su sM i M σ h := by
  obtain ⟨q1, q2, q3, q4, q5, q6, q7⟩ := Q
  have := O.2.2.2.1
  exact ⟨q1, q2, q3, q4, q5, by omega, q7⟩
/-- the loop over a class's methods -/
noncomputable def TCl (d : Int) (x : Int × tS) : Option tS := (om_loop (T_aClass_76s d) x).bind fun y1 => T_aClass_164 y1
noncomputable def CCl (G : om_G) (pr t c : Nat) (x : om_H) : Option ((Nat ⊕ Unit) × om_H) := (om_loop (C_1_readClass_144s G pr t c) x).bind (Sum.elim (fun v3 => gd (kd v3 t = 15) (xc (C_14_need_2 G t 125 v3) (fun t h => some (.inl t, h)) (fun p4 h4 => some (.inr (), h4)))) (fun v4 => some v4))
theorem TCl_F {p : Int} (H : Tfl σ N S b m p n M) (D : ndD σ0 σ M0 d0) (l1 last : Int) : TFv N S b m n σ0 M0 d0 p (TCl l1 (last, σ)) := by
  unfold TCl
  rw [om_loop_eq]
  unfold T_aClass_76s
  rw [if_pos (show gs σ 452 ≠ 0 by rw [H.2.2.2.1]; decide)]
  show TFv N S b m n σ0 M0 d0 p (T_aClass_164 σ)
  unfold T_aClass_164
  exact Fd_need H (Fv_end H D)
theorem TCl_end (H : Tst σ N S b m i n M) (c : tokk S i ≠ 2) (l1 last : Int) : TCl l1 (last, σ) = (T_need 125 σ).bind fun p1 => some p1 := by
  unfold TCl
  rw [om_loop_eq]
  unfold T_aClass_76s
  simp only
  rw [if_neg (by rw [H.2.2.2.2.1]; decide), t_is H, if_neg c]
  simp only [Option.bind_some]
  rw [if_pos trivial]
  rfl
theorem TCl_in (H : Tst σ N S b m i n M) (c : tokk S i = 2) (l1 last : Int) : TCl l1 (last, σ) = (T_need 58 (us σ 432 ((b + (i + 1) : Nat) : Int))).bind fun p2 => (T_readType p2).bind fun p3 => (T_node 20 ((b + i : Nat) : Int) p3.1 (-1) (-1) (-1) p3.2).bind fun p4 => (T_need 59 p4.2).bind fun p5 => (if last ≠ (-1) then if 0 ≤ last ∧ last < 8400 then some (ua p5 562 last.toNat p4.1) else none else if 0 ≤ l1 ∧ l1 < 700 then some (ua p5 602 l1.toNat p4.1) else none).bind fun s => TCl l1 (p4.1, s) := by
  have h4 := H.1.2.1
  have hi := H.2.2.1
  unfold TCl
  rw [om_loop_eq]
  unfold T_aClass_76s
  simp only
  rw [if_neg (by rw [H.2.2.2.2.1]; decide), t_is H, if_pos c]
  simp only [Option.bind_some]
  rw [if_neg (by decide), H.2.1, w32_s (by omega) (by omega), show ((b + i : Nat) : Int) + 1 = ((b + (i + 1) : Nat) : Int) by omega]
  simp only [Option.bind_assoc]
  congr 1; funext p2
  congr 1; funext p3
  congr 1; funext p4
  congr 1; funext p5
  by_cases q1 : last ≠ -1
  · rw [if_pos q1, if_pos q1]
    by_cases q2 : 0 ≤ last ∧ last < 8400
    · rw [if_pos q2, if_pos q2]; rfl
    · rw [if_neg q2, if_neg q2]; rfl
  · rw [if_neg q1, if_neg q1]
    by_cases q2 : 0 ≤ l1 ∧ l1 < 700
    · rw [if_pos q2, if_pos q2]; rfl
    · rw [if_neg q2, if_neg q2]; rfl
theorem CCl_end (hG : om_okG G) (H : Cst G h t S i n) (c2 : tokk S i ≠ 2) : CCl G pr t c h = gd (kd h t = 15) (xc (C_14_need_2 G t 125 h) (fun t h => some (.inl t, h)) (fun p4 h4 => some (.inr (), h4))) := by
  have h2 := Cst_kind hG H (e := 2) (by decide)
  have s2 := kE_s (tokk_r S i).1 (e := 2) (by decide)
  unfold CCl
  rw [om_loop_eq]
  unfold C_1_readClass_144s
  rw [gd_pos (Cst_kd H), if_pos (fun z => c2 (s2.mp (h2.mp z)))]
  rfl
theorem CCl_in (hG : om_okG G) (H : Cst G h t S i n) (c2 : tokk S i = 2) : CCl G pr t c h = xc (C_14_need G t (om_cA G 2) h) (fun t h => some (.inl t, h)) (fun p1 h1 => gd (kd h1 t = 15) (xc (C_14_need_2 G t 58 h1) (fun t h => some (.inl t, h)) (fun p2 h2 => xc (C_0_readType G t (nO h2 19 6)) (fun t h => some (.inl t, h)) (fun p3 h3 => gd (kd h3 (hz h2) = 19) ((C_18_init G (hz h2) p1 p3 h3).bind fun p4 => gd (kd p4 (hz h2) = 19 ∧ kd p4 c = 18 ∧ kd p4 (fR p4 1230 c) = 42) ((P_J2_size G (fR p4 1230 c) (sR p4 1250 (hz h2) c)).bind fun p5 => gd (kd (sR p4 1250 (hz h2) c) (hz h2) = 19 ∧ kd (sR p4 1250 (hz h2) c) c = 18 ∧ kd (sR p4 1250 (hz h2) c) (fR (sR p4 1250 (hz h2) c) 1230 c) = 42) ((P_J2_add G (fR (sR p4 1250 (hz h2) c) 1230 c) (hz h2) (sI (sR p4 1250 (hz h2) c) 1252 (hz h2) p5)).bind fun p6 => gd (kd p6.2 pr = 2 ∧ kd p6.2 (fR p6.2 98 pr) = 42) ((P_J2_add G (fR p6.2 98 pr) p1 p6.2).bind fun p7 => gd (kd p7.2 pr = 2 ∧ kd p7.2 (fR p7.2 106 pr) = 42) ((P_J2_add G (fR p7.2 106 pr) 0 p7.2).bind fun p8 => gd (kd p8.2 pr = 2 ∧ kd p8.2 (fR p8.2 110 pr) = 42) ((P_J2_add G (fR p8.2 110 pr) (hz h2) p8.2).bind fun p9 => gd (kd p9.2 t = 15) (xc (C_14_need_2 G t 59 p9.2) (fun t h => some (.inl t, h)) (fun p10 h10 => CCl G pr t c h10)))))))))))) := by
  have h2 := Cst_kind hG H (e := 2) (by decide)
  have s2 := kE_s (tokk_r S i).1 (e := 2) (by decide)
  unfold CCl
  rw [om_loop_eq]
  unfold C_1_readClass_144s C_1_readClass_201
  rw [gd_pos (Cst_kd H), if_neg (fun z => z (h2.mpr (s2.mpr c2))), gd_pos (Cst_kd H)]
  simp only [xc_bind, gd_bind, Option.bind_assoc, Option.bind_some, Sum.elim_inl, Sum.elim_inr]
end LK2
