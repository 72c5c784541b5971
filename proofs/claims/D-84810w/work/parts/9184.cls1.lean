set_option maxRecDepth 100000
/-! an object of one's own is being filled: hx with this object in the Tokens object's place -/
def sameA (a : Nat) (h h' : om_H) : Prop := kd h' a = kd h a ∧ (∀ f, fI h' f a = fI h f a) ∧ (∀ f, fR h' f a = fR h f a) ∧ an h' a = an h a ∧ (∀ k, aR h' a k = aR h a k) ∧ ll h' a = ll h a ∧ lc h' a = lc h a
section LK1
variable {G : om_G} {A t : Nat} {N : List (List Int)} {S : List Int} {b m i : Nat} {n : Int} {M : Nat} {σ : tS} {h h' h1 : om_H} {c pr : Nat} {Z : Nat → Prop}
theorem hx_same (X : hx t h h') {a : Nat} (h1 : a < hz h) (h2 : a ≠ t) : sameA a h h' := ⟨X.2.2.1 a h1, fun f => X.2.2.2.1 f a h1 h2, fun f => X.2.2.2.2.1 f a h1 h2, X.2.2.2.2.2.1 a h1, fun k => X.2.2.2.2.2.2.2.1 a k h1, X.2.2.2.2.2.2.2.2.1 a h1, X.2.2.2.2.2.2.2.2.2 a h1⟩
theorem hxL_same {L : Nat} (X : hxL L h h') {a : Nat} (h1 : a < hz h) (h2 : a ≠ L) : sameA a h h' := ⟨X.2.2.1 a h1, fun f => X.2.2.2.1 f a h1, fun f => X.2.2.2.2.1 f a h1, X.2.2.2.2.2.1 a h1, fun k => X.2.2.2.2.2.2.2.1 a k h1, X.2.2.2.2.2.2.2.2.1 a h1 h2, X.2.2.2.2.2.2.2.2.2 a h1 h2⟩
theorem sameA_trans {a : Nat} (X : sameA a h h1) (Y : sameA a h1 h') : sameA a h h' := ⟨Y.1.trans X.1, fun f => (Y.2.1 f).trans (X.2.1 f), fun f => (Y.2.2.1 f).trans (X.2.2.1 f), Y.2.2.2.1.trans X.2.2.2.1, fun k => (Y.2.2.2.2.1 k).trans (X.2.2.2.2.1 k), Y.2.2.2.2.2.1.trans X.2.2.2.2.2.1, Y.2.2.2.2.2.2.trans X.2.2.2.2.2.2⟩
theorem At_hxO (H : At G A t N S b m i n M σ h) (X : hx c h h') (hc : c ≠ t) : At G A t N S b m i n M σ h' := by
  obtain ⟨c0, c1, c2, c3, c4, c5, c6, c7, c8, c9⟩ := X
  have h1 := At_t H
  have h2 := At_A H
  exact ⟨H.1, Cst_gen H.2.1 (c2 _ h1) (by rw [H.2.2]; exact c2 _ h2) (by rw [H.2.2]; exact c5 _ h2) (fun p => by rw [H.2.2]; exact c6 _ p h2) (fun f => c3 f _ h1 (Ne.symm hc)) (fun f => c4 f _ h1 (Ne.symm hc)) c0, by rw [c4 _ _ h1 (Ne.symm hc)]; exact H.2.2⟩
theorem hp_hxO (X : hp Z t h h1) (Y : hx c h1 h') (hc : hz h ≤ c) : hp Z t h h' := by
  obtain ⟨c0, c1, c2, c3, c4, c5, c6, c7, c8, c9⟩ := X
  obtain ⟨d0, d1, d2, d3, d4, d5, d6, d7, d8, d9⟩ := Y
  exact ⟨by omega, by omega, fun a q => by rw [d2 a (by omega)]; exact c2 a q, fun f a q r => by rw [d3 f a (by omega) (by omega)]; exact c3 f a q r, fun f a q r => by rw [d4 f a (by omega) (by omega)]; exact c4 f a q r, fun a q => by rw [d5 a (by omega)]; exact c5 a q, fun a i q => by rw [d6 a i (by omega)]; exact c6 a i q, fun a i q => by rw [d7 a i (by omega)]; exact c7 a i q, fun a q r => by rw [d8 a (by omega)]; exact c8 a q r, fun a q r => by rw [d9 a (by omega)]; exact c9 a q r⟩
theorem PL_hxO (P : PL G h pr t Z) (X : hx c h h') (hc : c ≠ pr) : PL G h' pr t Z ∧ lcs h' pr = lcs h pr := PL_keep P X.1 X.2.2.1 (fun f => X.2.2.2.2.1 f pr P.1.2.1 (Ne.symm hc)) (fun f hf => ⟨X.2.2.2.2.2.2.2.2.1 _ (P.2.1 f hf).1.1, X.2.2.2.2.2.2.2.2.2 _ (P.2.1 f hf).1.1⟩)
/-- a class that is just made -/
def clsO (h : om_H) (c w1 w2 Lm Ln ar ab fam : Nat) (pl nb : Int) : Prop := (kd h c = 18 ∧ fI h 1196 c = pl ∧ fI h 1200 c = nb ∧ fR h 1206 c = w1 ∧ fR h 1210 c = ab ∧ fR h 1214 c = fam) ∧ (fI h 1219 c = 0 ∧ fI h 1223 c = 0 ∧ fR h 1226 c = 0) ∧ (fR h 1230 c = Lm ∧ fR h 1234 c = Ln ∧ fR h 1238 c = ar) ∧ (kd h Ln = 42 ∧ ll h Ln = [w2]) ∧ (kd h ar = 58 ∧ an h ar = 4 ∧ ∀ k, aR h ar k = 0)
theorem clsO_keep {w1 w2 Lm Ln ar ab fam : Nat} {pl nb : Int} (O : clsO h c w1 w2 Lm Ln ar ab fam pl nb) (X : sameA c h h') (Y : sameA Ln h h') (W : sameA ar h h') : clsO h' c w1 w2 Lm Ln ar ab fam pl nb := by
  obtain ⟨x1, x2, x3, x4, x5, x6, x7⟩ := X
  obtain ⟨y1, y2, y3, y4, y5, y6, y7⟩ := Y
  obtain ⟨w1', w2', w3, w4, w5, w6, w7⟩ := W
  unfold clsO
  rw [x1, x2, x2, x2, x2, x3, x3, x3, x3, x3, x3, x3, y1, y6, w1', w4]
  exact ⟨O.1, O.2.1, O.2.2.1, O.2.2.2.1, O.2.2.2.2.1, O.2.2.2.2.2.1, fun k => by rw [w5]; exact O.2.2.2.2.2.2 k⟩
/-- it is made -/
theorem class_new {w1 w2 : Nat} {pl : Int} (hc : c < hz h) (hk : kd h c = 18) (zI : ∀ f, fI h f c = 0) (zR : ∀ f, fR h f c = 0) (o2 : objY G h w2) : ∃ h', C_17_init G c pl w1 w2 h = some h' ∧ hx c h h' ∧ clsO h' c w1 w2 (hz h) (hz h + 1) (hz h + 2) 0 0 pl 0 ∧ okV G h' (hz h) ∧ ll h' (hz h) = [] ∧ lc h' (hz h) = 0 ∧ hz h' ≤ hz h + 4 ∧ hz h + 3 ≤ hz h' ∧ hu h' = hu h + 20 := by
  obtain ⟨q1, q2⟩ := new_L G h
  have k3 : kd (mkL h 0 0 0) c = 18 := by rw [mkL_kd, if_neg (by omega)]; exact hk
  have X2 : hx c h (sR (mkL h 0 0 0) 1230 c (hz h)) := by
    have X := mkL_hx (g := h) (c := 0) (n := 0) (u := 0) c
    exact ⟨X.1, X.2.1, X.2.2.1, X.2.2.2.1, fun f a q r => by rw [fR_na r]; exact X.2.2.2.2.1 f a q r, X.2.2.2.2.2.1, X.2.2.2.2.2.2.1, X.2.2.2.2.2.2.2.1, X.2.2.2.2.2.2.2.2.1, X.2.2.2.2.2.2.2.2.2⟩
  have I2 : ∀ f, fI (sR (mkL h 0 0 0) 1230 c (hz h)) f c = 0 := fun f => by rw [fI_sR, mkL_fI hc]; exact zI f
  have R2 : fR (sR (mkL h 0 0 0) 1230 c (hz h)) 1230 c = hz h ∧ ∀ f, f ≠ 1230 → fR (sR (mkL h 0 0 0) 1230 c (hz h)) f c = 0 := ⟨fR_eq, fun f hf => by rw [fR_ne hf, mkL_fR hc]; exact zR f⟩
  have O2 : okV G (sR (mkL h 0 0 0) 1230 c (hz h)) (hz h) := okV_sR (mkL_ok (by omega))
  have l2 : ll (sR (mkL h 0 0 0) 1230 c (hz h)) (hz h) = [] := by show ll (mkL h 0 0 0) (hz h) = []; rw [mkL_ll, if_pos rfl]
  have c2 : lc (sR (mkL h 0 0 0) 1230 c (hz h)) (hz h) = 0 := by show lc (mkL h 0 0 0) (hz h) = 0; rw [mkL_lc, if_pos rfl]
  have z2 : hz (sR (mkL h 0 0 0) 1230 c (hz h)) = hz h + 1 := rfl
  have y2 : hu (sR (mkL h 0 0 0) 1230 c (hz h)) = hu h + 3 := rfl
  have e41 : kd (nO (mkL h 0 0 0) 41 3) (hz (sR (mkL h 0 0 0) 1230 c (hz h))) = 41 := by show kd (nO (mkL h 0 0 0) 41 3) (hz (mkL h 0 0 0)) = 41; rw [kd_nO, if_pos rfl]
  unfold C_17_init
  rw [gd_pos ⟨hk, q1⟩, q2]
  simp only [Option.bind_some]
  rw [gd_pos ⟨k3, e41⟩]
  have k2 : kd (sR (mkL h 0 0 0) 1230 c (hz h)) c = 18 := k3
  generalize sR (mkL h 0 0 0) 1230 c (hz h) = h2 at *
  clear q1 q2 e41 k3
  obtain ⟨q3, q4⟩ := new_L G h2
  rw [q4]
  simp only [Option.bind_some]
  have X3 : hx c h2 (sR (mkL h2 0 0 0) 1234 c (hz h2)) := by
    have X := mkL_hx (g := h2) (c := 0) (n := 0) (u := 0) c
    exact ⟨X.1, X.2.1, X.2.2.1, X.2.2.2.1, fun f a q r => by rw [fR_na r]; exact X.2.2.2.2.1 f a q r, X.2.2.2.2.2.1, X.2.2.2.2.2.2.1, X.2.2.2.2.2.2.2.1, X.2.2.2.2.2.2.2.2.1, X.2.2.2.2.2.2.2.2.2⟩
  have k3 : kd (mkL h2 0 0 0) c = 18 := by rw [mkL_kd, if_neg (by omega)]; exact k2
  have I3 : ∀ f, fI (sR (mkL h2 0 0 0) 1234 c (hz h2)) f c = 0 := fun f => by rw [fI_sR, mkL_fI (by omega)]; exact I2 f
  have R3 : fR (sR (mkL h2 0 0 0) 1234 c (hz h2)) 1234 c = hz h + 1 ∧ fR (sR (mkL h2 0 0 0) 1234 c (hz h2)) 1230 c = hz h ∧ ∀ f, f ≠ 1230 → f ≠ 1234 → fR (sR (mkL h2 0 0 0) 1234 c (hz h2)) f c = 0 := ⟨by rw [fR_eq]; exact z2, by rw [fR_ne (by decide), mkL_fR (by omega)]; exact R2.1, fun f hf hg => by rw [fR_ne hg, mkL_fR (by omega)]; exact R2.2 f hf⟩
  have O3 : okV G (sR (mkL h2 0 0 0) 1234 c (hz h2)) (hz h + 1) := by rw [← z2]; exact okV_sR (mkL_ok (by omega))
  have l3 : ll (sR (mkL h2 0 0 0) 1234 c (hz h2)) (hz h + 1) = [] := by show ll (mkL h2 0 0 0) (hz h + 1) = []; rw [mkL_ll, if_pos z2.symm]
  have c3 : lc (sR (mkL h2 0 0 0) 1234 c (hz h2)) (hz h + 1) = 0 := by show lc (mkL h2 0 0 0) (hz h + 1) = 0; rw [mkL_lc, if_pos z2.symm]
  have z3 : hz (sR (mkL h2 0 0 0) 1234 c (hz h2)) = hz h + 2 := by show hz h2 + 1 + 0 = _; omega
  have y3 : hu (sR (mkL h2 0 0 0) 1234 c (hz h2)) = hu h + 6 := by show hu h2 + 3 + 0 = _; omega
  have k3' : kd (sR (mkL h2 0 0 0) 1234 c (hz h2)) c = 18 := k3
  have eA : kd (nA (mkL h2 0 0 0) 58 4) c = 18 := by rw [kd_nA, if_neg (by rw [mkL_hz]; omega)]; exact k3
  have eB : ∀ x, kd (nA (mkL h2 0 0 0) 58 4) x = kd (nA (sR (mkL h2 0 0 0) 1234 c (hz h2)) 58 4) x := fun _ => rfl
  rw [gd_pos]
  rotate_left
  · refine ⟨k3, eA, ?_⟩
    rw [eB]
    generalize sR (mkL h2 0 0 0) 1234 c (hz h2) = h3 at *
    have e1 : fR (sR (sI (sR (nA h3 58 4) 1238 c (hz h3)) 1196 c pl) 1206 c w1) 1234 c = hz h + 1 := by
      rw [fR_ne (by decide), fR_sI, fR_ne (by decide), fR_nA]; exact R3.1
    rw [e1, kd_nA, if_neg (by omega)]
    exact O3.2.1
  have X3' := hx_trans X2 X3
  have P3 := okV_hx O2 X3
  have lP3 : ll (sR (mkL h2 0 0 0) 1234 c (hz h2)) (hz h) = [] := by rw [X3.2.2.2.2.2.2.2.2.1 _ (by omega)]; exact l2
  have cP3 : lc (sR (mkL h2 0 0 0) 1234 c (hz h2)) (hz h) = 0 := by rw [X3.2.2.2.2.2.2.2.2.2 _ (by omega)]; exact c2
  generalize sR (mkL h2 0 0 0) 1234 c (hz h2) = h3 at *
  clear eA eB q3 q4 X3 k3 k2 z2 y2
  have e1 : fR (sR (sI (sR (nA h3 58 4) 1238 c (hz h3)) 1196 c pl) 1206 c w1) 1234 c = hz h + 1 := by
    rw [fR_ne (by decide), fR_sI, fR_ne (by decide), fR_nA]; exact R3.1
  rw [e1]
  have XA : hx c h3 (sR (sI (sR (nA h3 58 4) 1238 c (hz h3)) 1196 c pl) 1206 c w1) := by
    refine ⟨Nat.le_succ _, Nat.le_add_right _ _, fun a q => ?_, fun f a q r => ?_, fun f a q r => ?_, fun a q => ?_, fun a k q => ?_, fun a k q => ?_, fun _ _ => rfl, fun _ _ => rfl⟩
    · show kd (nA h3 58 4) a = _; rw [kd_nA, if_neg (by omega)]
    · rw [fI_sR, fI_na r]; rfl
    · rw [fR_na r, fR_sI, fR_na r]; rfl
    · show an (nA h3 58 4) a = _; rw [an_nA, if_neg (by omega)]
    · show aI (nA h3 58 4) a k = _; rw [aI_nA, if_neg (by omega)]
    · show aR (nA h3 58 4) a k = _; rw [aR_nA, if_neg (by omega)]
  have zA : hz (sR (sI (sR (nA h3 58 4) 1238 c (hz h3)) 1196 c pl) 1206 c w1) = hz h + 3 := by show hz h3 + 1 = _; omega
  have yA : hu (sR (sI (sR (nA h3 58 4) 1238 c (hz h3)) 1196 c pl) 1206 c w1) = hu h + 10 := by show hu h3 + 4 = _; omega
  have IA : fI (sR (sI (sR (nA h3 58 4) 1238 c (hz h3)) 1196 c pl) 1206 c w1) 1196 c = pl ∧ ∀ f, f ≠ 1196 → fI (sR (sI (sR (nA h3 58 4) 1238 c (hz h3)) 1196 c pl) 1206 c w1) f c = 0 := ⟨by rw [fI_sR, fI_eq], fun f hf => by rw [fI_sR, fI_ne hf]; exact I3 f⟩
  have RA : fR (sR (sI (sR (nA h3 58 4) 1238 c (hz h3)) 1196 c pl) 1206 c w1) 1206 c = w1 ∧ fR (sR (sI (sR (nA h3 58 4) 1238 c (hz h3)) 1196 c pl) 1206 c w1) 1238 c = hz h + 2 ∧ ∀ f, f ≠ 1206 → f ≠ 1238 → fR (sR (sI (sR (nA h3 58 4) 1238 c (hz h3)) 1196 c pl) 1206 c w1) f c = fR h3 f c := ⟨fR_eq, by rw [fR_ne (by decide), fR_sI, fR_eq]; exact z3, fun f hf hg => by rw [fR_ne hf, fR_sI, fR_ne hg]; rfl⟩
  have arA : kd (sR (sI (sR (nA h3 58 4) 1238 c (hz h3)) 1196 c pl) 1206 c w1) (hz h + 2) = 58 ∧ an (sR (sI (sR (nA h3 58 4) 1238 c (hz h3)) 1196 c pl) 1206 c w1) (hz h + 2) = 4 ∧ ∀ k, aR (sR (sI (sR (nA h3 58 4) 1238 c (hz h3)) 1196 c pl) 1206 c w1) (hz h + 2) k = 0 := by
    rw [← z3]
    refine ⟨?_, ?_, fun k => ?_⟩
    · show kd (nA h3 58 4) (hz h3) = _; rw [kd_nA, if_pos rfl]
    · show an (nA h3 58 4) (hz h3) = _; rw [an_nA, if_pos rfl]
    · show aR (nA h3 58 4) (hz h3) k = _; rw [aR_nA, if_pos rfl]
  generalize sR (sI (sR (nA h3 58 4) 1238 c (hz h3)) 1196 c pl) 1206 c w1 = h4 at *
  have X4 := hx_trans X3' XA
  have O4 : okV G h4 (hz h + 1) := okV_hx O3 XA
  have l4 : ll h4 (hz h + 1) = [] := by rw [XA.2.2.2.2.2.2.2.2.1 _ (by omega)]; exact l3
  have c4 : lc h4 (hz h + 1) = 0 := by rw [XA.2.2.2.2.2.2.2.2.2 _ (by omega)]; exact c3
  have P4 := okV_hx P3 XA
  have lP4 : ll h4 (hz h) = [] := by rw [XA.2.2.2.2.2.2.2.2.1 _ (by omega)]; exact lP3
  have cP4 : lc h4 (hz h) = 0 := by rw [XA.2.2.2.2.2.2.2.2.2 _ (by omega)]; exact cP3
  obtain ⟨a1, a2, a3, a4, a5, a6⟩ := v_add (x := w2) O4 (objY_mono X4.1 X4.2.2.1 o2) (by rw [l4]; simp)
  have hC : hu (addL h4 (hz h + 1) w2) = hu h4 + 10 := by
    unfold addL
    rw [l4, c4]
    simp only [List.length_nil, Nat.lt_irrefl, if_false, if_true]
    rfl
  rw [a1]
  generalize addL h4 (hz h + 1) w2 = h5 at *
  have a21 := a2.1
  have k5 : ∀ x, x < hz h + 3 → kd h5 x = kd h4 x := fun x q => a2.2.2.1 x (by omega)
  have r5 : ∀ f x, x < hz h + 3 → fR h5 f x = fR h4 f x := fun f x q => a2.2.2.2.2.1 f x (by omega)
  have i5 : ∀ f x, x < hz h + 3 → fI h5 f x = fI h4 f x := fun f x q => a2.2.2.2.1 f x (by omega)
  refine ⟨h5, rfl, hxL_hx X4 a2 (by omega), ⟨⟨?_, ?_, ?_, ?_, ?_, ?_⟩, ⟨?_, ?_, ?_⟩, ⟨?_, ?_, ?_⟩, ⟨a3.2.1, by rw [a4, l4]; rfl⟩, ⟨?_, ?_, fun k => ?_⟩⟩, okV_hxL P4 (by omega) a2, ?_, ?_, by omega, by omega, by omega⟩
  · rw [k5 c (by omega), X4.2.2.1 c hc]; exact hk
  · rw [i5 _ c (by omega)]; exact IA.1
  · rw [i5 _ c (by omega)]; exact IA.2 _ (by decide)
  · rw [r5 _ c (by omega)]; exact RA.1
  · rw [r5 _ c (by omega), RA.2.2 _ (by decide) (by decide)]; exact R3.2.2 _ (by decide) (by decide)
  · rw [r5 _ c (by omega), RA.2.2 _ (by decide) (by decide)]; exact R3.2.2 _ (by decide) (by decide)
  · rw [i5 _ c (by omega)]; exact IA.2 _ (by decide)
  · rw [i5 _ c (by omega)]; exact IA.2 _ (by decide)
  · rw [r5 _ c (by omega), RA.2.2 _ (by decide) (by decide)]; exact R3.2.2 _ (by decide) (by decide)
  · rw [r5 _ c (by omega), RA.2.2 _ (by decide) (by decide)]; exact R3.2.1
  · rw [r5 _ c (by omega), RA.2.2 _ (by decide) (by decide)]; exact R3.1
  · rw [r5 _ c (by omega)]; exact RA.2.1
  · rw [k5 _ (by omega)]; exact arA.1
  · rw [a2.2.2.2.2.2.1 _ (by omega)]; exact arA.2.1
  · rw [a2.2.2.2.2.2.2.2.1 _ _ (by omega)]; exact arA.2.2 k
  · rw [a2.2.2.2.2.2.2.2.2.1 _ (by omega) (by omega)]; exact lP4
  · rw [a2.2.2.2.2.2.2.2.2.2 _ (by omega) (by omega)]; exact cP4
end LK1
