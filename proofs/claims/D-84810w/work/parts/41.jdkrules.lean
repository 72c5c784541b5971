set_option maxRecDepth 100000
/-! RULES for the JDK's own methods -/
theorem om_castO : ∀ (kc : Nat) (r : vw_C), om_cl[kc]? = some r → Cond.castable r.1 "java/lang/Object" ∈ lw_tbl
  | 0, r, hc => by cases hc; exact q4472
  | 1, r, hc => by cases hc; exact q4462
  | 2, r, hc => by cases hc; exact q4473
  | 3, r, hc => by cases hc; exact q4464
  | 4, r, hc => by cases hc; exact q4475
  | 5, r, hc => by cases hc; exact q4476
  | 6, r, hc => by cases hc; exact q4477
  | 7, r, hc => by cases hc; exact q4478
  | 8, r, hc => by cases hc; exact q4479
  | 9, r, hc => by cases hc; exact q4480
  | 10, r, hc => by cases hc; exact q4481
  | 11, r, hc => by cases hc; exact q4465
  | 12, r, hc => by cases hc; exact q4482
  | 13, r, hc => by cases hc; exact q4483
  | 14, r, hc => by cases hc; exact q4484
  | 15, r, hc => by cases hc; exact q4485
  | 16, r, hc => by cases hc; exact q4486
  | 17, r, hc => by cases hc; exact q4487
  | 18, r, hc => by cases hc; exact q4488
  | 19, r, hc => by cases hc; exact q4489
  | 20, r, hc => by cases hc; exact q4467
  | 21, r, hc => by cases hc; exact q4490
  | 22, r, hc => by cases hc; exact q4468
  | 23, r, hc => by cases hc; exact q4491
  | 24, r, hc => by cases hc; exact q4492
  | 25, r, hc => by cases hc; exact q4493
  | 26, r, hc => by cases hc; exact q4494
  | 27, r, hc => by cases hc; exact q4495
  | 28, r, hc => by cases hc; exact q4496
  | 29, r, hc => by cases hc; exact q4497
  | 30, r, hc => by cases hc; exact q4498
  | 31, r, hc => by cases hc; exact q4499
  | 32, r, hc => by cases hc; exact q4501
  | 33, r, hc => by cases hc; exact q4463
  | 34, r, hc => by cases hc; exact q4502
  | 35, r, hc => by cases hc; exact q4466
  | 36, r, hc => by cases hc; exact q4503
  | 37, r, hc => by cases hc; exact q4504
  | 38, r, hc => by cases hc; exact q4505
  | 39, r, hc => by cases hc; exact q4506
  | 40, r, hc => by cases hc; exact q4474
  | n + 41, r, hc => by cases hc
section OM41
variable {G : om_G} {d : Nat} {M : om_M} {pc : Nat} {ls : List (Option om_V)} {st : List om_V} {h h' : om_H} {Q : om_O → Prop}
/-- what may stand in a list: null, an object, an Integer of the cache -/
def om_obj (G : om_G) (h : om_H) (x : Nat) : Prop := x = 0 ∨ (∃ (kc : Nat) (r : vw_C), om_cl[kc]? = some r ∧ kd h x = kc + 1) ∨ ∃ j, j < 256 ∧ x = om_cA G (300 + j)
theorem om_keep {H : Heap} (hR : om_R G h H) : ∀ a, a < (om_H0 G).size → ¬ om_Aa G a → H[a]? = (om_H0 G)[a]? := fun a ha _ => hR.2.2.2.1 a ha
theorem ok_aastO {a x : Nat} {i : Int} (hG : om_okG G) (hd : decode M.2.1 pc = .ok (.aastore, 1)) (ha : kd h a = 61) (hx : om_obj G h x) (h0 : 0 ≤ i) (h1 : i < an h a) (k : OK G d M (pc + 1) ls st (pR h a i.toNat x) Q) : OK G d M pc ls (vR x :: vI i :: vR a :: st) h Q := by
  refine ok_step (h' := pR h a i.toNat x) ?_ (Nat.le_refl _) (Nat.le_refl _) k (fun p l e R s m args below meth c H locs la u0 Q' V C _ _ kk => ?_)
  · exact fun V => ⟨V.1, om_t1 (om_t1 (om_t1 V.2.1)), V.2.2⟩
  · obtain ⟨X, -, -, -, hR, hlo, hL⟩ := C
    have hS := X.2.2.2.2.2.2.2.2
    have hat : om_at (kd h a) = some (.object "java/lang/Object") := by rw [ha]; rfl
    refine om_sto (h' := pR h a i.toNat x) (w := om_rv G x) X hR hlo hat rfl (om_h1 (om_t1 V.2.1)) h0 h1 (fun _ => rfl) (fun _ _ => rfl) (fun _ => rfl) (fun k b j c => om_ev_pR c) ?_ (fun _ => rfl) (fun _ => rfl) rfl (fun H' locs' z1 z2 => kk H' locs' la z1 z2 hL) (fun cell g1 g2 g3 g4 g5 g6 => ?_)
    · rw [om_ev_ref (by omega) (by omega), aR_pR, if_pos ⟨rfl, rfl⟩]
    · show W p l e R s m args below meth c H locs _ _ Q' (F0 m pc la (om_rv G x :: _))
      obtain ⟨kA, comp, w1, w2, w3, w4⟩ := (hS.2.2.2.1 _ _ hat).2
      obtain ⟨kE, hkE, -⟩ := Vm.findClass_spec w3
      -- an object that is there, of a class that can be cast
      have go : ∀ (y : Nat) (cv : Cell) (C : String), x ≠ 0 → om_ra G x = y → H[y]? = some cv → cv.vm.isStatics = false → s.vm.findClass C = some cv.cls → Cond.castable C "java/lang/Object" ∈ lw_tbl → W p l e R s m args below meth c H locs (hz h - s.heap.size) (hu h - u0) Q' (F0 m pc la (om_rv G x :: .int (Int32.ofInt i) :: .ref a :: st.map (om_tv G))) := by
        intro y cv C x0 hy v1 v2 v3 hca
        obtain ⟨c0, t1, f1, f2, f3⟩ := Cond.castable_spec (va_Nw.use (A := args) rfl (hS.2.1 _ hca rfl))
        cases v3.symm.trans f1
        cases w3.symm.trans f2
        obtain ⟨kC, hkC, -⟩ := Vm.findClass_spec v3
        rw [om_rv_ne x0, hy] at g6 ⊢
        exact W.aast X.1 X.2.1 g1 (fun q hq => by rw [g4] at hq; cases hq) (by rw [g4]; exact fun h => by cases h) (by rw [g3]; exact w1) w2 rfl hkE ⟨fun q => g5 (Or.inl q), Nat.lt_of_not_le (fun q => g5 (Or.inr q))⟩ v1 (fun q hq => by rw [hq] at v2; cases v2) hkC f3 rfl rfl hd g6
      rcases hx with rfl | ⟨kc, r, hc, hx⟩ | ⟨j, hj, hx⟩
      · exact va_WaastN X.1 X.2.1 g1 g2 (by rw [g4]; exact fun h => by cases h) g5 rfl rfl hd g6
      · have hxb := hR.2.2.2.2.1 x (by omega)
        obtain ⟨cv, v1, v2, v3, v4⟩ := hR.2.2.2.2.2.1 kc r x hc hx
        obtain ⟨hSl, hfc, kC, hkC, hkind⟩ := hS.2.2.1 kc r hc
        exact go x cv r.1 (by have := hR.2.2.1; omega) (om_ra_f hR.2.2.1 hxb) v1 (by rw [v3]; rfl) (by rw [v2]; exact hfc) (om_castO kc r hc)
      · obtain ⟨cv, v1, v2, v3, v4⟩ := (hG.1 s hS.2.2.2.2.1).2.2.2.2.1.2.2.2.1 j hj
        subst hx
        exact go _ cv "java/lang/Integer" (om_cA_0 hG (by omega)) rfl (by rw [hR.2.2.2.1 _ (hG.2.2.1 (300 + j) (by omega)).2]; exact v1) v2 v3 q4500
/-- a field of a constant -/
theorem ok_getC {C n dd : String} {w : om_V} {index a : Nat} (hd : decode M.2.1 pc = .ok (.getfield index, 3)) (hl : Cond.fieldLink M.1.cls index C n dd ∈ lw_all) (a0 : a ≠ 0) (F : ∀ s, om_K G s → va_OF C n dd (om_tv G w) (om_ra G a) (om_Aa G) s (om_H0 G)) (hw : om_okV w) (k : OK G d M (pc + 3) ls (w :: st) h Q) : OK G d M pc ls (vR a :: st) h Q := by
  refine ok_st (fun V => om_c1 hw (om_t1 V.2.1)) k (fun p l e R s m args below meth c H locs la cells slots Q' X L hR V kk => ?_)
  have hS := X.2.2.2.2.2.2.2.2
  obtain ⟨cf, k, fi, f, cell, h1, h2, h3, h4, h5, h6⟩ := (F s hS.2.2.2.2.1).kept (om_keep hR)
  show W p l e R s m args below meth c H locs cells slots Q' (F0 m pc la (om_rv G a :: st.map (om_tv G)))
  rw [om_rv_ne a0]
  exact W.getf X.1 X.2.1 X.2.2.2.2.2.1 (hS.1 _ hl args) h1 h2 h3 h4 (v := om_tv G w) h5 rfl rfl hd kk
/-- arrays of the start: length, elements -/
theorem ok_alenC {a N : Nat} {ty : FieldType} {f : Nat → Value} (hd : decode M.2.1 pc = .ok (.arraylength, 1)) (a0 : a ≠ 0) (T : ∀ s, om_K G s → va_T ty (om_ra G a) N f (om_Aa G) s (om_H0 G)) (hN : N ≤ 2147483647) (k : OK G d M (pc + 1) ls (vI N :: st) h Q) : OK G d M pc ls (vR a :: st) h Q := by
  refine ok_st (fun V => om_c1 (a := vI N) (show iR (N : Int) from by unfold iR; omega) (om_t1 V.2.1)) k (fun p l e R s m args below meth c H locs la cells slots Q' X L hR V kk => ?_)
  have hS := X.2.2.2.2.2.2.2.2
  obtain ⟨cell, h1, h2, h3, h4, h5, h6, h7⟩ := (T s hS.2.2.2.2.1).kept (om_keep hR)
  show W p l e R s m args below meth c H locs cells slots Q' (F0 m pc la (om_rv G a :: st.map (om_tv G)))
  rw [om_rv_ne a0]
  exact W.alen (n := Int32.ofNat N) X.1 X.2.1 h1 h2 h5 rfl rfl hd kk
theorem om_ldC {N : Nat} {i : Int} (hi : iR i) (h0 : 0 ≤ i) (h1 : i < N) {cell : Cell} (h4 : N ≤ cell.slots.size) {f : Nat → Value} (h6 : ∀ j, j < N → cell.slots[j]? = some (f j)) : ¬ (Int32.ofInt i < 0 ∨ cell.slots.size ≤ (Int32.ofInt i).toNatClampNeg) ∧ cell.slots[(Int32.ofInt i).toNatClampNeg]? = some (f i.toNat) := by
  obtain ⟨z1, z2⟩ := om_ix hi h0 (n := cell.slots.size) (by omega)
  exact ⟨z1, by rw [z2]; exact h6 _ (by omega)⟩
theorem ok_baldC {a N : Nat} {i : Int} {f : Nat → Int} (hd : decode M.2.1 pc = .ok (.baload, 1)) (a0 : a ≠ 0) (T : ∀ s, om_K G s → va_T .byte (om_ra G a) N (fun j => .int (Int32.ofInt (f j))) (om_Aa G) s (om_H0 G)) (h0 : 0 ≤ i) (h1 : i < N) (hf : iR (f i.toNat)) (k : OK G d M (pc + 1) ls (vI (f i.toNat) :: st) h Q) : OK G d M pc ls (vI i :: vR a :: st) h Q := by
  refine ok_st (fun V => om_c1 (a := vI (f i.toNat)) hf (om_t1 (om_t1 V.2.1))) k (fun p l e R s m args below meth c H locs la cells slots Q' X L hR V kk => ?_)
  have hS := X.2.2.2.2.2.2.2.2
  obtain ⟨cell, g1, g2, g3, g4, g5, g6, g7⟩ := (T s hS.2.2.2.2.1).kept (om_keep hR)
  obtain ⟨z1, z2⟩ := om_ldC (om_h1 V.2.1) h0 h1 g4 g6
  show W p l e R s m args below meth c H locs cells slots Q' (F0 m pc la (.int (Int32.ofInt i) :: om_rv G a :: st.map (om_tv G)))
  rw [om_rv_ne a0]
  exact W.bald X.1 X.2.1 g1 g2 g3 z1 z2 rfl rfl hd kk
theorem ok_ialdC {a N : Nat} {i : Int} {f : Nat → Int} (hd : decode M.2.1 pc = .ok (.iaload, 1)) (a0 : a ≠ 0) (T : ∀ s, om_K G s → va_T .int (om_ra G a) N (fun j => .int (Int32.ofInt (f j))) (om_Aa G) s (om_H0 G)) (h0 : 0 ≤ i) (h1 : i < N) (hf : iR (f i.toNat)) (k : OK G d M (pc + 1) ls (vI (f i.toNat) :: st) h Q) : OK G d M pc ls (vI i :: vR a :: st) h Q := by
  refine ok_st (fun V => om_c1 (a := vI (f i.toNat)) hf (om_t1 (om_t1 V.2.1))) k (fun p l e R s m args below meth c H locs la cells slots Q' X L hR V kk => ?_)
  have hS := X.2.2.2.2.2.2.2.2
  obtain ⟨cell, g1, g2, g3, g4, g5, g6, g7⟩ := (T s hS.2.2.2.2.1).kept (om_keep hR)
  obtain ⟨z1, z2⟩ := om_ldC (om_h1 V.2.1) h0 h1 g4 g6
  show W p l e R s m args below meth c H locs cells slots Q' (F0 m pc la (.int (Int32.ofInt i) :: om_rv G a :: st.map (om_tv G)))
  rw [om_rv_ne a0]
  exact W.iald X.1 X.2.1 g1 g2 g3 z1 z2 rfl rfl hd kk
theorem ok_aaldC {a N : Nat} {i : Int} {C : String} {f : Nat → Nat} (hd : decode M.2.1 pc = .ok (.aaload, 1)) (a0 : a ≠ 0) (T : ∀ s, om_K G s → va_T (.object C) (om_ra G a) N (fun j => .ref (om_ra G (f j))) (om_Aa G) s (om_H0 G)) (h0 : 0 ≤ i) (h1 : i < N) (hf : f i.toNat ≠ 0) (k : OK G d M (pc + 1) ls (vR (f i.toNat) :: st) h Q) : OK G d M pc ls (vI i :: vR a :: st) h Q := by
  refine ok_st (fun V => om_c1 (show om_okV (vR _) from trivial) (om_t1 (om_t1 V.2.1))) k (fun p l e R s m args below meth c H locs la cells slots Q' X L hR V kk => ?_)
  have hS := X.2.2.2.2.2.2.2.2
  obtain ⟨cell, g1, g2, g3, g4, g5, g6, g7⟩ := (T s hS.2.2.2.2.1).kept (om_keep hR)
  obtain ⟨z1, z2⟩ := om_ldC (om_h1 V.2.1) h0 h1 g4 g6
  show W p l e R s m args below meth c H locs cells slots Q' (F0 m pc la (.int (Int32.ofInt i) :: om_rv G a :: st.map (om_tv G)))
  rw [om_rv_ne a0]
  have kk : W p l e R s m args below meth c H locs cells slots Q' (F0 m (pc + 1) la (om_rv G (f i.toNat) :: st.map (om_tv G))) := kk
  rw [om_rv_ne hf] at kk
  exact W.aald X.1 X.2.1 g1 g2 rfl g3 z1 z2 rfl rfl hd kk
/-- a static that is only carried -/
theorem ok_getsq {C n dd : String} {index : Nat} (hd : decode M.2.1 pc = .ok (.getstatic index, 3)) (hl : Cond.fieldLink M.1.cls index C n dd ∈ lw_all) (x : Nat) (Z : ∀ s, om_K G s → va_Z C n dd (om_rv G x) (om_Aa G) s (om_H0 G)) (k : OK G d M (pc + 3) ls (vR x :: st) h Q) : OK G d M pc ls st h Q :=
  ok_gets (w := vR x) hd (Or.inl hl) Z trivial k
/-- getClass of an Object[] -/
theorem ok_getCls {index a : Nat} (hG : om_okG G) (hd : decode M.2.1 pc = .ok (.invokevirtual index, 3)) (hl : Cond.methodLink M.1.cls index ⟨"java/lang/Object", "getClass", "()Ljava/lang/Class;"⟩ ∈ lw_all) (hs : Cond.selects "[Ljava/lang/Object;" ⟨"java/lang/Object", "getClass", "()Ljava/lang/Class;"⟩ ⟨"java/lang/Object", "getClass", "()Ljava/lang/Class;"⟩ ∈ lw_all) (hi : Cond.instanceMethod ⟨"java/lang/Object", "getClass", "()Ljava/lang/Class;"⟩ ∈ lw_all) (hn : Cond.native ⟨"java/lang/Object", "getClass", "()Ljava/lang/Class;"⟩ ∈ lw_all)
    (ha : kd h a = 61) (hroom : om_cat st + 14 ≤ 64) (hdd : 1 ≤ d) (k : OK G d M (pc + 3) ls (vR (om_cA G 1003) :: st) h Q) : OK G d M pc ls (vR a :: st) h Q := by
  refine ok_step (h' := h) (fun V => ⟨V.1, om_c1 (show om_okV (vR _) from trivial) (om_t1 V.2.1), V.2.2⟩) (Nat.le_refl _) (Nat.le_refl _) k (fun p l e R s m args below meth c H locs la u0 Q' V C _ _ kk => ?_)
  obtain ⟨X, c2, -, -, hR, hlo, hL⟩ := C
  have hS := X.2.2.2.2.2.2.2.2
  have hab := hR.2.2.2.2.1 a (by omega)
  obtain ⟨cell, q1, q2, q3, q4, q5, q6⟩ := hR.2.2.2.2.2.2.1 61 _ a om_at_61 ha
  obtain ⟨kA, comp, w1, w2, w3, w4⟩ := (hS.2.2.2.1 61 _ om_at_61).2
  have hK := (hG.1 s hS.2.2.2.2.1).2.2.2.2.2.2.2
  show W p l e R s m args below meth c H locs _ _ Q' (F0 m pc la (om_rv G a :: st.map (om_tv G)))
  rw [om_rv_f hR.2.2.1 hab]
  have e1 : ((st.map (om_tv G)).map fun v => v.category).sum = om_cat st := om_cat_eq st
  have kk : W p l e R s m args below meth c H locs _ _ Q' (F0 m (pc + 3) la (om_rv G (om_cA G 1003) :: st.map (om_tv G))) := kk H locs la hR hlo hL
  rw [om_rv_ne (by have := hG.2.2.2; omega)] at kk
  exact va_getC X.1 X.2.1 (by rw [X.2.2.1]; exact hL.1.1.symm) X.2.2.2.2.2.1 (hS.1 _ hl args) hK.2.use (hS.1 _ hs args) (hS.1 _ hi args) (hS.1 _ hn args) hK.1 ⟨cell, q1, by rw [q3]; rfl, by rw [q2]; exact w4⟩ (by omega) (by rw [e1]; omega) hd kk
/-- the class Object[] out of the pool -/
theorem ok_ldcM {index : Nat} (hG : om_okG G) (hd : decode M.2.1 pc = .ok (.ldc index, 2)) (hl : Cond.classLink M.1.cls index "[Ljava/lang/Object;" ∈ lw_all) (k : OK G d M (pc + 2) ls (vR (om_cA G 1003) :: st) h Q) : OK G d M pc ls st h Q := by
  refine ok_st (fun V => om_c1 (show om_okV (vR _) from trivial) V.2.1) k (fun p l e R s m args below meth c H locs la cells slots Q' X L hR V kk => ?_)
  have hS := X.2.2.2.2.2.2.2.2
  have hK := (hG.1 s hS.2.2.2.2.1).2.2.2.2.2.2.2
  have kk : W p l e R s m args below meth c H locs cells slots Q' (F0 m (pc + 2) la (om_rv G (om_cA G 1003) :: st.map (om_tv G))) := kk
  rw [om_rv_ne (by have := hG.2.2.2; omega)] at kk
  exact va_ldcM X.1 X.2.1 X.2.2.2.2.2.1 (hS.1 _ hl args) hK.1 hd kk
end OM41
