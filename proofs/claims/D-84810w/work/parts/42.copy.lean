set_option maxRecDepth 100000
/-! System.arraycopy of the first n references of one Object[] into another -/
def cpR (h : om_H) (a b n : Nat) : om_H := (kd h, fI h, fR h, an h, aI h, fun c j => if c = b ∧ j < n then aR h a j else aR h c j, ll h, lc h, hz h, hu h)
section OM42
variable {G : om_G} {d : Nat} {M : om_M} {pc : Nat} {ls : List (Option om_V)} {st : List om_V} {h h' : om_H} {Q : om_O → Prop}
theorem aR_cpR (a b n c j : Nat) : aR (cpR h a b n) c j = if c = b ∧ j < n then aR h a j else aR h c j := rfl
theorem ok_acopy {index a b : Nat} {n : Int} (hG : om_okG G) (hd : decode M.2.1 pc = .ok (.invokestatic index, 3)) (hl : Cond.methodLink M.1.cls index arraycopyName ∈ lw_all) (hnat : Cond.native arraycopyName ∈ lw_all) (hstat : Cond.static arraycopyName ∈ lw_all) (hini : Cond.initialized "java/lang/System" ∈ lw_all)
    (ha : kd h a = 61) (hb : kd h b = 61) (h0 : 0 ≤ n) (h1 : n ≤ an h a) (h2 : n ≤ an h b) (hel : ∀ i, i < n.toNat → om_obj G h (aR h a i)) (hroom : om_cat st + 40 ≤ 64) (hdd : 1 ≤ d)
    (k : OK G d M (pc + 3) ls st (cpR h a b n.toNat) Q) : OK G d M pc ls (vI n :: vI 0 :: vR b :: vI 0 :: vR a :: st) h Q := by
  refine ok_step (h' := cpR h a b n.toNat) (fun V => ⟨V.1, om_t1 (om_t1 (om_t1 (om_t1 (om_t1 V.2.1)))), V.2.2⟩) (Nat.le_refl _) (Nat.le_refl _) k (fun p l e R s m args below meth c H locs la u0 Q' V C _ _ kk => ?_)
  obtain ⟨X, c2, -, -, hR, hlo, hL⟩ := C
  have hS := X.2.2.2.2.2.2.2.2
  have hab := hR.2.2.2.2.1 a (by omega)
  have hbb := hR.2.2.2.2.1 b (by omega)
  obtain ⟨cs, s1, s2, s3, s4, s5, s6⟩ := hR.2.2.2.2.2.2.1 61 _ a om_at_61 ha
  obtain ⟨cd, d1, d2, d3, d4, d5, d6⟩ := hR.2.2.2.2.2.2.1 61 _ b om_at_61 hb
  obtain ⟨kA, comp, w1, w2, w3, w4⟩ := (hS.2.2.2.1 61 _ om_at_61).2
  have hn : iR n := om_h1 V.2.1
  have et : (Int32.ofInt n).toInt = n := toInt_of32 hn
  have en : (Int32.ofInt n).toNatClampNeg = n.toNat := by
    show (Int32.ofInt n).toInt.toNat = _
    rw [et]
  have e0 : (Int32.ofInt 0).toNatClampNeg = 0 := by decide
  have e0i : (Int32.ofInt 0).toInt = 0 := by decide
  have n0 : ¬ Int32.ofInt 0 < 0 := by decide
  have nn : ¬ Int32.ofInt n < 0 := fun q => by have := (i32_lt hn iR_0).mp q; omega
  have ecat : ((st.map (om_tv G)).map fun v => v.category).sum = om_cat st := om_cat_eq st
  have hnw : nativeFrameWords "java/lang/System" "arraycopy" 5 ≤ 20 := by decide
  -- what the source holds
  have sv : ∀ i, i < n.toNat → cs.slots.getD (0 + i) .null = om_rv G (aR h a i) := fun i hi => by
    rw [Array.getD_eq_getD_getElem?, Nat.zero_add, s6 i (by omega)]
    rfl
  show W p l e R s m args below meth c H locs _ _ Q' (F0 m pc la (.int (Int32.ofInt n) :: .int (Int32.ofInt 0) :: om_rv G b :: .int (Int32.ofInt 0) :: om_rv G a :: st.map (om_tv G)))
  rw [om_rv_f hR.2.2.1 hab, om_rv_f hR.2.2.1 hbb]
  intro T hT S
  obtain ⟨vm', X', step⟩ := S.arraycopy X.1 X.2.2.2.2.2.1 (hS.1 _ hl args) (hS.1 _ hnat args) (hS.1 _ hstat args) (hS.1 _ hini args) (src := a) (dst := b) (cs := cs) (cd := cd) (srcPos := Int32.ofInt 0) (destPos := Int32.ofInt 0) (n := Int32.ofInt n) (by rw [hT]; exact s1) (by rw [hT]; exact d1)
    (fun _ q => by rw [s3] at q; cases q) (fun _ q => by rw [d3] at q; cases q) (by rw [s3]; exact fun q => by cases q) (by rw [d3]; exact fun q => by cases q) (by rw [s2]; exact w1) (by rw [d2]; exact w1) w2 w2 rfl n0 n0 nn (by rw [e0i, et, s4]; omega) (by rw [e0i, et, d4]; omega)
    (fun vm₁ hal i hi => by
      rw [e0]
      rw [en] at hi
      rw [sv i hi]
      obtain ⟨kE, hkE, -⟩ := Vm.findClass_spec w3
      obtain ⟨kE', hkE', -⟩ := hal.2.2 _ _ hkE
      have go : ∀ (y : Nat) (cv : Cell) (C : String), aR h a i ≠ 0 → om_ra G (aR h a i) = y → H[y]? = some cv → cv.vm.isStatics = false → s.vm.findClass C = some cv.cls → Cond.castable C "java/lang/Object" ∈ lw_tbl → fits (.object "java/lang/Object") (om_rv G (aR h a i)) = true ∧ (T.setVm vm₁).takes comp (om_rv G (aR h a i)) := by
        intro y cv C x0 hy v1 v2 v3 hca
        obtain ⟨c0, t1, f1, f2, f3⟩ := Cond.castable_spec (va_Nw.use (A := args) rfl (hS.2.1 _ hca rfl))
        cases v3.symm.trans f1
        cases w3.symm.trans f2
        obtain ⟨kC, hkC, -⟩ := Vm.findClass_spec v3
        obtain ⟨kC', hkC', -⟩ := hal.2.2 _ _ hkC
        rw [om_rv_ne x0, hy]
        refine ⟨rfl, cv, (show T.heap[y]? = some cv by rw [hT]; exact v1), (fun q hq => by rw [hq] at v2; cases v2), ⟨kC', hkC'⟩, ⟨kE', hkE'⟩, ?_⟩
        show vm₁.assignable _ _ = true
        rw [hal.assignable]
        exact f3
      rcases hel i hi with hx | ⟨kc, r, hc, hx⟩ | ⟨j, hj, hx⟩
      · rw [hx]
        exact ⟨rfl, trivial⟩
      · have hxb := hR.2.2.2.2.1 _ (show kd h (aR h a i) ≠ 0 by omega)
        obtain ⟨cv, v1, v2, v3, v4⟩ := hR.2.2.2.2.2.1 kc r _ hc hx
        obtain ⟨hSl, hfc, kC, hkC, hkind⟩ := hS.2.2.1 kc r hc
        exact go _ cv r.1 (by have := hR.2.2.1; omega) (om_ra_f hR.2.2.1 hxb) v1 (by rw [v3]; rfl) (by rw [v2]; exact hfc) (om_castO kc r hc)
      · obtain ⟨cv, v1, v2, v3, v4⟩ := (hG.1 s hS.2.2.2.2.1).2.2.2.2.1.2.2.2.1 j hj
        exact go _ cv "java/lang/Integer" (by rw [hx]; exact om_cA_0 hG (by omega)) (by rw [hx]) (by rw [hR.2.2.2.1 _ (hG.2.2.1 (300 + j) (by omega)).2]; exact v1) v2 v3 q4500)
    (g := F0 m pc la (.int (Int32.ofInt n) :: .int (Int32.ofInt 0) :: .ref b :: .int (Int32.ofInt 0) :: .ref a :: st.map (om_tv G))) rfl (by rw [X.2.2.1]; exact hL.1.1) (rest := st.map (om_tv G)) rfl (by rw [X.2.1]; exact hd) (by omega) (by rw [ecat]; show 2 * 0 + om_cat st + _ ≤ R.locals; omega)
  rw [e0, en] at X'
  have hbl : b < H.size := by rw [hR.1]; exact hbb.2
  have hlen : (cs.stretch 0 n.toNat).length = n.toNat := by simp [Cell.stretch]
  have fct := Cell.storeRun_facts cd 0 (cs.stretch 0 n.toNat)
  have hheap : ((T.setVm vm').setCell b (copied cs cd (Int32.ofInt 0) (Int32.ofInt 0) (Int32.ofInt n))).heap = H.setIfInBounds b (cd.storeRun 0 (cs.stretch 0 n.toNat)) := by
    show T.heap.setIfInBounds b (cd.storeRun (Int32.ofInt 0).toNatClampNeg (cs.stretch (Int32.ofInt 0).toNatClampNeg (Int32.ofInt n).toNatClampNeg)) = _
    rw [e0, en, hT]
  have oq : ∀ q, q ≠ b → (H.setIfInBounds b (cd.storeRun 0 (cs.stretch 0 n.toNat)))[q]? = H[q]? := fun q hq => by simp [Array.getElem?_setIfInBounds, Ne.symm hq]
  have iq : (H.setIfInBounds b (cd.storeRun 0 (cs.stretch 0 n.toNat)))[b]? = some (cd.storeRun 0 (cs.stretch 0 n.toNat)) := by simp [hbl]
  have hR' : om_R G (cpR h a b n.toNat) (H.setIfInBounds b (cd.storeRun 0 (cs.stretch 0 n.toNat))) := by
    refine om_R.upd hR (by simp) oq (by omega) (by omega) (fun _ => rfl) (fun _ _ _ => rfl) (fun _ => rfl) (fun k c i hc => ?_) (fun _ => rfl) (fun _ => rfl) rfl (fun k' r' hc' hk' => ?_) (fun k' ty' hc' hk' => ?_)
    · unfold om_ev
      rw [aR_cpR, if_neg (fun q => hc q.1)]
      rfl
    · have := om_cl_lt hc'
      omega
    · have ek : k' = 61 := by omega
      subst ek
      refine ⟨_, iq, by rw [fct.1]; exact d2, by rw [fct.2.1]; exact d3, by rw [fct.2.2.1]; exact d4, d5, fun i hi => ?_⟩
      rw [Cell.storeRun_get _ _ _ _ (by rw [hlen, d4]; omega), hlen]
      show _ = some (om_rv G (aR (cpR h a b n.toNat) b i))
      rw [aR_cpR]
      by_cases c1 : i < n.toNat
      · rw [if_pos ⟨by omega, by omega⟩, if_pos ⟨rfl, c1⟩]
        unfold Cell.stretch
        rw [List.getElem?_map, List.getElem?_range (by omega), Nat.sub_zero]
        show some (cs.slots.getD (0 + i) .null) = _
        rw [sv i c1]
      · rw [if_neg (fun q => c1 (by omega)), if_neg (fun q => c1 q.2)]
        exact d6 i hi
  obtain ⟨t, a1, b1⟩ := kk _ _ la hR' (fun q hq => by
    rcases List.mem_append.mp hq with q1 | q1
    · exact hlo q q1
    · obtain ⟨z, -, hz⟩ := List.mem_map.mp q1
      rw [← hz]
      exact hbb.1) hL _ hheap X'
  exact ⟨t, step t a1, b1⟩
end OM42
