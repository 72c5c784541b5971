set_option maxRecDepth 100000
/-! NEW OBJECTS AND ARRAYS -/
theorem om_at_ge {k : Nat} {ty : FieldType} (h : om_at k = some ty) : 50 ≤ k ∧ k ≤ 61 := by
  unfold om_at at h
  split at h <;> first | (constructor <;> omega) | cases h
section OM5
variable {G : om_G} {d : Nat} {M : om_M} {pc : Nat} {ls : List (Option om_V)} {st : List om_V} {h h' : om_H} {Q : om_O → Prop}
/-- a cell more -/
theorem om_R.push {H H' : Heap} (hR : om_R G h H) (hzZ : hz h + 1 ≤ om_Z G) (hsz : H'.size = H.size + 1) (ho : ∀ q, q < H.size → H'[q]? = H[q]?) (hhz : hz h' = hz h + 1) (hkd : ∀ b, b ≠ hz h → kd h' b = kd h b) (h42 : kd h' (hz h) ≠ 42) (hfv : ∀ g b, b ≠ hz h → om_fv G h' g b = om_fv G h g b) (han : ∀ b, b ≠ hz h → an h' b = an h b)
    (hev : ∀ k b i, b ≠ hz h → om_ev G k h' b i = om_ev G k h b i) (hll : ∀ b, ll h' b = ll h b) (hlc : ∀ b, lc h' b = lc h b)
    (hcl : ∀ (k : Nat) (r : vw_C), om_cl[k]? = some r → kd h' (hz h) = k + 1 → t_OB (hz h) (G.1.1 k) r.2.2 (G.1.2 k) H' (fun j => om_fv G h' ((om_ft (k + 1)).getD j 0) (hz h))) (har : ∀ (k : Nat) (ty : FieldType), om_at k = some ty → kd h' (hz h) = k → om_arr G h' H' (hz h) k) : om_R G h' H' := by
  obtain ⟨r1, r2, r3, r4, r5, r6, r7, E, r8, r9⟩ := hR
  refine ⟨by rw [hsz, hhz, r1], by rw [hhz]; omega, ⟨r3.1, by rw [hhz]; exact hzZ⟩, fun q hq => by rw [ho q (by omega)]; exact r4 q hq, ?_, ?_, ?_, E, ?_, ?_⟩
  · intro b hb
    rw [hhz]
    by_cases c : b = hz h
    · omega
    · rw [hkd b c] at hb
      have := r5 b hb
      omega
  · intro k r b hc hk
    by_cases c : b = hz h
    · subst c; exact hcl k r hc hk
    · rw [hkd b c] at hk
      have := r5 b (by omega)
      exact t_OB.to ((r6 k r b hc hk).kept (ho b (by omega))) (fun j _ => (hfv _ b c).symm)
  · intro k ty b hc hk
    by_cases c : b = hz h
    · subst c; exact har k ty hc hk
    · rw [hkd b c] at hk
      have hk50 := om_at_ge hc
      have := r5 b (by omega)
      obtain ⟨cell, q1, q2, q3, q4, q5, q6⟩ := r7 k ty b hc hk
      exact ⟨cell, by rw [ho b (by omega)]; exact q1, q2, q3, by rw [han b c]; exact q4, by rw [han b c]; exact q5, fun i hi => by rw [hev k b i c]; exact q6 i (by rw [← han b c]; exact hi)⟩
  · intro b hb
    have c : b ≠ hz h := fun q => h42 (q ▸ hb)
    rw [hkd b c] at hb
    have hbz := r5 b (by omega)
    obtain ⟨⟨mc, q1⟩, q2⟩ := r8 b hb
    refine ⟨⟨mc, by rw [hll]; exact q1.kept (ho b (by omega))⟩, ?_⟩
    rw [hll, hlc]
    rcases q2 with q2 | ⟨z1, z2, z3, z4, z5, z6, cell, f, z7, z8⟩
    · exact Or.inl q2
    · exact Or.inr ⟨z1, z2, z3, z4, by omega, by rw [hkd _ (by omega)]; exact z6, cell, f, by rw [ho _ (by omega)]; exact z7, z8⟩
  · intro b c hb hc h1 h2 h3
    have c1 : b ≠ hz h := fun q => h42 (q ▸ hb)
    have c2 : c ≠ hz h := fun q => h42 (q ▸ hc)
    rw [hkd _ c1] at hb
    rw [hkd _ c2] at hc
    rw [hlc] at h1 h2
    exact r9 b c hb hc h1 h2 h3
theorem om_fv0 {f b : Nat} (h1 : fI h f b = 0) (h2 : fR h f b = 0) {ty : FieldType} (ht : om_tyok (f % 4) (some ty) = true) : defaultValue ty = om_fv G h f b := by
  unfold om_fv
  rw [h1, h2]
  have hlt : f % 4 < 4 := Nat.mod_lt _ (by decide)
  generalize f % 4 = t at ht hlt ⊢
  match t, hlt with
  | 0, _ =>
    have e : ty = .int := by simpa [om_tyok] using ht
    subst e; rfl
  | 1, _ =>
    have e : ty = .long := by simpa [om_tyok] using ht
    subst e; rfl
  | 2, _ =>
    have e : ty.isReference = true := ht
    cases ty <;> first | (cases e; done) | rfl
  | 3, _ =>
    have e : ty = .boolean := by simpa [om_tyok] using ht
    subst e; rfl
theorem om_rng_nO {k n : Nat} (V : om_rng h) (hk : k < 50) : om_rng (nO h k n) := by
  refine ⟨fun f a => ?_, fun a i => ?_, V.2.2.1, V.2.2.2.1, by rw [hz_nO]; omega, by rw [kd_nO, if_neg (by have := V.2.2.2.2.1; omega)]; exact V.2.2.2.2.2.1, fun a ha => by rw [hz_nO] at ha; rw [kd_nO, if_neg (by omega)]; exact V.2.2.2.2.2.2 a (by omega)⟩
  · rw [fI_nO]
    by_cases c : a = hz h
    · rw [if_pos c]
      unfold om_fr
      split <;> first | exact iR_0 | exact lR_0 | exact Or.inl rfl | exact trivial
    · rw [if_neg c]; exact V.1 f a
  · rw [kd_nO, aI_nO]
    by_cases c : a = hz h
    · rw [if_pos c]
      unfold om_ar
      split <;> first | omega | exact trivial
    · rw [if_neg c]; exact V.2.1 a i
theorem ok_new {kc index : Nat} {r : vw_C} (hd : decode M.2.1 pc = .ok (.new index, 3)) (hc : om_cl[kc]? = some r) (hl : Cond.classLink M.1.cls index r.1 ∈ lw_all) (hi : Cond.instantiable r.1 r.2.2 ∈ lw_all) (hn : Cond.initialized r.1 ∈ lw_all) (k : OK G d M (pc + 3) ls (vR (hz h) :: st) (nO h (kc + 1) r.2.2) Q) : OK G d M pc ls st h Q := by
  have hlt := om_cl_lt hc
  refine ok_step (h' := nO h (kc + 1) r.2.2) ?_ (by rw [hz_nO]; omega) (by rw [hu_nO]; omega) k (fun p l e R s m args below meth c H locs la u0 Q' V C b1 b2 kk => ?_)
  · exact fun V => ⟨om_rng_nO V.1 (by omega), om_c1 (show om_okV (vR _) from trivial) V.2.1, V.2.2⟩
  · obtain ⟨⟨x1, x2, x3, x4, x5, x6, x7, x8, hS⟩, c2, c3, -, hR, hlo, hL⟩ := C
    rw [hz_nO] at b1
    rw [hu_nO] at b2
    obtain ⟨hSl, hfc, kC0, hkC0, hkind⟩ := hS.2.2.1 kc r hc
    have hts : ∀ w ∈ lw_all, w.before args s = true := fun w hw => hS.1 w hw args
    refine W.newcK x1 x2 x6 (hS.1 _ hl args) (hS.1 _ hi args) (hS.1 _ hn args) rfl hd (by omega) (by omega) hfc (h := hz h) hR.1 (fun H' kC g1 g2 g3 g4 => ?_)
    have hzZ : hz h + 1 ≤ om_Z G := by have := c2.2.2; omega
    have hR' : om_R G (nO h (kc + 1) r.2.2) H' := by
      refine om_R.push hR hzZ (by rw [g3, hR.1]) (fun q hq => g4 q (by rw [← hR.1]; exact hq)) rfl (fun b hb => by rw [kd_nO, if_neg hb]) (by rw [kd_nO, if_pos rfl]; omega) (fun g b hb => ?_) (fun _ _ => rfl) (fun k b i hb => rfl) (fun _ => rfl) (fun _ => rfl) ?_ ?_
      · unfold om_fv
        rw [fI_nO, fR_nO, if_neg hb, if_neg hb]
      · intro k' r' hc' hk'
        rw [kd_nO, if_pos rfl] at hk'
        have e' : k' = kc := by omega
        subst e'
        cases hc.symm.trans hc'
        have hb := u_born (ws := lw_all) (s := s) (args := args) (H := H') (o := hz h) (fun j => (parseFieldDescriptor (r.2.1 j).2.2.1).getD .int) hts (om_coks _ r hc).2.1 (hS.2.2.1 _ r hc) g1 g2 (fun j hj => by
          have ht := om_cok_ty hc hj
          cases hp : parseFieldDescriptor (r.2.1 j).2.2.1 with
          | some t => rfl
          | none => rw [hp] at ht; unfold om_tyok at ht; split at ht <;> simp at ht)
        refine t_OB.to hb (fun j hj => ?_)
        have ht := om_cok_ty hc hj
        cases hp : parseFieldDescriptor (r.2.1 j).2.2.1 with
        | none => rw [hp] at ht; unfold om_tyok at ht; split at ht <;> simp at ht
        | some t =>
          rw [hp] at ht
          exact om_fv0 (by rw [fI_nO, if_pos rfl]) (by rw [fR_nO, if_pos rfl]) ht
      · intro k' ty' hc' hk'
        rw [kd_nO, if_pos rfl] at hk'
        have := om_at_ge hc'
        omega
    have hzZ : hz h + 1 ≤ om_Z G := by have := c2.2.2; omega
    have hne : hz h ≠ 0 := by have := hR.2.1; have := hR.2.2.1; omega
    have e1 : (Value.ref (hz h)) = om_rv G (hz h) := (om_rv_f (n := hz h + 1) ⟨hR.2.2.1.1, hzZ⟩ ⟨hR.2.1, Nat.lt_succ_self _⟩).symm
    refine W.cs (cells' := hz (nO h (kc + 1) r.2.2) - s.heap.size) (slots' := hu (nO h (kc + 1) r.2.2) - u0) (by rw [hz_nO]; omega) (by rw [hu_nO]; omega) ?_
    show W p l e R s m args below meth c H' locs _ _ Q' (F0 m (pc + 3) la (Value.ref (hz h) :: st.map (om_tv G)))
    rw [e1]
    exact kk H' locs la hR' hlo hL
/-! arrays -/
theorem om_isArr {s : State} {k : Nat} {ty : FieldType} {cell : Cell} (hS : om_SC G s) (hk : om_at k = some ty) (h1 : cell.cls = om_aC G k) (h2 : cell.vm = .none) : s.isArrayOf cell ty := by
  obtain ⟨-, kA, q1, q2⟩ := (hS.2.2.2.1 k ty hk).1 0 (fun _ => .null)
  exact ⟨fun k h => (by rw [h2] at h; exact (by cases h)), kA, (by rw [h1]; exact q1), q2⟩
theorem om_ix {i : Int} {n : Nat} (hi : iR i) (h0 : 0 ≤ i) (h1 : i < n) : ¬ (Int32.ofInt i < 0 ∨ n ≤ (Int32.ofInt i).toNatClampNeg) ∧ (Int32.ofInt i).toNatClampNeg = i.toNat := by
  have e : (Int32.ofInt i).toNatClampNeg = i.toNat := by
    show (Int32.ofInt i).toInt.toNat = i.toNat
    rw [toInt_of32 hi]
  refine ⟨fun q => ?_, e⟩
  rw [e] at q
  rcases q with q | q
  · have := (i32_lt hi iR_0).mp q
    omega
  · omega
theorem om_ar_i {k : Nat} {x : Int} (h : om_ar k x) (hk : k = 50 ∨ k = 51 ∨ k = 53) : iR x := by
  rcases hk with rfl | rfl | rfl
  · have h : -128 ≤ x ∧ x ≤ 127 := h
    unfold iR; omega
  · exact h
  · have h : x = 0 ∨ x = 1 := h
    unfold iR; omega
theorem om_ld {p : Program} {l : Launch} {e : Env} {R : Room} {s : State} {m : MethodId} {args : Array Value} {below : List Frame} {meth : Method} {c : Code} {H : Heap} {locs : List Loc} {cells slots : Nat} {Q' : State → Prop} {la : Array Slot} {rest : List Value}
    (X : om_X G M p s m meth c) (hR : om_R G h H) {a k : Nat} {i : Int} {ty : FieldType} (hk : om_at k = some ty) (ha : kd h a = k) (hi : iR i) (h0 : 0 ≤ i) (h1 : i < an h a)
    (w : ∀ cell : Cell, H[a]? = some cell → s.isArrayOf cell ty → cell.vm = .none → ¬ (Int32.ofInt i < 0 ∨ cell.slots.size ≤ (Int32.ofInt i).toNatClampNeg) → cell.slots[(Int32.ofInt i).toNatClampNeg]? = some (om_ev G k h a i.toNat) →
      W p l e R s m args below meth c H locs cells slots Q' (F0 m pc la (.int (Int32.ofInt i) :: .ref a :: rest))) : W p l e R s m args below meth c H locs cells slots Q' (F0 m pc la (.int (Int32.ofInt i) :: om_rv G a :: rest)) := by
  have hS := X.2.2.2.2.2.2.2.2
  obtain ⟨r1, r2, r3, r4, r5, r6, r7, r8⟩ := hR
  have h50 := om_at_ge hk
  have ha0 := r5 a (by omega)
  rw [om_rv_f r3 ha0]
  obtain ⟨cell, q1, q2, q3, q4, q5, q6⟩ := r7 k ty a hk ha
  obtain ⟨z1, z2⟩ := om_ix hi h0 h1
  exact w cell q1 (om_isArr hS hk q2 q3) q3 (by rw [q4]; exact z1) (by rw [z2]; exact q6 _ (by omega))
theorem ok_iald {a : Nat} {i : Int} (hd : decode M.2.1 pc = .ok (.iaload, 1)) (ha : kd h a = 51) (h0 : 0 ≤ i) (h1 : i < an h a) (k : OK G d M (pc + 1) ls (vI (aI h a i.toNat) :: st) h Q) : OK G d M pc ls (vI i :: vR a :: st) h Q := by
  refine ok_st ?_ k (fun p l e R s m args below meth c H locs la cells slots Q' X L hR V kk => ?_)
  · exact fun V => om_c1 (om_ar_i (V.1.2.1 a _) (by omega)) (om_t1 (om_t1 V.2.1))
  · exact om_ld X hR (k := 51) rfl ha (om_h1 V.2.1) h0 h1 (fun cell g1 g2 g3 g4 g5 => W.iald X.1 X.2.1 g1 g2 (by rw [g3]; exact fun h => by cases h) g4 g5 rfl rfl hd kk)
theorem ok_bald {a : Nat} {i : Int} (hd : decode M.2.1 pc = .ok (.baload, 1)) (ha : kd h a = 50) (h0 : 0 ≤ i) (h1 : i < an h a) (k : OK G d M (pc + 1) ls (vI (aI h a i.toNat) :: st) h Q) : OK G d M pc ls (vI i :: vR a :: st) h Q := by
  refine ok_st ?_ k (fun p l e R s m args below meth c H locs la cells slots Q' X L hR V kk => ?_)
  · exact fun V => om_c1 (om_ar_i (V.1.2.1 a _) (by omega)) (om_t1 (om_t1 V.2.1))
  · exact om_ld X hR (k := 50) rfl ha (om_h1 V.2.1) h0 h1 (fun cell g1 g2 g3 g4 g5 => W.bald X.1 X.2.1 g1 g2 (by rw [g3]; exact fun h => by cases h) g4 g5 rfl rfl hd kk)
theorem ok_zald {a : Nat} {i : Int} (hd : decode M.2.1 pc = .ok (.baload, 1)) (ha : kd h a = 53) (h0 : 0 ≤ i) (h1 : i < an h a) (k : OK G d M (pc + 1) ls (vI (aI h a i.toNat) :: st) h Q) : OK G d M pc ls (vI i :: vR a :: st) h Q := by
  refine ok_st ?_ k (fun p l e R s m args below meth c H locs la cells slots Q' X L hR V kk => ?_)
  · exact fun V => om_c1 (om_ar_i (V.1.2.1 a _) (by omega)) (om_t1 (om_t1 V.2.1))
  · exact om_ld X hR (k := 53) rfl ha (om_h1 V.2.1) h0 h1 (fun cell g1 g2 g3 g4 g5 => W.zald X.1 X.2.1 g1 g2 (by rw [g3]; exact fun h => by cases h) g4 g5 rfl rfl hd kk)
theorem ok_lald {a : Nat} {i : Int} (hd : decode M.2.1 pc = .ok (.laload, 1)) (ha : kd h a = 52) (h0 : 0 ≤ i) (h1 : i < an h a) (k : OK G d M (pc + 1) ls (vL (aI h a i.toNat) :: st) h Q) : OK G d M pc ls (vI i :: vR a :: st) h Q := by
  refine ok_st ?_ k (fun p l e R s m args below meth c H locs la cells slots Q' X L hR V kk => ?_)
  · exact fun V => om_c1 (show om_okV (vL _) from by have := V.1.2.1 a i.toNat; rw [ha] at this; exact this) (om_t1 (om_t1 V.2.1))
  · exact om_ld X hR (k := 52) rfl ha (om_h1 V.2.1) h0 h1 (fun cell g1 g2 g3 g4 g5 => W.lald X.1 X.2.1 g1 g2 (by rw [g3]; exact fun h => by cases h) g4 g5 rfl rfl hd kk)
theorem om_at_ref {k : Nat} (hk : 54 ≤ k) (hk2 : k ≤ 61) : ∃ C, om_at k = some (.object C) := by
  have : k = 54 ∨ k = 55 ∨ k = 56 ∨ k = 57 ∨ k = 58 ∨ k = 59 ∨ k = 60 ∨ k = 61 := by omega
  rcases this with rfl | rfl | rfl | rfl | rfl | rfl | rfl | rfl <;> exact ⟨_, rfl⟩
theorem om_ev_ref {k a i : Nat} (hk : 54 ≤ k) (hk2 : k ≤ 61) : om_ev G k h a i = om_rv G (aR h a i) := by
  have : k = 54 ∨ k = 55 ∨ k = 56 ∨ k = 57 ∨ k = 58 ∨ k = 59 ∨ k = 60 ∨ k = 61 := by omega
  rcases this with rfl | rfl | rfl | rfl | rfl | rfl | rfl | rfl <;> rfl
theorem ok_aald {a : Nat} {i : Int} (hd : decode M.2.1 pc = .ok (.aaload, 1)) (ha : 54 ≤ kd h a ∧ kd h a ≤ 61) (h0 : 0 ≤ i) (h1 : i < an h a) (k : OK G d M (pc + 1) ls (vR (aR h a i.toNat) :: st) h Q) : OK G d M pc ls (vI i :: vR a :: st) h Q := by
  obtain ⟨C, hC⟩ := om_at_ref ha.1 ha.2
  refine ok_st ?_ k (fun p l e R s m args below meth c H locs la cells slots Q' X L hR V kk => ?_)
  · exact fun V => om_c1 (show om_okV (vR _) from trivial) (om_t1 (om_t1 V.2.1))
  · refine om_ld X hR hC rfl (om_h1 V.2.1) h0 h1 (fun cell g1 g2 g3 g4 g5 => ?_)
    rw [om_ev_ref ha.1 ha.2] at g5
    exact W.aald X.1 X.2.1 g1 g2 rfl (by rw [g3]; exact fun h => by cases h) g4 g5 rfl rfl hd kk
theorem ok_alen {a : Nat} (hd : decode M.2.1 pc = .ok (.arraylength, 1)) (ha : 50 ≤ kd h a ∧ kd h a ≤ 61) (k : OK G d M (pc + 1) ls (vI (an h a) :: st) h Q) : OK G d M pc ls (vR a :: st) h Q := by
  have hat : ∃ ty, om_at (kd h a) = some ty := by
    by_cases c : 54 ≤ kd h a
    · obtain ⟨C, hC⟩ := om_at_ref c ha.2
      exact ⟨_, hC⟩
    · have : kd h a = 50 ∨ kd h a = 51 ∨ kd h a = 52 ∨ kd h a = 53 := by omega
      rcases this with e | e | e | e <;> rw [e] <;> exact ⟨_, rfl⟩
  obtain ⟨ty, hty⟩ := hat
  refine ok_st ?_ k (fun p l e R s m args below meth c H locs la cells slots Q' X L hR V kk => ?_)
  · exact fun V => om_c1 (show iR _ from by have := V.1.2.2.1 a; unfold iR; omega) (om_t1 V.2.1)
  · obtain ⟨cell, q1, q2, q3, q4, q5, q6⟩ := hR.2.2.2.2.2.2.1 _ ty a hty rfl
    have ha0 := hR.2.2.2.2.1 a (by omega)
    have hb0 := hR.2.2.1
    show W p l e R s m args below meth c H locs cells slots Q' (F0 m pc la (om_rv G a :: st.map (om_tv G)))
    rw [om_rv_f hb0 ha0]
    refine W.alen (n := Int32.ofInt (an h a)) X.1 X.2.1 q1 (om_isArr X.2.2.2.2.2.2.2.2 hty q2 q3) ?_ rfl rfl hd kk
    rw [q4]
    rfl
/-! stores -/
theorem om_sto {p : Program} {l : Launch} {e : Env} {R : Room} {s : State} {m : MethodId} {args : Array Value} {below : List Frame} {meth : Method} {c : Code} {H : Heap} {locs : List Loc} {cells slots : Nat} {Q' : State → Prop} {la : Array Slot} {rest : List Value} {vv w : Value}
    (X : om_X G M p s m meth c) (hR : om_R G h H) (hlo : ∀ q ∈ locs, om_b G ≤ q.base) {a k : Nat} {i : Int} {ty : FieldType} (hk : om_at k = some ty) (ha : kd h a = k) (hi : iR i) (h0 : 0 ≤ i) (h1 : i < an h a)
    (hkd : ∀ b, kd h' b = kd h b) (hfv : ∀ g b, om_fv G h' g b = om_fv G h g b) (han : ∀ b, an h' b = an h b) (hev : ∀ k b j, ¬ (b = a ∧ j = i.toNat) → om_ev G k h' b j = om_ev G k h b j) (hew : om_ev G k h' a i.toNat = w) (hll : ∀ b, ll h' b = ll h b) (hlc : ∀ b, lc h' b = lc h b) (hhz : hz h' = hz h)
    (kk : ∀ (H' : Heap) (locs' : List Loc), om_R G h' H' → (∀ q ∈ locs', om_b G ≤ q.base) → W p l e R s m args below meth c H' locs' cells slots Q' (F0 m (pc + 1) la rest))
    (ww : ∀ cell : Cell, H[a]? = some cell → s.isArrayOf cell ty → cell.cls = om_aC G k → cell.vm = .none → ¬ (Int32.ofInt i < 0 ∨ cell.slots.size ≤ (Int32.ofInt i).toNatClampNeg) →
      (∀ H' : Heap, H'[a]? = some (cell.setSlot (Int32.ofInt i).toNatClampNeg w) → H'.size = H.size → (∀ q, q ≠ a → H'[q]? = H[q]?) → W p l e R s m args below meth c H' (locs ++ [⟨a, (Int32.ofInt i).toNatClampNeg⟩]) cells slots Q' (F0 m (pc + 1) la rest)) →
      W p l e R s m args below meth c H locs cells slots Q' (F0 m pc la (vv :: .int (Int32.ofInt i) :: .ref a :: rest))) : W p l e R s m args below meth c H locs cells slots Q' (F0 m pc la (vv :: .int (Int32.ofInt i) :: om_rv G a :: rest)) := by
  have hS := X.2.2.2.2.2.2.2.2
  obtain ⟨r1, r2, r3, r4, r5, r6, r7, r8⟩ := id hR
  have h50 := om_at_ge hk
  have ha0 := r5 a (by omega)
  rw [om_rv_f r3 ha0]
  obtain ⟨cell, q1, q2, q3, q4, q5, q6⟩ := r7 k ty a hk ha
  obtain ⟨z1, z2⟩ := om_ix hi h0 h1
  refine ww cell q1 (om_isArr hS hk q2 q3) q2 q3 (by rw [q4]; exact z1) (fun H' e1 e2 e3 => ?_)
  refine kk H' _ (om_R.upd hR e2 e3 (by omega) (by omega) hkd (fun g b _ => hfv g b) han (fun k b j hb => hev k b j (fun q => hb q.1)) hll hlc hhz ?_ ?_) ?_
  · intro k' r' hc' hk'
    have := om_cl_lt hc'
    omega
  · intro k' ty' hc' hk'
    have ek : k' = k := by omega
    subst ek
    rw [z2] at e1
    refine ⟨_, e1, q2, q3, ?_, by rw [han]; exact q5, fun j hj => ?_⟩
    · rw [han, ← q4]; exact k2_slotsz _ _ _
    · rw [han] at hj
      by_cases c : j = i.toNat
      · subst c
        rw [hew]
        simp [Cell.setSlot, q4, hj]
      · rw [hev k' a j (fun q => c q.2), ← q6 j hj]
        simp [Cell.setSlot, Array.getElem?_setIfInBounds, Ne.symm c]
  · exact t_lc hlo ha0.1
theorem om_ev_pI {a n : Nat} {x : Int} {k b j : Nat} (c : ¬ (b = a ∧ j = n)) : om_ev G k (pI h a n x) b j = om_ev G k h b j := by
  unfold om_ev
  rw [aI_pI, if_neg c]
  rfl
theorem om_rng_pI {a n : Nat} {x : Int} (V : om_rng h) (hx : om_ar (kd h a) x) : om_rng (pI h a n x) := by
  refine ⟨V.1, fun b i => ?_, V.2.2⟩
  rw [aI_pI]
  by_cases c : b = a ∧ i = n
  · rw [if_pos c, c.1]; exact hx
  · rw [if_neg c]; exact V.2.1 b i
theorem ok_iast {a : Nat} {i x : Int} (hd : decode M.2.1 pc = .ok (.iastore, 1)) (ha : kd h a = 51) (h0 : 0 ≤ i) (h1 : i < an h a) (k : OK G d M (pc + 1) ls st (pI h a i.toNat x) Q) : OK G d M pc ls (vI x :: vI i :: vR a :: st) h Q := by
  refine ok_step (h' := pI h a i.toNat x) ?_ (Nat.le_refl _) (Nat.le_refl _) k (fun p l e R s m args below meth c H locs la u0 Q' V C _ _ kk => ?_)
  · exact fun V => ⟨om_rng_pI V.1 (by rw [ha]; exact om_h1 V.2.1), om_t1 (om_t1 (om_t1 V.2.1)), V.2.2⟩
  · obtain ⟨X, -, -, -, hR, hlo, hL⟩ := C
    refine om_sto (h' := pI h a i.toNat x) (w := .int (Int32.ofInt x)) X hR hlo (k := 51) rfl ha (om_h1 (om_t1 V.2.1)) h0 h1 (fun _ => rfl) (fun _ _ => rfl) (fun _ => rfl) (fun k b j c => om_ev_pI c) ?_ (fun _ => rfl) (fun _ => rfl) rfl (fun H' locs' z1 z2 => kk H' locs' la z1 z2 hL) (fun cell g1 g2 g3 g4 g5 g6 => ?_)
    · show Value.int (Int32.ofInt (aI (pI h a i.toNat x) a i.toNat)) = _
      rw [aI_pI, if_pos ⟨rfl, rfl⟩]
    · exact W.iast X.1 X.2.1 g1 g2 (by rw [g4]; exact fun h => by cases h) g5 rfl rfl hd g6
theorem ok_last {a : Nat} {i x : Int} (hd : decode M.2.1 pc = .ok (.lastore, 1)) (ha : kd h a = 52) (h0 : 0 ≤ i) (h1 : i < an h a) (k : OK G d M (pc + 1) ls st (pI h a i.toNat x) Q) : OK G d M pc ls (vL x :: vI i :: vR a :: st) h Q := by
  refine ok_step (h' := pI h a i.toNat x) ?_ (Nat.le_refl _) (Nat.le_refl _) k (fun p l e R s m args below meth c H locs la u0 Q' V C _ _ kk => ?_)
  · exact fun V => ⟨om_rng_pI V.1 (by rw [ha]; exact om_h1 V.2.1), om_t1 (om_t1 (om_t1 V.2.1)), V.2.2⟩
  · obtain ⟨X, -, -, -, hR, hlo, hL⟩ := C
    refine om_sto (h' := pI h a i.toNat x) (w := .long (Int64.ofInt x)) X hR hlo (k := 52) rfl ha (om_h1 (om_t1 V.2.1)) h0 h1 (fun _ => rfl) (fun _ _ => rfl) (fun _ => rfl) (fun k b j c => om_ev_pI c) ?_ (fun _ => rfl) (fun _ => rfl) rfl (fun H' locs' z1 z2 => kk H' locs' la z1 z2 hL) (fun cell g1 g2 g3 g4 g5 g6 => ?_)
    · show Value.long (Int64.ofInt (aI (pI h a i.toNat x) a i.toNat)) = _
      rw [aI_pI, if_pos ⟨rfl, rfl⟩]
    · exact W.last X.1 X.2.1 g1 g2 (by rw [g4]; exact fun h => by cases h) g5 rfl rfl hd g6
theorem b8_rng (x : Int) : -128 ≤ b8 x ∧ b8 x ≤ 127 := by
  unfold b8
  rw [Int8.toInt_toInt32]
  have h1 := Int8.le_toInt (Int32.ofInt x).toInt8
  have h2 := Int8.toInt_lt (Int32.ofInt x).toInt8
  omega
/-- a byte array: the byte of an int is kept -/
theorem ok_bast {a : Nat} {i x : Int} (hd : decode M.2.1 pc = .ok (.bastore, 1)) (ha : kd h a = 50) (h0 : 0 ≤ i) (h1 : i < an h a) (k : OK G d M (pc + 1) ls st (pI h a i.toNat (b8 x)) Q) : OK G d M pc ls (vI x :: vI i :: vR a :: st) h Q := by
  refine ok_step (h' := pI h a i.toNat (b8 x)) ?_ (Nat.le_refl _) (Nat.le_refl _) k (fun p l e R s m args below meth c H locs la u0 Q' V C _ _ kk => ?_)
  · exact fun V => ⟨om_rng_pI V.1 (by rw [ha]; exact b8_rng x), om_t1 (om_t1 (om_t1 V.2.1)), V.2.2⟩
  · obtain ⟨X, -, -, -, hR, hlo, hL⟩ := C
    refine om_sto (h' := pI h a i.toNat (b8 x)) (w := narrow .byte (.int (Int32.ofInt x))) X hR hlo (k := 50) rfl ha (om_h1 (om_t1 V.2.1)) h0 h1 (fun _ => rfl) (fun _ _ => rfl) (fun _ => rfl) (fun k b j c => om_ev_pI c) ?_ (fun _ => rfl) (fun _ => rfl) rfl (fun H' locs' z1 z2 => kk H' locs' la z1 z2 hL) (fun cell g1 g2 g3 g4 g5 g6 => ?_)
    · show Value.int (Int32.ofInt (aI (pI h a i.toNat (b8 x)) a i.toNat)) = _
      rw [aI_pI, if_pos ⟨rfl, rfl⟩]
      show Value.int (Int32.ofInt (b8 x)) = Value.int (Int32.ofInt x).toInt8.toInt32
      rw [show Int32.ofInt (b8 x) = (Int32.ofInt x).toInt8.toInt32 from of32 _]
    · exact W.bast X.1 X.2.1 g1 g2 (by rw [g4]; exact fun h => by cases h) g5 rfl rfl hd g6
theorem ok_zast {a : Nat} {i x : Int} (hd : decode M.2.1 pc = .ok (.bastore, 1)) (ha : kd h a = 53) (hx : x = 0 ∨ x = 1) (h0 : 0 ≤ i) (h1 : i < an h a) (k : OK G d M (pc + 1) ls st (pI h a i.toNat x) Q) : OK G d M pc ls (vI x :: vI i :: vR a :: st) h Q := by
  refine ok_step (h' := pI h a i.toNat x) ?_ (Nat.le_refl _) (Nat.le_refl _) k (fun p l e R s m args below meth c H locs la u0 Q' V C _ _ kk => ?_)
  · exact fun V => ⟨om_rng_pI V.1 (by rw [ha]; exact hx), om_t1 (om_t1 (om_t1 V.2.1)), V.2.2⟩
  · obtain ⟨X, -, -, -, hR, hlo, hL⟩ := C
    refine om_sto (h' := pI h a i.toNat x) (w := narrow .boolean (.int (Int32.ofInt x))) X hR hlo (k := 53) rfl ha (om_h1 (om_t1 V.2.1)) h0 h1 (fun _ => rfl) (fun _ _ => rfl) (fun _ => rfl) (fun k b j c => om_ev_pI c) ?_ (fun _ => rfl) (fun _ => rfl) rfl (fun H' locs' z1 z2 => kk H' locs' la z1 z2 hL) (fun cell g1 g2 g3 g4 g5 g6 => ?_)
    · show Value.int (Int32.ofInt (aI (pI h a i.toNat x) a i.toNat)) = _
      rw [aI_pI, if_pos ⟨rfl, rfl⟩]
      rcases hx with rfl | rfl <;> decide
    · exact W.zast X.1 X.2.1 g1 g2 (by rw [g4]; exact fun h => by cases h) g5 rfl rfl hd g6
/-! new arrays -/
theorem om_rng_nA {k n : Nat} (V : om_rng h) (hn : n ≤ 2147483647) : om_rng (nA h k n) := by
  refine ⟨V.1, fun a i => ?_, fun a => ?_, V.2.2.2.1, by rw [hz_nA]; omega, by rw [kd_nA, if_neg (by have := V.2.2.2.2.1; omega)]; exact V.2.2.2.2.2.1, fun a ha => by rw [hz_nA] at ha; rw [kd_nA, if_neg (by omega)]; exact V.2.2.2.2.2.2 a (by omega)⟩
  · rw [kd_nA, aI_nA]
    by_cases c : a = hz h
    · rw [if_pos c, if_pos c]
      unfold om_ar
      split <;> first | exact iR_0 | exact lR_0 | exact Or.inl rfl | exact trivial | omega
    · rw [if_neg c, if_neg c]; exact V.2.1 a i
  · rw [an_nA]
    by_cases c : a = hz h
    · rw [if_pos c]; exact hn
    · rw [if_neg c]; exact V.2.2.1 a
theorem om_R.newA {H H' : Heap} {k n : Nat} {ty : FieldType} (hR : om_R G h H) (hzZ : hz h + 1 ≤ om_Z G) (hk : om_at k = some ty) (hn : n < 2 ^ 31) (h1 : H'[hz h]? = some { cls := om_aC G k, slots := Array.replicate n (defaultValue ty), vm := .none }) (h2 : H'.size = H.size + 1) (h3 : ∀ q, q < H.size → H'[q]? = H[q]?) : om_R G (nA h k n) H' := by
  have h50 := om_at_ge hk
  refine om_R.push hR hzZ h2 h3 rfl (fun b hb => by rw [kd_nA, if_neg hb]) (by rw [kd_nA, if_pos rfl]; omega) (fun g b hb => rfl) (fun b hb => by rw [an_nA, if_neg hb]) (fun k' b i hb => ?_) (fun _ => rfl) (fun _ => rfl) ?_ ?_
  · unfold om_ev
    rw [aI_nA, aR_nA, if_neg hb, if_neg hb]
  · intro k' r' hc' hk'
    rw [kd_nA, if_pos rfl] at hk'
    have := om_cl_lt hc'
    omega
  · intro k' ty' hc' hk'
    rw [kd_nA, if_pos rfl] at hk'
    subst hk'
    refine ⟨_, h1, rfl, rfl, by rw [an_nA, if_pos rfl]; simp, by rw [an_nA, if_pos rfl]; exact hn, fun i hi => ?_⟩
    rw [an_nA, if_pos rfl] at hi
    have e : om_ev G k (nA h k n) (hz h) i = defaultValue ty := by
      have : k = 50 ∨ k = 51 ∨ k = 52 ∨ k = 53 ∨ (54 ≤ k ∧ k ≤ 61) := by omega
      rcases this with rfl | rfl | rfl | rfl | q
      · cases hk; show Value.int (Int32.ofInt (aI (nA h 50 n) (hz h) i)) = _; rw [aI_nA, if_pos rfl]; rfl
      · cases hk; show Value.int (Int32.ofInt (aI (nA h 51 n) (hz h) i)) = _; rw [aI_nA, if_pos rfl]; rfl
      · cases hk; show Value.long (Int64.ofInt (aI (nA h 52 n) (hz h) i)) = _; rw [aI_nA, if_pos rfl]; rfl
      · cases hk; show Value.int (Int32.ofInt (aI (nA h 53 n) (hz h) i)) = _; rw [aI_nA, if_pos rfl]; rfl
      · obtain ⟨C, hC⟩ := om_at_ref q.1 q.2
        cases hk.symm.trans hC
        rw [om_ev_ref q.1 q.2, aR_nA, if_pos rfl]; rfl
    rw [e]
    simp [hi]
theorem ok_newa {kk0 : Nat} {n : Int} {atype : ArrayType} {ty : FieldType} (hd : decode M.2.1 pc = .ok (.newarray atype, 2)) (hty : newarray.typeOf atype = ty) (hk : om_at kk0 = some ty) (hp : kk0 ≤ 53) (hl : Cond.arrayClass ty ∈ lw_all) (h0 : 0 ≤ n) (h1 : n.toNat * componentBytes ty ≤ 536870912) (k : OK G d M (pc + 2) ls (vR (hz h) :: st) (nA h kk0 n.toNat) Q) : OK G d M pc ls (vI n :: st) h Q := by
  subst hty
  refine ok_rng (fun V0 => ?_)
  have hn : iR n := om_h1 V0.2.1
  have hn2 : n.toNat ≤ 2147483647 := by unfold iR at hn; omega
  refine ok_step (h' := nA h kk0 n.toNat) ?_ (by rw [hz_nA]; omega) (by rw [hu_nA]; omega) k (fun p l e R s m args below meth c H locs la u0 Q' V C b1 b2 kk => ?_)
  · exact fun V => ⟨om_rng_nA V.1 hn2, om_c1 (show om_okV (vR _) from trivial) (om_t1 V.2.1), V.2.2⟩
  · obtain ⟨⟨x1, x2, x3, x4, x5, x6, x7, x8, hS⟩, c2, c3, -, hR, hlo, hL⟩ := C
    rw [hz_nA] at b1
    rw [hu_nA] at b2
    have e0 : (Int32.ofInt n).toNatClampNeg = n.toNat := by
      show (Int32.ofInt n).toInt.toNat = n.toNat
      rw [toInt_of32 hn]
    refine W.newa x1 x2 (hS.1 _ hl args) rfl hd (n := Int32.ofInt n) (rest := st.map (om_tv G)) rfl (fun q => by have := (i32_lt hn iR_0).mp q; omega) (by rw [e0]; exact h1) (by omega) (by rw [e0]; omega) (fun cA kA comp g1 g2 g3 => ?_)
    rw [e0]
    have hcA : cA = om_aC G kk0 := by
      have := (hS.2.2.2.1 kk0 _ hk).2
      have h50 := om_at_ge hk
      have hq : kk0 = 50 ∨ kk0 = 51 ∨ kk0 = 52 ∨ kk0 = 53 := by omega
      have hkk := hk
      rcases hq with rfl | rfl | rfl | rfl <;>
      · have e : some _ = some (newarray.typeOf atype) := hkk
        rw [← Option.some.inj e] at this g1
        exact Option.some.inj (g1.symm.trans this)
    subst hcA
    have hzZ : hz h + 1 ≤ om_Z G := by have := c2.2.2; omega
    have hne : hz h ≠ 0 := by have := hR.2.1; have := hR.2.2.1; omega
    have hR' := om_R.newA (n := n.toNat) (H' := H.push { cls := om_aC G kk0, slots := Array.replicate n.toNat (defaultValue (newarray.typeOf atype)), vm := .none }) hR hzZ hk (by omega) (by rw [← hR.1]; simp) (by simp) (fun q hq => by rw [Array.getElem?_push, if_neg (by omega)])
    refine W.cs (cells' := hz (nA h kk0 n.toNat) - s.heap.size) (slots' := hu (nA h kk0 n.toNat) - u0) (by rw [hz_nA]; omega) (by rw [hu_nA]; omega) ?_
    have e1 : (Value.ref H.size) = om_rv G (hz h) := by rw [hR.1]; exact (om_rv_f (n := hz h + 1) ⟨hR.2.2.1.1, hzZ⟩ ⟨hR.2.1, Nat.lt_succ_self _⟩).symm
    show W p l e R s m args below meth c _ locs _ _ Q' (F0 m (pc + 2) la (Value.ref H.size :: st.map (om_tv G)))
    rw [e1]
    exact kk _ locs la hR' hlo hL
theorem ok_anew {kk0 index : Nat} {n : Int} {C : String} (hd : decode M.2.1 pc = .ok (.anewarray index, 3)) (hk : om_at kk0 = some (.object C)) (hl : Cond.classLink M.1.cls index C ∈ lw_all) (ho : Cond.arrayOver (.object C) ∈ lw_tbl) (h0 : 0 ≤ n) (h1 : n.toNat * 4 ≤ 536870912) (k : OK G d M (pc + 3) ls (vR (hz h) :: st) (nA h kk0 n.toNat) Q) : OK G d M pc ls (vI n :: st) h Q := by
  refine ok_rng (fun V0 => ?_)
  have hn : iR n := om_h1 V0.2.1
  have hn2 : n.toNat ≤ 2147483647 := by unfold iR at hn; omega
  refine ok_step (h' := nA h kk0 n.toNat) ?_ (by rw [hz_nA]; omega) (by rw [hu_nA]; omega) k (fun p l e R s m args below meth c H locs la u0 Q' V C b1 b2 kk => ?_)
  · exact fun V => ⟨om_rng_nA V.1 hn2, om_c1 (show om_okV (vR _) from trivial) (om_t1 V.2.1), V.2.2⟩
  · obtain ⟨⟨x1, x2, x3, x4, x5, x6, x7, x8, hS⟩, c2, c3, -, hR, hlo, hL⟩ := C
    rw [hz_nA] at b1
    rw [hu_nA] at b2
    have e0 : (Int32.ofInt n).toNatClampNeg = n.toNat := by
      show (Int32.ofInt n).toInt.toNat = n.toNat
      rw [toInt_of32 hn]
    refine W.anew x1 x2 x6 (hS.1 _ hl args) (va_AO.use (hS.2.1 _ ho rfl)) rfl hd (n := Int32.ofInt n) (rest := st.map (om_tv G)) rfl (fun q => by have := (i32_lt hn iR_0).mp q; omega) (by rw [e0]; exact h1) (by omega) (by rw [e0]; omega) (fun cA kA comp g1 g2 g3 g4 => ?_)
    rw [e0]
    have hcA : cA = om_aC G kk0 := by
      obtain ⟨kA', comp', -, -, -, q⟩ := (hS.2.2.2.1 kk0 _ hk).2
      exact Option.some.inj (g1.symm.trans q)
    subst hcA
    have hzZ : hz h + 1 ≤ om_Z G := by have := c2.2.2; omega
    have hne : hz h ≠ 0 := by have := hR.2.1; have := hR.2.2.1; omega
    have hR' := om_R.newA (n := n.toNat) (H' := H.push { cls := om_aC G kk0, slots := Array.replicate n.toNat .null, vm := .none }) hR hzZ hk (by omega) (by rw [← hR.1]; simp [defaultValue]) (by simp) (fun q hq => by rw [Array.getElem?_push, if_neg (by omega)])
    refine W.cs (cells' := hz (nA h kk0 n.toNat) - s.heap.size) (slots' := hu (nA h kk0 n.toNat) - u0) (by rw [hz_nA]; omega) (by rw [hu_nA]; omega) ?_
    have e1 : (Value.ref H.size) = om_rv G (hz h) := by rw [hR.1]; exact (om_rv_f (n := hz h + 1) ⟨hR.2.2.1.1, hzZ⟩ ⟨hR.2.1, Nat.lt_succ_self _⟩).symm
    show W p l e R s m args below meth c _ locs _ _ Q' (F0 m (pc + 3) la (Value.ref H.size :: st.map (om_tv G)))
    rw [e1]
    exact kk _ locs la hR' hlo hL
/-! a reference is stored: null; an object of the array's own class -/
theorem om_ev_pR {a n x : Nat} {k b j : Nat} (c : ¬ (b = a ∧ j = n)) : om_ev G k (pR h a n x) b j = om_ev G k h b j := by
  unfold om_ev
  rw [aR_pR, if_neg c]
  rfl
theorem ok_aast {a x kc : Nat} {i : Int} {r : vw_C} (hd : decode M.2.1 pc = .ok (.aastore, 1)) (hc : om_cl[kc]? = some r) (hat : om_at (kd h a) = some (.object r.1)) (hx : kd h x = kc + 1) (h0 : 0 ≤ i) (h1 : i < an h a) (k : OK G d M (pc + 1) ls st (pR h a i.toNat x) Q) : OK G d M pc ls (vR x :: vI i :: vR a :: st) h Q := by
  refine ok_step (h' := pR h a i.toNat x) ?_ (Nat.le_refl _) (Nat.le_refl _) k (fun p l e R s m args below meth c H locs la u0 Q' V C _ _ kk => ?_)
  · exact fun V => ⟨V.1, om_t1 (om_t1 (om_t1 V.2.1)), V.2.2⟩
  · obtain ⟨X, -, -, -, hR, hlo, hL⟩ := C
    have hS := X.2.2.2.2.2.2.2.2
    have h54 : 54 ≤ kd h a ∧ kd h a ≤ 61 := by
      have h50 := om_at_ge hat
      refine ⟨?_, h50.2⟩
      have : kd h a ≠ 50 ∧ kd h a ≠ 51 ∧ kd h a ≠ 52 ∧ kd h a ≠ 53 := by
        refine ⟨?_, ?_, ?_, ?_⟩ <;> (intro q; rw [q] at hat; cases hat)
      omega
    have hxb := hR.2.2.2.2.1 x (by omega)
    have hb0 := hR.2.2.1
    obtain ⟨cv, v1, v2, v3, v4⟩ := hR.2.2.2.2.2.1 kc r x hc hx
    obtain ⟨hSl, hfc, kC, hkC, hkind⟩ := hS.2.2.1 kc r hc
    refine om_sto (h' := pR h a i.toNat x) (w := .ref x) X hR hlo hat rfl (om_h1 (om_t1 V.2.1)) h0 h1 (fun _ => rfl) (fun _ _ => rfl) (fun _ => rfl) (fun k b j c => om_ev_pR c) ?_ (fun _ => rfl) (fun _ => rfl) rfl (fun H' locs' z1 z2 => kk H' locs' la z1 z2 hL) (fun cell g1 g2 g3 g4 g5 g6 => ?_)
    · rw [om_ev_ref h54.1 h54.2, aR_pR, if_pos ⟨rfl, rfl⟩, om_rv_f hb0 hxb]
    · obtain ⟨kA, comp, w1, w2, w3, w4⟩ := (hS.2.2.2.1 _ _ hat).2
      have ec : comp = G.1.1 kc := Option.some.inj (w3.symm.trans hfc)
      show W p l e R s m args below meth c H locs _ _ Q' (F0 m pc la (om_rv G x :: _))
      rw [om_rv_f hb0 hxb]
      exact W.aast X.1 X.2.1 g1 (fun q hq => by rw [g4] at hq; cases hq) (by rw [g4]; exact fun h => by cases h) (by rw [g3]; exact w1) w2 rfl (by rw [ec]; exact hkC) ⟨fun q => g5 (Or.inl q), Nat.lt_of_not_le (fun q => g5 (Or.inr q))⟩ v1 (fun q hq => by rw [v3] at hq; cases hq) (by rw [v2]; exact hkC) (by rw [v2, ec]; exact va_assign ⟨hfc, kC, hkC, hkind⟩) rfl rfl hd g6
end OM5
