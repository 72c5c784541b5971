set_option maxRecDepth 100000
/-! FIELDS: what the class tables give -/
theorem om_ft_nd : ∀ k, k < 41 → (om_ft (k + 1)).Nodup := by decide +kernel
theorem om_cl_lt {k : Nat} {r : vw_C} (h : om_cl[k]? = some r) : k < 41 := (List.getElem?_eq_some_iff.mp h).1
theorem om_cok_len {k : Nat} {r : vw_C} (h : om_cl[k]? = some r) : (om_ft (k + 1)).length = r.2.2 := by
  have h1 := (om_coks k r h).1
  unfold om_cok at h1
  rw [Bool.and_eq_true] at h1
  exact beq_iff_eq.mp h1.1
theorem om_cok_ty {k j : Nat} {r : vw_C} (h : om_cl[k]? = some r) (hj : j < r.2.2) : om_tyok ((om_ft (k + 1)).getD j 0 % 4) (parseFieldDescriptor (r.2.1 j).2.2.1) = true := by
  have h1 := (om_coks k r h).1
  unfold om_cok at h1
  rw [Bool.and_eq_true] at h1
  have h2 := List.all_eq_true.mp h1.2 j (List.mem_range.mpr hj)
  rw [Bool.and_eq_true] at h2
  exact h2.2
theorem om_ft_inj {k i j : Nat} {r : vw_C} (h : om_cl[k]? = some r) (hi : i < r.2.2) (hj : j < r.2.2) (e : (om_ft (k + 1)).getD i 0 = (om_ft (k + 1)).getD j 0) : i = j := by
  have hn := om_ft_nd k (om_cl_lt h)
  have hl := om_cok_len h
  have h1 : (om_ft (k + 1))[i]? = (om_ft (k + 1))[j]? := by
    rw [List.getD_eq_getElem?_getD, List.getD_eq_getElem?_getD, List.getElem?_eq_getElem (by omega), List.getElem?_eq_getElem (by omega)] at e
    rw [List.getElem?_eq_getElem (by omega), List.getElem?_eq_getElem (by omega)]
    exact congrArg some e
  exact (List.getElem?_inj (i := i) (j := j) (by omega) hn).mp h1
/-- a field's entry in a class's pool: its number, in objects of these classes; by an ordinary link, or a nest mate's -/
def om_FL (own : String) (idx f : Nat) (ks : List Nat) : Prop := ∀ k ∈ ks, ∃ (r : vw_C) (j : Nat) (ref : String), om_cl[k]? = some r ∧ j < r.2.2 ∧ (om_ft (k + 1)).getD j 0 = f ∧
  (Cond.fieldLink own idx ref (r.2.1 j).2.1 (r.2.1 j).2.2.1 ∈ lw_all ∨ ∃ host, Cond.fieldLinkNest own idx ref (r.2.1 j).2.1 (r.2.1 j).2.2.1 host ∈ lw_tbl) ∧
  (ref = (r.2.1 j).1 ∨ Cond.sameField ref (r.2.1 j).1 (r.2.1 j).2.1 (r.2.1 j).2.2.1 ∈ lw_all)
/-- .. one that may be written: it isn't final, or its class's constructor runs (fin) -/
def om_FP (own : String) (idx f : Nat) (fin : Bool) (ks : List Nat) : Prop := ∀ k ∈ ks, ∃ (r : vw_C) (j : Nat) (ref : String), om_cl[k]? = some r ∧ j < r.2.2 ∧ (om_ft (k + 1)).getD j 0 = f ∧
  (Cond.fieldLink own idx ref (r.2.1 j).2.1 (r.2.1 j).2.2.1 ∈ lw_all ∨ (fin = false ∧ ∃ host, Cond.fieldLinkNest own idx ref (r.2.1 j).2.1 (r.2.1 j).2.2.1 host ∈ lw_tbl)) ∧
  (ref = (r.2.1 j).1 ∨ Cond.sameField ref (r.2.1 j).1 (r.2.1 j).2.1 (r.2.1 j).2.2.1 ∈ lw_all) ∧ (r.2.1 j).2.2.2 = fin ∧ (fin = true → (r.2.1 j).1 = own)
theorem om_same {s : State} {G : om_G} (hS : om_SC G s) {ref o n d : String} (h : ref = o ∨ Cond.sameField ref o n d ∈ lw_all) : ∀ x, s.fieldFound? o n d = some x → s.fieldFound? ref n d = some x := by
  intro x hx
  rcases h with rfl | h
  · exact hx
  · exact u_same (hS.1 _ h #[]) x hx
section OM4
variable {G : om_G} {d : Nat} {M : om_M} {pc : Nat} {ls : List (Option om_V)} {st : List om_V} {h h' : om_H} {Q : om_O → Prop}
theorem om_get_w {p : Program} {l : Launch} {e : Env} {R : Room} {s : State} {m : MethodId} {args : Array Value} {below : List Frame} {meth : Method} {c : Code} {H : Heap} {locs : List Loc} {cells slots : Nat} {Q' : State → Prop} {la : Array Slot} {rest : List Value}
    (X : om_X G M p s m meth c) (hR : om_R G h H) {index f a k : Nat} {ks : List Nat} (F : om_FL M.1.cls index f ks) (hks : k ∈ ks) (hk : kd h a = k + 1) (hd : decode M.2.1 pc = .ok (.getfield index, 3))
    (kk : W p l e R s m args below meth c H locs cells slots Q' (F0 m (pc + 3) la (om_fv G h f a :: rest))) : W p l e R s m args below meth c H locs cells slots Q' (F0 m pc la (om_rv G a :: rest)) := by
  obtain ⟨r, j, ref, hc, hj, hf, hl, hs⟩ := F k hks
  obtain ⟨x1, x2, x3, x4, x5, x6, x7, x8, hS⟩ := X
  obtain ⟨r1, r2, r3, r4, r5, r6, r7, r8⟩ := hR
  have ha0 := r5 a (by omega)
  have ha : a ≠ 0 := by omega
  rw [om_rv_f r3 ha0]
  obtain ⟨cell, q1, q2, q3, q4⟩ := r6 k r a hc hk
  obtain ⟨hSl, hfc, kC, hkC, hkind⟩ := hS.2.2.1 k r hc
  obtain ⟨cf, kf, fi, fd, hi, hsl⟩ := hSl j hj
  have hts : ∀ w ∈ lw_all, w.before args s = true := fun w hw => hS.1 w hw args
  have hst := (u_facts hfc hkC (u_lays hts (om_coks k r hc).2.1 hj) hi).1
  have hv : cell.slots[fd.slot]? = some (om_fv G h f a) := by rw [hsl, q4 j hj]; show some (om_fv G h ((om_ft (k + 1)).getD j 0) a) = _; rw [hf]
  rcases hl with hl | ⟨host, hl⟩
  · exact W.getf x1 x2 x6 (hS.1 _ hl args) (om_same hS hs _ hi) hst q1 (by rw [q3]; exact fun h => by cases h) hv rfl rfl hd kk
  · exact va_Wgetf x1 x2 x6 (va_Nw.use rfl (hS.2.1 _ hl rfl)) (om_same hS hs _ hi) hst q1 (by rw [q3]; exact fun h => by cases h) hv rfl rfl hd kk
theorem om_fr_i {f : Nat} {x : Int} (h : om_fr f x) (hf : f % 4 = 0 ∨ f % 4 = 3) : iR x := by
  unfold om_fr at h
  rcases hf with e | e
  · rw [e] at h; exact h
  · rw [e] at h
    rcases h with rfl | rfl <;> (unfold iR; omega)
theorem om_fr_l {f : Nat} {x : Int} (h : om_fr f x) (hf : f % 4 = 1) : lR x := by
  unfold om_fr at h
  rw [hf] at h; exact h
theorem om_fv_i {f a : Nat} (hf : f % 4 = 0 ∨ f % 4 = 3) : om_fv G h f a = .int (Int32.ofInt (fI h f a)) := by
  unfold om_fv
  rcases hf with e | e <;> (rw [e]; rfl)
theorem om_fv_l {f a : Nat} (hf : f % 4 = 1) : om_fv G h f a = .long (Int64.ofInt (fI h f a)) := by
  unfold om_fv
  rw [hf]; rfl
theorem om_fv_r {f a : Nat} (hf : f % 4 = 2) : om_fv G h f a = om_rv G (fR h f a) := by
  unfold om_fv
  rw [hf]; rfl
/-- getfield: an int (or boolean), a long, a reference; the object is of one of the classes ks -/
theorem ok_getIs {index f a : Nat} {ks : List Nat} (hd : decode M.2.1 pc = .ok (.getfield index, 3)) (F : om_FL M.1.cls index f ks) (hf : f % 4 = 0 ∨ f % 4 = 3) (hk : ∃ k ∈ ks, kd h a = k + 1) (k : OK G d M (pc + 3) ls (vI (fI h f a) :: st) h Q) : OK G d M pc ls (vR a :: st) h Q := by
  obtain ⟨k0, hk1, hk2⟩ := hk
  refine ok_st ?_ k (fun p l e R s m args below meth c H locs la cells slots Q' X L hR V kk => ?_)
  · exact fun V => om_c1 (om_fr_i (V.1.1 f a) hf) (om_t1 V.2.1)
  · refine om_get_w X hR F hk1 hk2 hd ?_
    rw [om_fv_i hf]
    exact kk
theorem ok_getLs {index f a : Nat} {ks : List Nat} (hd : decode M.2.1 pc = .ok (.getfield index, 3)) (F : om_FL M.1.cls index f ks) (hf : f % 4 = 1) (hk : ∃ k ∈ ks, kd h a = k + 1) (k : OK G d M (pc + 3) ls (vL (fI h f a) :: st) h Q) : OK G d M pc ls (vR a :: st) h Q := by
  obtain ⟨k0, hk1, hk2⟩ := hk
  refine ok_st ?_ k (fun p l e R s m args below meth c H locs la cells slots Q' X L hR V kk => ?_)
  · exact fun V => om_c1 (om_fr_l (V.1.1 f a) hf) (om_t1 V.2.1)
  · refine om_get_w X hR F hk1 hk2 hd ?_
    rw [om_fv_l hf]
    exact kk
theorem ok_getRs {index f a : Nat} {ks : List Nat} (hd : decode M.2.1 pc = .ok (.getfield index, 3)) (F : om_FL M.1.cls index f ks) (hf : f % 4 = 2) (hk : ∃ k ∈ ks, kd h a = k + 1) (k : OK G d M (pc + 3) ls (vR (fR h f a) :: st) h Q) : OK G d M pc ls (vR a :: st) h Q := by
  obtain ⟨k0, hk1, hk2⟩ := hk
  refine ok_st ?_ k (fun p l e R s m args below meth c H locs la cells slots Q' X L hR V kk => ?_)
  · exact fun V => om_c1 (show om_okV (vR _) from trivial) (om_t1 V.2.1)
  · refine om_get_w X hR F hk1 hk2 hd ?_
    rw [om_fv_r hf]
    exact kk
theorem ok_getI {index f a k0 : Nat} (hd : decode M.2.1 pc = .ok (.getfield index, 3)) (F : om_FL M.1.cls index f [k0]) (hf : f % 4 = 0 ∨ f % 4 = 3) (hk : kd h a = k0 + 1) (k : OK G d M (pc + 3) ls (vI (fI h f a) :: st) h Q) : OK G d M pc ls (vR a :: st) h Q := ok_getIs hd F hf ⟨k0, List.mem_singleton.mpr rfl, hk⟩ k
theorem ok_getL {index f a k0 : Nat} (hd : decode M.2.1 pc = .ok (.getfield index, 3)) (F : om_FL M.1.cls index f [k0]) (hf : f % 4 = 1) (hk : kd h a = k0 + 1) (k : OK G d M (pc + 3) ls (vL (fI h f a) :: st) h Q) : OK G d M pc ls (vR a :: st) h Q := ok_getLs hd F hf ⟨k0, List.mem_singleton.mpr rfl, hk⟩ k
theorem ok_getR {index f a k0 : Nat} (hd : decode M.2.1 pc = .ok (.getfield index, 3)) (F : om_FL M.1.cls index f [k0]) (hf : f % 4 = 2) (hk : kd h a = k0 + 1) (k : OK G d M (pc + 3) ls (vR (fR h f a) :: st) h Q) : OK G d M pc ls (vR a :: st) h Q := ok_getRs hd F hf ⟨k0, List.mem_singleton.mpr rfl, hk⟩ k
/-- one cell that is known has changed -/
theorem om_R.upd {H H' : Heap} {a : Nat} (hR : om_R G h H) (hsz : H'.size = H.size) (ho : ∀ q, q ≠ a → H'[q]? = H[q]?) (ha : kd h a ≠ 0) (hl : kd h a ≠ 42) (hkd : ∀ b, kd h' b = kd h b) (hfv : ∀ g b, b ≠ a → om_fv G h' g b = om_fv G h g b) (han : ∀ b, an h' b = an h b)
    (hev : ∀ k b i, b ≠ a → om_ev G k h' b i = om_ev G k h b i) (hll : ∀ b, ll h' b = ll h b) (hlc : ∀ b, lc h' b = lc h b) (hhz : hz h' = hz h)
    (hcl : ∀ (k : Nat) (r : vw_C), om_cl[k]? = some r → kd h a = k + 1 → t_OB a (G.1.1 k) r.2.2 (G.1.2 k) H' (fun j => om_fv G h' ((om_ft (k + 1)).getD j 0) a)) (har : ∀ (k : Nat) (ty : FieldType), om_at k = some ty → kd h a = k → om_arr G h' H' a k) : om_R G h' H' := by
  obtain ⟨r1, r2, r3, r4, r5, r6, r7, E, r8, r9⟩ := hR
  have hab := r5 a ha
  refine ⟨by rw [hsz, hhz]; exact r1, by rw [hhz]; exact r2, by rw [hhz]; exact r3, fun q hq => by rw [ho q (by omega)]; exact r4 q hq, fun b hb => by rw [hhz]; exact r5 b (by rw [← hkd]; exact hb), ?_, ?_, E, ?_, ?_⟩
  · intro k r b hc hk
    rw [hkd] at hk
    by_cases c : b = a
    · subst c; exact hcl k r hc hk
    · exact t_OB.to ((r6 k r b hc hk).kept (ho b c)) (fun j _ => (hfv _ b c).symm)
  · intro k ty b hc hk
    rw [hkd] at hk
    by_cases c : b = a
    · subst c; exact har k ty hc hk
    · obtain ⟨cell, q1, q2, q3, q4, q5, q6⟩ := r7 k ty b hc hk
      exact ⟨cell, by rw [ho b c]; exact q1, q2, q3, by rw [han]; exact q4, by rw [han]; exact q5, fun i hi => by rw [hev k b i c]; exact q6 i (by rw [← han]; exact hi)⟩
  · intro b hb
    rw [hkd] at hb
    have c : b ≠ a := fun q => hl (q ▸ hb)
    obtain ⟨⟨mc, q1⟩, q2⟩ := r8 b hb
    refine ⟨⟨mc, by rw [hll]; exact q1.kept (ho b c)⟩, ?_⟩
    rw [hll, hlc, hhz, hkd]
    rcases q2 with q2 | ⟨z1, z2, z3, z4, z5, z6, cell, f, z7, z8⟩
    · exact Or.inl q2
    · have c2 : E b ≠ a := fun q => ha (q ▸ z6)
      exact Or.inr ⟨z1, z2, z3, z4, z5, z6, cell, f, by rw [ho _ c2]; exact z7, z8⟩
  · intro b c hb hc h1 h2 h3
    rw [hkd] at hb hc
    rw [hlc] at h1 h2
    exact r9 b c hb hc h1 h2 h3
/-- what a field keeps -/
def om_keeps (f : Nat) (v : Value) : Prop := ∀ ty, om_tyok (f % 4) (some ty) = true → narrow ty v = v ∧ fits ty v = true
theorem om_keeps_i {f : Nat} {x : Int} (hf : f % 4 = 0) : om_keeps f (.int (Int32.ofInt x)) := by
  intro ty h
  rw [hf] at h
  have e : ty = .int := by simpa [om_tyok] using h
  subst e
  exact ⟨rfl, rfl⟩
theorem om_keeps_z {f : Nat} {x : Int} (hf : f % 4 = 3) (hx : x = 0 ∨ x = 1) : om_keeps f (.int (Int32.ofInt x)) := by
  intro ty h
  rw [hf] at h
  have e : ty = .boolean := by simpa [om_tyok] using h
  subst e
  rcases hx with rfl | rfl <;> exact ⟨by decide, by decide⟩
theorem om_keeps_l {f : Nat} {x : Int} (hf : f % 4 = 1) : om_keeps f (.long (Int64.ofInt x)) := by
  intro ty h
  rw [hf] at h
  have e : ty = .long := by simpa [om_tyok] using h
  subst e
  exact ⟨rfl, rfl⟩
theorem om_keeps_r {f x : Nat} (hf : f % 4 = 2) : om_keeps f (om_rv G x) := by
  intro ty h
  rw [hf] at h
  have e : ty.isReference = true := h
  cases ty <;> first | (cases e; done) | (cases x <;> exact ⟨rfl, rfl⟩)
theorem om_put_w {p : Program} {l : Launch} {e : Env} {R : Room} {s : State} {m : MethodId} {args : Array Value} {below : List Frame} {meth : Method} {c : Code} {H : Heap} {locs : List Loc} {cells slots : Nat} {Q' : State → Prop} {la : Array Slot} {rest : List Value}
    (X : om_X G M p s m meth c) (hR : om_R G h H) (hlo : ∀ q ∈ locs, om_b G ≤ q.base) {index f a k : Nat} {fin : Bool} {ks : List Nat} {v : Value} (F : om_FP M.1.cls index f fin ks) (hin : fin = true → M.1.name = "<init>") (hks : k ∈ ks) (hk : kd h a = k + 1) (hd : decode M.2.1 pc = .ok (.putfield index, 3)) (hv : om_keeps f v)
    (hkd : ∀ b, kd h' b = kd h b) (hfv : ∀ g b, ¬ (g = f ∧ b = a) → om_fv G h' g b = om_fv G h g b) (hfa : om_fv G h' f a = v) (han : ∀ b, an h' b = an h b) (hev : ∀ k b i, om_ev G k h' b i = om_ev G k h b i) (hll : ∀ b, ll h' b = ll h b) (hlc : ∀ b, lc h' b = lc h b) (hhz : hz h' = hz h)
    (kk : ∀ (H' : Heap) (locs' : List Loc), om_R G h' H' → (∀ q ∈ locs', om_b G ≤ q.base) → W p l e R s m args below meth c H' locs' cells slots Q' (F0 m (pc + 3) la rest)) : W p l e R s m args below meth c H locs cells slots Q' (F0 m pc la (v :: om_rv G a :: rest)) := by
  obtain ⟨r, j, ref, hc, hj, hf, hl, hs, hfin, hown⟩ := F k hks
  obtain ⟨x1, x2, x3, x4, x5, x6, x7, x8, hS⟩ := X
  obtain ⟨r1, r2, r3, r4, r5, r6, r7, r8⟩ := id hR
  have ha0 := r5 a (by omega)
  have ha : a ≠ 0 := by omega
  rw [om_rv_f r3 ha0]
  obtain ⟨cell, q1, q2, q3, q4⟩ := r6 k r a hc hk
  obtain ⟨hSl, hfc, kC, hkC, hkind⟩ := hS.2.2.1 k r hc
  obtain ⟨cf, kf, fi, fd, hi, hsl⟩ := hSl j hj
  have hts : ∀ w ∈ lw_all, w.before args s = true := fun w hw => hS.1 w hw args
  have hin1 := (om_coks k r hc).2.1
  have hst := (u_facts hfc hkC (u_lays hts hin1 hj) hi).1
  have hty := om_cok_ty hc hj
  rw [hf] at hty
  obtain ⟨ty, hpd⟩ : ∃ ty, parseFieldDescriptor (r.2.1 j).2.2.1 = some ty := by
    cases hp : parseFieldDescriptor (r.2.1 j).2.2.1 with
    | some ty => exact ⟨ty, rfl⟩
    | none =>
      rw [hp] at hty
      unfold om_tyok at hty
      split at hty <;> simp at hty
  rw [hpd] at hty
  obtain ⟨n1, n2⟩ := hv ty hty
  have hft := u_fits hfc hkC hkind (u_lays hts hin1 hj) hi hpd n1 n2
  have hap : ∀ x y, x < r.2.2 → y < r.2.2 → x ≠ y → G.1.2 k x ≠ G.1.2 k y := by
    intro x y hx hy hne
    obtain ⟨_, _, _, fa, hia, ea⟩ := hSl x hx
    obtain ⟨_, _, _, fb, hib, eb⟩ := hSl y hy
    rw [← ea, ← eb]
    refine u_apart (u_lays hts hin1 hx) (u_lays hts hin1 hy) hia hib ?_
    have tx := om_cok_ty hc hx
    have ty := om_cok_ty hc hy
    obtain ⟨t1, e1⟩ : ∃ t, parseFieldDescriptor (r.2.1 x).2.2.1 = some t := by
      cases hp : parseFieldDescriptor (r.2.1 x).2.2.1 with
      | some t => exact ⟨t, rfl⟩
      | none => rw [hp] at tx; unfold om_tyok at tx; split at tx <;> simp at tx
    obtain ⟨t2, e2⟩ : ∃ t, parseFieldDescriptor (r.2.1 y).2.2.1 = some t := by
      cases hp : parseFieldDescriptor (r.2.1 y).2.2.1 with
      | some t => exact ⟨t, rfl⟩
      | none => rw [hp] at ty; unfold om_tyok at ty; split at ty <;> simp at ty
    rw [(State.fieldFound?_type hia e1).1, (State.fieldFound?_type hib e2).1]
    exact (om_coks k r hc).2.2 x hx y hy hne
  have hlt : fd.slot < cell.slots.size := by rw [hsl]; exact k2_hasslot (q4 j hj)
  have hal : a < H.size := (Array.getElem?_eq_some_iff.mp q1).1
  have done : ∀ H' : Heap, H'[a]? = some (cell.setSlot fd.slot v) → H'.size = H.size → (∀ q, q ≠ a → H'[q]? = H[q]?) → W p l e R s m args below meth c H' (locs ++ [⟨a, fd.slot⟩]) cells slots Q' (F0 m (pc + 3) la rest) := by
    intro H' e1 e2 e3
    refine kk H' _ (om_R.upd hR e2 e3 (by omega) (by have := om_cl_lt hc; omega) hkd (fun g b hb => hfv g b (fun q => hb q.2)) han (fun k b i _ => hev k b i) hll hlc hhz ?_ ?_) ?_
    · intro k' r' hc' hk'
      have ek : k' = k := by omega
      subst ek
      cases hc.symm.trans hc'
      rw [hsl] at e1
      refine ⟨_, e1, q2, q3, fun i hi' => ?_⟩
      rw [t_set q4 hap hj v i hi']
      unfold updV
      by_cases c : i = j
      · rw [if_pos c, c]; show some v = some (om_fv G h' ((om_ft (k' + 1)).getD j 0) a); rw [hf, hfa]
      · rw [if_neg c]; show some (om_fv G h _ a) = some (om_fv G h' _ a); rw [hfv _ a (fun q => c (om_ft_inj hc hi' hj (q.1.trans hf.symm)))]
    · intro k' ty' hc' hk'
      have := om_cl_lt hc
      have e' : k' = k + 1 := by omega
      subst e'
      unfold om_at at hc'
      split at hc' <;> first | omega | cases hc'
    · exact t_lc hlo ha0.1
  have hfit : s.fitsSlot cell.cls cell.vm fd.slot v = true := by rw [q2, q3]; exact hft.2
  cases fin with
  | false =>
    have hlay := hts _ (hin1 _ (u_in_lay hj))
    unfold u_lay at hlay
    rw [if_neg (by rw [hfin]; decide)] at hlay
    have hS6 := u_store hfc hkC hkind hlay hi hpd n1 n2
    rcases hl with hl | ⟨-, host, hl⟩
    · exact W.putK x1 x2 (f := fd) ⟨x6, hS.1 _ hl args, ⟨_, _, _, om_same hS hs _ hi⟩, hst⟩ (by rw [q2]; exact hS6) q1 q3 hlt rfl rfl hd done
    · exact va_WputK x1 x2 (f := fd) x6 (va_Nw.use rfl (hS.2.1 _ hl rfl)) (om_same hS hs _ hi) hst (by rw [q2]; exact hS6) q1 q3 hlt rfl rfl hd done
  | true =>
    have hlay := hts _ (hin1 _ (u_in_lay hj))
    unfold u_lay at hlay
    rw [if_pos hfin] at hlay
    have hcf : m.cls = cf := by
      obtain ⟨_, _, c', _, _, _, -, -, hf', -, -, -, hown2, -⟩ := Cond.laysFinal_spec hlay
      have e1 : c' = cf := by have := hi.symm.trans hf'; simp at this; exact this.1.symm
      rw [hown rfl] at hown2
      rw [← e1]; exact Option.some.inj (x6.symm.trans hown2)
    rcases hl with hl | ⟨hl, -⟩
    · exact W.putFinK x1 x2 x6 (hS.1 _ hl args) (om_same hS hs _ hi) hst hcf (x7.trans (hin rfl)) (by rw [q2]; exact hft) q1 q3 hlt rfl rfl hd done
    · cases hl
theorem om_rng_sI {f a : Nat} {x : Int} (V : om_rng h) (hx : om_fr f x) : om_rng (sI h f a x) := by
  refine ⟨fun g b => ?_, V.2⟩
  rw [fI_sI]
  by_cases c : g = f ∧ b = a
  · rw [if_pos c, c.1]; exact hx
  · rw [if_neg c]; exact V.1 g b
theorem om_fv_sI {f a : Nat} {x : Int} {g b : Nat} (c : ¬ (g = f ∧ b = a)) : om_fv G (sI h f a x) g b = om_fv G h g b := by
  unfold om_fv
  rw [fI_sI, if_neg c]
  rfl
theorem om_fv_sR {f a x : Nat} {g b : Nat} (c : ¬ (g = f ∧ b = a)) : om_fv G (sR h f a x) g b = om_fv G h g b := by
  unfold om_fv
  rw [fR_sR, if_neg c]
  rfl
/-- putfield: an int; a boolean; a long; a reference -/
theorem ok_putIs {index f a : Nat} {x : Int} {fin : Bool} {ks : List Nat} (hd : decode M.2.1 pc = .ok (.putfield index, 3)) (F : om_FP M.1.cls index f fin ks) (hin : fin = true → M.1.name = "<init>") (hf : f % 4 = 0) (hk : ∃ k ∈ ks, kd h a = k + 1) (k : OK G d M (pc + 3) ls st (sI h f a x) Q) : OK G d M pc ls (vI x :: vR a :: st) h Q := by
  obtain ⟨k0, hk1, hk2⟩ := hk
  refine ok_step (h' := sI h f a x) ?_ (Nat.le_refl _) (Nat.le_refl _) k (fun p l e R s m args below meth c H locs la u0 Q' V C _ _ kk => ?_)
  · exact fun V => ⟨om_rng_sI V.1 (by unfold om_fr; rw [hf]; exact om_h1 V.2.1), om_t1 (om_t1 V.2.1), V.2.2⟩
  · exact om_put_w (h' := sI h f a x) C.1 C.2.2.2.2.1 C.2.2.2.2.2.1 F hin hk1 hk2 hd (om_keeps_i hf) (fun _ => rfl) (fun g b c => om_fv_sI c) (by rw [om_fv_i (Or.inl hf), fI_sI, if_pos ⟨rfl, rfl⟩]; rfl) (fun _ => rfl) (fun _ _ _ => rfl) (fun _ => rfl) (fun _ => rfl) rfl (fun H' locs' z1 z2 => kk H' locs' la z1 z2 C.2.2.2.2.2.2)
theorem ok_putZs {index f a : Nat} {x : Int} {fin : Bool} {ks : List Nat} (hd : decode M.2.1 pc = .ok (.putfield index, 3)) (F : om_FP M.1.cls index f fin ks) (hin : fin = true → M.1.name = "<init>") (hf : f % 4 = 3) (hx : x = 0 ∨ x = 1) (hk : ∃ k ∈ ks, kd h a = k + 1) (k : OK G d M (pc + 3) ls st (sI h f a x) Q) : OK G d M pc ls (vI x :: vR a :: st) h Q := by
  obtain ⟨k0, hk1, hk2⟩ := hk
  refine ok_step (h' := sI h f a x) ?_ (Nat.le_refl _) (Nat.le_refl _) k (fun p l e R s m args below meth c H locs la u0 Q' V C _ _ kk => ?_)
  · exact fun V => ⟨om_rng_sI V.1 (by unfold om_fr; rw [hf]; exact hx), om_t1 (om_t1 V.2.1), V.2.2⟩
  · exact om_put_w (h' := sI h f a x) C.1 C.2.2.2.2.1 C.2.2.2.2.2.1 F hin hk1 hk2 hd (om_keeps_z hf hx) (fun _ => rfl) (fun g b c => om_fv_sI c) (by rw [om_fv_i (Or.inr hf), fI_sI, if_pos ⟨rfl, rfl⟩]; rfl) (fun _ => rfl) (fun _ _ _ => rfl) (fun _ => rfl) (fun _ => rfl) rfl (fun H' locs' z1 z2 => kk H' locs' la z1 z2 C.2.2.2.2.2.2)
theorem ok_putLs {index f a : Nat} {x : Int} {fin : Bool} {ks : List Nat} (hd : decode M.2.1 pc = .ok (.putfield index, 3)) (F : om_FP M.1.cls index f fin ks) (hin : fin = true → M.1.name = "<init>") (hf : f % 4 = 1) (hk : ∃ k ∈ ks, kd h a = k + 1) (k : OK G d M (pc + 3) ls st (sI h f a x) Q) : OK G d M pc ls (vL x :: vR a :: st) h Q := by
  obtain ⟨k0, hk1, hk2⟩ := hk
  refine ok_step (h' := sI h f a x) ?_ (Nat.le_refl _) (Nat.le_refl _) k (fun p l e R s m args below meth c H locs la u0 Q' V C _ _ kk => ?_)
  · exact fun V => ⟨om_rng_sI V.1 (by unfold om_fr; rw [hf]; exact om_h1 V.2.1), om_t1 (om_t1 V.2.1), V.2.2⟩
  · exact om_put_w (h' := sI h f a x) C.1 C.2.2.2.2.1 C.2.2.2.2.2.1 F hin hk1 hk2 hd (om_keeps_l hf) (fun _ => rfl) (fun g b c => om_fv_sI c) (by rw [om_fv_l hf, fI_sI, if_pos ⟨rfl, rfl⟩]; rfl) (fun _ => rfl) (fun _ _ _ => rfl) (fun _ => rfl) (fun _ => rfl) rfl (fun H' locs' z1 z2 => kk H' locs' la z1 z2 C.2.2.2.2.2.2)
theorem ok_putRs {index f a x : Nat} {fin : Bool} {ks : List Nat} (hd : decode M.2.1 pc = .ok (.putfield index, 3)) (F : om_FP M.1.cls index f fin ks) (hin : fin = true → M.1.name = "<init>") (hf : f % 4 = 2) (hk : ∃ k ∈ ks, kd h a = k + 1) (k : OK G d M (pc + 3) ls st (sR h f a x) Q) : OK G d M pc ls (vR x :: vR a :: st) h Q := by
  obtain ⟨k0, hk1, hk2⟩ := hk
  refine ok_step (h' := sR h f a x) ?_ (Nat.le_refl _) (Nat.le_refl _) k (fun p l e R s m args below meth c H locs la u0 Q' V C _ _ kk => ?_)
  · exact fun V => ⟨V.1, om_t1 (om_t1 V.2.1), V.2.2⟩
  · exact om_put_w (h' := sR h f a x) C.1 C.2.2.2.2.1 C.2.2.2.2.2.1 F hin hk1 hk2 hd (om_keeps_r hf) (fun _ => rfl) (fun g b c => om_fv_sR c) (by rw [om_fv_r hf, fR_sR, if_pos ⟨rfl, rfl⟩]; rfl) (fun _ => rfl) (fun k b i => by unfold om_ev; rfl) (fun _ => rfl) (fun _ => rfl) rfl (fun H' locs' z1 z2 => kk H' locs' la z1 z2 C.2.2.2.2.2.2)
theorem ok_putI {index f a k0 : Nat} {x : Int} {fin : Bool} (hd : decode M.2.1 pc = .ok (.putfield index, 3)) (F : om_FP M.1.cls index f fin [k0]) (hin : fin = true → M.1.name = "<init>") (hf : f % 4 = 0) (hk : kd h a = k0 + 1) (k : OK G d M (pc + 3) ls st (sI h f a x) Q) : OK G d M pc ls (vI x :: vR a :: st) h Q := ok_putIs hd F hin hf ⟨k0, List.mem_singleton.mpr rfl, hk⟩ k
theorem ok_putZ {index f a k0 : Nat} {x : Int} {fin : Bool} (hd : decode M.2.1 pc = .ok (.putfield index, 3)) (F : om_FP M.1.cls index f fin [k0]) (hin : fin = true → M.1.name = "<init>") (hf : f % 4 = 3) (hx : x = 0 ∨ x = 1) (hk : kd h a = k0 + 1) (k : OK G d M (pc + 3) ls st (sI h f a x) Q) : OK G d M pc ls (vI x :: vR a :: st) h Q := ok_putZs hd F hin hf hx ⟨k0, List.mem_singleton.mpr rfl, hk⟩ k
theorem ok_putL {index f a k0 : Nat} {x : Int} {fin : Bool} (hd : decode M.2.1 pc = .ok (.putfield index, 3)) (F : om_FP M.1.cls index f fin [k0]) (hin : fin = true → M.1.name = "<init>") (hf : f % 4 = 1) (hk : kd h a = k0 + 1) (k : OK G d M (pc + 3) ls st (sI h f a x) Q) : OK G d M pc ls (vL x :: vR a :: st) h Q := ok_putLs hd F hin hf ⟨k0, List.mem_singleton.mpr rfl, hk⟩ k
theorem ok_putR {index f a x k0 : Nat} {fin : Bool} (hd : decode M.2.1 pc = .ok (.putfield index, 3)) (F : om_FP M.1.cls index f fin [k0]) (hin : fin = true → M.1.name = "<init>") (hf : f % 4 = 2) (hk : kd h a = k0 + 1) (k : OK G d M (pc + 3) ls st (sR h f a x) Q) : OK G d M pc ls (vR x :: vR a :: st) h Q := ok_putRs hd F hin hf ⟨k0, List.mem_singleton.mpr rfl, hk⟩ k
end OM4
