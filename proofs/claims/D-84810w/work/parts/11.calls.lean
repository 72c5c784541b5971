set_option maxRecDepth 100000
/-! RETURNS -/
section OM6
variable {G : om_G} {d : Nat} {M : om_M} {pc : Nat} {ls : List (Option om_V)} {st : List om_V} {h h' : om_H} {Q : om_O → Prop}
theorem W.to {p : Program} {l : Launch} {e : Env} {R : Room} {s : State} {m : MethodId} {args : Array Value} {below : List Frame} {meth : Method} {c : Code} {H : Heap} {locs : List Loc} {cells slots : Nat} {Q Q' : State → Prop} {g : JFrame} (hq : ∀ t, Q t → Q' t) (w : W p l e R s m args below meth c H locs cells slots Q g) : W p l e R s m args below meth c H locs cells slots Q' g := by
  intro T hT X
  obtain ⟨t, a, b⟩ := w T hT X
  exact ⟨t, a, hq t b⟩
/-- the end of a method -/
theorem ok_end {v : Option om_V} (hv : ∀ u, v = some u → om_V0 h ls st → om_okV u) (q : Q (.inl v, h))
    (w : ∀ (p : Program) (l : Launch) (e : Env) (R : Room) (s : State) (m : MethodId) (args : Array Value) (below : List Frame) (meth : Method) (c : Code) (H : Heap) (locs : List Loc) (la : Array Slot) (cells slots : Nat), om_X G M p s m meth c → (∀ q ∈ locs, om_b G ≤ q.base) → om_V0 h ls st →
      W p l e R s m args below meth c H locs cells slots (MQ below (fun _ _ o t => o = .returned (v.map (om_tv G)) ∧ t.heap = H) args s cells slots (fun q => om_b G ≤ q)) (F0 m pc la (st.map (om_tv G)))) : OK G d M pc ls st h Q := by
  intro V
  refine ⟨⟨(.inl v, h), q, fun u hu => hv u (by cases hu; rfl) V, V.1, Nat.le_refl _, Nat.le_refl _⟩, fun p l e R s m args below meth c H locs la u0 C => ?_⟩
  obtain ⟨X, -, c3, -, hR, hlo, hL⟩ := C
  refine W.to (fun t ht => ?_) (w p l e R s m args below meth c H locs la _ _ X hlo V)
  obtain ⟨o, t1, t2, ⟨t3, t4⟩, L, ⟨t5, t6, t7⟩, t8⟩ := ht
  refine ⟨(.inl v, h), o, L, q, ?_, fun u hu => hv u (by cases hu; rfl) V, V.1, t1, t2, t6, t7, t8, by rw [t4]; exact hR, c3.2.1, c3.2.2⟩
  cases v with
  | none => exact t3
  | some u => exact t3
theorem ok_vret (hd : decode M.2.1 pc = .ok (.return_, 1)) (hr : M.2.2.2.1 = none) (q : Q (.inl none, h)) : OK G d M pc ls [] h Q := by
  refine ok_end (v := none) (fun u hu => by cases hu) q (fun p l e R s m args below meth c H locs la cells slots X hlo V => ?_)
  exact W.vret X.1 X.2.1 (X.2.2.2.1.trans hr) (fun t ht hW => ⟨rfl, ht⟩) hlo hd X.2.2.2.2.1
theorem ok_iret {x : Int} (hd : decode M.2.1 pc = .ok (.ireturn, 1)) (hr : M.2.2.2.1 = some .int) (q : Q (.inl (some (vI x)), h)) : OK G d M pc ls [vI x] h Q := by
  refine ok_end (v := some (vI x)) (fun u hu V => by cases hu; exact om_h1 V.2.1) q (fun p l e R s m args below meth c H locs la cells slots X hlo V => ?_)
  exact W.iret X.1 X.2.1 (X.2.2.2.1.trans hr) (fun t ht hW => ⟨rfl, ht⟩) hlo hd X.2.2.2.2.1
theorem ok_zret {x : Int} (hd : decode M.2.1 pc = .ok (.ireturn, 1)) (hr : M.2.2.2.1 = some .boolean) (hx : x = 0 ∨ x = 1) (q : Q (.inl (some (vI x)), h)) : OK G d M pc ls [vI x] h Q := by
  refine ok_end (v := some (vI x)) (fun u hu V => by cases hu; exact om_h1 V.2.1) q (fun p l e R s m args below meth c H locs la cells slots X hlo V => ?_)
  exact W.zret X.1 X.2.1 (X.2.2.2.1.trans hr) (by rcases hx with rfl | rfl <;> decide) (fun t ht hW => ⟨rfl, ht⟩) hlo hd X.2.2.2.2.1
theorem ok_nret {x : Int} {ty : FieldType} (hd : decode M.2.1 pc = .ok (.ireturn, 1)) (hr : M.2.2.2.1 = some ty) (hx : narrow ty (.int (Int32.ofInt x)) = .int (Int32.ofInt x)) (q : Q (.inl (some (vI x)), h)) : OK G d M pc ls [vI x] h Q := by
  refine ok_end (v := some (vI x)) (fun u hu V => by cases hu; exact om_h1 V.2.1) q (fun p l e R s m args below meth c H locs la cells slots X hlo V => ?_)
  exact W.zret X.1 X.2.1 (X.2.2.2.1.trans hr) hx (fun t ht hW => ⟨rfl, ht⟩) hlo hd X.2.2.2.2.1
theorem ok_lret {x : Int} (hd : decode M.2.1 pc = .ok (.lreturn, 1)) (hr : M.2.2.2.1 = some .long) (q : Q (.inl (some (vL x)), h)) : OK G d M pc ls [vL x] h Q := by
  refine ok_end (v := some (vL x)) (fun u hu V => by cases hu; exact om_h1 V.2.1) q (fun p l e R s m args below meth c H locs la cells slots X hlo V => ?_)
  exact W.lret X.1 X.2.1 (X.2.2.2.1.trans hr) (fun t ht hW => ⟨rfl, ht⟩) hlo hd X.2.2.2.2.1
theorem ok_aret {x : Nat} {ty : FieldType} (hd : decode M.2.1 pc = .ok (.areturn, 1)) (hr : M.2.2.2.1 = some ty) (ht : ty.isReference = true) (q : Q (.inl (some (vR x)), h)) : OK G d M pc ls [vR x] h Q := by
  refine ok_end (v := some (vR x)) (fun u hu V => by cases hu; trivial) q (fun p l e R s m args below meth c H locs la cells slots X hlo V => ?_)
  exact W.aret X.1 X.2.1 (X.2.2.2.1.trans hr) (by cases ty <;> first | (cases ht; done) | exact Or.inl ⟨_, rfl⟩ | exact Or.inr ⟨_, rfl⟩) (by cases x; exact Or.inl rfl; exact Or.inr ⟨_, rfl⟩) (fun t ht hW => ⟨rfl, ht⟩) hlo hd X.2.2.2.2.1
/-- what covers a place: none of the handlers -/
def om_out0 (M : om_M) (pc : Nat) : Prop := ∀ q ∈ M.2.2.2.2, ¬ (q.1 ≤ pc ∧ pc < q.2.1)
theorem om_hout {p : Program} {s : State} {m : MethodId} {meth : Method} {c : Code} (X : om_X G M p s m meth c) (ho : om_out0 M pc) : ∀ x ∈ c.exceptionTable.toList, covers x pc = false := by
  intro x hx
  have e := X.2.2.2.2.2.2.2.1
  have h1 : (x.startPc, x.endPc, x.handlerPc, x.catchType) ∈ M.2.2.2.2 := by rw [← e]; exact List.mem_map.mpr ⟨x, hx, rfl⟩
  have h2 := ho _ h1
  unfold covers
  by_cases c1 : x.startPc ≤ pc
  · have c2 : ¬ pc < x.endPc := fun q => h2 ⟨c1, q⟩
    simp [c2]
  · simp [c1]
theorem ok_athrow {a : Nat} (hd : decode M.2.1 pc = .ok (.athrow, 1)) (ho : om_out0 M pc) (ha : a ≠ 0) (q : Q (.inr a, h)) : OK G d M pc ls (vR a :: st) h Q := by
  intro V
  refine ⟨⟨(.inr a, h), q, fun u hu => (by cases hu), V.1, Nat.le_refl _, Nat.le_refl _⟩, fun p l e R s m args below meth c H locs la u0 C => ?_⟩
  obtain ⟨X, -, c3, -, hR, hlo, hL⟩ := C
  intro T hT S
  have hlk := X.2.2.2.2.1
  obtain ⟨w1, w2, w3, w4, w5⟩ := S.athrowLeaves X.1 (g := F0 m pc la (.ref (om_ra G a) :: st.map (om_tv G))) rfl rfl rfl (om_hout X ho) rfl (by rw [X.2.1]; exact hd) hlk
  refine ⟨_, ?_, (.inr a, h), .threw (om_ra G a), locs, q, rfl, fun u hu => (by cases hu), V.1, w2, w3, w4, w5, hlo, (show om_R G h T.heap by rw [hT]; exact hR), c3.2.1, c3.2.2⟩
  show Steps p.tables e below (T.setTop (F0 m pc la (om_rv G a :: st.map (om_tv G)))) _
  rw [om_rv_ne ha]
  exact w1
end OM6
/-! A METHOD's OWN WORD -/
def om_cw (M : om_M) : Cond := match M.2.2.2.2 with
  | [] => .code M.1 M.2.1 M.2.2.1 M.2.2.2.1
  | q :: r => .codeWith M.1 M.2.1 M.2.2.1 M.2.2.2.1 (q :: r)
theorem om_cw_spec {M : om_M} {a : Array Value} {s : State} {m : MethodId} (hn : s.methodNamed? M.1 = some m) (hw : (om_cw M).before a s = true) : ∃ (meth : Method) (c : Code), s.vm.method? m = some meth ∧ meth.code = some c ∧ c.code = M.2.1 ∧ c.maxLocals = M.2.2.1 ∧ meth.sig.returnType = M.2.2.2.1 ∧ meth.locks = false ∧
    c.exceptionTable.toList.map (fun h => (h.startPc, h.endPc, h.handlerPc, h.catchType)) = M.2.2.2.2 ∧ parseMethodDescriptor M.1.desc = some meth.sig := by
  unfold om_cw at hw
  split at hw
  · rename_i e
    obtain ⟨meth, c, h1, h2, h3, h4, h5, h6, h7, h8⟩ := Cond.code_spec hn hw
    refine ⟨meth, c, h1, h2, h3, h4, h5, h6, ?_, h8⟩
    have h0 : c.exceptionTable.size = 0 := by simpa [Array.isEmpty] using h7
    have h1 : c.exceptionTable.toList = [] := List.eq_nil_of_length_eq_zero (by simpa using h0)
    rw [h1, e]
    rfl
  · rename_i q r e
    obtain ⟨m', meth, c, h0, h1, h2, h3, h4, h5, h6, h7, h8⟩ := Cond.codeWith_spec hw
    cases hn.symm.trans h0
    exact ⟨meth, c, h1, h2, h3, h4, h6, h7, by rw [h5, e], h8⟩
theorem om_cw_named {M : om_M} {a : Array Value} {s : State} (hw : (om_cw M).before a s = true) : ∃ m, s.methodNamed? M.1 = some m := by
  unfold om_cw at hw
  split at hw
  · exact Cond.code_named hw
  · obtain ⟨m', meth, c, h0, -⟩ := Cond.codeWith_spec hw
    exact ⟨m', h0⟩
/-! ARGUMENTS AS LOCALS -/
def om_sl : List om_V → List (Option om_V)
  | [] => []
  | .inr (.inl x) :: r => some (vL x) :: none :: om_sl r
  | v :: r => some v :: om_sl r
def om_ent (vs : List om_V) (n : Nat) : List (Option om_V) := om_sl vs ++ List.replicate (n - (om_sl vs).length) none
theorem om_sl_len {G : om_G} : ∀ vs : List om_V, (om_sl vs).length = (lg_sl (vs.map (om_tv G))).length := by
  intro vs
  induction vs with
  | nil => rfl
  | cons v r ih =>
    rcases v with x | x | x
    · simp [om_sl, lg_sl, om_tv, Value.category] at ih ⊢; exact ih
    · simp [om_sl, lg_sl, om_tv, Value.category] at ih ⊢; exact ih
    · have hc := om_cat1R (G := G) x
      simp only [om_tv] at hc
      simp [om_sl, lg_sl, om_tv, hc] at ih ⊢; exact ih
theorem om_sl_args {G : om_G} : ∀ (vs : List om_V) (k i : Nat) (v : om_V), (om_sl vs)[i]? = some (some v) → (k + i, om_tv G v) ∈ lv_args k (vs.map (om_tv G)) ∧ v ∈ vs := by
  intro vs
  induction vs with
  | nil => intro k i v h; simp [om_sl] at h
  | cons u r ih =>
    intro k i v h
    have one : ∀ (hc : (om_tv G u).category = 1), (some u :: om_sl r)[i]? = some (some v) → (k + i, om_tv G v) ∈ lv_args k ((u :: r).map (om_tv G)) ∧ v ∈ u :: r := by
      intro hc h
      cases i with
      | zero =>
        have e : u = v := by simpa using h
        subst e
        exact ⟨List.mem_cons_self, List.mem_cons_self⟩
      | succ j =>
        have h2 : (om_sl r)[j]? = some (some v) := by simpa using h
        obtain ⟨q1, q2⟩ := ih (k + 1) j v h2
        refine ⟨?_, List.mem_cons_of_mem _ q2⟩
        show (k + (j + 1), om_tv G v) ∈ (k, om_tv G u) :: lv_args (if (om_tv G u).category = 2 then k + 2 else k + 1) (r.map (om_tv G))
        rw [hc, if_neg (by decide), show k + (j + 1) = k + 1 + j by omega]
        exact List.mem_cons_of_mem _ q1
    rcases u with x | x | x
    · exact one rfl h
    · have h : (some (vL x) :: none :: om_sl r)[i]? = some (some v) := h
      match i, h with
      | 0, h =>
        have e : vL x = v := by simpa using h
        subst e
        exact ⟨List.mem_cons_self, List.mem_cons_self⟩
      | 1, h => simp at h
      | j + 2, h =>
        have h2 : (om_sl r)[j]? = some (some v) := by simpa using h
        obtain ⟨q1, q2⟩ := ih (k + 2) j v h2
        refine ⟨?_, List.mem_cons_of_mem _ q2⟩
        show (k + (j + 2), om_tv G v) ∈ (k, om_tv G (vL x)) :: lv_args (if (om_tv G (vL x)).category = 2 then k + 2 else k + 1) (r.map (om_tv G))
        rw [show (om_tv G (vL x)).category = 2 from rfl, if_pos rfl, show k + (j + 2) = k + 2 + j by omega]
        exact List.mem_cons_of_mem _ q1
    · exact one (om_cat1R x) h
theorem om_ent_get {vs : List om_V} {n i : Nat} {v : om_V} (h : (om_ent vs n)[i]? = some (some v)) : (om_sl vs)[i]? = some (some v) := by
  unfold om_ent at h
  by_cases c : i < (om_sl vs).length
  · rwa [List.getElem?_append_left c] at h
  · rw [List.getElem?_append_right (by omega)] at h
    have := List.mem_of_getElem? h
    rw [List.mem_replicate] at this
    cases this.2
theorem om_ent_L {G : om_G} {vs : List om_V} {n : Nat} (hn : (om_sl vs).length ≤ n) : om_L G n (om_ent vs n) (lg_sl (vs.map (om_tv G)) ++ List.replicate (n - (lg_sl (vs.map (om_tv G))).length) Slot.unset).toArray := by
  have hn' : (lg_sl (vs.map (om_tv G))).length ≤ n := by rw [← om_sl_len]; exact hn
  have hl := lv_entry (vs.map (om_tv G)) hn'
  refine ⟨⟨hl.1, hl.2.1, fun q hq => ?_⟩, by unfold om_ent; simp; omega⟩
  obtain ⟨u, h1, h2⟩ := om_as_mem.mp (show (q.1, q.2) ∈ om_as G (om_ent vs n) from hq)
  apply hl.2.2 q
  have h3 := (om_sl_args (G := G) vs 0 q.1 u (om_ent_get h1)).1
  rw [Nat.zero_add, ← h2] at h3
  exact h3
theorem om_sl_mem : ∀ (vs : List om_V) (v : om_V), some v ∈ om_sl vs → v ∈ vs := by
  intro vs
  induction vs with
  | nil => intro v h; cases h
  | cons u r ih =>
    intro v h
    rcases u with x | x | x
    · have h : some v ∈ some (vI x) :: om_sl r := h
      rcases List.mem_cons.mp h with h | h
      · cases h; exact List.mem_cons_self
      · exact List.mem_cons_of_mem _ (ih v h)
    · have h : some v ∈ some (vL x) :: none :: om_sl r := h
      rcases List.mem_cons.mp h with h | h
      · cases h; exact List.mem_cons_self
      · rcases List.mem_cons.mp h with h | h
        · cases h
        · exact List.mem_cons_of_mem _ (ih v h)
    · have h : some v ∈ some (vR x) :: om_sl r := h
      rcases List.mem_cons.mp h with h | h
      · cases h; exact List.mem_cons_self
      · exact List.mem_cons_of_mem _ (ih v h)
theorem om_ent_ok {vs : List om_V} {n : Nat} (hv : ∀ v ∈ vs, om_okV v) : ∀ v, some v ∈ om_ent vs n → om_okV v := by
  intro v hm
  obtain ⟨i, hi⟩ := List.getElem?_of_mem hm
  exact hv v (om_sl_mem vs v (List.mem_of_getElem? (om_ent_get hi)))
/-! A METHOD's CONTRACT FOR THE MACHINE, out of OK at its entry -/
def om_Qm (G : om_G) (h : om_H) (Q : om_O → Prop) (st : State) (o : Outcome) (t : State) : Prop :=
  ∃ (O : om_O) (L : List Loc), Q O ∧ om_out G O.1 o ∧ om_okO O.1 ∧ om_rng O.2 ∧ st.WarmedH t.vm ∧ st.sameButNew ({ t with vm := st.vm } : State) L (hz O.2 - hz h) (hu O.2 - hu h) ∧ (∀ q ∈ L, om_b G ≤ q.base) ∧ om_R G O.2 t.heap ∧ hz h ≤ hz O.2 ∧ hu h ≤ hu O.2
theorem om_met {G : om_G} {d : Nat} {M : om_M} {vs : List om_V} {h : om_H} {Q : om_O → Prop} (k : OK G d M 0 (om_ent vs M.2.2.1) [] h Q) (hV : om_rng h) (hvs : ∀ v ∈ vs, om_okV v) (hlen : (om_sl vs).length ≤ M.2.2.1) (hx : plainName M.1.cls = true) (l : Launch) (rm : Room)
    (hrm : d ≤ rm.frames ∧ 64 * d ≤ rm.locals ∧ hz h + rm.cells ≤ om_Z G) (hcap : ∀ O, Q O → om_okO O.1 → om_rng O.2 → hz O.2 ≤ hz h + rm.cells ∧ hu O.2 ≤ hu h + rm.slots) :
    MetFree l M.1 (headSpec [om_cw M] rm) (fun a s => a = (vs.map (om_tv G)).toArray ∧ om_SC G s ∧ om_R G h s.heap) (fun _ _ _ _ _ => True) (fun _ st o t => om_Qm G h Q st o t) := by
  have kk := (k ⟨hV, (fun v hv => absurd hv List.not_mem_nil), om_ent_ok hvs⟩).2
  refine MetFree.of_bodyS (code := M.2.1) (maxLocals := M.2.2.1) (ret := M.2.2.2.1) hx ?_ ?_
  · intro args s m hp hn
    obtain ⟨meth, c, h1, h2, h3, h4, h5, h6, -, -⟩ := om_cw_spec hn (atoms_spec (ws := [om_cw M]) hp _ List.mem_cons_self)
    exact ⟨meth, c, h1, h2, h3, h4, h5, h6⟩
  · intro p e s m args below meth c s₁ B hml hP _
    obtain ⟨rfl, hS, hR⟩ := hP
    have S0 := Stand.of_body B
    have hh0 : s₁.heap = s.heap := by rw [B.state]; rfl
    obtain ⟨meth', c', h1, h2, h3, h4, h5, h6, h7, h8⟩ := om_cw_spec B.named (atoms_spec (ws := [om_cw M]) B.pre _ List.mem_cons_self)
    cases B.method.symm.trans h1
    cases S0.code.symm.trans h2
    have hsz : s.heap.size = hz h := hR.1
    have w := kk p l e rm s m (vs.map (om_tv G)).toArray below meth c s.heap [] _ (hu h) ⟨⟨B.exec, B.bytes, hml, B.returns, B.notSynchronized, findClass_of_methodNamed B.named, (name_of_methodNamed B.named B.method).1, h7, hS⟩, ⟨hrm.1, hrm.2.1, by rw [hsz]; exact hrm.2.2⟩, ⟨by rw [hsz]; exact hR.2.1, by omega, Nat.le_refl _⟩, fun O hO => by rw [hsz]; exact hcap O hO, hR, (fun q hq => absurd hq List.not_mem_nil), om_ent_L hlen⟩
    rw [hsz, Nat.sub_self, Nat.sub_self] at w
    have w2 : W p l e rm s m (vs.map (om_tv G)).toArray below meth c s.heap [] 0 0 (om_Q G below s (hu h) Q) (entryFrame m (vs.map (om_tv G)).toArray M.2.2.1) := by
      rw [lg_entry_eq]
      exact w
    obtain ⟨t, a1, O, o, L, b1, b2, b3, b4, b5, b6, b7, b8, b9, b10, b11, b12⟩ := w2 s₁ hh0 S0
    rw [hsz] at b8 b11
    exact ⟨t, o, a1, b5, b6, O, L, b1, b2, b3, b4, b7, b8, b9, b10, b11, b12⟩
/-! AN INVOCATION has come to the callee: by whatever instruction -/
def om_Ent (p : Program) (l : Launch) (e : Env) (R : Room) (s : State) (m : MethodId) (args : Array Value) (below : List Frame) (meth : Method) (c : Code) (T : State) (locs : List Loc) (cells slots : Nat) (g : JFrame) (y : MethodName) (a : Array Value) (rest : List Value) (len : Nat) : Prop :=
  ∃ (vm₁ : Vm) (mk : MethodId) (ig : Instr), Stand p l e R s m args below meth c (T.setVm vm₁) locs cells slots ∧ s.WarmedH vm₁ ∧ (T.setVm vm₁).methodNamed? y = some mk ∧ decode c.code g.pc = .ok (ig, len) ∧
    ∀ target, (∀ acts, Steps p.tables e below (doInvoke e ((T.setVm vm₁).setTop { g with stack := rest }) acts mk a).1 target) → Steps p.tables e below (T.setTop g) target
theorem om_callF {p : Program} {l : Launch} {e : Env} {R : Room} {s : State} {m : MethodId} {args : Array Value} {below : List Frame} {meth : Method} {c : Code} {T : State} {locs : List Loc} {cells slots : Nat} {g : JFrame} {a : Array Value} {rest : List Value} {len : Nat} {Mc : om_M} {rm : Room} {P : Array Value → State → Prop} {Qc : Array Value → State → Outcome → State → Prop}
    (hE : om_Ent p l e R s m args below meth c T locs cells slots g Mc.1 a rest len) (hM : MetFree l Mc.1 (headSpec [om_cw Mc] rm) P (fun _ _ _ _ _ => True) Qc) (hg : g.method = m) (hsize : g.locals.size = c.maxLocals)
    (hcw : ∀ (a' : Array Value) (U : State), s.WarmedH U.vm → (om_cw Mc).before a' U = true) (hini : ∀ (a' : Array Value) (U : State), s.WarmedH U.vm → (Cond.initialized Mc.1.cls).before a' U = true)
    (hframes : rm.frames + 1 ≤ R.frames) (hlocals : 2 * ({ g with stack := rest } : JFrame).monitorRoom + (rest.map fun v => v.category).sum + (Mc.2.2.1 + 11) + rm.locals ≤ R.locals) (hcells : cells + rm.cells ≤ R.cells) (hslots : slots + rm.slots ≤ R.slots)
    (hP : ∀ (U : State) (g' : JFrame) (mk : MethodId), s.WarmedH U.vm → U.heap = T.heap → P a (U.calling g' mk a))
    (hQ : ∀ st o t, Qc a st o t → ∃ L k n, st.WarmedH t.vm ∧ st.sameButNew ({ t with vm := st.vm } : State) L k n) :
    ∃ (U : State) (mk : MethodId) (o : Outcome) (t : State) (T' : State), U.heap = T.heap ∧ s.WarmedH U.vm ∧ Qc a (U.calling { g with stack := rest } mk a) o t ∧ T'.heap = t.heap ∧
      (∀ L k n, (U.calling { g with stack := rest } mk a).sameButNew ({ t with vm := (U.calling { g with stack := rest } mk a).vm } : State) L k n → Stand p l e R s m args below meth c T' (locs ++ L) (cells + k) (slots + n)) ∧
      (∀ v, o = .returned v → ∀ target, Steps p.tables e below (T'.setTop { g with pc := g.pc + len, stack := v.toList ++ rest }) target → Steps p.tables e below (T.setTop g) target) ∧
      (∀ x, o = .threw x → ∀ target, Steps p.tables e below ((T'.setTop { g with stack := rest }).pushFrame (.throwing x)) target → Steps p.tables e below (T.setTop g) target) := by
  obtain ⟨vm₁, mk, ig, X, hW1, hn, hdg, hstep⟩ := hE
  generalize hU : T.setVm vm₁ = U at X hn hstep
  have hUh : U.heap = T.heap := by rw [← hU]; rfl
  have hUv : s.WarmedH U.vm := X.warmed
  have h2 := hcw a U hUv
  have h3 := hini a U hUv
  obtain ⟨methY, cY, hmY, hcY, -, hlY, -, -, -, -⟩ := om_cw_spec hn h2
  obtain ⟨kY, hkY, -⟩ := className_of_methodNamed hn
  have hinitY : kY.init = .initialized := Cond.initialized_spec (findClass_of_methodNamed hn) hkY h3
  subst hg
  have h : At U ({ g with stack := rest } : JFrame).method c below := X.here
  have h1 : (headSpec [om_cw Mc] rm).pre.before a U = true := atoms_intro (fun w hw => by rw [List.mem_singleton.mp hw]; exact h2)
  have happ : (headSpec [om_cw Mc] rm).appliesLoose Mc.1 e.platform (U.calling { g with stack := rest } mk a) = true :=
    Spec.appliesLoose_calling (g := { g with stack := rest }) h hdg hn hkY hinitY (X.room_calling (g := { g with stack := rest }) (R' := rm) hsize hmY hcY hframes (by rw [hlY]; exact hlocals) hcells hslots) h1
  obtain ⟨mid, hmid⟩ := h.above
  have hfr : (U.setTop { g with stack := rest }).frames = (.java { g with stack := rest } :: mid) ++ below := by rw [State.frames_setTop' _ h.top, hmid]; rfl
  obtain ⟨o, s₂, hsteps, hrun, hend, hq⟩ := Steps.callFree hM p X.admits X.cas X.clock (acts := []) hfr happ (hP U { g with stack := rest } mk hUv hUh) trivial
  have hq' : Qc a (U.calling { g with stack := rest } mk a) o s₂ := hq
  rw [State.frames_setTop' _ h.top] at hend
  obtain ⟨L0, k0, n0, hW₂, e2, q2, q3, q4, q5, q6⟩ := hQ _ _ _ hq'
  have e3 : s₂ = ({ (U.calling { g with stack := rest } mk a).setFrames s₂.frames with heap := s₂.heap, slotsUsed := s₂.slotsUsed } : State).setVm s₂.vm := by
    have : s₂ = ({ s₂ with vm := (U.calling { g with stack := rest } mk a).vm } : State).setVm s₂.vm := rfl
    rw [e2] at this
    exact this
  have hW' : U.WarmedH s₂.vm := hW₂
  obtain ⟨g₀, hg0⟩ := Option.isSome_iff_exists.mp h.top
  obtain ⟨r, hr⟩ := State.topJava?_eq_some.mp hg0
  refine ⟨U, mk, o, s₂, ({ U with heap := s₂.heap, slotsUsed := s₂.slotsUsed } : State).setVm s₂.vm, hUh, hUv, hq', rfl, ?_, ?_, ?_⟩
  · intro L k n hsb
    obtain ⟨f2, p2, p3, p4, p5, p6⟩ := hsb
    have hsame : U.sameButNew ({ U with heap := s₂.heap, slotsUsed := s₂.slotsUsed } : State) L k n := by
      refine ⟨?_, p2, p3, p4, p5, p6⟩
      obtain ⟨t, ht, -⟩ := State.frames_cons hr
      show ({ U with heap := s₂.heap, slotsUsed := s₂.slotsUsed } : State) = { U.setFrames U.frames with heap := s₂.heap, slotsUsed := s₂.slotsUsed }
      rw [State.setFrames_self ht]
    exact ⟨X.admits, X.cas, X.clock, X.frames, X.room, X.hears, X.method, X.code, (X.here.setHeapUsed s₂.heap s₂.slotsUsed).setVm hW'.alike, X.tail, State.WarmedH.trans X.warmed hW', X.limits, X.bytes, X.same.trans (hsame.setVm s.vm)⟩
  · intro v ho target ht
    subst ho
    obtain ⟨c₂, i₂, len₂, hc₂, hd₂, hf₂⟩ := hend
    have hcc : c₂ = c := by
      have h1 : s₂.code? g.method = U.code? g.method := by
        rw [State.code?_eq, State.code?_eq, hW'.alike.method?]
      exact Option.some.inj (hc₂.symm.trans (h1.trans h.code))
    subst hcc
    have hlen : len₂ = len := by
      have hd₂ : decode c₂.code g.pc = .ok (i₂, len₂) := hd₂
      rw [hdg] at hd₂; cases hd₂; rfl
    subst hlen
    have hs₂ : s₂ = (({ U with heap := s₂.heap, slotsUsed := s₂.slotsUsed } : State).setVm s₂.vm).setTop { g with pc := g.pc + len₂, stack := v.toList ++ rest } := by
      have hr' : (({ U with heap := s₂.heap, slotsUsed := s₂.slotsUsed } : State).setVm s₂.vm).frames = .java g₀ :: r := hr
      refine e3.trans ?_
      rw [hf₂, State.calling_eq h.top, State.setFrames_setFrames, State.setTop_of_frames _ hr', hr]
      rfl
    refine hstep target (fun acts => ?_)
    rw [doInvoke_state]
    refine hsteps.trans ?_
    rw [hs₂]
    exact ht
  · intro x ho target ht
    subst ho
    have hend : s₂.frames = .throwing x :: .java { g with stack := rest } :: U.frames.tail := hend
    have hs₂ : s₂ = ((({ U with heap := s₂.heap, slotsUsed := s₂.slotsUsed } : State).setVm s₂.vm).setTop { g with stack := rest }).pushFrame (.throwing x) := by
      have hr' : (({ U with heap := s₂.heap, slotsUsed := s₂.slotsUsed } : State).setVm s₂.vm).frames = .java g₀ :: r := hr
      refine e3.trans ?_
      rw [hend, State.calling_eq h.top, State.setFrames_setFrames, State.pushFrame, State.frames_setTop _ hr', State.setTop_of_frames _ hr', State.setFrames_setFrames, hr]
      rfl
    refine hstep target (fun acts => ?_)
    rw [doInvoke_state]
    refine hsteps.trans ?_
    rw [hs₂]
    exact ht
