set_option maxRecDepth 100000
/-! CALLS -/
/-- behind a call: with an answer, without one; or what was thrown leaves this method too -/
def om_next (G : om_G) (d : Nat) (M : om_M) (pc : Nat) (ls : List (Option om_V)) (rest : List om_V) (Q : om_O → Prop) (O : om_O) : Prop := match O.1 with
  | .inl none => OK G d M pc ls rest O.2 Q
  | .inl (some v) => OK G d M pc ls (v :: rest) O.2 Q
  | .inr a => Q (.inr a, O.2)
/-- the words that weigh on the stack under a call -/
def om_cat (st : List om_V) : Nat := (st.map fun v => match v with
  | .inr (.inl _) => 2
  | _ => 1).sum
theorem om_cat_eq {G : om_G} (st : List om_V) : ((st.map (om_tv G)).map fun v => v.category).sum = om_cat st := by
  unfold om_cat
  induction st with
  | nil => rfl
  | cons v r ih =>
    simp only [List.map_cons, List.sum_cons, ih]
    congr 1
    rcases v with x | x | x
    · rfl
    · rfl
    · exact om_cat1R x
section OM7
variable {G : om_G} {d d' : Nat} {M Mc : om_M} {pc : Nat} {ls : List (Option om_V)} {st rest vs : List om_V} {h h' : om_H} {Q Q1 : om_O → Prop}
theorem ok_call {len : Nat} (hE : ∀ (p : Program) (l : Launch) (e : Env) (R : Room) (s : State) (m : MethodId) (args : Array Value) (below : List Frame) (meth : Method) (c : Code) (H : Heap) (locs : List Loc) (la : Array Slot) (cells slots : Nat) (T : State), om_X G M p s m meth c → om_R G h H → la.size = c.maxLocals → T.heap = H → Stand p l e R s m args below meth c T locs cells slots → om_Ent p l e R s m args below meth c T locs cells slots (F0 m pc la (st.map (om_tv G))) Mc.1 (vs.map (om_tv G)).toArray (rest.map (om_tv G)) len)
    (hcal : OK G d' Mc 0 (om_ent vs Mc.2.2.1) [] h Q1) (hdd : d' + 1 ≤ d) (hlen : (om_sl vs).length ≤ Mc.2.2.1) (hx : plainName Mc.1.cls = true) (hcw : om_cw Mc ∈ lw_all) (hini : Cond.initialized Mc.1.cls ∈ lw_all) (hroom : om_cat rest + Mc.2.2.1 + 11 ≤ 64)
    (hvs : ∀ v ∈ vs, v ∈ st) (hrest : ∀ v ∈ rest, v ∈ st) (ho : om_out0 M pc) (k : ∀ O, Q1 O → om_next G d M (pc + len) ls rest Q O) : OK G d M pc ls st h Q := by
  intro V
  have hok : ∀ v ∈ vs, om_okV v := fun v hv => V.2.1 v (hvs v hv)
  have hV1 : om_V0 h (om_ent vs Mc.2.2.1) [] := ⟨V.1, (fun v hv => absurd hv List.not_mem_nil), om_ent_ok hok⟩
  -- what comes behind an end of the callee
  have nx : ∀ O, Q1 O → om_okO O.1 → om_rng O.2 → ∃ O' : om_O, Q O' ∧ om_okO O'.1 ∧ om_rng O'.2 ∧ hz O.2 ≤ hz O'.2 ∧ hu O.2 ≤ hu O'.2 := by
    intro O q1 q2 q3
    have kO := k O q1
    obtain ⟨r, hO⟩ := O
    unfold om_next at kO
    rcases r with r | a
    · cases r with
      | none => exact (kO ⟨q3, fun v hv => V.2.1 v (hrest v hv), V.2.2⟩).1
      | some v => exact (kO ⟨q3, om_c1 (q2 v rfl) (fun v hv => V.2.1 v (hrest v hv)), V.2.2⟩).1
    · exact ⟨(.inr a, hO), kO, (fun v hv => by cases hv), q3, Nat.le_refl _, Nat.le_refl _⟩
  refine ⟨?_, fun p l e R s m args below meth c H locs la u0 C => ?_⟩
  · obtain ⟨O, q1, q2, q3, q4, q5⟩ := (hcal hV1).1
    obtain ⟨O', w1, w2, w3, w4, w5⟩ := nx O q1 q2 q3
    exact ⟨O', w1, w2, w3, Nat.le_trans q4 w4, Nat.le_trans q5 w5⟩
  · obtain ⟨X, c2, c3, c4, hR, hlo, hL⟩ := C
    have hS := X.2.2.2.2.2.2.2.2
    intro T hT S
    have hE' := hE p l e R s m args below meth c H locs la _ _ T X hR (by rw [X.2.2.1]; exact hL.1.1) hT S
    have hcap : ∀ O, Q1 O → om_okO O.1 → om_rng O.2 → hz O.2 ≤ hz h + (R.cells - (hz h - s.heap.size)) ∧ hu O.2 ≤ hu h + (R.slots - (hu h - u0)) := by
      intro O q1 q2 q3
      obtain ⟨O', w1, w2, w3, w4, w5⟩ := nx O q1 q2 q3
      have := c4 O' w1 w2 w3
      omega
    have hfit : hz h - s.heap.size ≤ R.cells ∧ hu h - u0 ≤ R.slots := by
      obtain ⟨O, q1, q2, q3, q4, q5⟩ := (hcal hV1).1
      obtain ⟨O', w1, w2, w3, w4, w5⟩ := nx O q1 q2 q3
      have := c4 O' w1 w2 w3
      omega
    have hM := om_met hcal V.1 hok hlen hx l ({ frames := d', cells := R.cells - (hz h - s.heap.size), slots := R.slots - (hu h - u0), locals := 64 * d' } : Room) ⟨Nat.le_refl _, Nat.le_refl _, by show hz h + (R.cells - (hz h - s.heap.size)) ≤ om_Z G; have := c2.2.2; have := c3.2.1; omega⟩ hcap
    obtain ⟨U, mk, o, t, T', g1, g2, g3, g4, g5, g6, g7⟩ := om_callF hE' hM rfl (by rw [X.2.2.1]; exact hL.1.1) (fun a' U hW => word_at hW (lw_self _ hcw).2 (hS.1 _ hcw #[])) (fun a' U hW => word_at hW (lw_self _ hini).2 (hS.1 _ hini #[])) (by show d' + 1 ≤ R.frames; omega)
      (by
        have e1 : ((rest.map (om_tv G)).map fun v => v.category).sum = om_cat rest := om_cat_eq rest
        rw [e1]
        show 2 * 0 + om_cat rest + (Mc.2.2.1 + 11) + 64 * d' ≤ R.locals
        omega) (by show hz h - s.heap.size + (R.cells - (hz h - s.heap.size)) ≤ R.cells; omega) (by show hu h - u0 + (R.slots - (hu h - u0)) ≤ R.slots; omega)
      (fun U g' mk hW hU => ⟨rfl, om_SC.warm (s := s) (U := U.calling g' mk (vs.map (om_tv G)).toArray) hW hS, (show om_R G h U.heap by rw [hU, hT]; exact hR)⟩)
      (fun st o t hq => by obtain ⟨O, L, q1, q2, q3, q4, q5, q6, q7⟩ := hq; exact ⟨L, _, _, q5, q6⟩)
    obtain ⟨O, L, q1, q2, q3, q4, q5, q6, q7, q8, q9, q10⟩ := g3
    have S' := g5 L _ _ q6
    have kO := k O q1
    have hlo' : ∀ q ∈ locs ++ L, om_b G ≤ q.base := t_lL (free := fun q => om_b G ≤ q) hlo q7
    have S' : Stand p l e R s m args below meth c T' (locs ++ L) (hz O.2 - s.heap.size) (hu O.2 - u0) := by
      have e1 : hz h - s.heap.size + (hz O.2 - hz h) = hz O.2 - s.heap.size := by omega
      have e2 : hu h - u0 + (hu O.2 - hu h) = hu O.2 - u0 := by omega
      rw [e1, e2] at S'
      exact S'
    have hRO : om_R G O.2 T'.heap := by rw [g4]; exact q8
    obtain ⟨r, hO⟩ := O
    unfold om_next at kO
    have hC : om_C G d M p R s m meth c T'.heap (locs ++ L) la u0 ls hO Q := ⟨X, c2, ⟨c3.1, Nat.le_trans c3.2.1 q9, Nat.le_trans c3.2.2 q10⟩, c4, hRO, hlo', hL⟩
    rcases r with r | a
    · cases r with
      | none =>
        have e0 : o = .returned none := q2
        obtain ⟨t2, a1, a2⟩ := (kO ⟨q4, fun v hv => V.2.1 v (hrest v hv), V.2.2⟩).2 p l e R s m args below meth c T'.heap (locs ++ L) la u0 hC T' rfl S'
        exact ⟨t2, g6 none e0 t2 a1, a2⟩
      | some v =>
        have e0 : o = .returned (some (om_tv G v)) := q2
        obtain ⟨t2, a1, a2⟩ := (kO ⟨q4, om_c1 (q3 v rfl) (fun v hv => V.2.1 v (hrest v hv)), V.2.2⟩).2 p l e R s m args below meth c T'.heap (locs ++ L) la u0 hC T' rfl S'
        exact ⟨t2, g6 (some (om_tv G v)) e0 t2 a1, a2⟩
    · have e0 : o = .threw (om_ra G a) := q2
      have hlk := X.2.2.2.2.1
      obtain ⟨w1, w2, w3, w4, w5⟩ := S'.leaveThrown (om_ra G a) (g := { (F0 m pc la (st.map (om_tv G))) with stack := rest.map (om_tv G) }) rfl rfl rfl (om_hout X ho) hlk
      exact ⟨_, g7 (om_ra G a) e0 _ w1, (.inr a, hO), .threw (om_ra G a), locs ++ L, kO, rfl, (fun v hv => by cases hv), q4, w2, w3, w4, w5, hlo', hRO, Nat.le_trans c3.2.1 q9, Nat.le_trans c3.2.2 q10⟩
/-- a method's entry in a class's pool: by an ordinary link, or a nest mate's -/
def om_ML (own : String) (idx : Nat) (y : MethodName) : Prop := Cond.methodLink own idx y ∈ lw_all ∨ ∃ host, Cond.methodLinkNest own idx y host ∈ lw_tbl
/-- what is the same at every call of a method: its word, its class, its place -/
def om_MW (M : om_M) (n : Nat) : Prop := om_cw M ∈ lw_all ∧ Cond.initialized M.1.cls ∈ lw_all ∧ plainName M.1.cls = true ∧ (M.1.cls ≠ "java/lang/invoke/MethodHandle" ∧ M.1.cls ≠ "java/lang/invoke/VarHandle") ∧ (parseMethodDescriptor M.1.desc).map (fun d => d.parameters.length) = some n
theorem om_len {M : om_M} {n : Nat} (h : om_MW M n) : ∀ sig, parseMethodDescriptor M.1.desc = some sig → n = sig.parameters.length := by
  intro sig hs
  have := h.2.2.2.2
  rw [hs] at this
  simpa using this.symm
/-- the code word at a state -/
theorem om_code_of {M : om_M} {a : Array Value} {s : State} (hh : M.2.2.2.2 = []) (h : (om_cw M).before a s = true) : (Cond.code M.1 M.2.1 M.2.2.1 M.2.2.2.1).before a s = true := by
  unfold om_cw at h
  rw [hh] at h
  exact h
/-- invokevirtual: the object is of the class kc -/
theorem ok_callV {index kc b n : Nat} {r : vw_C} {As : List om_V} (hd : decode M.2.1 pc = .ok (.invokevirtual index, 3)) (hl : om_ML M.1.cls index Mc.1) (hw : om_MW Mc n) (hn : As.length = n) (hh : Mc.2.2.2.2 = [] ∨ ∃ q, Mc.2.2.2.2 = [q]) (hi : Cond.instanceMethod Mc.1 ∈ lw_all) (hc : om_cl[kc]? = some r) (hs : Cond.selects r.1 Mc.1 Mc.1 ∈ lw_all) (hb : kd h b = kc + 1)
    (hst : st = As.reverse ++ vR b :: rest) (hroom : om_cat rest + Mc.2.2.1 + 11 ≤ 64) (hlen : (om_sl (vR b :: As)).length ≤ Mc.2.2.1) (ho : om_out0 M pc)
    (hcal : OK G d' Mc 0 (om_ent (vR b :: As) Mc.2.2.1) [] h Q1) (hdd : d' + 1 ≤ d) (k : ∀ O, Q1 O → om_next G d M (pc + 3) ls rest Q O) : OK G d M pc ls st h Q := by
  subst hst
  refine ok_call (len := 3) (Mc := Mc) (vs := vR b :: As) ?_ hcal hdd hlen hw.2.2.1 hw.1 hw.2.1 hroom ?_ ?_ ho k
  · intro p l e R s m args below meth c H locs la cells slots T X hR hsz hT S
    have hS := X.2.2.2.2.2.2.2.2
    obtain ⟨mk, methM, hnamed, hmethM, hstM, habM⟩ := Cond.instanceMethod_spec (hS.1 _ hi args)
    obtain ⟨methM', cM, hmethM', -, -, -, -, -, -, hsigM⟩ := om_cw_spec hnamed (hS.1 _ hw.1 args)
    cases hmethM.symm.trans hmethM'
    have hbb := hR.2.2.2.2.1 b (by omega)
    have hb0 := hR.2.2.1
    obtain ⟨cellB, v1, v2, v3, v4⟩ := hR.2.2.2.2.2.1 kc r b hc hb
    obtain ⟨hSl, hfc, kC, hkC, hkind⟩ := hS.2.2.1 kc r hc
    have hcls : s.vm.findClass r.1 = some cellB.cls := by rw [v2]; exact hfc
    obtain ⟨c2, r2, m2, q1, q2, q3, q4, kP, hkP, hkPi⟩ := Cond.selects_spec (hS.1 _ hs args)
    cases hcls.symm.trans q1
    cases (State.methodFound?_of_named hnamed hw.2.2.2.1).symm.trans q2
    cases hnamed.symm.trans q3
    have hselP : selectMethod e.platform s.vm cellB.cls mk = .method mk := by rw [Launch.admits_selectMethod S.admits]; exact q4
    have hstack : (F0 m pc la ((As.reverse ++ vR b :: rest).map (om_tv G))).stack = (As.map (om_tv G)).reverse ++ .ref b :: rest.map (om_tv G) := by
      show (As.reverse ++ vR b :: rest).map (om_tv G) = _
      rw [List.map_append, List.map_cons, List.map_reverse, show om_tv G (vR b) = .ref b from om_rv_f hb0 hbb]
    have ea : ((vR b :: As).map (om_tv G)).toArray = (Value.ref b :: As.map (om_tv G)).toArray := by
      rw [List.map_cons, show om_tv G (vR b) = .ref b from om_rv_f hb0 hbb]
    rw [ea]
    have hl3 : (As.map (om_tv G)).length = methM.sig.parameters.length := by rw [List.length_map, hn]; exact om_len hw _ hsigM
    have hcell : T.heap[b]? = some cellB := by rw [hT]; exact v1
    rcases hl with hl | ⟨host, hl⟩
    · obtain ⟨vm₁, X₁, hstep₁⟩ := S.invokevirtual X.1 X.2.2.2.2.2.1 (hS.1 _ hl args) hnamed hmethM hstM hkP hkPi hw.2.2.2.1 (a := b) (cell := cellB) hcell
        (fun z h => by rw [v3] at h; cases h) hselP hmethM habM hkP hkPi (g := F0 m pc la ((As.reverse ++ vR b :: rest).map (om_tv G))) rfl (argsL := As.map (om_tv G)) (rest := rest.map (om_tv G)) hl3 hstack (by rw [X.2.1]; exact hd)
      exact ⟨vm₁, mk, _, X₁, X₁.warmed, X₁.named hnamed, by rw [X.2.1]; exact hd, fun target ht => hstep₁ target ht⟩
    · obtain ⟨vm₁, X₁, hstep₁⟩ := S.invokevirtualNest X.1 X.2.2.2.2.2.1 (va_Nw.use rfl (hS.2.1 _ hl rfl)) hnamed hmethM hstM hkP hkPi hw.2.2.2.1 (a := b) (cell := cellB) hcell
        (fun z h => by rw [v3] at h; cases h) hselP hmethM habM hkP hkPi (g := F0 m pc la ((As.reverse ++ vR b :: rest).map (om_tv G))) rfl (argsL := As.map (om_tv G)) (rest := rest.map (om_tv G)) hl3 hstack (by rw [X.2.1]; exact hd)
      exact ⟨vm₁, mk, _, X₁, X₁.warmed, X₁.named hnamed, by rw [X.2.1]; exact hd, fun target ht => hstep₁ target ht⟩
  · intro v hv
    rcases List.mem_cons.mp hv with rfl | hv
    · exact List.mem_append_right _ List.mem_cons_self
    · exact List.mem_append_left _ (List.mem_reverse.mpr hv)
  · intro v hv
    exact List.mem_append_right _ (List.mem_cons_of_mem _ hv)
/-- invokestatic -/
theorem ok_callS {index n : Nat} {As : List om_V} (hd : decode M.2.1 pc = .ok (.invokestatic index, 3)) (hl : om_ML M.1.cls index Mc.1) (hw : om_MW Mc n) (hn : As.length = n) (hi : Cond.static Mc.1 ∈ lw_all)
    (hst : st = As.reverse ++ rest) (hroom : om_cat rest + Mc.2.2.1 + 11 ≤ 64) (hlen : (om_sl As).length ≤ Mc.2.2.1) (ho : om_out0 M pc)
    (hcal : OK G d' Mc 0 (om_ent As Mc.2.2.1) [] h Q1) (hdd : d' + 1 ≤ d) (k : ∀ O, Q1 O → om_next G d M (pc + 3) ls rest Q O) : OK G d M pc ls st h Q := by
  subst hst
  refine ok_call (len := 3) (Mc := Mc) (vs := As) ?_ hcal hdd hlen hw.2.2.1 hw.1 hw.2.1 hroom ?_ ?_ ho k
  · intro p l e R s m args below meth c H locs la cells slots T X hR hsz hT S
    have hS := X.2.2.2.2.2.2.2.2
    obtain ⟨mk, hnamed⟩ := om_cw_named (hS.1 _ hw.1 args)
    obtain ⟨methM, cM, hmethM, -, -, -, -, -, -, hsigM⟩ := om_cw_spec hnamed (hS.1 _ hw.1 args)
    have hstatic : methM.isStatic = true := Cond.static_spec hnamed hmethM (hS.1 _ hi args)
    obtain ⟨kP, hkP, -⟩ := className_of_methodNamed hnamed
    have hinitP : kP.init = .initialized := Cond.initialized_spec (findClass_of_methodNamed hnamed) hkP (hS.1 _ hw.2.1 args)
    have hstack : (F0 m pc la ((As.reverse ++ rest).map (om_tv G))).stack = (As.map (om_tv G)).reverse ++ rest.map (om_tv G) := by
      show (As.reverse ++ rest).map (om_tv G) = _
      rw [List.map_append, List.map_reverse]
    have hl3 : (As.map (om_tv G)).length = methM.sig.parameters.length := by rw [List.length_map, hn]; exact om_len hw _ hsigM
    rcases hl with hl | ⟨host, hl⟩
    · obtain ⟨vm₁, X₁, hstep₁⟩ := S.invokestatic X.1 X.2.2.2.2.2.1 (hS.1 _ hl args) hnamed hmethM hstatic hkP hinitP hw.2.2.2.1 (g := F0 m pc la ((As.reverse ++ rest).map (om_tv G))) rfl (argsL := As.map (om_tv G)) (rest := rest.map (om_tv G)) hl3 hstack (by rw [X.2.1]; exact hd)
      exact ⟨vm₁, mk, _, X₁, X₁.warmed, X₁.named hnamed, by rw [X.2.1]; exact hd, fun target ht => hstep₁ target ht⟩
    · obtain ⟨vm₁, X₁, hstep₁⟩ := S.invokestaticNest X.1 X.2.2.2.2.2.1 (va_Nw.use rfl (hS.2.1 _ hl rfl)) hnamed hmethM hstatic hkP hinitP hw.2.2.2.1 (g := F0 m pc la ((As.reverse ++ rest).map (om_tv G))) rfl (argsL := As.map (om_tv G)) (rest := rest.map (om_tv G)) hl3 hstack (by rw [X.2.1]; exact hd)
      exact ⟨vm₁, mk, _, X₁, X₁.warmed, X₁.named hnamed, by rw [X.2.1]; exact hd, fun target ht => hstep₁ target ht⟩
  · intro v hv
    exact List.mem_append_left _ (List.mem_reverse.mpr hv)
  · intro v hv
    exact List.mem_append_right _ hv
/-- invokespecial of a constructor -/
theorem ok_callI {index b n : Nat} {As : List om_V} (hd : decode M.2.1 pc = .ok (.invokespecial index, 3)) (hl : om_ML M.1.cls index Mc.1) (hw : om_MW Mc n) (hn : As.length = n) (hh : Mc.2.2.2.2 = []) (hr : Mc.2.2.2.1 = none) (hm : Mc.1.name = "<init>") (hi : Cond.instanceMethod Mc.1 ∈ lw_all) (hb : b ≠ 0)
    (hst : st = As.reverse ++ vR b :: rest) (hroom : om_cat rest + Mc.2.2.1 + 11 ≤ 64) (hlen : (om_sl (vR b :: As)).length ≤ Mc.2.2.1) (ho : om_out0 M pc)
    (hcal : OK G d' Mc 0 (om_ent (vR b :: As) Mc.2.2.1) [] h Q1) (hdd : d' + 1 ≤ d) (k : ∀ O, Q1 O → om_next G d M (pc + 3) ls rest Q O) : OK G d M pc ls st h Q := by
  subst hst
  refine ok_call (len := 3) (Mc := Mc) (vs := vR b :: As) ?_ hcal hdd hlen hw.2.2.1 hw.1 hw.2.1 hroom ?_ ?_ ho k
  · intro p l e R s m args below meth c H locs la cells slots T X hR hsz hT S
    have hS := X.2.2.2.2.2.2.2.2
    have hcode := om_code_of hh (hS.1 _ hw.1 args)
    rw [hr] at hcode
    have hpl : e.platform.magicAccessors = ({} : Platform).magicAccessors := by rw [S.admits.platform]
    have hstack : (F0 m pc la ((As.reverse ++ vR b :: rest).map (om_tv G))).stack = (As.map (om_tv G)).reverse ++ .ref (om_ra G b) :: rest.map (om_tv G) := by
      show (As.reverse ++ vR b :: rest).map (om_tv G) = _
      rw [List.map_append, List.map_cons, List.map_reverse, show om_tv G (vR b) = .ref (om_ra G b) from om_rv_ne hb]
    have ea : ((vR b :: As).map (om_tv G)).toArray = (Value.ref (om_ra G b) :: As.map (om_tv G)).toArray := by
      rw [List.map_cons, show om_tv G (vR b) = .ref (om_ra G b) from om_rv_ne hb]
    rw [ea]
    have hl3 : ∀ sig, parseMethodDescriptor Mc.1.desc = some sig → (As.map (om_tv G)).length = sig.parameters.length := fun sig hs => by rw [List.length_map, hn]; exact om_len hw _ hs
    rcases hl with hl | ⟨host, hl⟩
    · obtain ⟨mk, methM, cM, kP, vm₁, hnamed, hmethM, hcodeM, -, hlocalsM, -, hkP, -, hW₁, hstep₁⟩ := Steps.initColdArgs (e := e) S.here X.1 S.warmed hpl X.2.2.2.2.2.1 hm hw.2.2.2.1 (hS.1 _ hl args) (hS.1 _ hi args) hcode (f := F0 m pc la ((As.reverse ++ vR b :: rest).map (om_tv G))) rfl hl3 hstack (by rw [X.2.1]; exact hd)
      have X₁ := S.noted hW₁
      exact ⟨vm₁, mk, _, X₁, X₁.warmed, X₁.named hnamed, by rw [X.2.1]; exact hd, fun target ht => hstep₁ target ht⟩
    · obtain ⟨mk, methM, cM, kP, vm₁, hnamed, hmethM, hcodeM, -, hlocalsM, -, hkP, -, hW₁, hstep₁⟩ := Steps.initColdArgsNest (e := e) S.here X.1 S.warmed hpl X.2.2.2.2.2.1 hm hw.2.2.2.1 (va_Nw.use rfl (hS.2.1 _ hl rfl)) (hS.1 _ hi args) hcode (f := F0 m pc la ((As.reverse ++ vR b :: rest).map (om_tv G))) rfl hl3 hstack (by rw [X.2.1]; exact hd)
      have X₁ := S.noted hW₁
      exact ⟨vm₁, mk, _, X₁, X₁.warmed, X₁.named hnamed, by rw [X.2.1]; exact hd, fun target ht => hstep₁ target ht⟩
  · intro v hv
    rcases List.mem_cons.mp hv with rfl | hv
    · exact List.mem_append_right _ List.mem_cons_self
    · exact List.mem_append_left _ (List.mem_reverse.mpr hv)
  · intro v hv
    exact List.mem_append_right _ (List.mem_cons_of_mem _ hv)
/-- java/lang/Object's constructor -/
theorem ok_objInit {index b : Nat} (hd : decode M.2.1 pc = .ok (.invokespecial index, 3)) (hl : Cond.methodLink M.1.cls index Lib.objectInit ∈ lw_all) (hi : Cond.instanceMethod Lib.objectInit ∈ lw_all) (hc : Cond.code Lib.objectInit ⟨#[0xb1]⟩ 1 none ∈ lw_all) (hb : b ≠ 0) (hroom : om_cat st + 12 ≤ 64) (hdd : 1 ≤ d) (k : OK G d M (pc + 3) ls st h Q) : OK G d M pc ls (vR b :: st) h Q := by
  refine ok_step (fun V => ⟨V.1, om_t1 V.2.1, V.2.2⟩) (Nat.le_refl _) (Nat.le_refl _) k (fun p l e R s m args below meth c H locs la u0 Q' V C _ _ kk => ?_)
  obtain ⟨X, c2, -, -, hR, hlo, hL⟩ := C
  have hS := X.2.2.2.2.2.2.2.2
  show W p l e R s m args below meth c H locs _ _ Q' (F0 m pc la (om_rv G b :: st.map (om_tv G)))
  rw [om_rv_ne hb]
  refine W.objInit X.1 X.2.1 X.2.2.2.2.2.1 (hS.1 _ hl args) (hS.1 _ hi args) (hS.1 _ hc args) rfl (by rw [X.2.2.1]; exact hL.1.1) rfl hd (by omega) ?_ (kk H locs la hR hlo hL)
  have e1 : ((st.map (om_tv G)).map fun v => v.category).sum = om_cat st := om_cat_eq st
  rw [e1]
  show 2 * 0 + om_cat st + 12 ≤ R.locals
  omega
end OM7
