set_option maxRecDepth 100000
/-! METHODS (name, code, locals, answer, handlers), ENDS (an answer, or what was thrown; the pure heap), the WORLD's constants (classes, arrays' classes, the heap at the start, addresses of constants, what else the tables say). -/
abbrev om_M : Type := MethodName × ByteArray × Nat × Option FieldType × List (Nat × Nat × Nat × Nat)
abbrev om_O : Type := (Option om_V ⊕ Nat) × om_H
abbrev om_G : Type := va_G × (Nat → ClassId) × Heap × (Nat → Nat) × (State → Prop)
abbrev om_aC (G : om_G) : Nat → ClassId := G.2.1
abbrev om_H0 (G : om_G) : Heap := G.2.2.1
abbrev om_cA (G : om_G) : Nat → Nat := G.2.2.2.1
abbrev om_K (G : om_G) : State → Prop := G.2.2.2.2
abbrev om_b (G : om_G) : Nat := (om_H0 G).size
/-- the address 0 may be a constant's: it goes by a number at which no object lies -/
abbrev om_Z (G : om_G) : Nat := om_cA G 2000
def om_ra (G : om_G) (a : Nat) : Nat := if a = om_Z G then 0 else a
def om_rv (G : om_G) (a : Nat) : Value := match a with
  | 0 => .null
  | a + 1 => .ref (om_ra G (a + 1))
def om_tv (G : om_G) (v : om_V) : Value := match v with
  | .inl x => .int (Int32.ofInt x)
  | .inr (.inl x) => .long (Int64.ofInt x)
  | .inr (.inr r) => om_rv G r
theorem om_rv_ne {G : om_G} {a : Nat} (h : a ≠ 0) : om_rv G a = .ref (om_ra G a) := by
  cases a with
  | zero => exact absurd rfl h
  | succ n => rfl
theorem om_ra_f {G : om_G} {a n : Nat} (h0 : 0 < om_b G ∧ n ≤ om_Z G) (h : om_b G ≤ a ∧ a < n) : om_ra G a = a := if_neg (by omega)
theorem om_rv_f {G : om_G} {a n : Nat} (h0 : 0 < om_b G ∧ n ≤ om_Z G) (h : om_b G ≤ a ∧ a < n) : om_rv G a = .ref a := by rw [om_rv_ne (by omega), om_ra_f h0 h]
theorem om_ra_inj {G : om_G} {a b : Nat} (ha : a ≠ 0) (hb : b ≠ 0) (h : om_ra G a = om_ra G b) : a = b := by
  unfold om_ra at h
  split at h <;> split at h <;> omega
def om_nest (w : Cond) : Bool := match w with
  | .fieldLinkNest .. => true
  | .methodLinkNest .. => true
  | .castable .. => true
  | .arrayOver (.object _) => true
  | _ => false
theorem om_nest_warm {w : Cond} {s U : State} (hw : om_nest w = true) (hW : s.WarmedH U.vm) (h : va_Nw w s) : va_Nw w U := by
  unfold om_nest at hw
  split at hw
  · exact va_Nw.warmF hW h
  · exact va_Nw.warmM hW h
  · exact va_Nw.warmC hW h
  · exact va_AO.moved hW.alike h
  · cases hw
/-- what the tables say all through a run -/
def om_SC (G : om_G) (s : State) : Prop :=
  (∀ w ∈ lw_all, ∀ a, w.before a s = true) ∧ (∀ w ∈ lw_tbl, om_nest w = true → va_Nw w s) ∧ (∀ (c : Nat) (q : vw_C), om_cl[c]? = some q → u_Kn s q.1 q.2.1 q.2.2 (G.1.1 c) (G.1.2 c)) ∧
  (∀ (k : Nat) (ty : FieldType), om_at k = some ty → ArrOfT s (om_aC G k) ty ∧ va_RA s (om_aC G k) ty) ∧ om_K G s ∧ ∀ u U : State, u.WarmedH U.vm → om_K G u → om_K G U
theorem om_SC.warm {G : om_G} {s U : State} (hW : s.WarmedH U.vm) (h : om_SC G s) : om_SC G U := by
  obtain ⟨h1, h2, h3, h4, h5, h6⟩ := h
  exact ⟨fun w hw a => word_at hW (lw_self w hw).2 (h1 w hw a), fun w hw hn => om_nest_warm hn hW (h2 w hw hn), fun c q hq => u_Kn_moved hW.alike (h3 c q hq),
    fun k ty hk => ⟨arrOfT_moved hW.alike (h4 k ty hk).1, (h4 k ty hk).2.moved hW.alike⟩, h6 s U hW h5, h6⟩
/-! THE PURE HEAP AND THE MACHINE's -/
def om_fv (G : om_G) (h : om_H) (f a : Nat) : Value := match f % 4 with
  | 1 => .long (Int64.ofInt (fI h f a))
  | 2 => om_rv G (fR h f a)
  | _ => .int (Int32.ofInt (fI h f a))
def om_ar (k : Nat) (x : Int) : Prop := match k with
  | 50 => -128 ≤ x ∧ x ≤ 127
  | 51 => iR x
  | 52 => lR x
  | 53 => x = 0 ∨ x = 1
  | _ => True
def om_fr (f : Nat) (x : Int) : Prop := match f % 4 with
  | 0 => iR x
  | 1 => lR x
  | 3 => x = 0 ∨ x = 1
  | _ => True
def om_rng (h : om_H) : Prop := (∀ f a, om_fr f (fI h f a)) ∧ (∀ a i, om_ar (kd h a) (aI h a i)) ∧ (∀ a, an h a ≤ 2147483647) ∧ (∀ a, (ll h a).length ≤ 2147483647) ∧ 0 < hz h ∧ kd h 0 = 0 ∧ ∀ a, hz h ≤ a → kd h a = 0
def om_ev (G : om_G) (k : Nat) (h : om_H) (a i : Nat) : Value := match k with
  | 50 => .int (Int32.ofInt (aI h a i))
  | 51 => .int (Int32.ofInt (aI h a i))
  | 52 => .long (Int64.ofInt (aI h a i))
  | 53 => .int (Int32.ofInt (aI h a i))
  | _ => om_rv G (aR h a i)
def om_arr (G : om_G) (h : om_H) (H : Heap) (a k : Nat) : Prop :=
  ∃ cell : Cell, H[a]? = some cell ∧ cell.cls = om_aC G k ∧ cell.vm = .none ∧ cell.slots.size = an h a ∧ an h a < 2 ^ 31 ∧ ∀ i, i < an h a → cell.slots[i]? = some (om_ev G k h a i)
def om_lf (mc : Int32) (e n : Nat) (j : Nat) : Value := match j with
  | 0 => .int mc
  | 1 => .ref e
  | _ => .int (Int32.ofInt n)
/-- an ArrayList and its array: the class's own empty one, or one of its own -/
def om_list (G : om_G) (h : om_H) (H : Heap) (a e : Nat) : Prop :=
  (∃ mc : Int32, t_OB a (G.1.1 40) 3 (G.1.2 40) H (om_lf mc e (ll h a).length)) ∧
  ((lc h a = 0 ∧ ll h a = [] ∧ e = om_ra G (om_cA G 600)) ∨
   (0 < lc h a ∧ lc h a < 2 ^ 31 ∧ (ll h a).length ≤ lc h a ∧ om_b G ≤ e ∧ e < hz h ∧ kd h e = 0 ∧
    ∃ (cell : Cell) (f : Nat → Nat), H[e]? = some cell ∧ cell.cls = om_aC G 61 ∧ cell.vm = .none ∧ cell.slots.size = lc h a ∧ (∀ i, i < lc h a → cell.slots[i]? = some (om_rv G (f i))) ∧ ∀ (i x : Nat), (ll h a)[i]? = some x → f i = x))
def om_R (G : om_G) (h : om_H) (H : Heap) : Prop :=
  H.size = hz h ∧ om_b G ≤ hz h ∧ (0 < om_b G ∧ hz h ≤ om_Z G) ∧ (∀ q, q < om_b G → H[q]? = (om_H0 G)[q]?) ∧ (∀ a, kd h a ≠ 0 → om_b G ≤ a ∧ a < hz h) ∧
  (∀ (k : Nat) (r : vw_C) (a : Nat), om_cl[k]? = some r → kd h a = k + 1 → t_OB a (G.1.1 k) r.2.2 (G.1.2 k) H (fun j => om_fv G h ((om_ft (k + 1)).getD j 0) a)) ∧
  (∀ (k : Nat) (ty : FieldType) (a : Nat), om_at k = some ty → kd h a = k → om_arr G h H a k) ∧
  ∃ E : Nat → Nat, (∀ a, kd h a = 42 → om_list G h H a (E a)) ∧ ∀ a b, kd h a = 42 → kd h b = 42 → 0 < lc h a → 0 < lc h b → E a = E b → a = b
/-! LOCALS AND STACK -/
def om_as (G : om_G) (ls : List (Option om_V)) : List (Nat × Value) := ls.zipIdx.filterMap (fun q => q.1.map (fun v => (q.2, om_tv G v)))
theorem om_as_mem {G : om_G} {ls : List (Option om_V)} {i : Nat} {v : Value} : (i, v) ∈ om_as G ls ↔ ∃ u, ls[i]? = some (some u) ∧ v = om_tv G u := by
  unfold om_as
  rw [List.mem_filterMap]
  constructor
  · rintro ⟨⟨o, j⟩, h1, h2⟩
    cases o with
    | none => cases h2
    | some u =>
      have e := List.mem_zipIdx_iff_getElem?.mp h1
      simp only [Option.map_some, Option.some.injEq, Prod.mk.injEq] at h2
      obtain ⟨rfl, rfl⟩ := h2
      exact ⟨u, e, rfl⟩
  · rintro ⟨u, h1, rfl⟩
    exact ⟨(some u, i), List.mem_zipIdx_iff_getElem?.mpr h1, rfl⟩
def om_L (G : om_G) (n : Nat) (ls : List (Option om_V)) (la : Array Slot) : Prop := lv_has la n (om_as G ls) ∧ ls.length = n
theorem om_L.get {G : om_G} {n : Nat} {ls : List (Option om_V)} {la : Array Slot} (h : om_L G n ls la) {i : Nat} {v : om_V} (hi : ls[i]? = some (some v)) : la[i]? = some (.val (om_tv G v)) := h.1.2.2 _ (om_as_mem.mpr ⟨v, hi, rfl⟩)
/-- everything is in range -/
def om_V0 (h : om_H) (ls : List (Option om_V)) (st : List om_V) : Prop := om_rng h ∧ (∀ v ∈ st, om_okV v) ∧ ∀ v, some v ∈ ls → om_okV v
theorem om_V0.at {h : om_H} {ls : List (Option om_V)} {st : List om_V} (V : om_V0 h ls st) {i : Nat} {v : om_V} (hi : ls[i]? = some (some v)) : om_okV v := V.2.2 v (List.mem_of_getElem? hi)
/-! THE JUDGEMENT -/
def om_X (G : om_G) (M : om_M) (p : Program) (s : State) (m : MethodId) (meth : Method) (c : Code) : Prop :=
  p.tables.exec = Jvm.exec ∧ c.code = M.2.1 ∧ c.maxLocals = M.2.2.1 ∧ meth.sig.returnType = M.2.2.2.1 ∧ meth.locks = false ∧ s.vm.findClass M.1.cls = some m.cls ∧ meth.name = M.1.name ∧
  c.exceptionTable.toList.map (fun h => (h.startPc, h.endPc, h.handlerPc, h.catchType)) = M.2.2.2.2 ∧ om_SC G s
def om_okO (r : Option om_V ⊕ Nat) : Prop := ∀ v, r = .inl (some v) → om_okV v
def om_C (G : om_G) (d : Nat) (M : om_M) (p : Program) (R : Room) (s : State) (m : MethodId) (meth : Method) (c : Code) (H : Heap) (locs : List Loc) (la : Array Slot) (u0 : Nat) (ls : List (Option om_V)) (h : om_H) (Q : om_O → Prop) : Prop :=
  om_X G M p s m meth c ∧ (d ≤ R.frames ∧ 64 * d ≤ R.locals ∧ s.heap.size + R.cells ≤ om_Z G) ∧ (om_b G ≤ s.heap.size ∧ s.heap.size ≤ hz h ∧ u0 ≤ hu h) ∧ (∀ O, Q O → om_okO O.1 → om_rng O.2 → hz O.2 ≤ s.heap.size + R.cells ∧ hu O.2 ≤ u0 + R.slots) ∧
  om_R G h H ∧ (∀ q ∈ locs, om_b G ≤ q.base) ∧ om_L G M.2.2.1 ls la
def om_out (G : om_G) (r : Option om_V ⊕ Nat) (o : Outcome) : Prop := match r with
  | .inl none => o = .returned none
  | .inl (some v) => o = .returned (some (om_tv G v))
  | .inr a => o = .threw (om_ra G a)
def om_Q (G : om_G) (below : List Frame) (s : State) (u0 : Nat) (Q : om_O → Prop) (t : State) : Prop :=
  ∃ (O : om_O) (o : Outcome) (L : List Loc), Q O ∧ om_out G O.1 o ∧ om_okO O.1 ∧ om_rng O.2 ∧ t.status = .running ∧ Ended t below o ∧ s.WarmedH t.vm ∧ s.sameButNew ({ t with vm := s.vm } : State) L (hz O.2 - s.heap.size) (hu O.2 - u0) ∧
    (∀ q ∈ L, om_b G ≤ q.base) ∧ om_R G O.2 t.heap ∧ s.heap.size ≤ hz O.2 ∧ u0 ≤ hu O.2
def OKe (h : om_H) (Q : om_O → Prop) : Prop := ∃ O : om_O, Q O ∧ om_okO O.1 ∧ om_rng O.2 ∧ hz h ≤ hz O.2 ∧ hu h ≤ hu O.2
def OKw (G : om_G) (d : Nat) (M : om_M) (pc : Nat) (ls : List (Option om_V)) (st : List om_V) (h : om_H) (Q : om_O → Prop) : Prop :=
  ∀ (p : Program) (l : Launch) (e : Env) (R : Room) (s : State) (m : MethodId) (args : Array Value) (below : List Frame) (meth : Method) (c : Code) (H : Heap) (locs : List Loc) (la : Array Slot) (u0 : Nat),
    om_C G d M p R s m meth c H locs la u0 ls h Q → W p l e R s m args below meth c H locs (hz h - s.heap.size) (hu h - u0) (om_Q G below s u0 Q) (F0 m pc la (st.map (om_tv G)))
def OK (G : om_G) (d : Nat) (M : om_M) (pc : Nat) (ls : List (Option om_V)) (st : List om_V) (h : om_H) (Q : om_O → Prop) : Prop := om_V0 h ls st → OKe h Q ∧ OKw G d M pc ls st h Q
section OM1
variable {G : om_G} {d : Nat} {M : om_M} {pc pc' : Nat} {ls ls' : List (Option om_V)} {st st' : List om_V} {h h' : om_H} {Q : om_O → Prop}
/-- a step -/
theorem ok_step (hV : om_V0 h ls st → om_V0 h' ls' st') (h1 : hz h ≤ hz h') (h2 : hu h ≤ hu h') (k : OK G d M pc' ls' st' h' Q)
    (w : ∀ (p : Program) (l : Launch) (e : Env) (R : Room) (s : State) (m : MethodId) (args : Array Value) (below : List Frame) (meth : Method) (c : Code) (H : Heap) (locs : List Loc) (la : Array Slot) (u0 : Nat) (Q' : State → Prop),
      om_V0 h ls st → om_C G d M p R s m meth c H locs la u0 ls h Q → hz h' ≤ s.heap.size + R.cells → hu h' ≤ u0 + R.slots →
      (∀ (H' : Heap) (locs' : List Loc) (la' : Array Slot), om_R G h' H' → (∀ q ∈ locs', om_b G ≤ q.base) → om_L G M.2.2.1 ls' la' → W p l e R s m args below meth c H' locs' (hz h' - s.heap.size) (hu h' - u0) Q' (F0 m pc' la' (st'.map (om_tv G)))) →
      W p l e R s m args below meth c H locs (hz h - s.heap.size) (hu h - u0) Q' (F0 m pc la (st.map (om_tv G)))) : OK G d M pc ls st h Q := by
  intro V
  obtain ⟨⟨O, q1, q2, q3, q4, q5⟩, k2⟩ := k (hV V)
  refine ⟨⟨O, q1, q2, q3, Nat.le_trans h1 q4, Nat.le_trans h2 q5⟩, fun p l e R s m args below meth c H locs la u0 C => ?_⟩
  obtain ⟨c1, c2, c3, c4, c5, c6, c7⟩ := id C
  have b := c4 O q1 q2 q3
  exact w p l e R s m args below meth c H locs la u0 _ V C (Nat.le_trans q4 b.1) (Nat.le_trans q5 b.2) (fun H' locs' la' r1 r2 r3 => k2 p l e R s m args below meth c H' locs' la' u0 ⟨c1, c2, ⟨c3.1, Nat.le_trans c3.2.1 h1, Nat.le_trans c3.2.2 h2⟩, c4, r1, r2, r3⟩)
/-- a step that touches no heap and no locals -/
theorem ok_st (hst : om_V0 h ls st → ∀ v ∈ st', om_okV v) (k : OK G d M pc' ls st' h Q)
    (w : ∀ (p : Program) (l : Launch) (e : Env) (R : Room) (s : State) (m : MethodId) (args : Array Value) (below : List Frame) (meth : Method) (c : Code) (H : Heap) (locs : List Loc) (la : Array Slot) (cells slots : Nat) (Q' : State → Prop),
      om_X G M p s m meth c → om_L G M.2.2.1 ls la → om_R G h H → om_V0 h ls st → W p l e R s m args below meth c H locs cells slots Q' (F0 m pc' la (st'.map (om_tv G))) → W p l e R s m args below meth c H locs cells slots Q' (F0 m pc la (st.map (om_tv G)))) : OK G d M pc ls st h Q :=
  ok_step (fun V => ⟨V.1, hst V, V.2.2⟩) (Nat.le_refl _) (Nat.le_refl _) k (fun p l e R s m args below meth c H locs la u0 Q' V C _ _ kk => w p l e R s m args below meth c H locs la _ _ Q' C.1 C.2.2.2.2.2.2 C.2.2.2.2.1 V (kk H locs la C.2.2.2.2.1 C.2.2.2.2.2.1 C.2.2.2.2.2.2))
theorem ok_mono {Q' : om_O → Prop} (hq : ∀ O, Q O → Q' O) (k : OK G d M pc ls st h Q) : OK G d M pc ls st h Q' := by
  intro V
  obtain ⟨⟨O, a, b⟩, k2⟩ := k V
  refine ⟨⟨O, hq O a, b⟩, fun p l e R s m args below meth c H locs la u0 C => ?_⟩
  obtain ⟨c1, c2, c3, c4, c5⟩ := C
  intro T hT X
  obtain ⟨t, a1, O, o, L, b1, b2⟩ := k2 p l e R s m args below meth c H locs la u0 ⟨c1, c2, c3, fun O hO => c4 O (hq O hO), c5⟩ T hT X
  exact ⟨t, a1, O, o, L, hq O b1, b2⟩
theorem ok_deep {d' : Nat} (hd : d ≤ d') (k : OK G d M pc ls st h Q) : OK G d' M pc ls st h Q := fun V =>
  ⟨(k V).1, fun p l e R s m args below meth c H locs la u0 C => by
    obtain ⟨c1, c2, c3⟩ := C
    exact (k V).2 p l e R s m args below meth c H locs la u0 ⟨c1, ⟨by omega, by omega, c2.2.2⟩, c3⟩⟩
theorem om_ne0 {a k : Nat} (V : om_V0 h ls st) (ha : kd h a = k + 1) : a ≠ 0 := fun q => by
  rw [q, V.1.2.2.2.2.2.1] at ha
  omega
/-- what has a kind lies below the heap's end -/
theorem om_lt {a : Nat} (V : om_rng h) (ha : kd h a ≠ 0) : a < hz h := Nat.lt_of_not_le (fun q => ha (V.2.2.2.2.2.2 a q))
/-- what is on the stack, in the locals and in the heap is in range -/
theorem ok_rng (k : om_V0 h ls st → OK G d M pc ls st h Q) : OK G d M pc ls st h Q := fun V => k V V
/-- fewer locals are looked at -/
def om_le : List (Option om_V) → List (Option om_V) → Prop
  | [], [] => True
  | none :: a, _ :: b => om_le a b
  | some x :: a, y :: b => y = some x ∧ om_le a b
  | _, _ => False
theorem om_le.get : ∀ {ls' ls : List (Option om_V)}, om_le ls' ls → ls'.length = ls.length ∧ ∀ (i : Nat) (v : om_V), ls'[i]? = some (some v) → ls[i]? = some (some v) := by
  intro ls'
  induction ls' with
  | nil =>
    intro ls hl
    cases ls with
    | nil => exact ⟨rfl, fun i v h => by simp at h⟩
    | cons y b => exact hl.elim
  | cons x a ih =>
    intro ls hl
    cases ls with
    | nil => cases x <;> exact hl.elim
    | cons y b =>
      cases x with
      | none =>
        have h0 : om_le a b := hl
        obtain ⟨i1, i2⟩ := ih h0
        refine ⟨by simp [i1], fun i v h => ?_⟩
        cases i with
        | zero => simp at h
        | succ j => exact i2 j v (by simpa using h)
      | some x =>
        have h0 : y = some x ∧ om_le a b := hl
        obtain ⟨i1, i2⟩ := ih h0.2
        refine ⟨by simp [i1], fun i v h => ?_⟩
        cases i with
        | zero =>
          rw [h0.1]
          simpa using h
        | succ j => exact i2 j v (by simpa using h)
theorem om_L.sub {n : Nat} {la : Array Slot} (hs : om_le ls' ls) (hl : om_L G n ls la) : om_L G n ls' la := by
  obtain ⟨i1, i2⟩ := hs.get
  refine ⟨⟨hl.1.1, hl.1.2.1, fun q hq => ?_⟩, i1.trans hl.2⟩
  obtain ⟨u, a1, a2⟩ := om_as_mem.mp (show (q.1, q.2) ∈ om_as G ls' from hq)
  exact hl.1.2.2 q (om_as_mem.mpr ⟨u, i2 _ _ a1, a2⟩)
theorem ok_fewer (hs : om_le ls' ls) (k : OK G d M pc ls' st h Q) : OK G d M pc ls st h Q := by
  obtain ⟨i1, i2⟩ := hs.get
  refine ok_step (fun V => ⟨V.1, V.2.1, fun v hv => ?_⟩) (Nat.le_refl _) (Nat.le_refl _) k (fun p l e R s m args below meth c H locs la u0 Q' V C _ _ kk => kk H locs la C.2.2.2.2.1 C.2.2.2.2.2.1 (om_L.sub hs C.2.2.2.2.2.2))
  obtain ⟨i, hi⟩ := List.getElem?_of_mem hv
  exact V.at (i2 i v hi)
end OM1
