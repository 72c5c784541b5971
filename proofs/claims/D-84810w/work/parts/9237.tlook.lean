set_option maxRecDepth 100000
/-! WHAT NAMES OF TERMS STAND FOR, in the component -/
/-- a row of things that stand, or not: flag f, name g -/
def SLs (h : om_H) (Lx kk f g : Nat) (os : List Nat) (F : List (Option (List Int))) : Prop := Lx < hz h ∧ kd h Lx = 42 ∧ ll h Lx = os ∧ os.length = F.length ∧ os.length ≤ 1300 ∧ ∀ (i o : Nat) (k : Option (List Int)), os[i]? = some o → F[i]? = some k → (o ≠ 0 ∧ o < hz h ∧ kd h o = kk) ∧ CLw h o f g k
/-- the first method that has these letters -/
def MI (L : List Int) : List (List (Option (List Int))) → Option (Nat × Nat)
  | [] => none
  | F :: Ms => (FI id L F).elim ((MI L Ms).map (fun p => (p.1 + 1, p.2))) (fun j => some (0, j))
/-- the program's functions and methods -/
def FNS (h : om_H) (pr : Nat) (cs fo : List Nat) (F : List (Option (List Int))) (mo : List (List Nat)) (Ms : List (List (Option (List Int)))) : Prop := SLs h (fR h 90 pr) 33 1539 1530 fo F ∧ cs.length = mo.length ∧ cs.length = Ms.length ∧ ∀ (i c : Nat) (ms : List Nat) (Fm : List (Option (List Int))), cs[i]? = some c → mo[i]? = some ms → Ms[i]? = some Fm → SLs h (fR h 1230 c) 19 1259 1242 ms Fm
section LTL
variable {G : om_G} {h h' : om_H} {pr w : Nat} {cs : List Nat} {K : List (Option (List Int))} {L : List Int}
theorem c_functionOf_loop (k2 : kd h pr = 2) (C : SLs h (fR h 90 pr) 33 1539 1530 cs K) (W : wb h w L) : ∀ d i : Nat, i + d = K.length → om_loop (C_1_functionOf_2s G pr w h) (i : Int) = some (match FI id L (K.drop i) with | some j => .inl ((i + j : Nat) : Int) | none => .inr ())
  | 0, i, hd => by
    obtain ⟨c0, c1, c2, c3, c4, c5⟩ := C
    rw [List.drop_eq_nil_of_le (by omega)]
    refine om_loop_out ?_
    unfold C_1_functionOf_2s
    rw [gd_pos ⟨k2, c1⟩, show P_J2_size G (fR h 90 pr) h = some ((cs.length : Nat) : Int) by unfold P_J2_size; rw [gd_pos c1, c2], Option.bind_some, if_pos (by omega)]
    rfl
  | d + 1, i, hd => by
    obtain ⟨c0, c1, c2, c3, c4, c5⟩ := id C
    have il : i < cs.length := by omega
    have ik : i < K.length := by omega
    have ec : cs[i]? = some cs[i] := List.getElem?_eq_getElem il
    have ek : K[i]? = some K[i] := List.getElem?_eq_getElem ik
    generalize cs[i] = c at ec
    generalize K[i] = k at ek
    obtain ⟨d1, d3⟩ := c5 i c k ec ek
    obtain ⟨f1, f2⟩ := CLw_eq (G := G) d3 W
    have eg : P_J2_get G (fR h 90 pr) (i : Int) h = some c := by
      unfold P_J2_get
      rw [gd_pos ⟨c1, by omega⟩, c2, show ((i : Int)).toNat = i by omega, ec]
    have es : P_J2_size G (fR h 90 pr) h = some ((cs.length : Nat) : Int) := by unfold P_J2_size; rw [gd_pos c1, c2]
    have ew : w32 ((i : Int) + 1) = ((i + 1 : Nat) : Int) := by rw [w32_s (by omega) (by omega)]; rfl
    have nxt : k ≠ some L → (match FI id L (K.drop i) with | some j => Sum.inl ((i + j : Nat) : Int) | none => (Sum.inr () : Int ⊕ Unit)) = (match FI id L (K.drop (i + 1)) with | some j => .inl ((i + 1 + j : Nat) : Int) | none => .inr ()) := by
      intro ne
      rw [drop_c ek]
      show (match (if id k = some L then some 0 else (FI id L (K.drop (i + 1))).map (· + 1)) with | some j => Sum.inl ((i + j : Nat) : Int) | none => (Sum.inr () : Int ⊕ Unit)) = _
      rw [if_neg (show ¬ id k = some L from ne)]
      cases FI id L (K.drop (i + 1)) with
      | none => rfl
      | some v => show Sum.inl _ = Sum.inl _; rw [show i + (v + 1) = i + 1 + v by omega]
    by_cases z : fI h 1539 c = 0
    · have st : C_1_functionOf_2s G pr w h (i : Int) = some (.inl ((i + 1 : Nat) : Int)) := by
        unfold C_1_functionOf_2s
        rw [gd_pos ⟨k2, c1⟩, es, Option.bind_some, if_neg (by omega), gd_pos ⟨k2, c1⟩, eg, Option.bind_some, gd_pos ⟨.inr d1.2.2, d1.2.2⟩, if_pos z, ew]
      rw [om_loop_in st, c_functionOf_loop k2 C W d (i + 1) (by omega), nxt (f1 z)]
    · obtain ⟨g1, g2⟩ := f2 z
      by_cases e : k = some L
      · have st : C_1_functionOf_2s G pr w h (i : Int) = some (.inr (.inl (i : Int))) := by
          unfold C_1_functionOf_2s
          rw [gd_pos ⟨k2, c1⟩, es, Option.bind_some, if_neg (by omega), gd_pos ⟨k2, c1⟩, eg, Option.bind_some, gd_pos ⟨.inr d1.2.2, d1.2.2⟩, if_neg z, gd_pos ⟨k2, c1⟩, Option.bind_some, gd_pos ⟨.inr d1.2.2, d1.2.2, g1⟩, g2, if_pos e, Option.bind_some, if_neg (by decide)]
        rw [om_loop_out st, drop_c ek]
        show some (Sum.inl (i : Int)) = some (match (if id k = some L then some 0 else (FI id L (K.drop (i + 1))).map (· + 1)) with | some j => Sum.inl ((i + j : Nat) : Int) | none => (Sum.inr () : Int ⊕ Unit))
        rw [if_pos (show id k = some L from e)]
        rfl
      · have st : C_1_functionOf_2s G pr w h (i : Int) = some (.inl ((i + 1 : Nat) : Int)) := by
          unfold C_1_functionOf_2s
          rw [gd_pos ⟨k2, c1⟩, es, Option.bind_some, if_neg (by omega), gd_pos ⟨k2, c1⟩, eg, Option.bind_some, gd_pos ⟨.inr d1.2.2, d1.2.2⟩, if_neg z, gd_pos ⟨k2, c1⟩, Option.bind_some, gd_pos ⟨.inr d1.2.2, d1.2.2, g1⟩, g2, if_neg e, Option.bind_some, if_pos rfl, ew]
        rw [om_loop_in st, c_functionOf_loop k2 C W d (i + 1) (by omega), nxt e]
theorem c_functionOf (k2 : kd h pr = 2) (C : SLs h (fR h 90 pr) 33 1539 1530 cs K) (W : wb h w L) : C_1_functionOf G pr w h = some (clA cs (FI id L K)) := by
  unfold C_1_functionOf
  have e := c_functionOf_loop (G := G) k2 C W K.length 0 (by omega)
  rw [show ((0 : Nat) : Int) = 0 from rfl, List.drop_zero] at e
  rw [e, Option.bind_some]
  obtain ⟨c0, c1, c2, c3, c4, c5⟩ := id C
  cases q : FI id L K with
  | none => rfl
  | some i =>
    have il := FI_lt q
    have ec : cs[i]? = some cs[i] := List.getElem?_eq_getElem (by omega)
    have ek : K[i]? = some K[i] := List.getElem?_eq_getElem il
    obtain ⟨d1, _⟩ := c5 i _ _ ec ek
    show gd (kd h pr = 2 ∧ kd h (fR h 90 pr) = 42) _ = _
    rw [gd_pos ⟨k2, c1⟩]
    have eg : P_J2_get G (fR h 90 pr) ((0 + i : Nat) : Int) h = some cs[i] := by
      unfold P_J2_get
      rw [gd_pos ⟨c1, by omega⟩, c2, show (((0 + i : Nat) : Int)).toNat = i by omega, ec]
    rw [eg, Option.bind_some, gd_pos (.inr d1.2.2)]
    show _ = some (cs.getD i 0)
    rw [List.getD_eq_getElem?_getD, ec]
    rfl
theorem c_methodIn {l2 : Int} {Lx : Nat} (C : SLs h Lx 19 1259 1242 cs K) (W : wb h w L) : ∀ d i : Nat, i + d = K.length → om_loop (C_1_methodOf_31s G pr w l2 Lx h) (i : Int) = some (match FI id L (K.drop i) with | some j => .inl ((i + j : Nat) : Int) | none => .inr ())
  | 0, i, hd => by
    obtain ⟨c0, c1, c2, c3, c4, c5⟩ := C
    rw [List.drop_eq_nil_of_le (by omega)]
    refine om_loop_out ?_
    unfold C_1_methodOf_31s
    rw [gd_pos c1, show P_J2_size G (Lx) h = some ((cs.length : Nat) : Int) by unfold P_J2_size; rw [gd_pos c1, c2], Option.bind_some, if_pos (by omega)]
    rfl
  | d + 1, i, hd => by
    obtain ⟨c0, c1, c2, c3, c4, c5⟩ := id C
    have il : i < cs.length := by omega
    have ik : i < K.length := by omega
    have ec : cs[i]? = some cs[i] := List.getElem?_eq_getElem il
    have ek : K[i]? = some K[i] := List.getElem?_eq_getElem ik
    generalize cs[i] = c at ec
    generalize K[i] = k at ek
    obtain ⟨d1, d3⟩ := c5 i c k ec ek
    obtain ⟨f1, f2⟩ := CLw_eq (G := G) d3 W
    have eg : P_J2_get G (Lx) (i : Int) h = some c := by
      unfold P_J2_get
      rw [gd_pos ⟨c1, by omega⟩, c2, show ((i : Int)).toNat = i by omega, ec]
    have es : P_J2_size G (Lx) h = some ((cs.length : Nat) : Int) := by unfold P_J2_size; rw [gd_pos c1, c2]
    have ew : w32 ((i : Int) + 1) = ((i + 1 : Nat) : Int) := by rw [w32_s (by omega) (by omega)]; rfl
    have nxt : k ≠ some L → (match FI id L (K.drop i) with | some j => Sum.inl ((i + j : Nat) : Int) | none => (Sum.inr () : Int ⊕ Unit)) = (match FI id L (K.drop (i + 1)) with | some j => .inl ((i + 1 + j : Nat) : Int) | none => .inr ()) := by
      intro ne
      rw [drop_c ek]
      show (match (if id k = some L then some 0 else (FI id L (K.drop (i + 1))).map (· + 1)) with | some j => Sum.inl ((i + j : Nat) : Int) | none => (Sum.inr () : Int ⊕ Unit)) = _
      rw [if_neg (show ¬ id k = some L from ne)]
      cases FI id L (K.drop (i + 1)) with
      | none => rfl
      | some v => show Sum.inl _ = Sum.inl _; rw [show i + (v + 1) = i + 1 + v by omega]
    by_cases z : fI h 1259 c = 0
    · have st : C_1_methodOf_31s G pr w l2 Lx h (i : Int) = some (.inl ((i + 1 : Nat) : Int)) := by
        unfold C_1_methodOf_31s
        rw [gd_pos c1, es, Option.bind_some, if_neg (by omega), gd_pos c1, eg, Option.bind_some, gd_pos ⟨.inr d1.2.2, d1.2.2⟩, if_pos z, ew]
      rw [om_loop_in st, c_methodIn C W d (i + 1) (by omega), nxt (f1 z)]
    · obtain ⟨g1, g2⟩ := f2 z
      by_cases e : k = some L
      · have st : C_1_methodOf_31s G pr w l2 Lx h (i : Int) = some (.inr (.inl (i : Int))) := by
          unfold C_1_methodOf_31s
          rw [gd_pos c1, es, Option.bind_some, if_neg (by omega), gd_pos c1, eg, Option.bind_some, gd_pos ⟨.inr d1.2.2, d1.2.2⟩, if_neg z, gd_pos c1, Option.bind_some, gd_pos ⟨.inr d1.2.2, d1.2.2, g1⟩, g2, if_pos e, Option.bind_some, if_neg (by decide)]
        rw [om_loop_out st, drop_c ek]
        show some (Sum.inl (i : Int)) = some (match (if id k = some L then some 0 else (FI id L (K.drop (i + 1))).map (· + 1)) with | some j => Sum.inl ((i + j : Nat) : Int) | none => (Sum.inr () : Int ⊕ Unit))
        rw [if_pos (show id k = some L from e)]
        rfl
      · have st : C_1_methodOf_31s G pr w l2 Lx h (i : Int) = some (.inl ((i + 1 : Nat) : Int)) := by
          unfold C_1_methodOf_31s
          rw [gd_pos c1, es, Option.bind_some, if_neg (by omega), gd_pos c1, eg, Option.bind_some, gd_pos ⟨.inr d1.2.2, d1.2.2⟩, if_neg z, gd_pos c1, Option.bind_some, gd_pos ⟨.inr d1.2.2, d1.2.2, g1⟩, g2, if_neg e, Option.bind_some, if_pos rfl, ew]
        rw [om_loop_in st, c_methodIn C W d (i + 1) (by omega), nxt e]
def moA (mo : List (List Nat)) (o : Option (Nat × Nat)) : Nat := o.elim 0 (fun p => (mo.getD p.1 []).getD p.2 0)
theorem c_methodOf_loop {K' : KT} {fo : List Nat} {F : List (Option (List Int))} {mo : List (List Nat)} {Ms : List (List (Option (List Int)))} (C : CLS h pr cs K') (M : FNS h pr cs fo F mo Ms) (W : wb h w L) : ∀ d i : Nat, i + d = Ms.length → ∃ v : (Nat × Int) ⊕ Unit, om_loop (C_1_methodOf_2s G pr w h) (i : Int) = some v ∧ ((MI L (Ms.drop i) = none ∧ v = .inr ()) ∨ ∃ p j c : Nat, MI L (Ms.drop i) = some (p, j) ∧ cs[i + p]? = some c ∧ v = .inl (fR h 1230 c, (j : Int)))
  | 0, i, hd => by
    obtain ⟨c1, c2, c3, c4, c5⟩ := C
    obtain ⟨m1, m2, m3, m4⟩ := M
    refine ⟨.inr (), om_loop_out ?_, .inl ⟨by rw [List.drop_eq_nil_of_le (by omega)]; rfl, rfl⟩⟩
    unfold C_1_methodOf_2s
    rw [gd_pos ⟨c1.1, c2.2.1⟩, show P_J2_size G (fR h 82 pr) h = some ((cs.length : Nat) : Int) by unfold P_J2_size; rw [gd_pos c2.2.1, c2.2.2], Option.bind_some, if_pos (by omega)]
  | d + 1, i, hd => by
    obtain ⟨c1, c2, c3, c4, c5⟩ := id C
    obtain ⟨m1, m2, m3, m4⟩ := id M
    have ec : cs[i]? = some cs[i] := List.getElem?_eq_getElem (by omega)
    have ek : K'[i]? = some K'[i] := List.getElem?_eq_getElem (by omega)
    have em : mo[i]? = some mo[i] := List.getElem?_eq_getElem (by omega)
    have eM : Ms[i]? = some Ms[i] := List.getElem?_eq_getElem (by omega)
    generalize cs[i] = c at ec
    generalize mo[i] = ms at em
    generalize Ms[i] = Fm at eM
    obtain ⟨d1, _⟩ := c5 i c _ ec ek
    have SL := m4 i c ms Fm ec em eM
    have eg : P_J2_get G (fR h 82 pr) (i : Int) h = some c := by
      unfold P_J2_get
      rw [gd_pos ⟨c2.2.1, by omega⟩, c2.2.2, show ((i : Int)).toNat = i by omega, ec]
    have es : P_J2_size G (fR h 82 pr) h = some ((cs.length : Nat) : Int) := by unfold P_J2_size; rw [gd_pos c2.2.1, c2.2.2]
    have inn := c_methodIn (G := G) (pr := pr) (l2 := (i : Int)) SL W Fm.length 0 (by omega)
    rw [show ((0 : Nat) : Int) = 0 from rfl, List.drop_zero] at inn
    rw [drop_c eM]
    cases q : FI id L Fm with
    | some j =>
      rw [q] at inn
      refine ⟨.inl (fR h 1230 c, (j : Int)), om_loop_out ?_, .inr ⟨0, j, c, ?_, ec, rfl⟩⟩
      · unfold C_1_methodOf_2s
        rw [gd_pos ⟨c1.1, c2.2.1⟩, es, Option.bind_some, if_neg (by omega), gd_pos ⟨c1.1, c2.2.1⟩, eg, Option.bind_some, gd_pos ⟨.inr d1.2.2.1, d1.2.2.1⟩, inn, Option.bind_some]
        show some (Sum.inr (Sum.inl (fR h 1230 c, ((0 + j : Nat) : Int)))) = _
        rw [Nat.zero_add]
      · unfold MI
        rw [q]; rfl
    | none =>
      rw [q] at inn
      have st : C_1_methodOf_2s G pr w h (i : Int) = some (.inl ((i + 1 : Nat) : Int)) := by
        unfold C_1_methodOf_2s
        rw [gd_pos ⟨c1.1, c2.2.1⟩, es, Option.bind_some, if_neg (by omega), gd_pos ⟨c1.1, c2.2.1⟩, eg, Option.bind_some, gd_pos ⟨.inr d1.2.2.1, d1.2.2.1⟩, inn, Option.bind_some]
        show some (Sum.inl (w32 ((i : Int) + 1))) = _
        rw [w32_s (by omega) (by omega)]
        rfl
      obtain ⟨v, e1, e2⟩ := c_methodOf_loop C M W d (i + 1) (by omega)
      refine ⟨v, by rw [om_loop_in st]; exact e1, ?_⟩
      rcases e2 with ⟨e2, e3⟩ | ⟨p, j, c', e2, e3, e4⟩
      · refine .inl ⟨?_, e3⟩
        unfold MI
        rw [q, e2]; rfl
      · refine .inr ⟨p + 1, j, c', ?_, by rw [show i + (p + 1) = i + 1 + p by omega]; exact e3, e4⟩
        unfold MI
        rw [q, e2]; rfl
theorem MI_lt : ∀ {Ms : List (List (Option (List Int)))} {p j : Nat}, MI L Ms = some (p, j) → ∃ Fm, Ms[p]? = some Fm ∧ FI id L Fm = some j
  | [], _, _, e => by cases e
  | F :: Ms, p, j, e => by
    unfold MI at e
    cases q : FI id L F with
    | some v =>
      rw [q] at e
      obtain ⟨e1, e2⟩ := Prod.mk.inj (Option.some.inj e)
      exact ⟨F, by rw [← e1]; rfl, by rw [q, e2]⟩
    | none =>
      rw [q] at e
      cases q2 : MI L Ms with
      | none => rw [q2] at e; cases e
      | some v =>
        rw [q2] at e
        obtain ⟨e1, e2⟩ := Prod.mk.inj (Option.some.inj e)
        obtain ⟨Fm, f1, f2⟩ := MI_lt (p := v.1) (j := v.2) q2
        exact ⟨Fm, by rw [← e1]; exact f1, by rw [f2, e2]⟩
theorem c_methodOf {K' : KT} {fo : List Nat} {F : List (Option (List Int))} {mo : List (List Nat)} {Ms : List (List (Option (List Int)))} (C : CLS h pr cs K') (M : FNS h pr cs fo F mo Ms) (W : wb h w L) : C_1_methodOf G pr w h = some (moA mo (MI L Ms)) := by
  unfold C_1_methodOf
  obtain ⟨v, e1, e2⟩ := c_methodOf_loop (G := G) C M W Ms.length 0 (by omega)
  rw [show ((0 : Nat) : Int) = 0 from rfl] at e1
  rw [List.drop_zero] at e2
  rw [e1, Option.bind_some]
  rcases e2 with ⟨e2, e3⟩ | ⟨p, j, c, e2, e3, e4⟩
  · rw [e3, e2]; rfl
  · rw [e4, e2]
    obtain ⟨Fm, f1, f2⟩ := MI_lt (Ms := Ms) e2
    rw [Nat.zero_add] at e3
    obtain ⟨m1, m2, m3, m4⟩ := M
    have pl := (List.getElem?_eq_some_iff.mp e3).1
    have em : mo[p]? = some mo[p] := List.getElem?_eq_getElem (by omega)
    generalize mo[p] = ms at em
    obtain ⟨s0, s1, s2, s3, s4, s5⟩ := m4 p c ms Fm e3 em f1
    have jl := FI_lt f2
    have eo : ms[j]? = some ms[j] := List.getElem?_eq_getElem (by omega)
    have eF : Fm[j]? = some Fm[j] := List.getElem?_eq_getElem jl
    obtain ⟨d1, _⟩ := s5 j _ _ eo eF
    have eg : P_J2_get G (fR h 1230 c) (j : Int) h = some ms[j] := by
      unfold P_J2_get
      rw [gd_pos ⟨s1, by omega⟩, s2, show ((j : Int)).toNat = j by omega, eo]
    show gd (kd h (fR h 1230 c) = 42) _ = _
    rw [gd_pos s1, eg, Option.bind_some, gd_pos (.inr d1.2.2)]
    show _ = some ((mo.getD p []).getD j 0)
    have em' : mo.getD p [] = ms := by rw [List.getD_eq_getElem?_getD, em]; rfl
    rw [em', List.getD_eq_getElem?_getD, eo]
    rfl
/-- letters of names that are always there -/
def btI (L : List Int) : Option Nat := if L = [110, 105, 108] then some 0 else if L = [99, 111, 110, 115] then some 1 else if L = [112, 97, 105, 114] then some 2 else if L = [102, 115, 116] then some 3 else if L = [115, 110, 100] then some 4 else if L = [116, 114, 117, 101] then some 5 else if L = [102, 97, 108, 115, 101] then some 6 else none
theorem c_builtOf (W : wb h w L) : C_0_builtOf G w h = some (oI (btI L)) := by
  have e : ∀ (x : Int) (j : Nat) (M : List Int), C_0_built G x h = some j → ¬ 6 < x → om_sb[j]? = some M → C_0_builtOf_2s G w h x = (if L = M then some (.inr (.inl x)) else some (.inl (w32 (x + 1)))) := by
    intro x j M e1 e2 e3
    unfold C_0_builtOf_2s
    rw [if_neg e2, e1, Option.bind_some, gd_pos W.1, c_wisS (G := G) W e3]
    by_cases q : L = M
    · rw [if_pos q, if_pos q, Option.bind_some, if_neg (by decide)]
    · rw [if_neg q, if_neg q, Option.bind_some, if_pos rfl]
  have s0 := e 0 21 [110, 105, 108] (by unfold C_0_built; rfl) (by decide) rfl
  have s1 := e 1 22 [99, 111, 110, 115] (by unfold C_0_built; rfl) (by decide) rfl
  have s2 := e 2 28 [112, 97, 105, 114] (by unfold C_0_built; rfl) (by decide) rfl
  have s3 := e 3 29 [102, 115, 116] (by unfold C_0_built; rfl) (by decide) rfl
  have s4 := e 4 30 [115, 110, 100] (by unfold C_0_built; rfl) (by decide) rfl
  have s5 := e 5 31 [116, 114, 117, 101] (by unfold C_0_built; rfl) (by decide) rfl
  have s6 := e 6 32 [102, 97, 108, 115, 101] (by unfold C_0_built; rfl) (by decide) rfl
  rw [show w32 (0 + 1) = 1 from by decide] at s0
  rw [show w32 (1 + 1) = 2 from by decide] at s1
  rw [show w32 (2 + 1) = 3 from by decide] at s2
  rw [show w32 (3 + 1) = 4 from by decide] at s3
  rw [show w32 (4 + 1) = 5 from by decide] at s4
  rw [show w32 (5 + 1) = 6 from by decide] at s5
  rw [show w32 (6 + 1) = 7 from by decide] at s6
  have s7 : C_0_builtOf_2s G w h 7 = some (.inr (.inr ())) := by
    unfold C_0_builtOf_2s
    rw [if_pos (by decide)]
  unfold C_0_builtOf btI
  by_cases q0 : L = [110, 105, 108]
  · rw [if_pos q0] at s0 ⊢
    rw [om_loop_out s0]; rfl
  rw [if_neg q0] at s0 ⊢
  rw [om_loop_in s0]
  by_cases q1 : L = [99, 111, 110, 115]
  · rw [if_pos q1] at s1 ⊢
    rw [om_loop_out s1]; rfl
  rw [if_neg q1] at s1 ⊢
  rw [om_loop_in s1]
  by_cases q2 : L = [112, 97, 105, 114]
  · rw [if_pos q2] at s2 ⊢
    rw [om_loop_out s2]; rfl
  rw [if_neg q2] at s2 ⊢
  rw [om_loop_in s2]
  by_cases q3 : L = [102, 115, 116]
  · rw [if_pos q3] at s3 ⊢
    rw [om_loop_out s3]; rfl
  rw [if_neg q3] at s3 ⊢
  rw [om_loop_in s3]
  by_cases q4 : L = [115, 110, 100]
  · rw [if_pos q4] at s4 ⊢
    rw [om_loop_out s4]; rfl
  rw [if_neg q4] at s4 ⊢
  rw [om_loop_in s4]
  by_cases q5 : L = [116, 114, 117, 101]
  · rw [if_pos q5] at s5 ⊢
    rw [om_loop_out s5]; rfl
  rw [if_neg q5] at s5 ⊢
  rw [om_loop_in s5]
  by_cases q6 : L = [102, 97, 108, 115, 101]
  · rw [if_pos q6] at s6 ⊢
    rw [om_loop_out s6]; rfl
  rw [if_neg q6] at s6 ⊢
  rw [om_loop_in s6, om_loop_out s7]; rfl
end LTL
