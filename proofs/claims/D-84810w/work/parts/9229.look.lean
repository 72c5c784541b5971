set_option maxRecDepth 100000
/-! WHAT GREATS STAND FOR, in both -/
/-- a Word that is a token spells its letters -/
theorem wd_wb {h : om_H} {A w j : Nat} {S : List Int} (X : txC h A S) (W : wd h A S w j) : wb h w (tokw S j) := by
  obtain ⟨x1, x2, x3, x4, x5⟩ := X
  obtain ⟨w1, w2, w3, w4⟩ := W
  have tl := tok_le S j
  have len : (tokw S j).length = tokn S j := by
    unfold tokw
    rw [List.length_take, List.length_drop]
    have : tq (List.map u8 S) (tokp (List.map u8 S) j) = tokq S j := rfl
    have : (tK (List.map u8 S) (tokp (List.map u8 S) j)).2 = tokn S j := rfl
    omega
  refine ⟨w1, by rw [w2]; exact x1, by rw [w4, len], by rw [w2, x2]; omega, tokq S j, w3, by rw [w2, x2, len]; omega, fun k hk => ?_⟩
  rw [len] at hk
  have e : (tokw S j)[k]? = S[tokq S j + k]? := by
    unfold tokw
    rw [List.getElem?_take, if_pos (show k < (tK (List.map u8 S) (tokp (List.map u8 S) j)).2 from hk), List.getElem?_drop]
    rfl
  rw [e, w2]
  have lt : tokq S j + k < S.length := by omega
  rw [List.getElem?_eq_getElem lt, x4 _ _ (List.getElem?_eq_getElem lt)]
/-- the first one in a row that has these letters -/
def FI {α : Type} (g : α → Option (List Int)) (L : List Int) : List α → Option Nat
  | [] => none
  | k :: K => if g k = some L then some 0 else (FI g L K).map (· + 1)
theorem FI_lt {α : Type} {g : α → Option (List Int)} {L : List Int} : ∀ {K : List α} {i : Nat}, FI g L K = some i → i < K.length
  | [], i, e => by cases e
  | k :: K, i, e => by
    unfold FI at e
    by_cases c : g k = some L
    · rw [if_pos c] at e
      have := Option.some.inj e
      simp; omega
    · rw [if_neg c] at e
      cases q : FI g L K with
      | none => rw [q] at e; cases e
      | some v =>
        rw [q] at e
        have e1 : v + 1 = i := Option.some.inj e
        have := FI_lt q
        simp; omega
abbrev KT : Type := List (Option (List Int) × Option (List Int))
/-- a name that stands, or not -/
def CLw (h : om_H) (c f g : Nat) : Option (List Int) → Prop
  | none => fI h f c = 0
  | some L => fI h f c ≠ 0 ∧ fR h g c < hz h ∧ fR h 1186 (fR h g c) < hz h ∧ wb h (fR h g c) L
/-- the program's families and their declarers: what stands -/
def CLS (h : om_H) (pr : Nat) (cs : List Nat) (K : KT) : Prop := (kd h pr = 2 ∧ pr < hz h) ∧ (fR h 82 pr < hz h ∧ kd h (fR h 82 pr) = 42 ∧ ll h (fR h 82 pr) = cs) ∧ cs.length = K.length ∧ cs.length ≤ 1300 ∧ ∀ (i c : Nat) (k : Option (List Int) × Option (List Int)), cs[i]? = some c → K[i]? = some k → (c ≠ 0 ∧ c < hz h ∧ kd h c = 18 ∧ fI h 1200 c = (i : Int)) ∧ CLw h c 1219 1206 k.1 ∧ CLw h c 1223 1214 k.2
section LLK
variable {G : om_G} {h h' : om_H} {pr w : Nat} {cs : List Nat} {K : KT} {L : List Int}
theorem CLw_eq {c f g : Nat} {o : Option (List Int)} (C : CLw h c f g o) (W : wb h w L) : (fI h f c = 0 → o ≠ some L) ∧ (fI h f c ≠ 0 → kd h (fR h g c) = 17 ∧ C_16_is_2 G (fR h g c) w h = some (if o = some L then 1 else 0)) := by
  cases o with
  | none => exact ⟨fun _ => by simp, fun z => absurd C z⟩
  | some M =>
    refine ⟨fun z => absurd z C.1, fun _ => ⟨C.2.2.2.1, ?_⟩⟩
    rw [c_is2 C.2.2.2 W]
    by_cases e : M = L
    · rw [if_pos e, if_pos (by rw [e])]
    · rw [if_neg e, if_neg (fun (z : some M = some L) => e (Option.some.inj z))]
theorem drop_c {α : Type} {K : List α} {i : Nat} {k : α} (e : K[i]? = some k) : K.drop i = k :: K.drop (i + 1) := by
  obtain ⟨lt, e⟩ := List.getElem?_eq_some_iff.mp e
  rw [List.drop_eq_getElem_cons lt, e]
theorem c_familyOf_loop (C : CLS h pr cs K) (W : wb h w L) : ∀ d i : Nat, i + d = K.length → om_loop (C_1_familyOf_2s G pr w h) (i : Int) = some (match FI Prod.snd L (K.drop i) with | some j => .inl ((i + j : Nat) : Int) | none => .inr ())
  | 0, i, hd => by
    obtain ⟨c1, c2, c3, c4, c5⟩ := C
    rw [List.drop_eq_nil_of_le (by omega)]
    refine om_loop_out ?_
    unfold C_1_familyOf_2s
    rw [gd_pos ⟨c1.1, c2.2.1⟩, show P_J2_size G (fR h 82 pr) h = some ((cs.length : Nat) : Int) by unfold P_J2_size; rw [gd_pos c2.2.1, c2.2.2], Option.bind_some, if_pos (by omega)]
    rfl
  | d + 1, i, hd => by
    obtain ⟨c1, c2, c3, c4, c5⟩ := id C
    have il : i < cs.length := by omega
    have ik : i < K.length := by omega
    have ec : cs[i]? = some cs[i] := List.getElem?_eq_getElem il
    have ek : K[i]? = some K[i] := List.getElem?_eq_getElem ik
    generalize cs[i] = c at ec
    generalize K[i] = k at ek
    obtain ⟨d1, d2, d3⟩ := c5 i c k ec ek
    obtain ⟨f1, f2⟩ := CLw_eq (G := G) d3 W
    have eg : P_J2_get G (fR h 82 pr) (i : Int) h = some c := by
      unfold P_J2_get
      rw [gd_pos ⟨c2.2.1, by omega⟩, c2.2.2, show ((i : Int)).toNat = i by omega, ec]
    have es : P_J2_size G (fR h 82 pr) h = some ((cs.length : Nat) : Int) := by unfold P_J2_size; rw [gd_pos c2.2.1, c2.2.2]
    have ew : w32 ((i : Int) + 1) = ((i + 1 : Nat) : Int) := by rw [w32_s (by omega) (by omega)]; rfl
    have nxt : k.2 ≠ some L → (match FI Prod.snd L (K.drop i) with | some j => Sum.inl ((i + j : Nat) : Int) | none => (Sum.inr () : Int ⊕ Unit)) = (match FI Prod.snd L (K.drop (i + 1)) with | some j => .inl ((i + 1 + j : Nat) : Int) | none => .inr ()) := by
      intro ne
      rw [drop_c ek]
      show (match (if k.2 = some L then some 0 else (FI Prod.snd L (K.drop (i + 1))).map (· + 1)) with | some j => Sum.inl ((i + j : Nat) : Int) | none => (Sum.inr () : Int ⊕ Unit)) = _
      rw [if_neg ne]
      cases FI Prod.snd L (K.drop (i + 1)) with
      | none => rfl
      | some v => show Sum.inl _ = Sum.inl _; rw [show i + (v + 1) = i + 1 + v by omega]
    by_cases z : fI h 1223 c = 0
    · have st : C_1_familyOf_2s G pr w h (i : Int) = some (.inl ((i + 1 : Nat) : Int)) := by
        unfold C_1_familyOf_2s
        rw [gd_pos ⟨c1.1, c2.2.1⟩, es, Option.bind_some, if_neg (by omega), gd_pos ⟨c1.1, c2.2.1⟩, eg, Option.bind_some, gd_pos ⟨.inr d1.2.2.1, d1.2.2.1⟩, if_pos z, ew]
      rw [om_loop_in st, c_familyOf_loop C W d (i + 1) (by omega), nxt (f1 z)]
    · obtain ⟨g1, g2⟩ := f2 z
      by_cases e : k.2 = some L
      · have st : C_1_familyOf_2s G pr w h (i : Int) = some (.inr (.inl (i : Int))) := by
          unfold C_1_familyOf_2s
          rw [gd_pos ⟨c1.1, c2.2.1⟩, es, Option.bind_some, if_neg (by omega), gd_pos ⟨c1.1, c2.2.1⟩, eg, Option.bind_some, gd_pos ⟨.inr d1.2.2.1, d1.2.2.1⟩, if_neg z, gd_pos ⟨c1.1, c2.2.1⟩, Option.bind_some, gd_pos ⟨.inr d1.2.2.1, d1.2.2.1, g1⟩, g2, if_pos e, Option.bind_some, if_neg (by decide)]
        rw [om_loop_out st, drop_c ek]
        show some (Sum.inl (i : Int)) = some (match (if k.2 = some L then some 0 else (FI Prod.snd L (K.drop (i + 1))).map (· + 1)) with | some j => Sum.inl ((i + j : Nat) : Int) | none => (Sum.inr () : Int ⊕ Unit))
        rw [if_pos e]
        rfl
      · have st : C_1_familyOf_2s G pr w h (i : Int) = some (.inl ((i + 1 : Nat) : Int)) := by
          unfold C_1_familyOf_2s
          rw [gd_pos ⟨c1.1, c2.2.1⟩, es, Option.bind_some, if_neg (by omega), gd_pos ⟨c1.1, c2.2.1⟩, eg, Option.bind_some, gd_pos ⟨.inr d1.2.2.1, d1.2.2.1⟩, if_neg z, gd_pos ⟨c1.1, c2.2.1⟩, Option.bind_some, gd_pos ⟨.inr d1.2.2.1, d1.2.2.1, g1⟩, g2, if_neg e, Option.bind_some, if_pos rfl, ew]
        rw [om_loop_in st, c_familyOf_loop C W d (i + 1) (by omega), nxt e]
/-- which one declares the family -/
def clA (cs : List Nat) (o : Option Nat) : Nat := o.elim 0 (fun i => cs.getD i 0)
theorem c_familyOf (C : CLS h pr cs K) (W : wb h w L) : C_1_familyOf G pr w h = some (clA cs (FI Prod.snd L K)) := by
  unfold C_1_familyOf
  have e := c_familyOf_loop (G := G) C W K.length 0 (by omega)
  rw [show ((0 : Nat) : Int) = 0 from rfl, List.drop_zero] at e
  rw [e, Option.bind_some]
  obtain ⟨c1, c2, c3, c4, c5⟩ := id C
  cases q : FI Prod.snd L K with
  | none => rfl
  | some i =>
    have il := FI_lt q
    have ec : cs[i]? = some cs[i] := List.getElem?_eq_getElem (by omega)
    have ek : K[i]? = some K[i] := List.getElem?_eq_getElem il
    obtain ⟨d1, _⟩ := c5 i _ _ ec ek
    show gd (kd h pr = 2 ∧ kd h (fR h 82 pr) = 42) _ = _
    rw [gd_pos ⟨c1.1, c2.2.1⟩]
    have eg : P_J2_get G (fR h 82 pr) ((0 + i : Nat) : Int) h = some cs[i] := by
      unfold P_J2_get
      rw [gd_pos ⟨c2.2.1, by omega⟩, c2.2.2, show (((0 + i : Nat) : Int)).toNat = i by omega, ec]
    rw [eg, Option.bind_some, gd_pos (.inr d1.2.2.1)]
    show _ = some (cs.getD i 0)
    rw [List.getD_eq_getElem?_getD, ec]
    rfl
theorem c_classOf_loop (C : CLS h pr cs K) (W : wb h w L) : ∀ d i : Nat, i + d = K.length → om_loop (C_1_classOf_2s G pr w h) (i : Int) = some (match FI Prod.fst L (K.drop i) with | some j => .inl ((i + j : Nat) : Int) | none => .inr ())
  | 0, i, hd => by
    obtain ⟨c1, c2, c3, c4, c5⟩ := C
    rw [List.drop_eq_nil_of_le (by omega)]
    refine om_loop_out ?_
    unfold C_1_classOf_2s
    rw [gd_pos ⟨c1.1, c2.2.1⟩, show P_J2_size G (fR h 82 pr) h = some ((cs.length : Nat) : Int) by unfold P_J2_size; rw [gd_pos c2.2.1, c2.2.2], Option.bind_some, if_pos (by omega)]
    rfl
  | d + 1, i, hd => by
    obtain ⟨c1, c2, c3, c4, c5⟩ := id C
    have il : i < cs.length := by omega
    have ik : i < K.length := by omega
    have ec : cs[i]? = some cs[i] := List.getElem?_eq_getElem il
    have ek : K[i]? = some K[i] := List.getElem?_eq_getElem ik
    generalize cs[i] = c at ec
    generalize K[i] = k at ek
    obtain ⟨d1, d2, d3⟩ := c5 i c k ec ek
    obtain ⟨f1, f2⟩ := CLw_eq (G := G) d2 W
    have eg : P_J2_get G (fR h 82 pr) (i : Int) h = some c := by
      unfold P_J2_get
      rw [gd_pos ⟨c2.2.1, by omega⟩, c2.2.2, show ((i : Int)).toNat = i by omega, ec]
    have es : P_J2_size G (fR h 82 pr) h = some ((cs.length : Nat) : Int) := by unfold P_J2_size; rw [gd_pos c2.2.1, c2.2.2]
    have ew : w32 ((i : Int) + 1) = ((i + 1 : Nat) : Int) := by rw [w32_s (by omega) (by omega)]; rfl
    have nxt : k.1 ≠ some L → (match FI Prod.fst L (K.drop i) with | some j => Sum.inl ((i + j : Nat) : Int) | none => (Sum.inr () : Int ⊕ Unit)) = (match FI Prod.fst L (K.drop (i + 1)) with | some j => .inl ((i + 1 + j : Nat) : Int) | none => .inr ()) := by
      intro ne
      rw [drop_c ek]
      show (match (if k.1 = some L then some 0 else (FI Prod.fst L (K.drop (i + 1))).map (· + 1)) with | some j => Sum.inl ((i + j : Nat) : Int) | none => (Sum.inr () : Int ⊕ Unit)) = _
      rw [if_neg ne]
      cases FI Prod.fst L (K.drop (i + 1)) with
      | none => rfl
      | some v => show Sum.inl _ = Sum.inl _; rw [show i + (v + 1) = i + 1 + v by omega]
    by_cases z : fI h 1219 c = 0
    · have st : C_1_classOf_2s G pr w h (i : Int) = some (.inl ((i + 1 : Nat) : Int)) := by
        unfold C_1_classOf_2s
        rw [gd_pos ⟨c1.1, c2.2.1⟩, es, Option.bind_some, if_neg (by omega), gd_pos ⟨c1.1, c2.2.1⟩, eg, Option.bind_some, gd_pos ⟨.inr d1.2.2.1, d1.2.2.1⟩, if_pos z, ew]
      rw [om_loop_in st, c_classOf_loop C W d (i + 1) (by omega), nxt (f1 z)]
    · obtain ⟨g1, g2⟩ := f2 z
      by_cases e : k.1 = some L
      · have st : C_1_classOf_2s G pr w h (i : Int) = some (.inr (.inl (i : Int))) := by
          unfold C_1_classOf_2s
          rw [gd_pos ⟨c1.1, c2.2.1⟩, es, Option.bind_some, if_neg (by omega), gd_pos ⟨c1.1, c2.2.1⟩, eg, Option.bind_some, gd_pos ⟨.inr d1.2.2.1, d1.2.2.1⟩, if_neg z, gd_pos ⟨c1.1, c2.2.1⟩, Option.bind_some, gd_pos ⟨.inr d1.2.2.1, d1.2.2.1, g1⟩, g2, if_pos e, Option.bind_some, if_neg (by decide)]
        rw [om_loop_out st, drop_c ek]
        show some (Sum.inl (i : Int)) = some (match (if k.1 = some L then some 0 else (FI Prod.fst L (K.drop (i + 1))).map (· + 1)) with | some j => Sum.inl ((i + j : Nat) : Int) | none => (Sum.inr () : Int ⊕ Unit))
        rw [if_pos e]
        rfl
      · have st : C_1_classOf_2s G pr w h (i : Int) = some (.inl ((i + 1 : Nat) : Int)) := by
          unfold C_1_classOf_2s
          rw [gd_pos ⟨c1.1, c2.2.1⟩, es, Option.bind_some, if_neg (by omega), gd_pos ⟨c1.1, c2.2.1⟩, eg, Option.bind_some, gd_pos ⟨.inr d1.2.2.1, d1.2.2.1⟩, if_neg z, gd_pos ⟨c1.1, c2.2.1⟩, Option.bind_some, gd_pos ⟨.inr d1.2.2.1, d1.2.2.1, g1⟩, g2, if_neg e, Option.bind_some, if_pos rfl, ew]
        rw [om_loop_in st, c_classOf_loop C W d (i + 1) (by omega), nxt e]
theorem c_classOf (C : CLS h pr cs K) (W : wb h w L) : C_1_classOf G pr w h = some (clA cs (FI Prod.fst L K)) := by
  unfold C_1_classOf
  have e := c_classOf_loop (G := G) C W K.length 0 (by omega)
  rw [show ((0 : Nat) : Int) = 0 from rfl, List.drop_zero] at e
  rw [e, Option.bind_some]
  obtain ⟨c1, c2, c3, c4, c5⟩ := id C
  cases q : FI Prod.fst L K with
  | none => rfl
  | some i =>
    have il := FI_lt q
    have ec : cs[i]? = some cs[i] := List.getElem?_eq_getElem (by omega)
    have ek : K[i]? = some K[i] := List.getElem?_eq_getElem il
    obtain ⟨d1, _⟩ := c5 i _ _ ec ek
    show gd (kd h pr = 2 ∧ kd h (fR h 82 pr) = 42) _ = _
    rw [gd_pos ⟨c1.1, c2.2.1⟩]
    have eg : P_J2_get G (fR h 82 pr) ((0 + i : Nat) : Int) h = some cs[i] := by
      unfold P_J2_get
      rw [gd_pos ⟨c2.2.1, by omega⟩, c2.2.2, show (((0 + i : Nat) : Int)).toNat = i by omega, ec]
    rw [eg, Option.bind_some, gd_pos (.inr d1.2.2.1)]
    show _ = some (cs.getD i 0)
    rw [List.getD_eq_getElem?_getD, ec]
    rfl
/-- letters of constructors -/
def cnI (L : List Int) : Option Nat := if L = [73, 110, 116] then some 0 else if L = [66, 111, 111, 108] then some 1 else if L = [76, 105, 115, 116] then some 2 else if L = [80, 97, 105, 114] then some 3 else none
def oI (o : Option Nat) : Int := o.elim (-1) (fun i => (i : Int))
theorem c_conOf (W : wb h w L) : C_1_conOf G w h = some (oI (cnI L)) := by
  have i0 := c_wisS (G := G) (j := 24) (M := [73, 110, 116]) W rfl
  have i1 := c_wisS (G := G) (j := 25) (M := [66, 111, 111, 108]) W rfl
  have i2 := c_wisS (G := G) (j := 26) (M := [76, 105, 115, 116]) W rfl
  have i3 := c_wisS (G := G) (j := 27) (M := [80, 97, 105, 114]) W rfl
  have e : ∀ (x : Int) (j : Nat) (M : List Int), C_0_con G x h = some j → ¬ 3 < x → C_16_is G w j h = some (if L = M then 1 else 0) → C_1_conOf_2s G w h x = (if L = M then some (.inr (.inl x)) else some (.inl (w32 (x + 1)))) := by
    intro x j M e1 e2 e3
    unfold C_1_conOf_2s
    rw [if_neg e2, e1, Option.bind_some, gd_pos W.1, e3]
    by_cases q : L = M
    · rw [if_pos q, if_pos q, Option.bind_some, if_neg (by decide)]
    · rw [if_neg q, if_neg q, Option.bind_some, if_pos rfl]
  have s0 := e 0 24 _ (by unfold C_0_con; rfl) (by decide) i0
  have s1 := e 1 25 _ (by unfold C_0_con; rfl) (by decide) i1
  have s2 := e 2 26 _ (by unfold C_0_con; rfl) (by decide) i2
  have s3 := e 3 27 _ (by unfold C_0_con; rfl) (by decide) i3
  rw [show w32 (0 + 1) = 1 from by decide] at s0
  rw [show w32 (1 + 1) = 2 from by decide] at s1
  rw [show w32 (2 + 1) = 3 from by decide] at s2
  rw [show w32 (3 + 1) = 4 from by decide] at s3
  have s4 : C_1_conOf_2s G w h 4 = some (.inr (.inr ())) := by
    unfold C_1_conOf_2s
    rw [if_pos (by decide)]
  unfold C_1_conOf cnI
  by_cases q0 : L = [73, 110, 116]
  · rw [if_pos q0] at s0 ⊢
    rw [om_loop_out s0]; rfl
  · rw [if_neg q0] at s0 ⊢
    rw [om_loop_in s0]
    by_cases q1 : L = [66, 111, 111, 108]
    · rw [if_pos q1] at s1 ⊢
      rw [om_loop_out s1]; rfl
    · rw [if_neg q1] at s1 ⊢
      rw [om_loop_in s1]
      by_cases q2 : L = [76, 105, 115, 116]
      · rw [if_pos q2] at s2 ⊢
        rw [om_loop_out s2]; rfl
      · rw [if_neg q2] at s2 ⊢
        rw [om_loop_in s2]
        by_cases q3 : L = [80, 97, 105, 114]
        · rw [if_pos q3] at s3 ⊢
          rw [om_loop_out s3]; rfl
        · rw [if_neg q3] at s3 ⊢
          rw [om_loop_in s3, om_loop_out s4]; rfl
/-- a row of Words and their letters -/
def WL (h : om_H) : List Nat → List (List Int) → Prop
  | [], [] => True
  | w :: ws, L :: Ls => (w < hz h ∧ fR h 1186 w < hz h ∧ wb h w L) ∧ WL h ws Ls
  | _, _ => False
/-- names of types around, in the component -/
def SCc (h : om_H) (Ln : Nat) (Ls : List (List Int)) : Prop := Ln < hz h ∧ kd h Ln = 42 ∧ (ll h Ln).length ≤ 1300 ∧ WL h (ll h Ln) Ls
theorem WL_len : ∀ {ws : List Nat} {Ls : List (List Int)}, WL h ws Ls → ws.length = Ls.length
  | [], [], _ => rfl
  | w :: ws, L :: Ls, c => by simp [WL_len c.2]
  | [], _ :: _, c => c.elim
  | _ :: _, [], c => c.elim
theorem WL_get : ∀ {ws : List Nat} {Ls : List (List Int)} {i v : Nat} {M : List Int}, WL h ws Ls → ws[i]? = some v → Ls[i]? = some M → v < hz h ∧ fR h 1186 v < hz h ∧ wb h v M
  | [], [], i, v, M, _, e, _ => by simp at e
  | w :: ws, L :: Ls, 0, v, M, c, e, f => by
    simp at e f
    rw [← e, ← f]; exact c.1
  | w :: ws, L :: Ls, i + 1, v, M, c, e, f => by
    simp at e f
    exact WL_get c.2 e f
  | [], _ :: _, _, _, _, c, _, _ => c.elim
  | _ :: _, [], _, _, _, c, _, _ => c.elim
theorem c_isAmong_loop {Ln : Nat} {Ls : List (List Int)} (C : SCc h Ln Ls) (W : wb h w L) : ∀ d i : Nat, i + d = Ls.length → om_loop (C_1_isAmong_2s G Ln w h) (i : Int) = some (if L ∈ Ls.drop i then .inl () else .inr ())
  | 0, i, hd => by
    obtain ⟨c1, c2, c3, c4⟩ := C
    have len := WL_len c4
    rw [List.drop_eq_nil_of_le (by omega), if_neg (by simp)]
    refine om_loop_out ?_
    unfold C_1_isAmong_2s
    rw [gd_pos c2, show P_J2_size G Ln h = some (((ll h Ln).length : Nat) : Int) by unfold P_J2_size; rw [gd_pos c2], Option.bind_some, if_pos (by omega)]
  | d + 1, i, hd => by
    obtain ⟨c1, c2, c3, c4⟩ := id C
    have len := WL_len c4
    have il : i < (ll h Ln).length := by omega
    have ik : i < Ls.length := by omega
    have ec : (ll h Ln)[i]? = some (ll h Ln)[i] := List.getElem?_eq_getElem il
    have ek : Ls[i]? = some Ls[i] := List.getElem?_eq_getElem ik
    generalize (ll h Ln)[i] = v at ec
    generalize Ls[i] = M at ek
    obtain ⟨v1, v2, v3⟩ := WL_get c4 ec ek
    have eg : P_J2_get G Ln (i : Int) h = some v := by
      unfold P_J2_get
      rw [gd_pos ⟨c2, by omega⟩, show ((i : Int)).toNat = i by omega, ec]
    have es : P_J2_size G Ln h = some (((ll h Ln).length : Nat) : Int) := by unfold P_J2_size; rw [gd_pos c2]
    have ew : w32 ((i : Int) + 1) = ((i + 1 : Nat) : Int) := by rw [w32_s (by omega) (by omega)]; rfl
    have e2 := c_is2 (G := G) v3 W
    rw [drop_c ek]
    by_cases q : M = L
    · have st : C_1_isAmong_2s G Ln w h (i : Int) = some (.inr (.inl ())) := by
        unfold C_1_isAmong_2s
        rw [gd_pos c2, es, Option.bind_some, if_neg (by omega), gd_pos c2, eg, Option.bind_some, gd_pos ⟨.inr v3.1, v3.1⟩, e2, if_pos q, Option.bind_some, if_neg (by decide)]
      rw [om_loop_out st, if_pos (by rw [q]; exact List.mem_cons_self)]
    · have st : C_1_isAmong_2s G Ln w h (i : Int) = some (.inl ((i + 1 : Nat) : Int)) := by
        unfold C_1_isAmong_2s
        rw [gd_pos c2, es, Option.bind_some, if_neg (by omega), gd_pos c2, eg, Option.bind_some, gd_pos ⟨.inr v3.1, v3.1⟩, e2, if_neg q, Option.bind_some, if_pos rfl, ew]
      rw [om_loop_in st, c_isAmong_loop C W d (i + 1) (by omega)]
      have : (L ∈ M :: Ls.drop (i + 1)) ↔ L ∈ Ls.drop (i + 1) := by
        rw [List.mem_cons]
        exact ⟨fun z => z.elim (fun z => absurd z.symm q) id, .inr⟩
      by_cases p : L ∈ Ls.drop (i + 1)
      · rw [if_pos p, if_pos (this.mpr p)]
      · rw [if_neg p, if_neg (fun z => p (this.mp z))]
theorem c_isAmong {Ln : Nat} {Ls : List (List Int)} (C : SCc h Ln Ls) (W : wb h w L) : C_1_isAmong G Ln w h = some (if L ∈ Ls then 1 else 0) := by
  unfold C_1_isAmong
  have e := c_isAmong_loop (G := G) C W Ls.length 0 (by omega)
  rw [show ((0 : Nat) : Int) = 0 from rfl, List.drop_zero] at e
  rw [e, Option.bind_some]
  by_cases p : L ∈ Ls
  · rw [if_pos p, if_pos p]; rfl
  · rw [if_neg p, if_neg p]; rfl
end LLK
