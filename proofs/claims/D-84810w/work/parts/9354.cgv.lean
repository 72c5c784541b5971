set_option maxRecDepth 100000
/-! THE COMPONENT looks for the given that has a class for a name -/
section LCV
variable {G : om_G} {h : om_H} {N : List (List Int)} {cl : Nat → Nat} {U Sl : Nat → Prop} {io : Nat → Nat} {ab : List (Option Nat)} {ins : List INs} {gv : List GVs} {sc l0 : Nat}
theorem clO_eq {a b : Nat} (ha : clO h cl a) (hb : clO h cl b) (e : cl a = cl b) : a = b := by
  have h1 := ha.2.2.2
  have h2 := hb.2.2.2
  rw [e, h2] at h1
  omega
theorem stpA_s {f k a : Nat} : stpA ab (f + 1) k a = if k = a then some 0 else (match ab[k]? with
    | some (some k') => (stpA ab f k' a).map (fun n => n + 1)
    | _ => none) := rfl
theorem c_steps (P : PGC h N cl U Sl io ab ins) {a : Nat} (ha : clO h cl a) : ∀ (f k n : Nat), clO h cl k → k < f → n + f ≤ 1000 → om_loop (C_17_stepsTo_4s G (cl a) h) ((n : Int), cl k) = some (match stpA ab f k a with | some m => .inl ((n + m : Nat) : Int) | none => .inr ())
  | 0, _, _, _, h, _ => by omega
  | f + 1, k, n, hk, hf, hn => by
    obtain ⟨⟨o, o1, o2, o3⟩, _⟩ := P.1 k hk
    rw [stpA_s]
    by_cases q : k = a
    · rw [if_pos q]
      refine om_loop_out ?_
      unfold C_17_stepsTo_4s
      simp only
      rw [if_neg hk.1, if_neg (fun z => z (by rw [q]))]
      rfl
    · rw [if_neg q, o1]
      have st : C_17_stepsTo_4s G (cl a) h ((n : Int), cl k) = some (.inl (((n + 1 : Nat) : Int), fR h 1226 (cl k))) := by
        unfold C_17_stepsTo_4s
        simp only
        rw [if_neg hk.1, if_pos (fun z => q (clO_eq hk ha z)), gd_pos hk.2.2.1, w32_s (by omega) (by omega)]
        rfl
      rw [om_loop_in st, o2]
      cases o with
      | none =>
        refine om_loop_out ?_
        unfold C_17_stepsTo_4s
        simp only
        rw [if_pos (show (none : Option Nat).elim 0 cl = 0 from rfl)]
      | some k' =>
        obtain ⟨lt, hk'⟩ := o3 k' rfl
        have := c_steps P ha f k' (n + 1) hk' (by omega) (by omega)
        show om_loop _ (((n + 1 : Nat) : Int), cl k') = _
        rw [this]
        show _ = some (match (stpA ab f k' a).map (fun n => n + 1) with | some m => (Sum.inl ((n + m : Nat) : Int) : Int ⊕ Unit) | none => Sum.inr ())
        cases stpA ab f k' a with
        | none => rfl
        | some m =>
          show some (Sum.inl ((n + 1 + m : Nat) : Int)) = some (Sum.inl ((n + (m + 1) : Nat) : Int))
          rw [show n + 1 + m = n + (m + 1) by omega]
theorem c_stepsTo (P : PGC h N cl U Sl io ab ins) (h8 : ab.length ≤ 8) {a k : Nat} (ha : clO h cl a) (hk : clO h cl k) : C_17_stepsTo G (cl k) (cl a) h = some (oI (stpA ab 9 k a)) := by
  obtain ⟨⟨o, o1, _⟩, _⟩ := P.1 k hk
  have kl := (List.getElem?_eq_some_iff.mp o1).1
  have := c_steps (G := G) P ha 9 k 0 hk (by omega) (by omega)
  unfold C_17_stepsTo
  have e0 : om_loop (C_17_stepsTo_4s G (cl a) h) (0, cl k) = _ := this
  rw [e0]
  cases stpA ab 9 k a with
  | none => rfl
  | some m =>
    show some (((0 + m : Nat) : Int)) = some ((m : Nat) : Int)
    rw [Nat.zero_add]
/-- a loop that looks for the first place, and gives something of it -/
theorem lp_findG {α β : Type} {step : Int → Option (Int ⊕ (β ⊕ Unit))} {p : α → Bool} {val : Nat → α → β} {l0 : List α} (hl : l0.length ≤ 1000) (h1 : ∀ (i : Nat) (x : α), l0[i]? = some x → p x = true → step (i : Int) = some (.inr (.inl (val i x)))) (h2 : ∀ (i : Nat) (x : α), l0[i]? = some x → ¬ p x = true → step (i : Int) = some (.inl (w32 ((i : Int) + 1)))) (h3 : step (l0.length : Int) = some (.inr (.inr ()))) : ∀ (l : List α) (i : Nat), l0.drop i = l → i ≤ l0.length → (ixF p l = none → om_loop step (i : Int) = some (.inr ())) ∧ ∀ (j : Nat) (x : α), ixF p l = some j → l[j]? = some x → om_loop step (i : Int) = some (.inl (val (i + j) x))
  | [], i, e, hi => by
    have : l0.length ≤ i := List.drop_eq_nil_iff.mp e
    rw [show i = l0.length by omega]
    exact ⟨fun _ => om_loop_out h3, fun j x e => by cases e⟩
  | y :: l, i, e, hi => by
    have ei : l0[i]? = some y := by
      have := congrArg (fun z => z[0]?) e
      simpa using this
    have il := (List.getElem?_eq_some_iff.mp ei).1
    by_cases c : p y = true
    · have ex : ixF p (y :: l) = some 0 := by show (if p y = true then _ else _) = _; rw [if_pos c]
      rw [ex, om_loop_out (h1 i y ei c)]
      refine ⟨fun z => (by cases z), fun j x e1 e2 => ?_⟩
      have j0 : 0 = j := Option.some.inj e1
      subst j0
      have xy : y = x := Option.some.inj e2
      rw [xy]; rfl
    · have st := h2 i y ei c
      rw [w32_s (by omega) (by omega), show ((i : Int) + 1) = ((i + 1 : Nat) : Int) by omega] at st
      obtain ⟨k1, k2⟩ := lp_findG hl h1 h2 h3 l (i + 1) (by rw [← List.tail_drop, e]; rfl) (by omega)
      have ex : ixF p (y :: l) = (ixF p l).map (fun i => i + 1) := by show (if p y = true then _ else _) = _; rw [if_neg c]
      rw [ex, om_loop_in st]
      refine ⟨fun z => k1 (by cases q : ixF p l with
        | none => rfl
        | some j => rw [q] at z; cases z), fun j x e1 e2 => ?_⟩
      cases q : ixF p l with
      | none => rw [q] at e1; cases e1
      | some j' =>
        rw [q] at e1
        have ej : j' + 1 = j := Option.some.inj e1
        subst ej
        rw [k2 j' x q e2, show i + 1 + j' = i + (j' + 1) by omega]
/-- the given -/
theorem c_byGiven (nd : ndN N) (P : PGC h N cl U Sl io ab ins) (V : GVC h N cl U Sl sc gv) (h8 : ab.length ≤ 8) (k9 : kd h l0 = 9 ∧ fR h 210 l0 = sc) {c w a : Nat} (hc : clO h cl c) (W : wN h N w a) : (gCl ab gv c w = none → C_8_byGiven G l0 (cl c) a h = some (0, h)) ∧ ∀ j g, gCl ab gv c w = some j → gv[j]? = some g → ∃ x m, (ll h (fR h 166 sc))[j]? = some x ∧ stpA ab 9 g.1 c = some m ∧ C_8_byGiven G l0 (cl c) a h = (C_21_dictionary G x (j : Int) (m : Int) h).bind (fun p2 => some (p2.1, p2.2)) := by
  obtain ⟨⟨v1, v2⟩, ⟨v3, v4, v5⟩, ⟨v6, v7⟩, v8⟩ := V
  obtain ⟨f1, f4⟩ := k9
  have g3 : kd h l0 = 9 ∧ kd h (fR h 210 l0) = 5 ∧ kd h (fR h 166 (fR h 210 l0)) = 42 := by rw [f4]; exact ⟨f1, v2, v5⟩
  have g3' : kd h l0 = 9 ∧ kd h sc = 5 ∧ kd h (fR h 166 sc) = 42 := ⟨f1, v2, v5⟩
  have sz : P_J2_size G (fR h 166 sc) h = some ((gv.length : Nat) : Int) := by
    unfold P_J2_size
    rw [gd_pos v5, v6]
  have stp : ∀ (i : Nat) (g : GVs), gv[i]? = some g → C_8_byGiven_2s G l0 (cl c) a h (i : Int) = (if (g.1 < 100 ∧ g.2.1 = w) ∧ rchB ab 9 g.1 c = true then some (.inr (.inl ((i : Int), ((ll h (fR h 166 sc))[i]?).getD 0, (((stpA ab 9 g.1 c).getD 0 : Nat) : Int)))) else some (.inl (w32 ((i : Int) + 1)))) := fun i g e => by
    have il := (List.getElem?_eq_some_iff.mp e).1
    have ea : (ll h (fR h 166 sc))[i]? = some (ll h (fR h 166 sc))[i] := List.getElem?_eq_getElem (by omega)
    rw [ea]
    obtain ⟨⟨x1, x2⟩, x3, x4⟩ := v8 i _ g ea e
    generalize (ll h (fR h 166 sc))[i] = x at *
    have get : P_J2_get G (fR h 166 sc) (i : Int) h = some x := by
      unfold P_J2_get
      rw [gd_pos ⟨v5, by omega⟩, show ((i : Int)).toNat = i by omega, ea]
    have k17 : kd h (fR h 1342 x) = 17 := by obtain ⟨_, L, _, b⟩ := x3; exact b.1
    unfold C_8_byGiven_2s
    rw [gd_pos g3, f4, sz, Option.bind_some, if_neg (by omega), gd_pos g3', get, Option.bind_some, gd_pos ⟨.inr x2, x2⟩]
    have eq : C_21_isEqual G x h = some (if 100 ≤ g.1 then 1 else 0) := by
      unfold C_21_isEqual C_21_isEqual_12
      rw [gd_pos x2]
      rcases x4 with ⟨y1, y2, _⟩ | ⟨y1, y2, _⟩
      · rw [if_neg y2, if_pos y1, gd_pos (.inr rfl)]
      · rw [if_pos y2, if_neg (by omega), gd_pos (.inl rfl)]
    rw [eq, Option.bind_some]
    have no : C_8_byGiven_65 G l0 (cl c) a (i : Int) x (-1) h = some (.inl (w32 ((i : Int) + 1))) := by
      unfold C_8_byGiven_65
      rw [if_neg (by decide)]
    rcases x4 with ⟨y1, y2, y3, y4, y5⟩ | ⟨y1, y2, y3, y4⟩
    · rw [if_pos y1, if_pos (by decide), no, if_neg (fun z => by have := z.1.1; omega)]
    · rw [if_neg (show ¬ 100 ≤ g.1 by omega), if_neg (fun z => z rfl), gd_pos ⟨x2, k17⟩, c_isN nd x3 W, Option.bind_some]
      by_cases q2 : g.2.1 = w
      · rw [if_pos q2, if_pos (by decide), y3, gd_pos ⟨x2, y4.2.2.1⟩, c_stepsTo P h8 hc y4, Option.bind_some]
        have sr := stpA_rch (ab := ab) (f := 9) (k := g.1) (a := c)
        unfold C_8_byGiven_65
        cases qs : stpA ab 9 g.1 c with
        | none =>
          rw [qs] at sr
          have sr' : rchB ab 9 g.1 c = false := sr.symm
          rw [if_neg (show ¬ (0 : Int) ≤ oI none by decide), if_neg (fun z => by rw [sr'] at z; cases z.2)]
        | some m =>
          rw [qs] at sr
          have sr' : rchB ab 9 g.1 c = true := sr.symm
          rw [if_pos (show (0 : Int) ≤ oI (some m) by show (0 : Int) ≤ ((m : Nat) : Int); omega), if_pos ⟨⟨y1, q2⟩, sr'⟩]
          rfl
      · rw [if_neg q2, if_neg (fun z => z rfl), no, if_neg (fun z => q2 z.1.2)]
  obtain ⟨k1, k2⟩ := lp_findG (step := C_8_byGiven_2s G l0 (cl c) a h) (p := fun g : GVs => decide (g.1 < 100) && g.2.1 == w && rchB ab 9 g.1 c) (val := fun i g => ((i : Int), ((ll h (fR h 166 sc))[i]?).getD 0, (((stpA ab 9 g.1 c).getD 0 : Nat) : Int))) (l0 := gv) (by omega) (fun i x e hp => by
      have hp' : (x.1 < 100 ∧ x.2.1 = w) ∧ rchB ab 9 x.1 c = true := by simpa using hp
      rw [stp i x e, if_pos hp']) (fun i x e hp => by
      have hp' : ¬ ((x.1 < 100 ∧ x.2.1 = w) ∧ rchB ab 9 x.1 c = true) := by simpa using hp
      rw [stp i x e, if_neg hp']) (by
      unfold C_8_byGiven_2s
      rw [gd_pos g3, f4, sz, Option.bind_some, if_pos (Int.le_refl _)]) gv 0 rfl (by omega)
  refine ⟨fun e => ?_, fun j g e eg => ?_⟩
  · unfold C_8_byGiven
    have k1' : om_loop (C_8_byGiven_2s G l0 (cl c) a h) 0 = _ := k1 e
    rw [k1']
    rfl
  · have jl := (List.getElem?_eq_some_iff.mp eg).1
    have ea : (ll h (fR h 166 sc))[j]? = some (ll h (fR h 166 sc))[j] := List.getElem?_eq_getElem (by omega)
    obtain ⟨⟨x1, x2⟩, x3, x4⟩ := v8 j _ g ea eg
    obtain ⟨g', g1, g2⟩ := ixF_some e
    have gg : g' = g := by rw [eg] at g1; exact (Option.some.inj g1).symm
    subst gg
    have g2' : (g'.1 < 100 ∧ g'.2.1 = w) ∧ rchB ab 9 g'.1 c = true := by simpa using g2
    have sr := stpA_rch (ab := ab) (f := 9) (k := g'.1) (a := c)
    rw [g2'.2] at sr
    obtain ⟨m, hm⟩ := Option.isSome_iff_exists.mp sr
    refine ⟨_, m, ea, hm, ?_⟩
    unfold C_8_byGiven
    have k2' : om_loop (C_8_byGiven_2s G l0 (cl c) a h) 0 = _ := k2 j g' e eg
    rw [k2', Nat.zero_add, ea, hm]
    show gd (kd h (ll h (fR h 166 sc))[j] = 22) _ = _
    rw [gd_pos x2]
    rfl
end LCV
