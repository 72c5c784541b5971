set_option maxRecDepth 100000
/-! DICTIONARIES, plainly -/
/-- 0: a given's (which, steps above, name, type); 1: an inst's (which, class, type worked out, type); its conditions; the next one -/
abbrev Dc : Type := Std.DTreeMap.Internal.Impl (Nat × Nat × Ty × Ty) (fun _ => Unit)
def dnx : Dc → Dc → Dc
  | .inner t a u l _, b => .inner t a u l b
  | .leaf, b => b
/-- steps from a class to one above it -/
def stpA (ab : List (Option Nat)) : Nat → Nat → Nat → Option Nat
  | 0, _, _ => none
  | f + 1, k, a => if k = a then some 0 else (match ab[k]? with
    | some (some k') => (stpA ab f k' a).map (fun n => n + 1)
    | _ => none)
def dcL (r : Nat → Ty → Option Dc) (u : Ty) : List (Nat × Nat) → Option Dc
  | [] => some .leaf
  | p :: l => (r p.1 (if p.2 = 0 then tL u else tR' u)).bind fun a => (dcL r u l).map fun b => dnx a b
/-- the dictionary of a class for a type that is worked out -/
def dcU (ab : List (Option Nat)) (ins : List INs) (gv : List GVs) (r : Nat → Ty → Option Dc) (c : Nat) (T : Ty) : Ty → Option Dc
  | .leaf => none
  | .inner k w x l t => if k = 0 then (gCl ab gv c w).bind fun j => (gv[j]?).bind fun g => (stpA ab 9 g.1 c).map fun n => .inner 0 (j, n, .inner k w x l t, T) () .leaf .leaf else if k = 1 then (iOf ins c w).bind fun i => (ins[i]?).bind fun d => (dcL r (.inner k w x l t) d.2.2.2.1).map fun cs => .inner 1 (i, c, .inner k w x l t, T) () cs .leaf else none
/-- the dictionary of a class for a type -/
def dcT (ab : List (Option Nat)) (ins : List INs) (gv : List GVs) : Nat → Nat → Ty → Option Dc
  | 0, _, _ => none
  | f + 1, c, T => (wk 0 ins gv 130 false 0 (0, 0, []) T).bind fun a => a.bind fun p => dcU ab ins gv (dcT ab ins gv f) c T p.1
section LDC
variable {ab : List (Option Nat)} {ins : List INs} {gv : List GVs}
theorem dcU_inner {r : Nat → Ty → Option Dc} {c : Nat} {T : Ty} {k w : Nat} {x : Unit} {l t : Ty} : dcU ab ins gv r c T (.inner k w x l t) = (if k = 0 then (gCl ab gv c w).bind fun j => (gv[j]?).bind fun g => (stpA ab 9 g.1 c).map fun n => .inner 0 (j, n, .inner k w x l t, T) () .leaf .leaf else if k = 1 then (iOf ins c w).bind fun i => (ins[i]?).bind fun d => (dcL r (.inner k w x l t) d.2.2.2.1).map fun cs => .inner 1 (i, c, .inner k w x l t, T) () cs .leaf else none) := rfl
theorem stpA_rch : ∀ {f k a : Nat}, (stpA ab f k a).isSome = rchB ab f k a
  | 0, _, _ => rfl
  | f + 1, k, a => by
    unfold stpA rchB
    by_cases h : k = a
    · rw [if_pos h, show (k == a) = true by simpa using h]; rfl
    · rw [if_neg h, show (k == a) = false by simpa using h, Bool.false_or]
      cases q : ab[k]? with
      | none => rfl
      | some o =>
        cases o with
        | none => rfl
        | some k' =>
          show ((stpA ab f k' a).map (fun n => n + 1)).isSome = rchB ab f k' a
          rw [← stpA_rch]
          cases stpA ab f k' a <;> rfl
/-- a class is had just when there is a dictionary -/
theorem hd_dc : ∀ {f : Nat} {s s' : WS} {c : Nat} {T : Ty} {b : Bool}, hd ab ins gv f s c T = some (some (b, s')) → (dcT ab ins gv f c T).isSome = b
  | 0, _, _, _, _, _, e => by cases e
  | f + 1, s, s', c, T, b, e => by
    unfold hd at e
    cases q1 : wk 2 ins gv 130 false 0 s T with
    | none => rw [q1] at e; cases e
    | some a =>
    rw [q1, Option.bind_some] at e
    cases a with
    | none => cases e
    | some p =>
    obtain ⟨u, s1⟩ := p
    obtain ⟨D, d, _, w0⟩ := wk_st q1
    have w0' := w0 0 0 (0, 0, []) (by decide) (by decide) (by decide)
    have ed : dcT ab ins gv (f + 1) c T = dcU ab ins gv (dcT ab ins gv f) c T u := by
      show (wk 0 ins gv 130 false 0 (0, 0, []) T).bind _ = _
      rw [w0']
      rfl
    rw [ed]
    have lst : ∀ (u : Ty) (l : List (Nat × Nat)) (s s' : WS) (b : Bool), hdL (hd ab ins gv f) u l s = some (some (b, s')) → (dcL (dcT ab ins gv f) u l).isSome = b := fun u l => by
      induction l with
      | nil =>
        intro s s' b e
        injection Option.some.inj (Option.some.inj e) with e1 e2
      | cons p l ih =>
        intro s s' b e
        unfold hdL at e
        cases q2 : hd ab ins gv f s p.1 (if p.2 = 0 then tL u else tR' u) with
        | none => rw [q2] at e; cases e
        | some a =>
        rw [q2, Option.bind_some] at e
        cases a with
        | none => cases e
        | some pb =>
        obtain ⟨b1, s2⟩ := pb
        have h1 := hd_dc q2
        simp only at e
        show ((dcT ab ins gv f p.1 (if p.2 = 0 then tL u else tR' u)).bind fun a => (dcL (dcT ab ins gv f) u l).map fun b => dnx a b).isSome = b
        by_cases hb : b1 = true
        · rw [if_pos hb] at e
          have h2 := ih s2 s' b e
          rw [hb] at h1
          obtain ⟨a, ha⟩ := Option.isSome_iff_exists.mp h1
          rw [ha, Option.bind_some, ← h2]
          cases dcL (dcT ab ins gv f) u l <;> rfl
        · rw [if_neg hb] at e
          injection Option.some.inj (Option.some.inj e) with e1 e2
          have hbf : b1 = false := by simpa using hb
          rw [hbf] at h1
          cases qd : dcT ab ins gv f p.1 (if p.2 = 0 then tL u else tR' u) with
          | none => rw [← e1]; rfl
          | some a => rw [qd] at h1; cases h1
    cases u with
    | leaf =>
      injection Option.some.inj (Option.some.inj e) with e1 e2
    | inner k w x l t =>
      simp only at e
      rw [dcU_inner]
      by_cases k0 : k = 0
      · rw [if_pos k0] at e ⊢
        injection Option.some.inj (Option.some.inj e) with e1 e2
        rw [← e1]
        cases qg : gCl ab gv c w with
        | none => rfl
        | some j =>
          obtain ⟨g, g1, g2⟩ := ixF_some qg
          have g2' : (g.1 < 100 ∧ g.2.1 = w) ∧ rchB ab 9 g.1 c = true := by simpa using g2
          rw [Option.bind_some, g1, Option.bind_some]
          have := stpA_rch (ab := ab) (f := 9) (k := g.1) (a := c)
          rw [g2'.2] at this
          obtain ⟨n, hn⟩ := Option.isSome_iff_exists.mp this
          rw [hn]; rfl
      · rw [if_neg k0] at e ⊢
        by_cases k1 : k = 1
        · rw [if_pos k1] at e ⊢
          cases qi : iOf ins c w with
          | none =>
            rw [qi] at e
            injection Option.some.inj (Option.some.inj e) with e1 e2
          | some i =>
            rw [qi] at e
            simp only at e
            rw [Option.bind_some]
            split at e
            · cases e
            · cases qd : ins[i]? with
              | none => rw [qd] at e; cases e
              | some dd =>
                rw [qd] at e
                rw [Option.bind_some]
                have := lst _ _ _ _ _ e
                rw [← this]
                cases dcL (dcT ab ins gv f) (.inner k w x l t) dd.2.2.2.1 <;> rfl
        · rw [if_neg k1] at e ⊢
          injection Option.some.inj (Option.some.inj e) with e1 e2
end LDC
