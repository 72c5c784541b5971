set_option maxRecDepth 100000
/-! WORKING OUT, plainly -/
/-- an inst: class, constructor, names of its head, conditions (class, which name), its family's type -/
abbrev INs : Type := Nat × Nat × List Nat × List (Nat × Nat) × Ty
/-- a given: class (a family's: and 100), name, type -/
abbrev GVs : Type := Nat × Nat × Ty
def iOf (ins : List INs) (c k : Nat) : Option Nat := ixF (fun i => i.1 == c && i.2.1 == k) ins
def gFm (gv : List GVs) (c w : Nat) : Option Nat := ixF (fun g => g.1 == 100 + c && g.2.1 == w) gv
/-- why a family goes: an inst, or 100 and a given -/
def gby (ins : List INs) (gv : List GVs) : Ty → Option Nat
  | .inner k f _ (.inner k' w _ _ _) _ => if k = 2 then (if k' = 1 then iOf ins f w else if k' = 0 then (gFm gv f w).map (fun g => 100 + g) else none) else none
  | _ => none
/-- what is put for the names of an inst's head -/
def hdP (i : INs) (p : Ty) : List (Nat × Ty) := i.2.2.1.zip [tL p, tR' p]
def gto (ins : List INs) (gv : List GVs) (b : Nat) (p : Ty) : Ty := if b < 100 then (ins[b]?).elim .leaf (fun i => sbT (hdP i p) i.2.2.2.2) else (gv[b - 100]?).elim .leaf (fun g => g.2.2)
/-- counted in this asking, in all; types that were made -/
abbrev WS : Type := Nat × Nat × List Ty
def fitO (u : Ty) (s : WS) : Option (Ty × WS) := if tszW u ≤ 60 then some (u, s) else none
def wkQ (r : WS → Ty → Option (Option (Ty × WS))) (s : WS) : Ty → Option (Option (Ty × WS))
  | .leaf => some (some (.leaf, s))
  | .inner k w u l t => r s (.inner k w u l t)
def mkS (s : WS) (T : Ty) : WS := (s.1, s.2.1, s.2.2 ++ [T])
/-- a type's parts are worked out -/
def wkP (r : WS → Ty → Option (Option (Ty × WS))) (s : WS) : Ty → Option (Option (Ty × WS))
  | .leaf => some (some (.leaf, s))
  | .inner k w u l t => (wkQ r s l).bind fun a => match a with
    | none => some none
    | some (l', s1) => (wkQ r s1 t).bind fun c => match c with
      | none => some none
      | some (t', s2) => some (some (.inner k w u l' t', mkS s2 (.inner k w u l' t')))
/-- working out (false), and going on (true); 2: it counts, 1: so many may be begun, 0: neither -/
def wk (c : Nat) (ins : List INs) (gv : List GVs) : Nat → Bool → Nat → WS → Ty → Option (Option (Ty × WS))
  | 0, _, _, _, _ => none
  | f + 1, false, bg, s, T => if thB T = true then (if 1 ≤ c ∧ 20 ≤ bg then some none else (wk c ins gv f true (bg + 1) s T).map (fun r => r.bind (fun p => fitO p.1 p.2))) else some (fitO T s)
  | f + 1, true, bg, s, u => (if thB u = true then wkP (wk c ins gv f false bg) s u else some (some (u, s))).bind fun r => match r with
    | none => some none
    | some (v, s1) => match gby ins gv v with
      | none => some (some (v, s1))
      | some b => if c = 2 ∧ (60 < s1.1 + 1 ∨ 300 < s1.2.1 + 1) then some none else if tszW (gto ins gv b (tL v)) ≤ 60 then wk c ins gv f true bg (mkS (if c = 2 then (s1.1 + 1, s1.2.1 + 1, s1.2.2) else s1) (gto ins gv b (tL v))) (gto ins gv b (tL v)) else some none
theorem wkP_inner (r : WS → Ty → Option (Option (Ty × WS))) (s : WS) (k w : Nat) (u : Unit) (l t : Ty) : wkP r s (.inner k w u l t) = (wkQ r s l).bind fun a => match a with
    | none => some none
    | some (l', s1) => (wkQ r s1 t).bind fun c => match c with
      | none => some none
      | some (t', s2) => some (some (.inner k w u l' t', mkS s2 (.inner k w u l' t'))) := rfl
section LW1
variable {c : Nat} {ins : List INs} {gv : List GVs}
theorem wkQ_inner {r : WS → Ty → Option (Option (Ty × WS))} {s : WS} {T : Ty} (h : T ≠ .leaf) : wkQ r s T = r s T := by
  cases T with
  | leaf => exact absurd rfl h
  | inner k w u l t => rfl
/-- more fuel does no harm -/
theorem wkP_mono {r r' : WS → Ty → Option (Option (Ty × WS))} (H : ∀ s T z, r s T = some z → r' s T = some z) {s : WS} {T : Ty} {z : Option (Ty × WS)} (e : wkP r s T = some z) : wkP r' s T = some z := by
  have HQ : ∀ s T z, wkQ r s T = some z → wkQ r' s T = some z := fun s T z e => by
    cases T with
    | leaf => exact e
    | inner k w u l t => exact H s _ z e
  cases T with
  | leaf => exact e
  | inner k w u l t =>
    rw [wkP_inner] at e ⊢
    cases q : wkQ r s l with
    | none => rw [q] at e; cases e
    | some a =>
      rw [q] at e
      rw [HQ _ _ _ q]
      cases a with
      | none => exact e
      | some p =>
        obtain ⟨l', s1⟩ := p
        rw [Option.bind_some] at e ⊢
        simp only at e ⊢
        cases q2 : wkQ r s1 t with
        | none => rw [q2] at e; cases e
        | some b =>
          rw [q2] at e
          rw [HQ _ _ _ q2]
          exact e
theorem wk_mono : ∀ {f : Nat} {m : Bool} {bg : Nat} {s : WS} {T : Ty} {z : Option (Ty × WS)}, wk c ins gv f m bg s T = some z → wk c ins gv (f + 1) m bg s T = some z
  | 0, _, _, _, _, _, e => by cases e
  | f + 1, false, bg, s, T, z, e => by
    unfold wk at e ⊢
    split at e
    · rename_i h1
      rw [if_pos h1]
      split at e
      · rename_i h2
        rw [if_pos h2]; exact e
      · rename_i h2
        rw [if_neg h2]
        cases q : wk c ins gv f true (bg + 1) s T with
        | none => rw [q] at e; cases e
        | some r => rw [q] at e; rw [wk_mono q]; exact e
    · rename_i h1
      rw [if_neg h1]; exact e
  | f + 1, true, bg, s, u, z, e => by
    unfold wk at e ⊢
    have key : ∀ w, (if thB u = true then wkP (wk c ins gv f false bg) s u else some (some (u, s))) = some w → (if thB u = true then wkP (wk c ins gv (f + 1) false bg) s u else some (some (u, s))) = some w := fun w e => by
      split at e
      · rename_i h1
        rw [if_pos h1]
        exact wkP_mono (fun s T z e => wk_mono e) e
      · rename_i h1
        rw [if_neg h1]; exact e
    cases q : (if thB u = true then wkP (wk c ins gv f false bg) s u else some (some (u, s))) with
    | none => rw [q] at e; cases e
    | some w =>
      rw [q] at e
      rw [key w q, Option.bind_some]
      rw [Option.bind_some] at e
      cases w with
      | none => exact e
      | some p =>
        obtain ⟨v, s1⟩ := p
        simp only at e ⊢
        cases qb : gby ins gv v with
        | none => rw [qb] at e; exact e
        | some b =>
          rw [qb] at e
          simp only at e ⊢
          split at e
          · rename_i h1
            rw [if_pos h1]; exact e
          · rename_i h1
            rw [if_neg h1]
            split at e
            · rename_i h2
              rw [if_pos h2]; exact wk_mono e
            · rename_i h2
              rw [if_neg h2]; exact e
theorem wk_more {f g : Nat} (h : f ≤ g) {m : Bool} {bg : Nat} {s : WS} {T : Ty} {z : Option (Ty × WS)} (e : wk c ins gv f m bg s T = some z) : wk c ins gv g m bg s T = some z := by
  induction g with
  | zero => rw [show f = 0 by omega] at e; exact e
  | succ g ih =>
    by_cases q : f = g + 1
    · rw [← q]; exact e
    · exact wk_mono (ih (by omega))
end LW1
