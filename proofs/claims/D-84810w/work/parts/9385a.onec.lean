set_option maxRecDepth 100000
/-! WHEN NOTHING IS COUNTED, working out leaves a type as it is -/
section LOC
variable {ins : List INs} {gv : List GVs}
theorem wk_cm {f : Nat} {m : Bool} {bg : Nat} {s s' : WS} {T u : Ty} (e : wk 2 ins gv f m bg s T = some (some (u, s'))) : s.2.1 ≤ s'.2.1 := by
  obtain ⟨D, d, ⟨d1, _, _⟩, _⟩ := wk_st e
  rw [d1]
  exact Nat.le_add_right _ _
theorem wkP_id {r : WS → Ty → Option (Option (Ty × WS))} (H : ∀ s T u s', r s T = some (some (u, s')) → s.2.1 ≤ s'.2.1 ∧ (s'.2.1 = s.2.1 → u = T)) {s s' : WS} {T u : Ty} (e : wkP r s T = some (some (u, s'))) : s.2.1 ≤ s'.2.1 ∧ (s'.2.1 = s.2.1 → u = T) := by
  have HQ : ∀ s T u s', wkQ r s T = some (some (u, s')) → s.2.1 ≤ s'.2.1 ∧ (s'.2.1 = s.2.1 → u = T) := fun s T u s' e => by
    cases T with
    | leaf =>
      injection Option.some.inj (Option.some.inj e) with e1 e2
      rw [← e2]
      exact ⟨Nat.le_refl _, fun _ => e1.symm⟩
    | inner k w x l t => exact H s _ u s' e
  cases T with
  | leaf =>
    injection Option.some.inj (Option.some.inj e) with e1 e2
    rw [← e2]
    exact ⟨Nat.le_refl _, fun _ => e1.symm⟩
  | inner k w x l t =>
    rw [wkP_inner] at e
    cases q : wkQ r s l with
    | none => rw [q] at e; cases e
    | some a =>
      rw [q, Option.bind_some] at e
      cases a with
      | none => cases e
      | some p =>
        obtain ⟨l', s1⟩ := p
        simp only at e
        cases q2 : wkQ r s1 t with
        | none => rw [q2] at e; cases e
        | some b =>
          rw [q2, Option.bind_some] at e
          cases b with
          | none => cases e
          | some p2 =>
            obtain ⟨t', s2⟩ := p2
            injection Option.some.inj (Option.some.inj e) with e1 e2
            obtain ⟨a1, a2⟩ := HQ _ _ _ _ q
            obtain ⟨b1, b2⟩ := HQ _ _ _ _ q2
            have ec : s'.2.1 = s2.2.1 := by rw [← e2]; rfl
            refine ⟨by omega, fun h => ?_⟩
            rw [← e1, a2 (by omega), b2 (by omega)]
theorem wk_id : ∀ {f : Nat} {m : Bool} {bg : Nat} {s s' : WS} {T u : Ty}, wk 2 ins gv f m bg s T = some (some (u, s')) → s'.2.1 = s.2.1 → u = T
  | 0, _, _, _, _, _, _, e => by cases e
  | f + 1, false, bg, s, s', T, u, e => by
    unfold wk at e
    intro h
    split at e
    · split at e
      · cases e
      · cases q : wk 2 ins gv f true (bg + 1) s T with
        | none => rw [q] at e; cases e
        | some r =>
          rw [q] at e
          cases r with
          | none => cases e
          | some p =>
            obtain ⟨v, s1⟩ := p
            have e' : fitO v s1 = some (u, s') := Option.some.inj e
            unfold fitO at e'
            split at e'
            · injection Option.some.inj e' with e4 e5
              rw [← e4]
              exact wk_id q (by rw [e5]; exact h)
            · cases e'
    · have e' : fitO T s = some (u, s') := Option.some.inj e
      unfold fitO at e'
      split at e'
      · injection Option.some.inj e' with e4 e5
        exact e4.symm
      · cases e'
  | f + 1, true, bg, s, s', T, u, e => by
    unfold wk at e
    intro h
    cases q : (if thB T = true then wkP (wk 2 ins gv f false bg) s T else some (some (T, s))) with
    | none => rw [q] at e; cases e
    | some r =>
      rw [q, Option.bind_some] at e
      cases r with
      | none => cases e
      | some p =>
        obtain ⟨v, s1⟩ := p
        have c1 : s.2.1 ≤ s1.2.1 ∧ (s1.2.1 = s.2.1 → v = T) := by
          split at q
          · exact wkP_id (fun s T u s' e => ⟨wk_cm e, fun h => wk_id e h⟩) q
          · injection Option.some.inj (Option.some.inj q) with e1 e2
            rw [← e2]
            exact ⟨Nat.le_refl _, fun _ => e1.symm⟩
        simp only at e
        cases qb : gby ins gv v with
        | none =>
          rw [qb] at e
          injection Option.some.inj (Option.some.inj e) with e1 e2
          rw [← e1]
          exact c1.2 (by rw [e2]; exact h)
        | some b =>
          rw [qb] at e
          simp only at e
          split at e
          · cases e
          · split at e
            · have c2 := wk_cm e
              have c3 : s1.2.1 + 1 ≤ s'.2.1 := c2
              omega
            · cases e
/-- two types that are one: the same, or something was counted -/
theorem one_id {s s' : WS} {T U : Ty} (e : oneP ins gv s T U = some (some (true, s'))) : T = U ∨ s.2.1 < s'.2.1 := by
  unfold oneP at e
  split at e
  · rename_i h
    exact .inl (tyE_iff.mp h)
  · cases q1 : wk 2 ins gv 130 false 0 s T with
    | none => rw [q1] at e; cases e
    | some a =>
      rw [q1, Option.bind_some] at e
      cases a with
      | none => cases e
      | some p =>
        obtain ⟨u, s1⟩ := p
        simp only at e
        cases q2 : wk 2 ins gv 130 false 0 s1 U with
        | none => rw [q2] at e; cases e
        | some b =>
          rw [q2, Option.bind_some] at e
          cases b with
          | none => cases e
          | some p2 =>
            obtain ⟨v, s2⟩ := p2
            injection Option.some.inj (Option.some.inj e) with e1 e2
            have c1 := wk_cm q1
            have c2 := wk_cm q2
            have ec : s'.2.1 = s2.2.1 := by rw [← e2]
            by_cases h : s2.2.1 = s.2.1
            · refine .inl ?_
              have h1 := wk_id q1 (by omega)
              have h2 := wk_id q2 (by omega)
              rw [← h1, ← h2]
              exact tyE_iff.mp e1
            · exact .inr (by omega)
end LOC
theorem jeq_id {E : JE} {pl : Nat} {T U : Ty} {s s' : JS} {a : Dc} (e : jeq E pl T U s = some (.inr (a, s'))) : (T = U ∨ s.1 < s'.1) ∧ tszW U ≤ 60 := by
  unfold jeq at e
  split at e
  · cases Option.some.inj e
  · rename_i big
    refine ⟨?_, Classical.byContradiction (fun w => big (.inr w))⟩
    unfold ja at e
    cases q : oneP E.2.2.2.1 E.2.2.2.2 (0, s.1, s.2) T U with
    | none => rw [q] at e; cases e
    | some x =>
      rw [q, Option.bind_some] at e
      cases x with
      | none => cases Option.some.inj e
      | some p =>
        obtain ⟨b, w⟩ := p
        simp only at e
        cases b with
        | false => rw [if_neg (by decide)] at e; cases Option.some.inj e
        | true =>
          rw [if_pos rfl] at e
          injection Sum.inr.inj (Option.some.inj e) with e1 e2
          rcases one_id q with h | h
          · exact .inl h
          · refine .inr ?_
            rw [← e2]
            exact h
