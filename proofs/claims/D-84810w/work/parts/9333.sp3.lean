set_option maxRecDepth 100000
/-! WORKING OUT, plainly: what comes stays as it is when it is worked out again -/
/-- worked out, with room for so many begun -/
def nmf (ins : List INs) (gv : List GVs) : Ty → Nat → Prop
  | .leaf, _ => True
  | .inner k w u l r, 0 => thB (.inner k w u l r) = false
  | .inner k w u l r, b + 1 => thB (.inner k w u l r) = true → gby ins gv (.inner k w u l r) = none ∧ (l ≠ .leaf → tszW l ≤ 60) ∧ (r ≠ .leaf → tszW r ≤ 60) ∧ nmf ins gv l b ∧ nmf ins gv r b
/-- a type in a type -/
def subT (X : Ty) : Ty → Prop
  | .leaf => X = .leaf
  | .inner k w u l r => X = .inner k w u l r ∨ subT X l ∨ subT X r
section LW3
variable {c : Nat} {ins : List INs} {gv : List GVs}
theorem subT_self : ∀ T : Ty, subT T T
  | .leaf => rfl
  | .inner _ _ _ _ _ => .inl rfl
theorem nmf_no : ∀ {T : Ty} {b : Nat}, thB T = false → nmf ins gv T b
  | .leaf, _, _ => trivial
  | .inner _ _ _ _ _, 0, h => h
  | .inner _ _ _ _ _, _ + 1, h => fun z => by rw [h] at z; cases z
theorem wkP_nmf {r : WS → Ty → Option (Option (Ty × WS))} {b : Nat} (H : ∀ s T u s', r s T = some (some (u, s')) → nmf ins gv u b ∧ tszW u ≤ 60) {s s' : WS} {T v : Ty} (e : wkP r s T = some (some (v, s'))) (hg : gby ins gv v = none) : nmf ins gv v (b + 1) := by
  have HQ : ∀ s T u s', wkQ r s T = some (some (u, s')) → nmf ins gv u b ∧ (u ≠ .leaf → tszW u ≤ 60) := fun s T u s' e => by
    cases T with
    | leaf =>
      injection Option.some.inj (Option.some.inj e) with e1 e2
      rw [← e1]
      exact ⟨trivial, fun z => absurd rfl z⟩
    | inner k w x l t =>
      have := H s _ u s' e
      exact ⟨this.1, fun _ => this.2⟩
  cases T with
  | leaf =>
    injection Option.some.inj (Option.some.inj e) with e1 e2
    rw [← e1]; trivial
  | inner k w x l t =>
    rw [wkP_inner] at e
    cases q : wkQ r s l with
    | none => rw [q] at e; cases e
    | some a =>
      rw [q, Option.bind_some] at e
      cases a with
      | none => cases e
      | some p =>
        obtain ⟨l', s1⟩ := p
        simp only at e
        cases q2 : wkQ r s1 t with
        | none => rw [q2] at e; cases e
        | some d =>
          rw [q2, Option.bind_some] at e
          cases d with
          | none => cases e
          | some p2 =>
            obtain ⟨t', s2⟩ := p2
            injection Option.some.inj (Option.some.inj e) with e1 e2
            subst e1
            have h1 := HQ _ _ _ _ q
            have h2 := HQ _ _ _ _ q2
            exact fun _ => ⟨hg, h1.2, h2.2, h1.1, h2.1⟩
/-- what comes is worked out -/
theorem wk_nmf (hc : 1 ≤ c) : ∀ {f : Nat} {m : Bool} {bg : Nat} {s s' : WS} {T u : Ty}, bg ≤ 20 → wk c ins gv f m bg s T = some (some (u, s')) → if m = true then nmf ins gv u (20 - bg + 1) else nmf ins gv u (20 - bg) ∧ tszW u ≤ 60
  | 0, _, _, _, _, _, _, _, e => by cases e
  | f + 1, false, bg, s, s', T, u, hb, e => by
    rw [if_neg (by decide)]
    have fin : ∀ (v : Ty) (s1 : WS), fitO v s1 = some (u, s') → u = v ∧ tszW u ≤ 60 := fun v s1 e => by
      unfold fitO at e
      split at e
      · injection Option.some.inj e with e1 e2
        rw [← e1]
        rename_i h
        exact ⟨rfl, h⟩
      · cases e
    unfold wk at e
    split at e
    · rename_i h1
      split at e
      · cases e
      · rename_i h2
        cases q : wk c ins gv f true (bg + 1) s T with
        | none => rw [q] at e; cases e
        | some r =>
          rw [q] at e
          cases r with
          | none => cases e
          | some p =>
            obtain ⟨e1, e2⟩ := fin p.1 p.2 (Option.some.inj e)
            have h3 : bg ≠ 20 := fun z => h2 ⟨hc, by omega⟩
            have := wk_nmf hc (by omega) q
            rw [if_pos rfl, show 20 - (bg + 1) + 1 = 20 - bg by omega] at this
            exact ⟨by rw [e1]; exact this, e2⟩
    · rename_i h1
      obtain ⟨e1, e2⟩ := fin T s (Option.some.inj e)
      exact ⟨by rw [e1]; exact nmf_no (by simpa using h1), e2⟩
  | f + 1, true, bg, s, s', T, u, hb, e => by
    rw [if_pos rfl]
    unfold wk at e
    cases q : (if thB T = true then wkP (wk c ins gv f false bg) s T else some (some (T, s))) with
    | none => rw [q] at e; cases e
    | some w =>
      rw [q, Option.bind_some] at e
      cases w with
      | none => cases e
      | some p =>
        obtain ⟨v, s1⟩ := p
        simp only at e
        cases qb : gby ins gv v with
        | none =>
          rw [qb] at e
          injection Option.some.inj (Option.some.inj e) with e1 e2
          subst e1
          split at q
          · exact wkP_nmf (fun s T u s' e => by have := wk_nmf hc hb e; rwa [if_neg (by decide)] at this) q qb
          · rename_i h1
            injection Option.some.inj (Option.some.inj q) with e3 e4
            rw [← e3]
            exact nmf_no (by simpa using h1)
        | some b =>
          rw [qb] at e
          simp only at e
          split at e
          · cases e
          · split at e
            · have := wk_nmf hc hb e
              rwa [if_pos rfl] at this
            · cases e
/-- what is worked out stays -/
theorem nmf_wk (hc : c ≤ 1) : ∀ {b : Nat} {T : Ty} {f bg : Nat}, nmf ins gv T b → tszW T ≤ 60 → (c = 0 ∨ bg + b ≤ 20) → 2 * b + 1 ≤ f → ∃ D : List Ty, (∀ X ∈ D, subT X T) ∧ ∀ s : WS, wk c ins gv f false bg s T = some (some (T, s.1, s.2.1, s.2.2 ++ D))
  | b, T, 0, bg, _, _, _, hf => by omega
  | b, T, f + 1, bg, hn, ht, hb, hf => by
    by_cases h1 : thB T = true
    · cases b with
      | zero =>
        exfalso
        cases T with
        | leaf => cases h1
        | inner k w u l r => have h2 : thB (.inner k w u l r) = false := hn; rw [h1] at h2; cases h2
      | succ b =>
        cases T with
        | leaf => cases h1
        | inner k w u l r =>
          obtain ⟨n1, n2, n3, n4, n5⟩ := hn h1
          cases f with
          | zero => omega
          | succ f =>
            have HQ : ∀ {X : Ty}, nmf ins gv X b → (X ≠ .leaf → tszW X ≤ 60) → ∃ D : List Ty, (∀ Y ∈ D, subT Y X) ∧ ∀ s : WS, wkQ (wk c ins gv f false (bg + 1)) s X = some (some (X, s.1, s.2.1, s.2.2 ++ D)) := fun {X} hX hx => by
              cases X with
              | leaf => exact ⟨[], fun Y hY => absurd hY List.not_mem_nil, fun s => by rw [List.append_nil]; rfl⟩
              | inner k w u l r => exact nmf_wk hc hX (hx (fun z => by cases z)) (by omega) (by omega)
            obtain ⟨D, d1, d2⟩ := HQ n4 n2
            obtain ⟨E, e1, e2⟩ := HQ n5 n3
            refine ⟨D ++ E ++ [.inner k w u l r], fun X hX => ?_, fun s => ?_⟩
            · rcases List.mem_append.mp hX with hX | hX
              · rcases List.mem_append.mp hX with hX | hX
                · exact .inr (.inl (d1 X hX))
                · exact .inr (.inr (e1 X hX))
              · exact .inl (List.mem_singleton.mp hX)
            · unfold wk
              rw [if_pos h1, if_neg (by omega)]
              have e3 : wk c ins gv (f + 1) true (bg + 1) s (.inner k w u l r) = some (some (.inner k w u l r, s.1, s.2.1, s.2.2 ++ (D ++ E ++ [.inner k w u l r]))) := by
                unfold wk
                rw [if_pos h1]
                rw [wkP_inner]
                rw [d2 s, Option.bind_some]
                simp only
                rw [e2, Option.bind_some]
                simp only [Option.bind_some, mkS]
                rw [n1]
                simp only [List.append_assoc]
              rw [e3]
              show some (fitO (.inner k w u l r) _) = _
              unfold fitO
              rw [if_pos ht]
    · refine ⟨[], fun X hX => absurd hX List.not_mem_nil, fun s => ?_⟩
      unfold wk
      rw [if_neg h1]
      unfold fitO
      rw [if_pos ht, List.append_nil]
/-- parts of what is worked out are so -/
theorem nmf_parts {k w : Nat} {u : Unit} {l r : Ty} {b : Nat} (h : nmf ins gv (.inner k w u l r) b) : nmf ins gv l b ∧ nmf ins gv r b := by
  have up : ∀ {T : Ty} {b : Nat}, nmf ins gv T b → nmf ins gv T (b + 1) := by
    intro T
    induction T with
    | leaf => intro b _; trivial
    | inner k w u l r ih1 ih2 =>
      intro b h
      cases b with
      | zero => exact nmf_no h
      | succ b =>
        intro z
        obtain ⟨n1, n2, n3, n4, n5⟩ := h z
        exact ⟨n1, n2, n3, ih1 n4, ih2 n5⟩
  by_cases h1 : thB (.inner k w u l r) = true
  · cases b with
    | zero => have h2 : thB (.inner k w u l r) = false := h; rw [h1] at h2; cases h2
    | succ b =>
      obtain ⟨n1, n2, n3, n4, n5⟩ := h h1
      exact ⟨up n4, up n5⟩
  · have h2 : (k == 2 || thB l || thB r) = false := Bool.eq_false_iff.mpr h1
    rw [Bool.or_eq_false_iff, Bool.or_eq_false_iff] at h2
    exact ⟨nmf_no h2.1.2, nmf_no h2.2⟩
end LW3
