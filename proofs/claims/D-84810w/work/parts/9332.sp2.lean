set_option maxRecDepth 100000
/-! WORKING OUT, plainly: what it does to what is counted; the same when nothing counts; it ends -/
def extW (c : Nat) (s s' : WS) (D : List Ty) (d : Nat) : Prop := s' = (s.1 + d, s.2.1 + d, s.2.2 ++ D) ∧ (c ≠ 2 → d = 0) ∧ (c = 2 → s.1 ≤ 60 → s.1 + d ≤ 60)
section LW2
variable {c : Nat} {ins : List INs} {gv : List GVs}
theorem extW_refl (s : WS) : extW c s s [] 0 := ⟨by rw [List.append_nil]; rfl, fun _ => rfl, fun _ h => h⟩
theorem extW_trans {s s1 s2 : WS} {D E : List Ty} {d e : Nat} (A : extW c s s1 D d) (B : extW c s1 s2 E e) : extW c s s2 (D ++ E) (d + e) := by
  obtain ⟨a1, a2, a3⟩ := A
  obtain ⟨b1, b2, b3⟩ := B
  subst a1
  simp only at b1 b3
  refine ⟨by rw [b1, Nat.add_assoc, Nat.add_assoc, List.append_assoc], fun h => by rw [a2 h, b2 h], fun h1 h2 => ?_⟩
  have := b3 h1 (a3 h1 h2)
  omega
theorem extW_mk (s : WS) (T : Ty) : extW c s (mkS s T) [T] 0 := ⟨rfl, fun _ => rfl, fun _ h => h⟩
/-- of the parts -/
theorem wkP_st {r : WS → Ty → Option (Option (Ty × WS))} {Q : (WS → Ty → Option (Option (Ty × WS))) → Prop} (H : ∀ s T u s', r s T = some (some (u, s')) → ∃ D d, extW c s s' D d ∧ ∀ r', Q r' → ∀ s0 : WS, r' s0 T = some (some (u, s0.1, s0.2.1, s0.2.2 ++ D))) {s s' : WS} {T u : Ty} (e : wkP r s T = some (some (u, s'))) : ∃ D d, extW c s s' D d ∧ ∀ r', Q r' → ∀ s0 : WS, wkP r' s0 T = some (some (u, s0.1, s0.2.1, s0.2.2 ++ D)) := by
  have HQ : ∀ s T u s', wkQ r s T = some (some (u, s')) → ∃ D d, extW c s s' D d ∧ ∀ r', Q r' → ∀ s0 : WS, wkQ r' s0 T = some (some (u, s0.1, s0.2.1, s0.2.2 ++ D)) := fun s T u s' e => by
    cases T with
    | leaf =>
      have e' : ((.leaf : Ty), s) = (u, s') := Option.some.inj (Option.some.inj e)
      injection e' with e1 e2
      subst e1 e2
      exact ⟨[], 0, extW_refl s, fun r' _ s0 => by rw [List.append_nil]; rfl⟩
    | inner k w x l t => exact H s _ u s' e
  cases T with
  | leaf =>
    have e' : ((.leaf : Ty), s) = (u, s') := Option.some.inj (Option.some.inj e)
    injection e' with e1 e2
    subst e1 e2
    exact ⟨[], 0, extW_refl s, fun r' _ s0 => by rw [List.append_nil]; rfl⟩
  | inner k w x l t =>
    rw [wkP_inner] at e
    cases q : wkQ r s l with
    | none => rw [q] at e; cases e
    | some a =>
      rw [q, Option.bind_some] at e
      cases a with
      | none => cases e
      | some p =>
        obtain ⟨l', s1⟩ := p
        simp only at e
        cases q2 : wkQ r s1 t with
        | none => rw [q2] at e; cases e
        | some b =>
          rw [q2, Option.bind_some] at e
          cases b with
          | none => cases e
          | some p2 =>
            obtain ⟨t', s2⟩ := p2
            have e' := Option.some.inj (Option.some.inj e)
            injection e' with e1 e2
            subst e1 e2
            obtain ⟨D, d, d1, d2⟩ := HQ _ _ _ _ q
            obtain ⟨E, f, f1, f2⟩ := HQ _ _ _ _ q2
            refine ⟨D ++ E ++ [.inner k w x l' t'], d + f + 0, extW_trans (extW_trans d1 f1) (extW_mk s2 _), fun r' hr s0 => ?_⟩
            rw [wkP_inner]
            rw [d2 r' hr s0, Option.bind_some]
            simp only
            rw [f2 r' hr, Option.bind_some]
            simp only [mkS, List.append_assoc]
/-- WHAT IS COUNTED, and that the same comes when nothing counts -/
theorem wk_st : ∀ {f : Nat} {m : Bool} {bg : Nat} {s s' : WS} {T u : Ty}, wk c ins gv f m bg s T = some (some (u, s')) → ∃ D d, extW c s s' D d ∧ ∀ (c' bg' : Nat) (s0 : WS), c' ≤ 1 → c' ≤ c → bg' ≤ bg → wk c' ins gv f m bg' s0 T = some (some (u, s0.1, s0.2.1, s0.2.2 ++ D))
  | 0, _, _, _, _, _, _, e => by cases e
  | f + 1, false, bg, s, s', T, u, e => by
    unfold wk at e
    split at e
    · rename_i h1
      split at e
      · cases e
      · rename_i h2
        cases q : wk c ins gv f true (bg + 1) s T with
        | none => rw [q] at e; cases e
        | some r =>
          rw [q] at e
          cases r with
          | none => cases e
          | some p =>
            obtain ⟨v, s1⟩ := p
            have e' : fitO v s1 = some (u, s') := Option.some.inj e
            unfold fitO at e'
            split at e'
            · rename_i h3
              have e3 := Option.some.inj e'
              injection e3 with e4 e5
              subst e4 e5
              obtain ⟨D, d, d1, d2⟩ := wk_st q
              refine ⟨D, d, d1, fun c' bg' s0 c1 c2 b1 => ?_⟩
              unfold wk
              rw [if_pos h1, if_neg (fun z => h2 ⟨by omega, by omega⟩), d2 c' (bg' + 1) s0 c1 c2 (by omega)]
              show some (fitO v _) = _
              unfold fitO
              rw [if_pos h3]
            · cases e'
    · rename_i h1
      have e' : fitO T s = some (u, s') := Option.some.inj e
      unfold fitO at e'
      split at e'
      · rename_i h3
        have e3 := Option.some.inj e'
        injection e3 with e4 e5
        subst e4 e5
        refine ⟨[], 0, extW_refl s, fun c' bg' s0 _ _ _ => ?_⟩
        unfold wk
        rw [if_neg h1]
        unfold fitO
        rw [if_pos h3, List.append_nil]
      · cases e'
  | f + 1, true, bg, s, s', T, u, e => by
    unfold wk at e
    have key : ∀ v s1, (if thB T = true then wkP (wk c ins gv f false bg) s T else some (some (T, s))) = some (some (v, s1)) → ∃ D d, extW c s s1 D d ∧ ∀ (c' bg' : Nat) (s0 : WS), c' ≤ 1 → c' ≤ c → bg' ≤ bg → (if thB T = true then wkP (wk c' ins gv f false bg') s0 T else some (some (T, s0))) = some (some (v, s0.1, s0.2.1, s0.2.2 ++ D)) := fun v s1 e => by
      split at e
      · rename_i h1
        obtain ⟨D, d, d1, d2⟩ := wkP_st (c := c) (Q := fun r' => ∃ c' bg', c' ≤ 1 ∧ c' ≤ c ∧ bg' ≤ bg ∧ r' = wk c' ins gv f false bg') (fun s T u s' e => by
          obtain ⟨D, d, d1, d2⟩ := wk_st e
          exact ⟨D, d, d1, fun r' ⟨c', bg', c1, c2, b1, er⟩ s0 => by rw [er]; exact d2 c' bg' s0 c1 c2 b1⟩) e
        exact ⟨D, d, d1, fun c' bg' s0 c1 c2 b1 => by rw [if_pos h1]; exact d2 _ ⟨c', bg', c1, c2, b1, rfl⟩ s0⟩
      · rename_i h1
        have e3 := Option.some.inj (Option.some.inj e)
        injection e3 with e4 e5
        subst e4 e5
        exact ⟨[], 0, extW_refl s, fun c' bg' s0 _ _ _ => by rw [if_neg h1, List.append_nil]⟩
    cases q : (if thB T = true then wkP (wk c ins gv f false bg) s T else some (some (T, s))) with
    | none => rw [q] at e; cases e
    | some w =>
      rw [q, Option.bind_some] at e
      cases w with
      | none => cases e
      | some p =>
        obtain ⟨v, s1⟩ := p
        obtain ⟨D, d, d1, d2⟩ := key v s1 q
        simp only at e
        cases qb : gby ins gv v with
        | none =>
          rw [qb] at e
          have e3 := Option.some.inj (Option.some.inj e)
          injection e3 with e4 e5
          subst e4 e5
          refine ⟨D, d, d1, fun c' bg' s0 c1 c2 b1 => ?_⟩
          unfold wk
          rw [d2 c' bg' s0 c1 c2 b1, Option.bind_some]
          simp only
          rw [qb]
        | some b =>
          rw [qb] at e
          simp only at e
          split at e
          · cases e
          · rename_i h1
            split at e
            · rename_i h2
              obtain ⟨E, g, g1, g2⟩ := wk_st e
              have ex : extW c s1 (mkS (if c = 2 then (s1.1 + 1, s1.2.1 + 1, s1.2.2) else s1) (gto ins gv b (tL v))) [gto ins gv b (tL v)] (if c = 2 then 1 else 0) := by
                by_cases h : c = 2
                · rw [if_pos h, if_pos h]
                  exact ⟨rfl, fun z => absurd h z, fun _ z => by omega⟩
                · rw [if_neg h, if_neg h]
                  exact ⟨rfl, fun _ => rfl, fun z => absurd z h⟩
              refine ⟨D ++ [gto ins gv b (tL v)] ++ E, d + (if c = 2 then 1 else 0) + g, extW_trans (extW_trans d1 ex) g1, fun c' bg' s0 c1 c2 b1 => ?_⟩
              unfold wk
              rw [d2 c' bg' s0 c1 c2 b1, Option.bind_some]
              simp only
              rw [qb]
              simp only
              rw [if_neg (by omega), if_pos h2, if_neg (by omega), g2 c' bg' _ c1 c2 b1]
              simp only [mkS, List.append_assoc]
            · cases e
/-- IT ENDS when it counts -/
theorem wkP_some {r : WS → Ty → Option (Option (Ty × WS))} {P : WS → Prop} (H : ∀ s T, P s → ∃ z, r s T = some z ∧ ∀ u s', z = some (u, s') → P s') {s : WS} (hs : P s) {T : Ty} (hm : ∀ s T, P s → P (mkS s T)) : ∃ z, wkP r s T = some z ∧ ∀ u s', z = some (u, s') → P s' := by
  have HQ : ∀ s T, P s → ∃ z, wkQ r s T = some z ∧ ∀ u s', z = some (u, s') → P s' := fun s T hs => by
    cases T with
    | leaf => exact ⟨_, rfl, fun u s' e => by injection Option.some.inj e with e1 e2; rw [← e2]; exact hs⟩
    | inner k w x l t => exact H s _ hs
  cases T with
  | leaf => exact ⟨_, rfl, fun u s' e => by injection Option.some.inj e with e1 e2; rw [← e2]; exact hs⟩
  | inner k w x l t =>
    rw [wkP_inner]
    obtain ⟨z, z1, z2⟩ := HQ s l hs
    rw [z1, Option.bind_some]
    cases z with
    | none => exact ⟨none, rfl, fun u s' e => by cases e⟩
    | some p =>
      obtain ⟨l', s1⟩ := p
      simp only
      have h1 := z2 l' s1 rfl
      obtain ⟨y, y1, y2⟩ := HQ s1 t h1
      rw [y1, Option.bind_some]
      cases y with
      | none => exact ⟨none, rfl, fun u s' e => by cases e⟩
      | some p2 =>
        obtain ⟨t', s2⟩ := p2
        exact ⟨_, rfl, fun u s' e => by injection Option.some.inj e with e1 e2; rw [← e2]; exact hm _ _ (y2 t' s2 rfl)⟩
theorem wk_ends : ∀ (f : Nat) (m : Bool) (bg : Nat) (s : WS) (T : Ty) (c0 : Nat), bg ≤ 20 → c0 ≤ s.1 → s.1 ≤ 60 → (if m = true then 2 * (20 - bg) + (60 - c0) + 2 else 2 * (20 - bg) + (60 - c0) + 1) ≤ f → ∃ z, wk 2 ins gv f m bg s T = some z ∧ ∀ u s', z = some (u, s') → c0 ≤ s'.1 ∧ s'.1 ≤ 60
  | 0, m, _, _, _, _, _, _, _, h => by
    exfalso
    split at h <;> omega
  | f + 1, false, bg, s, T, c0, hb, h0, hs, h => by
    rw [if_neg (by decide)] at h
    have fin : ∀ (v : Ty) (s1 : WS), c0 ≤ s1.1 ∧ s1.1 ≤ 60 → ∀ u s', fitO v s1 = some (u, s') → c0 ≤ s'.1 ∧ s'.1 ≤ 60 := fun v s1 h u s' e => by
      unfold fitO at e
      split at e
      · injection Option.some.inj e with e1 e2
        rw [← e2]; exact h
      · cases e
    unfold wk
    by_cases h1 : thB T = true
    · rw [if_pos h1]
      by_cases h2 : bg = 20
      · rw [if_pos ⟨by decide, by omega⟩]
        exact ⟨none, rfl, fun u s' e => by cases e⟩
      · rw [if_neg (fun z => h2 (by have := z.2; omega))]
        obtain ⟨z, z1, z2⟩ := wk_ends f true (bg + 1) s T c0 (by omega) h0 hs (by rw [if_pos rfl]; omega)
        rw [z1]
        refine ⟨_, rfl, fun u s' e => ?_⟩
        cases z with
        | none => cases e
        | some p => exact fin p.1 p.2 (z2 p.1 p.2 rfl) u s' e
    · rw [if_neg h1]
      exact ⟨_, rfl, fin T s ⟨h0, hs⟩⟩
  | f + 1, true, bg, s, T, c0, hb, h0, hs, h => by
    rw [if_pos rfl] at h
    unfold wk
    have key : ∃ z, (if thB T = true then wkP (wk 2 ins gv f false bg) s T else some (some (T, s))) = some z ∧ ∀ u s', z = some (u, s') → c0 ≤ s'.1 ∧ s'.1 ≤ 60 := by
      split
      · exact wkP_some (P := fun s => c0 ≤ s.1 ∧ s.1 ≤ 60) (fun s T hp => wk_ends f false bg s T c0 hb hp.1 hp.2 (by rw [if_neg (by decide)]; omega)) ⟨h0, hs⟩ (fun _ _ hp => hp)
      · exact ⟨_, rfl, fun u s' e => by injection Option.some.inj e with e1 e2; rw [← e2]; exact ⟨h0, hs⟩⟩
    obtain ⟨z, z1, z2⟩ := key
    rw [z1, Option.bind_some]
    cases z with
    | none => exact ⟨none, rfl, fun u s' e => by cases e⟩
    | some p =>
      obtain ⟨v, s1⟩ := p
      have hp := z2 v s1 rfl
      simp only
      cases qb : gby ins gv v with
      | none => exact ⟨_, rfl, fun u s' e => by injection Option.some.inj e with e1 e2; rw [← e2]; exact hp⟩
      | some b =>
        simp only
        by_cases h1 : 60 < s1.1 + 1 ∨ 300 < s1.2.1 + 1
        · rw [if_pos ⟨trivial, h1⟩]
          exact ⟨none, rfl, fun u s' e => by cases e⟩
        · rw [if_neg (fun z => h1 z.2)]
          by_cases h2 : tszW (gto ins gv b (tL v)) ≤ 60
          · rw [if_pos h2, if_pos trivial]
            have h3 : s1.1 + 1 ≤ 60 := by omega
            obtain ⟨y, y1, y2⟩ := wk_ends f true bg (mkS (s1.1 + 1, s1.2.1 + 1, s1.2.2) (gto ins gv b (tL v))) (gto ins gv b (tL v)) (c0 + 1) hb (show c0 + 1 ≤ s1.1 + 1 by omega) h3 (by rw [if_pos rfl]; omega)
            exact ⟨y, y1, fun u s' e => by have := y2 u s' e; omega⟩
          · rw [if_neg h2]
            exact ⟨none, rfl, fun u s' e => by cases e⟩
end LW2
