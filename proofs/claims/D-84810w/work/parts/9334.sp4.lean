set_option maxRecDepth 100000
/-! WHAT TYPES MEAN when all names stand for closed types: families of closed types go by the insts -/
/-- a family's line, names standing for types and for what families of these are -/
def evL (nm : Nat → Option (Ty × (Nat → Ty))) : Ty → Ty
  | .leaf => .leaf
  | .inner k w u l r => if k = 0 then (nm w).elim (.inner k w u l r) Prod.fst else if k = 2 then (match l with
      | .inner _ w' _ _ _ => (nm w').elim .leaf (fun p => p.2 w)
      | .leaf => .leaf) else .inner k w u (evL nm l) (evL nm r)
/-- two names of a head -/
def nm2 {α : Type} (ns : List Nat) (a b : α) (w : Nat) : Option α := match ns with
  | [] => none
  | [x] => if x = w then some a else none
  | x :: y :: _ => if x = w then some a else if y = w then some b else none
/-- a family of a closed type -/
def faE (ins : List INs) : Ty → Nat → Ty
  | .leaf, f => .inner 2 f () .leaf .leaf
  | .inner k w u l r, f => if k = 1 then (match iOf ins f w with
      | some i => (ins[i]?).elim .leaf (fun d => evL (nm2 d.2.2.1 (l, faE ins l) (r, faE ins r)) d.2.2.2.2)
      | none => .inner 2 f () (.inner k w u l r) .leaf) else .inner 2 f () (.inner k w u l r) .leaf
def sem (ins : List INs) (θ : Nat → Ty) : Ty → Ty
  | .leaf => .leaf
  | .inner k w u l r => if k = 0 then θ w else if k = 2 then faE ins (sem ins θ l) w else .inner k w u (sem ins θ l) (sem ins θ r)
/-- a family's line as it must be: families for names alone, all names of the head -/
def lnOK (ns : List Nat) : Ty → Prop
  | .leaf => True
  | .inner k w _ l r => (k = 0 → w ∈ ns) ∧ (k = 2 → ∃ w' u' l' r', l = .inner 0 w' u' l' r' ∧ w' ∈ ns) ∧ lnOK ns l ∧ lnOK ns r
/-- insts as they must be -/
def inOK (ins : List INs) : Prop := ∀ i ∈ ins, (i.2.2.1.length ≤ 2 ∧ i.2.2.1.Nodup) ∧ lnOK i.2.2.1 i.2.2.2.2
/-- the equalities that are given hold -/
def satG (ins : List INs) (gv : List GVs) (θ : Nat → Ty) : Prop := ∀ g ∈ gv, 100 ≤ g.1 → faE ins (θ g.2.1) (g.1 - 100) = sem ins θ g.2.2
section LSM
variable {ins : List INs} {gv : List GVs}
theorem nm2_mem {α : Type} {ns : List Nat} (hn : ns.length ≤ 2) {a b : α} {w : Nat} (h : w ∈ ns) : ∃ x, nm2 ns a b w = some x := by
  rcases ns with _ | ⟨x, _ | ⟨y, _ | ⟨z, l⟩⟩⟩
  · exact absurd h List.not_mem_nil
  · have : x = w := (List.mem_singleton.mp h).symm
    exact ⟨a, by show (if x = w then some a else none) = _; rw [if_pos this]⟩
  · show ∃ v, (if x = w then some a else if y = w then some b else none) = some v
    by_cases e : x = w
    · rw [if_pos e]; exact ⟨a, rfl⟩
    · rw [if_neg e]
      have : w = x ∨ w = y := by simpa using h
      rw [if_pos (by omega)]; exact ⟨b, rfl⟩
  · simp at hn
theorem nm2_map {α β : Type} (f : α → β) (ns : List Nat) (a b : α) (w : Nat) : (nm2 ns a b w).map f = nm2 ns (f a) (f b) w := by
  rcases ns with _ | ⟨x, _ | ⟨y, l⟩⟩
  · rfl
  · show (if x = w then some a else none).map f = if x = w then some (f a) else none
    split <;> rfl
  · show (if x = w then some a else if y = w then some b else none).map f = if x = w then some (f a) else if y = w then some (f b) else none
    split
    · rfl
    · split <;> rfl
/-- a line means what its types mean -/
theorem evL_sem {ns : List Nat} (hn : ns.length ≤ 2) {a b : Ty} {θ : Nat → Ty} (hθ : ∀ w x, nm2 ns a b w = some x → θ w = x) : ∀ {T : Ty}, lnOK ns T → evL (nm2 ns (a, faE ins a) (b, faE ins b)) T = sem ins θ T
  | .leaf, _ => rfl
  | .inner k w u l r, h => by
    have key : ∀ w, w ∈ ns → nm2 ns (a, faE ins a) (b, faE ins b) w = some (θ w, faE ins (θ w)) := fun w hw => by
      obtain ⟨x, hx⟩ := nm2_mem hn (a := a) (b := b) hw
      have e := nm2_map (fun t => (t, faE ins t)) ns a b w
      rw [hx] at e
      rw [← e, hθ w x hx]
      rfl
    unfold evL sem
    by_cases k0 : k = 0
    · rw [if_pos k0, if_pos k0, key w (h.1 k0)]
      rfl
    · rw [if_neg k0, if_neg k0]
      by_cases k2 : k = 2
      · rw [if_pos k2, if_pos k2]
        obtain ⟨w', u', l', r', e, hw⟩ := h.2.1 k2
        subst e
        show (nm2 ns (a, faE ins a) (b, faE ins b) w').elim .leaf (fun p => p.2 w) = _
        rw [key w' hw]
        show faE ins (θ w') w = faE ins (sem ins θ (.inner 0 w' u' l' r')) w
        unfold sem
        rw [if_pos rfl]
      · rw [if_neg k2, if_neg k2, evL_sem hn hθ h.2.2.1, evL_sem hn hθ h.2.2.2]
/-- things put for names -/
theorem sem_sb {θ : Nat → Ty} {σ : List (Nat × Ty)} : ∀ {T : Ty}, sem ins θ (sbT σ T) = sem ins (fun w => (lkT σ w).elim (θ w) (sem ins θ)) T
  | .leaf => rfl
  | .inner k w u l r => by
    unfold sbT
    by_cases k0 : k = 0
    · rw [if_pos k0]
      cases q : lkT σ w with
      | none =>
        show sem ins θ (.inner k w u l r) = _
        unfold sem
        rw [if_pos k0, if_pos k0, q]
        rfl
      | some X =>
        have e2 : sem ins (fun w => (lkT σ w).elim (θ w) (sem ins θ)) (.inner k w u l r) = (lkT σ w).elim (θ w) (sem ins θ) := by
          show (if k = 0 then _ else _) = _
          rw [if_pos k0]
        rw [e2, q]
        rfl
    · rw [if_neg k0]
      show (if k = 0 then θ w else if k = 2 then faE ins (sem ins θ (sbT σ l)) w else .inner k w u (sem ins θ (sbT σ l)) (sem ins θ (sbT σ r))) = (if k = 0 then _ else if k = 2 then faE ins (sem ins _ l) w else .inner k w u (sem ins _ l) (sem ins _ r))
      rw [if_neg k0, if_neg k0, sem_sb (T := l), sem_sb (T := r)]
theorem sem_eq {θ θ' : Nat → Ty} {ns : List Nat} (h : ∀ w ∈ ns, θ w = θ' w) : ∀ {T : Ty}, lnOK ns T → sem ins θ T = sem ins θ' T
  | .leaf, _ => rfl
  | .inner k w u l r, c => by
    unfold sem
    rw [sem_eq h c.2.2.1, sem_eq h c.2.2.2]
    by_cases k0 : k = 0
    · rw [if_pos k0, if_pos k0, h w (c.1 k0)]
    · rw [if_neg k0, if_neg k0]
theorem lk_zip {ns : List Nat} {a b : Ty} {w : Nat} : lkT (ns.zip [a, b]) w = nm2 ns a b w := by
  rcases ns with _ | ⟨x, _ | ⟨y, l⟩⟩
  · rfl
  · show lkT [(x, a)] w = if x = w then some a else none
    rw [lkT_cons, lkT_nil]
  · show lkT ((x, a) :: (y, b) :: List.zip l []) w = if x = w then some a else if y = w then some b else none
    rw [lkT_cons, lkT_cons, List.zip_nil_right, lkT_nil]
/-- A FAMILY THAT GOES means the same -/
theorem gto_sem (ok : inOK ins) {θ : Nat → Ty} (hs : satG ins gv θ) {v : Ty} {b : Nat} (e : gby ins gv v = some b) (hl : ins.length ≤ 100) : sem ins θ v = sem ins θ (gto ins gv b (tL v)) := by
  rcases v with ⟨k, f, u, ⟨k', w, u', l, r⟩ | _, r'⟩ | _
  · replace e : (if k = 2 then (if k' = 1 then iOf ins f w else if k' = 0 then (gFm gv f w).map (fun g => 100 + g) else none) else none) = some b := e
    by_cases k2 : k = 2
    · rw [if_pos k2] at e
      have e0 : sem ins θ (.inner k f u (.inner k' w u' l r) r') = faE ins (sem ins θ (.inner k' w u' l r)) f := by
        show (if k = 0 then _ else if k = 2 then _ else _) = _
        rw [if_neg (by omega), if_pos k2]
      rw [e0]
      by_cases k1 : k' = 1
      · rw [if_pos k1] at e
        obtain ⟨i, i1, i2⟩ := ixF_some e
        have lt := (List.getElem?_eq_some_iff.mp i1).1
        have im := List.mem_of_getElem? i1
        obtain ⟨⟨o1, o2⟩, o3⟩ := ok i im
        have e1 : sem ins θ (.inner k' w u' l r) = .inner k' w u' (sem ins θ l) (sem ins θ r) := by
          show (if k' = 0 then _ else if k' = 2 then _ else _) = _
          rw [if_neg (by omega), if_neg (by omega)]
        rw [e1]
        have e2 : faE ins (.inner k' w u' (sem ins θ l) (sem ins θ r)) f = evL (nm2 i.2.2.1 (sem ins θ l, faE ins (sem ins θ l)) (sem ins θ r, faE ins (sem ins θ r))) i.2.2.2.2 := by
          show (if k' = 1 then (match iOf ins f w with | some i => _ | none => _) else _) = _
          rw [if_pos k1, e]
          show (ins[b]?).elim _ _ = _
          rw [i1]
          rfl
        rw [e2, evL_sem o1 (θ := fun w => (nm2 i.2.2.1 (sem ins θ l) (sem ins θ r) w).getD (θ w)) (fun w x h => by show (nm2 _ _ _ w).getD _ = x; rw [h]; rfl) o3]
        unfold gto
        rw [if_pos (by omega), i1]
        show _ = sem ins θ (sbT (hdP i (.inner k' w u' l r)) i.2.2.2.2)
        rw [sem_sb]
        refine sem_eq (fun x hx => ?_) o3
        show _ = (lkT (i.2.2.1.zip [l, r]) x).elim (θ x) (sem ins θ)
        rw [lk_zip]
        obtain ⟨y, hy⟩ := nm2_mem o1 (a := l) (b := r) hx
        have e3 := nm2_map (sem ins θ) i.2.2.1 l r x
        rw [hy] at e3
        rw [← e3, hy]
        rfl
      · rw [if_neg k1] at e
        by_cases k0 : k' = 0
        · rw [if_pos k0] at e
          cases q : gFm gv f w with
          | none => rw [q] at e; cases e
          | some g =>
            rw [q] at e
            have eb : 100 + g = b := Option.some.inj e
            obtain ⟨y, y1, y2⟩ := ixF_some q
            have y2' : y.1 = 100 + f ∧ y.2.1 = w := by simpa using y2
            have := hs y (List.mem_of_getElem? y1) (by omega)
            have e1 : sem ins θ (.inner k' w u' l r) = θ w := by
              show (if k' = 0 then _ else _) = _
              rw [if_pos k0]
            rw [e1]
            unfold gto
            rw [if_neg (by omega), show b - 100 = g by omega, y1]
            show faE ins (θ w) f = sem ins θ y.2.2
            rw [← this, y2'.1, y2'.2, show 100 + f - 100 = f by omega]
        · rw [if_neg k0] at e; cases e
    · rw [if_neg k2] at e; cases e
  · cases e
  · cases e
/-- WORKING OUT changes nothing of what types mean -/
theorem wkP_sem {r : WS → Ty → Option (Option (Ty × WS))} {θ : Nat → Ty} (H : ∀ s T u s', r s T = some (some (u, s')) → sem ins θ u = sem ins θ T) {s s' : WS} {T v : Ty} (e : wkP r s T = some (some (v, s'))) : sem ins θ v = sem ins θ T := by
  have HQ : ∀ s T u s', wkQ r s T = some (some (u, s')) → sem ins θ u = sem ins θ T := fun s T u s' e => by
    cases T with
    | leaf =>
      injection Option.some.inj (Option.some.inj e) with e1 e2
      rw [← e1]
    | inner k w x l t => exact H s _ u s' e
  cases T with
  | leaf =>
    injection Option.some.inj (Option.some.inj e) with e1 e2
    rw [← e1]
  | inner k w x l t =>
    rw [wkP_inner] at e
    cases q : wkQ r s l with
    | none => rw [q] at e; cases e
    | some a =>
      rw [q, Option.bind_some] at e
      cases a with
      | none => cases e
      | some p =>
        obtain ⟨l', s1⟩ := p
        simp only at e
        cases q2 : wkQ r s1 t with
        | none => rw [q2] at e; cases e
        | some d =>
          rw [q2, Option.bind_some] at e
          cases d with
          | none => cases e
          | some p2 =>
            obtain ⟨t', s2⟩ := p2
            injection Option.some.inj (Option.some.inj e) with e1 e2
            subst e1
            have h1 := HQ _ _ _ _ q
            have h2 := HQ _ _ _ _ q2
            unfold sem
            rw [h1, h2]
theorem wk_sem {c : Nat} (ok : inOK ins) {θ : Nat → Ty} (hs : satG ins gv θ) (hl : ins.length ≤ 100) : ∀ {f : Nat} {m : Bool} {bg : Nat} {s s' : WS} {T u : Ty}, wk c ins gv f m bg s T = some (some (u, s')) → sem ins θ u = sem ins θ T
  | 0, _, _, _, _, _, _, e => by cases e
  | f + 1, false, bg, s, s', T, u, e => by
    have fin : ∀ (v : Ty) (s1 : WS), fitO v s1 = some (u, s') → u = v := fun v s1 e => by
      unfold fitO at e
      split at e
      · injection Option.some.inj e with e1 e2
        exact e1.symm
      · cases e
    unfold wk at e
    split at e
    · split at e
      · cases e
      · cases q : wk c ins gv f true (bg + 1) s T with
        | none => rw [q] at e; cases e
        | some r =>
          rw [q] at e
          cases r with
          | none => cases e
          | some p =>
            rw [fin p.1 p.2 (Option.some.inj e)]
            exact wk_sem ok hs hl q
    · rw [fin T s (Option.some.inj e)]
  | f + 1, true, bg, s, s', T, u, e => by
    unfold wk at e
    cases q : (if thB T = true then wkP (wk c ins gv f false bg) s T else some (some (T, s))) with
    | none => rw [q] at e; cases e
    | some w =>
      rw [q, Option.bind_some] at e
      cases w with
      | none => cases e
      | some p =>
        obtain ⟨v, s1⟩ := p
        have hv : sem ins θ v = sem ins θ T := by
          split at q
          · exact wkP_sem (fun s T u s' e => wk_sem ok hs hl e) q
          · injection Option.some.inj (Option.some.inj q) with e3 e4
            rw [e3]
        simp only at e
        cases qb : gby ins gv v with
        | none =>
          rw [qb] at e
          injection Option.some.inj (Option.some.inj e) with e1 e2
          rw [← e1]; exact hv
        | some b =>
          rw [qb] at e
          simp only at e
          split at e
          · cases e
          · split at e
            · rw [wk_sem ok hs hl e, ← hv]
              exact (gto_sem ok hs qb hl).symm
            · cases e
end LSM
