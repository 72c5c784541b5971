set_option maxRecDepth 100000
/-! THE TWIN works out a type's parts -/
abbrev OFS : List Nat := [532, 808, 812, 816, 823, 836]
abbrev OFA : List Nat := TYA ++ [830, 834]
/-- families whose insts all have a line -/
def okF (ins : List INs) : Ty → Prop
  | .leaf => True
  | .inner k w _ l r => (k = 2 → w < 1000 ∧ ∀ d ∈ ins, d.1 = w → d.2.2.2.2 ≠ .leaf) ∧ okF ins l ∧ okF ins r
def insF (ins : List INs) (B : Nat) : Prop := ∀ d ∈ ins, okF ins d.2.2.2.2 ∧ wfT d.2.2.2.2 ∧ tdp d.2.2.2.2 < 60 ∧ tsz d.2.2.2.2 ≤ B
def gvF' (ins : List INs) (gv : List GVs) : Prop := ∀ g ∈ gv, 100 ≤ g.1 → g.2.2 ≠ .leaf ∧ okF ins g.2.2 ∧ wfT g.2.2 ∧ tsz g.2.2 ≤ 1000000
/-- what there is while types are worked out -/
def WkC (σ : tS) (n : Nat) (ab : List (Option Nat)) (ins : List INs) (gv : List GVs) (c bg : Nat) (s : WS) : Prop := TyS σ n ∧ PGT σ n ab ins ∧ GVT σ n gv ∧ gs σ 816 = (bg : Int) ∧ gs σ 823 = 0 ∧ (c = 2 → gs σ 827 = 0 ∧ gs σ 808 = (s.1 : Int) ∧ gs σ 812 = (s.2.1 : Int)) ∧ (c = 1 → gs σ 827 ≠ 0)
/-- there is room -/
def WkR (c B : Nat) (σ : tS) (n : Nat) (s : WS) (z : Option (Ty × WS)) : Prop := (c = 2 → n + 81 * (60 - s.1) + B < 126000) ∧ (c = 1 → n + B < 126000 ∧ ∃ u D, z = some (u, s.1, s.2.1, s.2.2 ++ D) ∧ ∀ X ∈ D, ∃ t, tyT σ n X t)
/-- what came of it -/
def WkO (ins : List INs) (c B Cb bg : Nat) (σ : tS) (n : Nat) (s : WS) (T : Ty) (z : Option (Ty × WS)) (t' : Int) (σ' : tS) (n' : Nat) : Prop := fr OFS OFA σ σ' ∧ TyS σ' n' ∧ tx σ n σ' n' ∧ gs σ' 816 = (bg : Int) ∧ (z = none → c = 2 ∧ gs σ' 823 = 1 ∧ n' ≤ n + 81 * (60 - s.1) + B) ∧ ∀ u s', z = some (u, s') → gs σ' 823 = 0 ∧ tyT σ' n' u t' ∧ (u = .leaf ↔ T = .leaf) ∧ okF ins u ∧ (c = 2 → gs σ' 808 = (s'.1 : Int) ∧ gs σ' 812 = (s'.2.1 : Int) ∧ s'.2.1 ≤ 300 ∧ n' ≤ n + Cb * (s'.1 - s.1)) ∧ (∀ D, s'.2.2 = s.2.2 ++ D → ∀ X ∈ D, ∃ t, tyT σ' n' X t) ∧ (c = 1 → n' = n ∧ ∀ f ∈ TYA, ∀ i, ga σ' f i = ga σ f i)
section LTO
variable {c : Nat} {ab : List (Option Nat)} {ins : List INs} {gv : List GVs} {B : Nat}
theorem okF_sb {θ : List (Nat × Ty)} (hθ : ∀ p ∈ θ, okF ins p.2) : ∀ {T : Ty}, okF ins T → okF ins (sbT θ T)
  | .leaf, _ => trivial
  | .inner k w u l r, h => by
    unfold sbT
    split
    · cases q : lkT θ w with
      | none => exact h
      | some T => exact hθ _ (lkT_mem q)
    · exact ⟨h.1, okF_sb hθ h.2.1, okF_sb hθ h.2.2⟩
theorem okF_no : ∀ {T : Ty}, thB T = false → okF ins T
  | .leaf, _ => trivial
  | .inner k w u l r, h => by
    have h' : (k == 2 || thB l || thB r) = false := h
    rw [Bool.or_eq_false_iff, Bool.or_eq_false_iff] at h'
    exact ⟨fun z => absurd h'.1.1 (by rw [z]; decide), okF_no h'.1.2, okF_no h'.2⟩
/-- nothing was counted: nothing has changed -/
theorem wk_zero : ∀ {f : Nat} {m : Bool} {bg : Nat} {s s' : WS} {T u : Ty}, wk 2 ins gv f m bg s T = some (some (u, s')) → s'.1 = s.1 → u = T
  | 0, _, _, _, _, _, _, e, _ => by cases e
  | f + 1, false, bg, s, s', T, u, e, h => by
    have fin : ∀ (v : Ty) (s1 : WS), fitO v s1 = some (u, s') → u = v ∧ s' = s1 := fun v s1 e => by
      unfold fitO at e
      split at e
      · injection Option.some.inj e with e1 e2
        exact ⟨e1.symm, e2.symm⟩
      · cases e
    unfold wk at e
    split at e
    · split at e
      · cases e
      · cases q : wk 2 ins gv f true (bg + 1) s T with
        | none => rw [q] at e; cases e
        | some r =>
          rw [q] at e
          cases r with
          | none => cases e
          | some p =>
            obtain ⟨e1, e2⟩ := fin p.1 p.2 (Option.some.inj e)
            rw [e1]
            exact wk_zero q (by rw [← e2]; exact h)
    · exact (fin T s (Option.some.inj e)).1
  | f + 1, true, bg, s, s', T, u, e, h => by
    unfold wk at e
    cases q : (if thB T = true then wkP (wk 2 ins gv f false bg) s T else some (some (T, s))) with
    | none => rw [q] at e; cases e
    | some w =>
      rw [q, Option.bind_some] at e
      cases w with
      | none => cases e
      | some p =>
        obtain ⟨v, s1⟩ := p
        have key : s.1 ≤ s1.1 ∧ (s1.1 = s.1 → v = T) := by
          split at q
          · obtain ⟨D, d, d1, _⟩ := wkP_st (c := 2) (Q := fun _ => False) (fun s T u s' e => by
              obtain ⟨D, d, d1, _⟩ := wk_st e
              exact ⟨D, d, d1, fun _ z => z.elim⟩) q
            refine ⟨by rw [d1.1]; exact Nat.le_add_right _ _, fun e1 => ?_⟩
            cases T with
            | leaf =>
              injection Option.some.inj (Option.some.inj q) with e3 e4
              exact e3.symm
            | inner k w x l t =>
              rw [wkP_inner] at q
              have HQ : ∀ (s s' : WS) (T u : Ty), wkQ (wk 2 ins gv f false bg) s T = some (some (u, s')) → s.1 ≤ s'.1 ∧ (s'.1 = s.1 → u = T) := fun s s' T u e => by
                cases T with
                | leaf =>
                  injection Option.some.inj (Option.some.inj e) with e3 e4
                  rw [← e4]
                  exact ⟨Nat.le_refl _, fun _ => e3.symm⟩
                | inner k w x l t =>
                  obtain ⟨D, d, d1, _⟩ := wk_st (f := f) (m := false) (bg := bg) e
                  exact ⟨by rw [d1.1]; exact Nat.le_add_right _ _, fun e1 => wk_zero (f := f) (m := false) (bg := bg) e e1⟩
              cases q1 : wkQ (wk 2 ins gv f false bg) s l with
              | none => rw [q1] at q; cases q
              | some a =>
                rw [q1, Option.bind_some] at q
                cases a with
                | none => cases q
                | some p1 =>
                  obtain ⟨l', s2⟩ := p1
                  simp only at q
                  cases q2 : wkQ (wk 2 ins gv f false bg) s2 t with
                  | none => rw [q2] at q; cases q
                  | some b =>
                    rw [q2, Option.bind_some] at q
                    cases b with
                    | none => cases q
                    | some p2 =>
                      obtain ⟨t', s3⟩ := p2
                      injection Option.some.inj (Option.some.inj q) with e3 e4
                      have h1 := HQ _ _ _ _ q1
                      have h2 := HQ _ _ _ _ q2
                      have e5 : s3.1 = s1.1 := by rw [← e4]; rfl
                      rw [← e3, h1.2 (by omega), h2.2 (by omega)]
          · injection Option.some.inj (Option.some.inj q) with e3 e4
            rw [← e4]
            exact ⟨Nat.le_refl _, fun _ => e3.symm⟩
        simp only at e
        cases qb : gby ins gv v with
        | none =>
          rw [qb] at e
          injection Option.some.inj (Option.some.inj e) with e1 e2
          rw [← e1]
          exact key.2 (by rw [e2]; exact h)
        | some b =>
          rw [qb] at e
          simp only at e
          split at e
          · cases e
          · split at e
            · exfalso
              obtain ⟨D, d, d1, _⟩ := wk_st e
              have e1 : s'.1 = s1.1 + 1 + d := by rw [d1.1]; rfl
              omega
            · cases e
theorem sz60 {T : Ty} (h1 : tsz T ≤ 1000000) (h2 : tszW T ≤ 60) : tsz T ≤ 60 := by
  have := tszW_eq (T := T) (by omega)
  omega
theorem tL_wf : ∀ {T : Ty}, wfT T → wfT (tL T) ∧ wfT (tR' T)
  | .leaf, _ => ⟨trivial, trivial⟩
  | .inner _ _ _ _ _, h => ⟨h.2.1, h.2.2⟩
/-- how big what comes is -/
theorem gto_tsz (hB : B ≤ 2700) (hI : insF ins B) (hG : gvF' ins gv) (hl : ins.length ≤ 100) {v : Ty} {b : Nat} (wv : wfT v) (hs : tsz (tL v) ≤ 60) (e : gby ins gv v = some b) : tsz (gto ins gv b (tL v)) ≤ 1000000 := by
  rcases v with ⟨k, f, u, ⟨k', w, u', l, r⟩ | _, r'⟩ | _
  · have e' : (if k = 2 then (if k' = 1 then iOf ins f w else if k' = 0 then (gFm gv f w).map (fun g => 100 + g) else none) else none) = some b := e
    by_cases k2 : k = 2
    · rw [if_pos k2] at e'
      by_cases k1 : k' = 1
      · rw [if_pos k1] at e'
        obtain ⟨d, i1, i2⟩ := ixF_some e'
        have lt := (List.getElem?_eq_some_iff.mp i1).1
        obtain ⟨j1, j2, j3, j4⟩ := hI d (List.mem_of_getElem? i1)
        have eg : gto ins gv b (tL (.inner k f u (.inner k' w u' l r) r')) = sbT (hdP d (.inner k' w u' l r)) d.2.2.2.2 := by
          unfold gto
          rw [if_pos (by omega), i1]
          rfl
        rw [eg]
        have hs' : 1 + tsz l + tsz r ≤ 60 := hs
        have := sbT_tsz (θ := hdP d (.inner k' w u' l r)) (B := 60) (by decide) (fun p hp => by
          have := List.of_mem_zip (show (p.1, p.2) ∈ d.2.2.1.zip [l, r] from hp)
          have hp' : p.2 = l ∨ p.2 = r := by simpa using this.2
          rcases hp' with e | e <;> rw [e] <;> omega) j2
        have h3 : 60 * tsz d.2.2.2.2 ≤ 60 * 2700 := Nat.mul_le_mul_left _ (by omega)
        omega
      · rw [if_neg k1] at e'
        by_cases k0 : k' = 0
        · rw [if_pos k0] at e'
          cases q : gFm gv f w with
          | none => rw [q] at e'; cases e'
          | some g =>
            rw [q] at e'
            have e1 : 100 + g = b := Option.some.inj e'
            obtain ⟨y, y1, y2⟩ := ixF_some q
            have y2' : y.1 = 100 + f ∧ y.2.1 = w := by simpa using y2
            obtain ⟨j1, j2, j3, j4⟩ := hG y (List.mem_of_getElem? y1) (by omega)
            have eg : gto ins gv b (tL (.inner k f u (.inner k' w u' l r) r')) = y.2.2 := by
              unfold gto
              rw [if_neg (by omega), show b - 100 = g by omega, y1]
              rfl
            rw [eg]; exact j4
        · rw [if_neg k0] at e'; cases e'
    · rw [if_neg k2] at e'; cases e'
  · cases e
  · cases e
theorem WkC_next {σ σ' : tS} {n n' bg : Nat} {s s' : WS} (H : WkC σ n ab ins gv c bg s) (R : fr OFS OFA σ σ') (S : TyS σ' n') (X : tx σ n σ' n') (h1 : gs σ' 816 = (bg : Int)) (h2 : gs σ' 823 = 0) (h3 : c = 2 → gs σ' 808 = (s'.1 : Int) ∧ gs σ' 812 = (s'.2.1 : Int)) : WkC σ' n' ab ins gv c bg s' := by
  obtain ⟨a1, a2, a3, a4, a5, a6, a7⟩ := H
  exact ⟨S, PGT_fr a2 R (by decide) (by decide) X, GVT_fr a3 R (by decide) (by decide) X, h1, h2, fun z => ⟨by rw [R.1 827 (by decide)]; exact (a6 z).1, h3 z⟩, fun z => by rw [R.1 827 (by decide)]; exact a7 z⟩
end LTO
