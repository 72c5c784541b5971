set_option maxRecDepth 100000
/-! WHAT NAMES STAND FOR when a program begins -/
section LP0
variable {σ : tS} {N : List (List Int)} {L : List Int}
theorem cnI_al {c : Nat} (h : cnI L = some c) : c ≤ 3 ∧ Nal[9 + c]? = some L := by
  unfold cnI at h
  split at h
  · next q => rw [← Option.some.inj h, q]; exact ⟨by omega, rfl⟩
  · split at h
    · next q => rw [← Option.some.inj h, q]; exact ⟨by omega, rfl⟩
    · split at h
      · next q => rw [← Option.some.inj h, q]; exact ⟨by omega, rfl⟩
      · split at h
        · next q => rw [← Option.some.inj h, q]; exact ⟨by omega, rfl⟩
        · cases h
theorem btI_al {c : Nat} (h : btI L = some c) : c < 7 ∧ Nal[c]? = some L := by
  unfold btI at h
  split at h
  · next q => rw [← Option.some.inj h, q]; exact ⟨by omega, rfl⟩
  · split at h
    · next q => rw [← Option.some.inj h, q]; exact ⟨by omega, rfl⟩
    · split at h
      · next q => rw [← Option.some.inj h, q]; exact ⟨by omega, rfl⟩
      · split at h
        · next q => rw [← Option.some.inj h, q]; exact ⟨by omega, rfl⟩
        · split at h
          · next q => rw [← Option.some.inj h, q]; exact ⟨by omega, rfl⟩
          · split at h
            · next q => rw [← Option.some.inj h, q]; exact ⟨by omega, rfl⟩
            · split at h
              · next q => rw [← Option.some.inj h, q]; exact ⟨by omega, rfl⟩
              · cases h
theorem al_cnI {w : Nat} (h1 : 9 ≤ w) (h2 : w < 13) (e : Nal[w]? = some L) : cnI L = some (w - 9) := by
  have k : w = 9 ∨ w = 10 ∨ w = 11 ∨ w = 12 := by omega
  rcases k with k | k | k | k
  · rw [k] at e ⊢; rw [← Option.some.inj e]; rfl
  · rw [k] at e ⊢; rw [← Option.some.inj e]; rfl
  · rw [k] at e ⊢; rw [← Option.some.inj e]; rfl
  · rw [k] at e ⊢; rw [← Option.some.inj e]; rfl
theorem al_btI {w : Nat} (h2 : w < 7) (e : Nal[w]? = some L) : btI L = some w := by
  have k : w = 0 ∨ w = 1 ∨ w = 2 ∨ w = 3 ∨ w = 4 ∨ w = 5 ∨ w = 6 := by omega
  rcases k with k | k | k | k | k | k | k
  · rw [k] at e ⊢; rw [← Option.some.inj e]; rfl
  · rw [k] at e ⊢; rw [← Option.some.inj e]; rfl
  · rw [k] at e ⊢; rw [← Option.some.inj e]; rfl
  · rw [k] at e ⊢; rw [← Option.some.inj e]; rfl
  · rw [k] at e ⊢; rw [← Option.some.inj e]; rfl
  · rw [k] at e ⊢; rw [← Option.some.inj e]; rfl
  · rw [k] at e ⊢; rw [← Option.some.inj e]; rfl
theorem pre_at (p : Nal <+: N) {w : Nat} (h : w < 13) : N[w]? = Nal[w]? := by
  obtain ⟨T, e⟩ := p
  rw [← e, List.getElem?_append_left (show w < Nal.length from h)]
theorem pt0 (al : alS 2100 σ) (p : Nal <+: N) (nd : ndN N) (n21 : N.length ≤ 2100) : GT σ N [] [] ∧ XM σ N [] [] [] := by
  have cn : ∀ (w : Nat) (L : List Int), N[w]? = some L → ¬ (9 ≤ w ∧ w < 13) → cnI L = none := fun w L e n => by
    cases q : cnI L with
    | none => rfl
    | some c =>
      obtain ⟨c3, ec⟩ := cnI_al q
      rw [← pre_at p (by omega)] at ec
      have := nd _ _ _ e ec
      omega
  have bt : ∀ (w : Nat) (L : List Int), N[w]? = some L → ¬ w < 7 → btI L = none := fun w L e n => by
    cases q : btI L with
    | none => rfl
    | some c =>
      obtain ⟨c3, ec⟩ := btI_al q
      rw [← pre_at p (by omega)] at ec
      have := nd _ _ _ e ec
      omega
  have lt : ∀ (w : Nat) (L : List Int), N[w]? = some L → w < 2100 := fun w L e => by
    have := (List.getElem?_eq_some_iff.mp e).1
    omega
  refine ⟨⟨fun w L e => ⟨lt w L e, ?_⟩, fun w L e => ?_, fun L h => ?_⟩, fun w L e => ⟨lt w L e, ?_⟩, fun w L e => ?_, fun L h => ?_⟩
  · obtain ⟨a1, _, a3, _⟩ := al w (lt w L e)
    by_cases c : 9 ≤ w ∧ w < 13
    · rw [if_pos c] at a1
      have e' := e
      rw [pre_at p c.2] at e'
      exact .inr (.inl ⟨w - 9, a1, by rw [a3]; omega, by omega, al_cnI c.1 c.2 e', rfl, rfl⟩)
    · rw [if_neg c] at a1
      exact .inl ⟨a1, cn w L e c, rfl, rfl⟩
  · obtain ⟨_, a2, _⟩ := al w (lt w L e)
    by_cases c : 9 ≤ w ∧ w < 13
    · rw [if_pos c] at a2
      have e' := e
      rw [pre_at p c.2] at e'
      rw [a2, al_cnI c.1 c.2 e']
      exact ⟨fun z => (by cases z), fun z => (by cases z.1)⟩
    · rw [if_neg c] at a2
      exact ⟨fun _ => ⟨cn w L e c, List.not_mem_nil⟩, fun _ => a2⟩
  · rcases h with h | h
    · exact absurd rfl h
    · exact absurd rfl h
  · obtain ⟨_, _, _, a4, _, a6⟩ := al w (lt w L e)
    by_cases c : w < 7
    · rw [if_pos c] at a4
      have e' := e
      rw [pre_at p (by omega)] at e'
      exact .inr (.inl ⟨w, a4, a6, al_btI c e', rfl, rfl⟩)
    · rw [if_neg c] at a4
      exact .inl ⟨a4, bt w L e c, rfl, rfl⟩
  · obtain ⟨_, _, _, _, a5, _⟩ := al w (lt w L e)
    by_cases c : w < 7
    · rw [if_pos c] at a5
      have e' := e
      rw [pre_at p (by omega)] at e'
      rw [a5, al_btI c e']
      exact ⟨fun z => (by cases z), fun z => (by cases z.1)⟩
    · rw [if_neg c] at a5
      exact ⟨fun _ => ⟨bt w L e c, List.not_mem_nil⟩, fun _ => a5⟩
  · rcases h with h | h
    · exact absurd rfl h
    · exact absurd rfl h
/-- names of constructors -/
theorem al_cnN (p : Nal <+: N) : ∀ w, w ≤ 3 → N[9 + w]? = some (cnN w) := fun w h => by
  rw [pre_at p (by omega)]
  have k : w = 0 ∨ w = 1 ∨ w = 2 ∨ w = 3 := by omega
  rcases k with k | k | k | k <;> (rw [k]; rfl)
end LP0
