set_option maxRecDepth 100000
/-! TYPES, PLAINLY: size, depth, things put for names -/
def tL : Ty → Ty
  | .leaf => .leaf
  | .inner _ _ _ l _ => l
def tR' : Ty → Ty
  | .leaf => .leaf
  | .inner _ _ _ _ r => r
theorem tdp_tsz : ∀ T : Ty, tdp T ≤ tsz T
  | .leaf => Nat.le_refl _
  | .inner _ _ _ l r => by
    have h1 := tdp_tsz l
    have h2 := tdp_tsz r
    show 1 + max (tdp l) (tdp r) ≤ 1 + tsz l + tsz r
    omega
theorem tszW_eq : ∀ {T : Ty}, tsz T ≤ 2147483647 → tszW T = (tsz T : Int)
  | .leaf, _ => rfl
  | .inner k w u l r, h => by
    have h' : 1 + tsz l + tsz r ≤ 2147483647 := h
    show w32 (w32 (1 + tszW l) + tszW r) = ((1 + tsz l + tsz r : Nat) : Int)
    rw [tszW_eq (T := l) (by omega), tszW_eq (T := r) (by omega), w32_s (x := 1 + (tsz l : Int)) (by omega) (by omega), w32_s (by omega) (by omega)]
    omega
/-- what is put for a name -/
def lkT (θ : List (Nat × Ty)) (w : Nat) : Option Ty := (θ.find? (fun p => p.1 == w)).map Prod.snd
def sbT (θ : List (Nat × Ty)) : Ty → Ty
  | .leaf => .leaf
  | .inner k w u l r => if k = 0 then (lkT θ w).getD (.inner k w u l r) else .inner k w u (sbT θ l) (sbT θ r)
theorem lkT_nil (w : Nat) : lkT [] w = none := rfl
theorem lkT_cons {p : Nat × Ty} {θ : List (Nat × Ty)} {w : Nat} : lkT (p :: θ) w = if p.1 = w then some p.2 else lkT θ w := by
  unfold lkT
  rw [List.find?_cons]
  by_cases e : p.1 = w
  · rw [if_pos e, show (p.1 == w) = true by simpa using e]; rfl
  · rw [if_neg e, show (p.1 == w) = false by simpa using e]
theorem lkT_mem : ∀ {θ : List (Nat × Ty)} {w : Nat} {T : Ty}, lkT θ w = some T → (w, T) ∈ θ
  | [], _, _, h => by cases h
  | p :: θ, w, T, h => by
    rw [lkT_cons] at h
    split at h
    · rename_i e
      have : p = (w, T) := by rw [← e, ← Option.some.inj h]
      rw [this]; exact List.mem_cons_self
    · exact List.mem_cons_of_mem _ (lkT_mem h)
/-- all that is put is well formed -/
def wfS (θ : List (Nat × Ty)) : Prop := ∀ p ∈ θ, wfT p.2 ∧ p.2 ≠ .leaf
theorem sbT_leaf {θ : List (Nat × Ty)} (hθ : wfS θ) : ∀ {T : Ty}, sbT θ T = .leaf ↔ T = .leaf
  | .leaf => ⟨fun _ => rfl, fun _ => rfl⟩
  | .inner k w u l r => by
    refine ⟨fun e => ?_, fun e => by cases e⟩
    unfold sbT at e
    split at e
    · cases q : lkT θ w with
      | none => rw [q] at e; cases e
      | some T =>
        rw [q] at e
        exact absurd e (hθ _ (lkT_mem q)).2
    · cases e
theorem sbT_wf {θ : List (Nat × Ty)} (hθ : wfS θ) : ∀ {T : Ty}, wfT T → wfT (sbT θ T)
  | .leaf, _ => trivial
  | .inner k w u l r, h => by
    unfold sbT
    split
    · cases q : lkT θ w with
      | none => exact h
      | some T => exact (hθ _ (lkT_mem q)).1
    · refine ⟨?_, sbT_wf hθ h.2.1, sbT_wf hθ h.2.2⟩
      have h1 := h.1
      unfold shT at h1 ⊢
      simp only [ne_eq, sbT_leaf hθ] at h1 ⊢
      exact h1
theorem sbT_nil : ∀ T : Ty, sbT [] T = T
  | .leaf => rfl
  | .inner k w u l r => by
    unfold sbT
    rw [lkT_nil, sbT_nil l, sbT_nil r]
    split <;> rfl
/-- no family comes in but with what is put -/
theorem sbT_th {θ : List (Nat × Ty)} (hθ : ∀ p ∈ θ, thB p.2 = false) : ∀ {T : Ty}, thB T = false → thB (sbT θ T) = false
  | .leaf, _ => rfl
  | .inner k w u l r, h => by
    unfold sbT
    split
    · cases q : lkT θ w with
      | none => exact h
      | some T => exact hθ _ (lkT_mem q)
    · have h' : (k == 2 || thB l || thB r) = false := h
      rw [Bool.or_eq_false_iff, Bool.or_eq_false_iff] at h'
      show (k == 2 || thB (sbT θ l) || thB (sbT θ r)) = false
      rw [h'.1.1, sbT_th hθ h'.1.2, sbT_th hθ h'.2]
      rfl
/-- how big what comes is -/
def mxS (θ : List (Nat × Ty)) : Nat := (θ.map (fun p => tsz p.2)).foldl max 1
theorem foldl_max : ∀ (l : List Nat) (a : Nat), a ≤ l.foldl max a ∧ ∀ x ∈ l, x ≤ l.foldl max a
  | [], a => ⟨Nat.le_refl _, fun x hx => absurd hx List.not_mem_nil⟩
  | y :: l, a => by
    obtain ⟨h1, h2⟩ := foldl_max l (max a y)
    refine ⟨?_, fun x hx => ?_⟩
    · show a ≤ l.foldl max (max a y)
      omega
    · show x ≤ l.foldl max (max a y)
      rcases List.mem_cons.mp hx with e | hx
      · omega
      · exact h2 x hx
theorem sbT_tsz {θ : List (Nat × Ty)} {B : Nat} (h1 : 1 ≤ B) (hB : ∀ p ∈ θ, tsz p.2 ≤ B) : ∀ {T : Ty}, wfT T → tsz (sbT θ T) ≤ B * tsz T
  | .leaf, _ => Nat.zero_le _
  | .inner k w u l r, h => by
    have i1 := sbT_tsz h1 hB h.2.1
    have i2 := sbT_tsz h1 hB h.2.2
    have e : B * tsz (.inner k w u l r) = B + B * tsz l + B * tsz r := by
      show B * (1 + tsz l + tsz r) = _
      rw [Nat.mul_add, Nat.mul_add, Nat.mul_one]
    rw [e]
    unfold sbT
    split
    · rename_i k0
      cases q : lkT θ w with
      | none =>
        have sh := h.1
        unfold shT at sh
        have e0 : l = .leaf ∧ r = .leaf := by
          rcases sh with sh | sh | sh | sh
          · exact ⟨sh.2.1, sh.2.2⟩
          · omega
          · omega
          · omega
        show tsz (.inner k w u l r) ≤ _
        rw [e0.1, e0.2]
        show 1 + 0 + 0 ≤ _
        omega
      | some T =>
        have h5 : tsz T ≤ B := hB _ (lkT_mem q)
        exact Nat.le_trans h5 (Nat.le_trans (Nat.le_add_right B (B * tsz l)) (Nat.le_add_right _ (B * tsz r)))
    · show 1 + tsz (sbT θ l) + tsz (sbT θ r) ≤ _
      omega
/-- the first place of a list where something holds -/
def ixF {α : Type} (p : α → Bool) : List α → Option Nat
  | [] => none
  | x :: xs => if p x = true then some 0 else (ixF p xs).map (fun i => i + 1)
theorem ixF_some {α : Type} {p : α → Bool} : ∀ {l : List α} {i : Nat}, ixF p l = some i → ∃ x, l[i]? = some x ∧ p x = true
  | [], _, h => by cases h
  | x :: xs, i, h => by
    unfold ixF at h
    split at h
    · rename_i c
      rw [← Option.some.inj h]
      exact ⟨x, rfl, c⟩
    · cases q : ixF p xs with
      | none => rw [q] at h; cases h
      | some j =>
        rw [q] at h
        have e : j + 1 = i := Option.some.inj h
        obtain ⟨y, y1, y2⟩ := ixF_some q
        rw [← e]
        exact ⟨y, y1, y2⟩
theorem ixF_lt {α : Type} {p : α → Bool} {l : List α} {i : Nat} (h : ixF p l = some i) : i < l.length := by
  obtain ⟨x, x1, _⟩ := ixF_some h
  exact (List.getElem?_eq_some_iff.mp x1).1
theorem ixF_map {α β : Type} {p : α → Bool} {q : β → Bool} {f : α → β} (e : ∀ x, q (f x) = p x) : ∀ l : List α, ixF q (l.map f) = ixF p l
  | [] => rfl
  | x :: xs => by
    show (if q (f x) = true then some 0 else (ixF q (xs.map f)).map (fun i => i + 1)) = if p x = true then some 0 else (ixF p xs).map (fun i => i + 1)
    rw [e x, ixF_map e xs]
