set_option maxRecDepth 100000
/-! BYTES IN A ROW: what the sinks hold behind a row -/
/-- the twin's row: each byte lies where it was said -/
theorem svL_at : ∀ (L : List Int) (v : SV) (c : Nat), v.1 = (c : Int) → v.2.2.1 = 0 → (c : Int) + (L.length : Int) ≤ v.2.1 → v.2.1 ≤ 2000000000 → (svL L v).1 = ((c + L.length : Nat) : Int) ∧ (svL L v).2.1 = v.2.1 ∧ (svL L v).2.2.1 = 0 ∧ (∀ (i : Nat) (x : Int), L[i]? = some x → (svL L v).2.2.2.2.2 (c + i) = b8 (b8 x)) ∧ ∀ k, (k < c ∨ c + L.length ≤ k) → (svL L v).2.2.2.2.2 k = v.2.2.2.2.2 k
  | [], v, c, e1, e2, _, _ => ⟨(by show v.1 = ((c + 0 : Nat) : Int); rw [Nat.add_zero]; exact e1), rfl, e2, fun i x ex => by simp at ex, fun _ _ => rfl⟩
  | a :: L, v, c, e1, e2, h1, h2 => by
    rw [List.length_cons] at h1
    have s1 : sv1 v a = (((c + 1 : Nat) : Int), v.2.1, v.2.2.1, v.2.2.2.1, v.2.2.2.2.1, fun k => if k = c then b8 (b8 a) else v.2.2.2.2.2 k) := by
      unfold sv1
      rw [if_pos e2, e1, if_neg (by omega), w32_s (by omega) (by omega), show ((c : Int)).toNat = c by omega]
      rfl
    have st : svL (a :: L) v = svL L (sv1 v a) := rfl
    rw [st, s1]
    obtain ⟨i1, i2, i3, i4, i5⟩ := svL_at L (((c + 1 : Nat) : Int), v.2.1, v.2.2.1, v.2.2.2.1, v.2.2.2.2.1, fun k => if k = c then b8 (b8 a) else v.2.2.2.2.2 k) (c + 1) rfl e2 (by show ((c + 1 : Nat) : Int) + (L.length : Int) ≤ v.2.1; omega) h2
    refine ⟨by rw [i1, List.length_cons, show c + 1 + L.length = c + (L.length + 1) by omega], i2, i3, fun i x ex => ?_, fun k hk => ?_⟩
    · cases i with
      | zero =>
        have ea : a = x := Option.some.inj ex
        have e5 := i5 c (.inl (by omega))
        rw [← ea]
        exact e5.trans (if_pos rfl)
      | succ i =>
        have := i4 i x ex
        rw [show c + (i + 1) = c + 1 + i by omega]
        exact this
    · rw [List.length_cons] at hk
      rw [i5 k (by omega)]
      exact if_neg (by omega)
/-- the component's sink: the byte that was asked for -/
theorem snL_at : ∀ (L : List Int) (v : SN) (c : Nat), v.1 = (c : Int) → c + L.length < 1000000000 → (snL L v).1 = ((c + L.length : Nat) : Int) ∧ (snL L v).2.1 = v.2.1 ∧ (snL L v).2.2.2 = v.2.2.2 ∧ (∀ (i : Nat) (x : Int), v.2.1 = ((c + i : Nat) : Int) → L[i]? = some x → (snL L v).2.2.1 = x) ∧ ((v.2.1 < (c : Int) ∨ ((c + L.length : Nat) : Int) ≤ v.2.1) → (snL L v).2.2.1 = v.2.2.1)
  | [], v, c, e1, h1 => by
    refine ⟨?_, rfl, rfl, fun i x _ ex => ?_, fun _ => rfl⟩
    · show v.1 = ((c + 0 : Nat) : Int)
      rw [Nat.add_zero]
      exact e1
    · rw [List.getElem?_nil] at ex
      cases ex
  | a :: L, v, c, e1, h1 => by
    rw [List.length_cons] at h1
    have st : snL (a :: L) v = snL L (sn1 v a) := rfl
    rw [st]
    by_cases q : v.1 ≠ v.2.1
    · have s1 : sn1 v a = (((c + 1 : Nat) : Int), v.2) := by
        unfold sn1
        rw [if_pos q, e1, w32_s (by omega) (by omega)]
        rfl
      rw [s1]
      obtain ⟨i1, i2, i3, i4, i5⟩ := snL_at L (((c + 1 : Nat) : Int), v.2) (c + 1) rfl (by omega)
      refine ⟨by rw [i1, List.length_cons, show c + 1 + L.length = c + (L.length + 1) by omega], i2, i3, fun i x ei ex => ?_, fun w => ?_⟩
      · cases i with
        | zero => exact absurd (by rw [e1, ei]; rfl) q
        | succ i => exact i4 i x (by show v.2.1 = _; rw [ei, show c + (i + 1) = c + 1 + i by omega]) ex
      · refine i5 ?_
        rw [List.length_cons] at w
        show v.2.1 < ((c + 1 : Nat) : Int) ∨ ((c + 1 + L.length : Nat) : Int) ≤ v.2.1
        omega
    · have qe : v.2.1 = (c : Int) := by
        have : v.1 = v.2.1 := Classical.byContradiction q
        rw [← this]; exact e1
      have s1 : sn1 v a = (((c + 1 : Nat) : Int), v.2.1, a, v.2.2.2) := by
        unfold sn1
        rw [if_neg q, e1, w32_s (by omega) (by omega)]
        rfl
      rw [s1]
      obtain ⟨i1, i2, i3, i4, i5⟩ := snL_at L (((c + 1 : Nat) : Int), v.2.1, a, v.2.2.2) (c + 1) rfl (by omega)
      refine ⟨by rw [i1, List.length_cons, show c + 1 + L.length = c + (L.length + 1) by omega], i2, i3, fun i x ei ex => ?_, fun w => ?_⟩
      · have i0 : i = 0 := by omega
        rw [i0] at ex
        have ea : a = x := Option.some.inj ex
        rw [← ea]
        exact i5 (.inl (by show v.2.1 < ((c + 1 : Nat) : Int); omega))
      · rw [List.length_cons] at w
        omega
