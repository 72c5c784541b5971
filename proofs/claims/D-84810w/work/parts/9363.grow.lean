set_option maxRecDepth 100000
/-! THE COMPONENT: what lies in a given's row are its dictionaries -/
section LGR
variable {h : om_H} {N : List (List Int)} {cl : Nat → Nat} {U Lv : Nat → Prop} {io : Nat → Nat} {ab : List (Option Nat)} {gv : List GVs} {g1 j A : Nat}
theorem gAr_gcX (H : gAr h cl ab g1 j A) (hL : ∀ s, s < 8 → aR h A s ≠ 0 → Lv (aR h A s)) : ∀ {n : Nat}, n < 8 → aR h A n ≠ 0 → gcX h cl ab Lv g1 j n (aR h A n) ∧ fR h 1638 (aR h A n) = 0
  | 0, h8, h0 => by
    obtain ⟨a1, ⟨a2, a3, a4⟩, ⟨k, a5, a6⟩, a7⟩ := (H.2 0 h8).resolve_left h0
    have ek : g1 = k := Option.some.inj a5
    rcases a7 with ⟨_, b1, b2⟩ | b
    · exact ⟨⟨hL 0 h8 h0, a1, b1, b2, a2, by rw [ek]; exact a6⟩, a3⟩
    · exact absurd b.1 (by omega)
  | n + 1, h8, h0 => by
    obtain ⟨a1, ⟨a2, a3, a4⟩, ⟨k, a5, a6⟩, a7⟩ := (H.2 (n + 1) h8).resolve_left h0
    rcases a7 with b | ⟨_, b1, b2, b3⟩
    · exact absurd b.1 (by omega)
    · rw [show n + 1 - 1 = n by omega] at b2 b3
      obtain ⟨i1, i2⟩ := gAr_gcX H hL (n := n) (by omega) b3
      exact ⟨⟨hL (n + 1) h8 h0, a1, b1, a2, ⟨k, a5, a6⟩, by rw [b2]; exact i2, by rw [b2]; exact i1⟩, a3⟩
/-- a given's dictionary that is not cast, as a tree -/
theorem gAr_DcX {n : Nat} {g : GVs} {u : Ty} (eg : gv[j]? = some g) (H : gAr h cl ab g.1 j A) (hL : ∀ s, s < 8 → aR h A s ≠ 0 → Lv (aR h A s)) (h8 : n < 8) (h0 : aR h A n ≠ 0) : DcX h N cl U Lv io ab gv (.inner 0 (j, n, u, u) () .leaf .leaf) [aR h A n] := by
  obtain ⟨i1, i2⟩ := gAr_gcX H hL h8 h0
  refine ⟨aR h A n, [], rfl, .inl ⟨tyE_iff.mpr rfl, i2⟩, ?_, ?_, rfl⟩
  · rw [if_pos rfl]
    exact ⟨g, eg, i1⟩
  · rw [if_pos rfl]
    rfl
end LGR
