set_option maxRecDepth 100000
/-! THE ONE ABOVE: it comes to an end; a fault of the program is thrown -/
theorem abJ_ends {ab : List (Option Nat)} {ins : List INs} : ∀ (l : List (INs × Nat)) (s : JS), ∃ z, abJ ab ins l s = some z
  | [], s => ⟨_, rfl⟩
  | (d, q) :: l, s => by
    unfold abJ
    cases e : ab[d.1]? with
    | none => exact abJ_ends l s
    | some o =>
      cases o with
      | none => exact abJ_ends l s
      | some c =>
        obtain ⟨z, hz, _⟩ := hd_ends (ab := ab) (ins := ins) (gv := gvI d) 70 (0, s.1, s.2) c (hdI d) (Nat.zero_le _) (by show 61 - 0 ≤ 70; omega)
        simp only
        rw [hz, Option.bind_some]
        cases z with
        | none => exact ⟨_, rfl⟩
        | some p =>
          obtain ⟨b, s'⟩ := p
          cases b with
          | false => exact ⟨_, rfl⟩
          | true => exact abJ_ends l (s'.2.1, s'.2.2 ++ [hdI d])
