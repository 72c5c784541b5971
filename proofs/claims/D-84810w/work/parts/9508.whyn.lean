set_option maxRecDepth 100000
/-! WHY A TYPE IS WHAT IT IS WORKED OUT TO, plainly: nothing is said just when it is that -/
section LWN
variable {nm con fam : Nat → List Int} {ins : List INs} {gv : List GVs} {Q : Ty → Prop}
theorem whyB_s {f : Nat} {T : Ty} : whyB nm con fam ins gv (f + 1) T = match gby ins gv (innT ins gv T) with
    | none => if tyE (innT ins gv T) T = true then none else some (wpB nm con fam (whyB nm con fam ins gv f) T)
    | some b => thnB (thnB (if tyE (innT ins gv T) T = true then none else some (wpB nm con fam (whyB nm con fam ins gv f) T)) (some (goB nm con fam b (innT ins gv T)))) (whyB nm con fam ins gv f (gto ins gv b (tL (innT ins gv T)))) := rfl
theorem thnB_q {p : Option (List Int)} {b : List Int} {w : Option (List Int)} : thnB (thnB p (some b)) w ≠ none := by
  cases p <;> cases w <;> simp [thnB]
/-- a type without a family -/
theorem knT_no {f : Nat} {T u : Ty} (H : knT ins gv Q f T u) (th : ¬ thB T = true) : u = T := by
  obtain ⟨D, bg, hw, _⟩ := H
  have e := hw (0, 0, [])
  cases f with
  | zero => cases e
  | succ f =>
    rw [wk_f, if_neg th] at e
    exact (fitO_some (Option.some.inj e)).1
theorem whyB_no {f : Nat} {T : Ty} (th : ¬ thB T = true) : whyB nm con fam ins gv f T = none := by
  cases f with
  | zero => rfl
  | succ f =>
    have ei : innT ins gv T = T := by unfold innT; rw [if_neg th]
    have gn : gby ins gv T = none := by
      cases g : gby ins gv T with
      | none => rfl
      | some b => exact absurd (gby_th g) th
    rw [whyB_s, ei, gn]
    show (if tyE T T = true then none else _) = none
    rw [if_pos (tyE_iff.mpr rfl)]
theorem knT_2 {f : Nat} {T u : Ty} (H : knT ins gv Q f T u) (th : thB T = true) : ∃ g, f = g + 2 := by
  obtain ⟨D, bg, hw, _⟩ := H
  have e := hw (0, 0, [])
  match f, e with
  | 0, e => cases e
  | 1, e =>
    rw [wk_f, if_pos th] at e
    split at e
    · cases e
    · cases e
  | g + 2, _ => exact ⟨g, rfl⟩
/-- a normal type has normal parts: nothing goes -/
theorem nmf_inn {T : Ty} {b : Nat} (hb : b ≤ 20) (H : nmf ins gv T b) (th : thB T = true) : innT ins gv T = T ∧ gby ins gv T = none := by
  cases T with
  | leaf => cases th
  | inner k w x l r =>
    cases b with
    | zero =>
      have z : thB (.inner k w x l r) = false := H
      rw [z] at th; cases th
    | succ b =>
      obtain ⟨h1, h2, h3, h4, h5⟩ := H th
      refine ⟨?_, h1⟩
      have part : ∀ (P : Ty) (s : WS), nmf ins gv P b → (P ≠ .leaf → tszW P ≤ 60) → ∃ D, wkQ (wk 0 ins gv 129 false 0) s P = some (some (P, s.1, s.2.1, s.2.2 ++ D)) := fun P s hp hz => by
        by_cases pl : P = .leaf
        · rw [pl]
          exact ⟨[], by rw [List.append_nil]; rfl⟩
        · obtain ⟨D, _, w⟩ := nmf_wk (c := 0) (f := 129) (bg := 0) (by omega) hp (hz pl) (.inl rfl) (by omega)
          exact ⟨D, by rw [wkQ_inner pl]; exact w s⟩
      obtain ⟨D1, w1⟩ := part l (0, 0, []) h4 h2
      obtain ⟨D2, w2⟩ := part r (0, 0, [] ++ D1) h5 h3
      unfold innT
      rw [if_pos th, wkP_inner, w1, Option.bind_some]
      simp only
      rw [w2, Option.bind_some]
      rfl
theorem why_none {f f2 : Nat} {T u : Ty} (hf : f ≤ 130) (h2 : f ≤ f2) (H : knT ins gv Q f T u) : whyB nm con fam ins gv f2 T = none ↔ u = T := by
  by_cases th : thB T = true
  · obtain ⟨g, eg⟩ := knT_2 H th
    obtain ⟨f3, e3⟩ : ∃ f3, f2 = f3 + 1 := ⟨f2 - 1, by omega⟩
    rw [eg] at H
    obtain ⟨_, _, s3, s4⟩ := knT_step (by omega) H th
    rw [e3, whyB_s]
    cases gb : gby ins gv (innT ins gv T) with
    | none =>
      have eu := s3 gb
      show (if tyE (innT ins gv T) T = true then none else _) = none ↔ _
      by_cases c : tyE (innT ins gv T) T = true
      · rw [if_pos c]
        exact ⟨fun _ => eu.trans (tyE_iff.mp c), fun _ => rfl⟩
      · rw [if_neg c]
        exact ⟨fun z => (by cases z), fun z => absurd (tyE_iff.mpr (eu.symm.trans z)) c⟩
    | some b =>
      refine ⟨fun z => absurd z thnB_q, fun z => ?_⟩
      obtain ⟨D, bg, hw, _⟩ := H
      have hb : bg < 20 := Classical.byContradiction (fun q => by
        have e := hw (0, 0, [])
        rw [wk_f, if_pos th, if_pos (by omega)] at e
        cases e)
      have nf := wk_nmf (c := 1) (Nat.le_refl _) (by omega) (hw (0, 0, []))
      rw [if_neg (by decide)] at nf
      rw [z] at nf
      obtain ⟨i1, i2⟩ := nmf_inn (by omega) nf.1 th
      rw [i1, i2] at gb
      cases gb
  · rw [whyB_no th]
    exact ⟨fun _ => knT_no H th, fun _ => rfl⟩
/-- what is worked out is worked out -/
theorem why_nf {f f2 : Nat} {T u : Ty} (hf : f ≤ 130) (H : knT ins gv Q f T u) : whyB nm con fam ins gv f2 u = none := by
  by_cases th : thB T = true
  · by_cases thu : thB u = true
    · obtain ⟨D, bg, hw, _⟩ := H
      have e := hw (0, 0, [])
      have hb : bg < 20 := by
        cases f with
        | zero => cases e
        | succ f => exact Classical.byContradiction (fun q => by
          rw [wk_f, if_pos th, if_pos (by omega)] at e
          cases e)
      have nf := wk_nmf (c := 1) (Nat.le_refl _) (by omega) (hw (0, 0, []))
      rw [if_neg (by decide)] at nf
      obtain ⟨i1, i2⟩ := nmf_inn (by omega) nf.1 thu
      cases f2 with
      | zero => rfl
      | succ f2 =>
        rw [whyB_s, i1, i2]
        show (if tyE u u = true then none else _) = none
        rw [if_pos (tyE_iff.mpr rfl)]
    · exact whyB_no thu
  · have e := knT_no H th
    rw [e]
    exact whyB_no th
end LWN
