set_option maxRecDepth 100000
/-! TYPES THAT ARE KNOWN TO BE WORKED OUT: all that was made on the way is there -/
section LKN
variable {ins : List INs} {gv : List GVs} {Q : Ty → Prop}
/-- a type is worked out to u (in so many steps), and all types on the way are there -/
def knT (ins : List INs) (gv : List GVs) (Q : Ty → Prop) (f : Nat) (T u : Ty) : Prop := ∃ D bg, (∀ s : WS, wk 1 ins gv f false bg s T = some (some (u, s.1, s.2.1, s.2.2 ++ D))) ∧ ∀ X ∈ D, Q X
theorem wk_f {c f bg : Nat} {s : WS} {T : Ty} : wk c ins gv (f + 1) false bg s T = if thB T = true then (if 1 ≤ c ∧ 20 ≤ bg then some none else (wk c ins gv f true (bg + 1) s T).map (fun r => r.bind (fun p => fitO p.1 p.2))) else some (fitO T s) := rfl
theorem wk_tt {c f bg : Nat} {s : WS} {u : Ty} : wk c ins gv (f + 1) true bg s u = (if thB u = true then wkP (wk c ins gv f false bg) s u else some (some (u, s))).bind fun r => match r with
    | none => some none
    | some (v, s1) => match gby ins gv v with
      | none => some (some (v, s1))
      | some b => if c = 2 ∧ (60 < s1.1 + 1 ∨ 300 < s1.2.1 + 1) then some none else if tszW (gto ins gv b (tL v)) ≤ 60 then wk c ins gv f true bg (mkS (if c = 2 then (s1.1 + 1, s1.2.1 + 1, s1.2.2) else s1) (gto ins gv b (tL v))) (gto ins gv b (tL v)) else some none := rfl
theorem fitO_some {u u' : Ty} {s s' : WS} (e : fitO u s = some (u', s')) : u' = u ∧ s' = s ∧ tszW u ≤ 60 := by
  unfold fitO at e
  split at e
  · injection Option.some.inj e with e1 e2
    exact ⟨e1.symm, e2.symm, by assumption⟩
  · cases e
theorem knT_of {f bg : Nat} {s s' : WS} {T u : Ty} (e : wk 1 ins gv f false bg s T = some (some (u, s'))) (q : ∀ X ∈ s'.2.2, Q X) : knT ins gv Q f T u := by
  obtain ⟨D, d, x, w⟩ := wk_st e
  exact ⟨D, bg, fun s0 => w 1 bg s0 (Nat.le_refl _) (Nat.le_refl _) (Nat.le_refl _), fun X hX => q X (by rw [x.1]; exact List.mem_append_right _ hX)⟩
/-- as it is asked for -/
theorem knT_130 {f : Nat} {T u : Ty} (hf : f ≤ 130) (H : knT ins gv Q f T u) : ∃ D, (∀ s : WS, wk 1 ins gv 130 false 0 s T = some (some (u, s.1, s.2.1, s.2.2 ++ D))) ∧ ∀ X ∈ D, Q X := by
  obtain ⟨D, bg, hw, hq⟩ := H
  obtain ⟨D', d, x, w⟩ := wk_st (hw (0, 0, []))
  refine ⟨D', fun s0 => wk_more hf (w 1 0 s0 (Nat.le_refl _) (Nat.le_refl _) (Nat.zero_le _)), fun X hX => hq X ?_⟩
  have e : ([] : List Ty) ++ D = [] ++ D' := congrArg (fun y : WS => y.2.2) x.1
  rw [List.nil_append, List.nil_append] at e
  rw [e]; exact hX
theorem knT_t {f bg : Nat} {s s' : WS} {T u : Ty} (e : wk 1 ins gv f true (bg + 1) s T = some (some (u, s'))) (hb : bg < 20) (fit : tszW u ≤ 60) (q : ∀ X ∈ s'.2.2, Q X) : knT ins gv Q (f + 1) T u := by
  obtain ⟨D, d, x, w⟩ := wk_st e
  by_cases c : thB T = true
  · refine ⟨D, bg, fun s0 => ?_, fun X hX => q X (by rw [x.1]; exact List.mem_append_right _ hX)⟩
    rw [wk_f, if_pos c, if_neg (by omega), w 1 (bg + 1) s0 (Nat.le_refl _) (Nat.le_refl _) (Nat.le_refl _)]
    show some (fitO u (s0.1, s0.2.1, s0.2.2 ++ D)) = _
    unfold fitO
    rw [if_pos fit]
  · have gn : gby ins gv T = none := by
      cases g : gby ins gv T with
      | none => rfl
      | some b => exact absurd (gby_th g) c
    cases f with
    | zero => cases e
    | succ f =>
      rw [wk_tt, if_neg c, Option.bind_some] at e
      simp only [gn] at e
      injection Option.some.inj (Option.some.inj e) with e1 e2
      refine ⟨[], bg, fun s0 => ?_, fun X hX => absurd hX List.not_mem_nil⟩
      rw [wk_f, if_neg c, List.append_nil]
      unfold fitO
      rw [e1, if_pos fit]
/-- one step of it -/
theorem knT_step {g : Nat} {T u : Ty} (hg : g ≤ 129) (H : knT ins gv Q (g + 2) T u) (th : thB T = true) : ((∃ D2, (∀ c', c' ≤ 1 → ∀ s : WS, wkP (wk c' ins gv 130 false 0) s T = some (some (innT ins gv T, s.1, s.2.1, s.2.2 ++ D2))) ∧ ∀ X ∈ D2, Q X) ∧ Q (innT ins gv T) ∧ tszW u ≤ 60) ∧ (T ≠ .leaf → (tL T = .leaf ∧ tL (innT ins gv T) = .leaf ∨ knT ins gv Q g (tL T) (tL (innT ins gv T))) ∧ (tR' T = .leaf ∧ tR' (innT ins gv T) = .leaf ∨ knT ins gv Q g (tR' T) (tR' (innT ins gv T)))) ∧ (gby ins gv (innT ins gv T) = none → u = innT ins gv T) ∧ ∀ b, gby ins gv (innT ins gv T) = some b → Q (gto ins gv b (tL (innT ins gv T))) ∧ knT ins gv Q (g + 1) (gto ins gv b (tL (innT ins gv T))) u ∧ tszW (gto ins gv b (tL (innT ins gv T))) ≤ 60 := by
  obtain ⟨D, bg, hw, hq⟩ := H
  have e := hw (0, 0, [])
  rw [wk_f, if_pos th] at e
  have hb : bg < 20 := Classical.byContradiction (fun z => by
    rw [if_pos (by omega)] at e
    cases e)
  rw [if_neg (by omega)] at e
  cases e1 : wk 1 ins gv (g + 1) true (bg + 1) (0, 0, []) T with
  | none => rw [e1] at e; cases e
  | some a =>
  rw [e1] at e
  cases a with
  | none => cases e
  | some p =>
  obtain ⟨u1, s1⟩ := p
  have e' : fitO u1 s1 = some (u, 0, 0, [] ++ D) := Option.some.inj e
  obtain ⟨f1, f2, f3⟩ := fitO_some e'
  subst f1
  have qs1 : ∀ X ∈ s1.2.2, Q X := fun X hX => hq X (by rw [← f2] at hX; simpa using hX)
  have e2 := e1
  rw [wk_tt, if_pos th] at e2
  cases e3 : wkP (wk 1 ins gv g false (bg + 1)) (0, 0, []) T with
  | none => rw [e3] at e2; cases e2
  | some a =>
  rw [e3, Option.bind_some] at e2
  cases a with
  | none => cases e2
  | some p =>
  obtain ⟨v, s2⟩ := p
  -- what the parts are worked out to, without counting
  obtain ⟨D2, d2, x2, w2⟩ := wkP_st (c := 1) (Q := fun r => ∃ f' c', c' ≤ 1 ∧ g ≤ f' ∧ r = wk c' ins gv f' false 0) (fun s T u s' e => by
    obtain ⟨D, d, x, w⟩ := wk_st e
    exact ⟨D, d, x, fun r' hr s0 => by
      obtain ⟨f', c', h0, h1, h2⟩ := hr
      rw [h2]
      exact wk_more h1 (w c' 0 s0 h0 h0 (Nat.zero_le _))⟩) e3
  have iv : innT ins gv T = v := by
    unfold innT
    rw [if_pos th, w2 (wk 0 ins gv 129 false 0) ⟨129, 0, by omega, hg, rfl⟩ (0, 0, [])]
    rfl
  have es2 : s2.2.2 = D2 := by rw [x2.1]; rfl
  rw [iv]
  have go : (∀ X ∈ s2.2.2, Q X) ∧ (gby ins gv v = none → u = v) ∧ ∀ b, gby ins gv v = some b → Q (gto ins gv b (tL v)) ∧ knT ins gv Q (g + 1) (gto ins gv b (tL v)) u ∧ tszW (gto ins gv b (tL v)) ≤ 60 := by
    simp only at e2
    cases gg : gby ins gv v with
    | none =>
      rw [gg] at e2
      injection Option.some.inj (Option.some.inj e2) with g1 g2
      exact ⟨fun X hX => qs1 X (by rw [← g2]; exact hX), fun _ => g1.symm, fun b hb => by cases hb⟩
    | some b =>
      rw [gg] at e2
      simp only at e2
      rw [if_neg (by omega)] at e2
      by_cases z : tszW (gto ins gv b (tL v)) ≤ 60
      · rw [if_pos z, if_neg (show ¬ (1 : Nat) = 2 by decide)] at e2
        obtain ⟨D3, d3, x3, _⟩ := wk_st e2
        have pre : ∀ X ∈ s2.2.2 ++ [gto ins gv b (tL v)], Q X := fun X hX => qs1 X (by rw [x3.1]; exact List.mem_append_left _ hX)
        refine ⟨fun X hX => pre X (List.mem_append_left _ hX), fun w => (by cases w), fun b' hb' => ?_⟩
        rw [← Option.some.inj hb']
        exact ⟨pre _ (List.mem_append_right _ (List.mem_singleton.mpr rfl)), knT_t e2 hb f3 qs1, z⟩
      · rw [if_neg z] at e2
        cases e2
  obtain ⟨q2, g1, g2⟩ := go
  cases T with
  | leaf => cases th
  | inner k w x l r =>
    rw [wkP_inner] at e3
    cases h1 : wkQ (wk 1 ins gv g false (bg + 1)) (0, 0, []) l with
    | none => rw [h1] at e3; cases e3
    | some a =>
    rw [h1, Option.bind_some] at e3
    cases a with
    | none => cases e3
    | some p =>
    obtain ⟨l', t1⟩ := p
    simp only at e3
    cases h2 : wkQ (wk 1 ins gv g false (bg + 1)) t1 r with
    | none => rw [h2] at e3; cases e3
    | some a =>
    rw [h2, Option.bind_some] at e3
    cases a with
    | none => cases e3
    | some p =>
    obtain ⟨r', t2⟩ := p
    simp only at e3
    injection Option.some.inj (Option.some.inj e3) with v1 v2
    have qt2 : ∀ X ∈ t2.2.2 ++ [v], Q X := fun X hX => q2 X (by rw [← v2, v1]; exact hX)
    rw [← v1]
    refine ⟨⟨⟨D2, fun c' hc' s => by rw [v1]; exact w2 (wk c' ins gv 130 false 0) ⟨130, c', hc', by omega, rfl⟩ s, fun X hX => q2 X (by rw [es2]; exact hX)⟩, by rw [v1]; exact qt2 v (List.mem_append_right _ (List.mem_singleton.mpr rfl)), f3⟩, fun _ => ⟨?_, ?_⟩, by rw [v1]; exact g1, by rw [v1]; exact g2⟩
    · show l = .leaf ∧ l' = .leaf ∨ knT ins gv Q g l l'
      by_cases ll : l = .leaf
      · rw [ll] at h1
        injection Option.some.inj (Option.some.inj h1) with y1 y2
        exact .inl ⟨ll, y1.symm⟩
      · rw [wkQ_inner ll] at h1
        refine .inr (knT_of h1 (fun X hX => ?_))
        by_cases rr : r = .leaf
        · rw [rr] at h2
          injection Option.some.inj (Option.some.inj h2) with y1 y2
          exact qt2 X (List.mem_append_left _ (by rw [← y2]; exact hX))
        · rw [wkQ_inner rr] at h2
          obtain ⟨D4, d4, x4, _⟩ := wk_st h2
          exact qt2 X (List.mem_append_left _ (by rw [x4.1]; exact List.mem_append_left _ hX))
    · show r = .leaf ∧ r' = .leaf ∨ knT ins gv Q g r r'
      by_cases rr : r = .leaf
      · rw [rr] at h2
        injection Option.some.inj (Option.some.inj h2) with y1 y2
        exact .inl ⟨rr, y1.symm⟩
      · rw [wkQ_inner rr] at h2
        exact .inr (knT_of h2 (fun X hX => qt2 X (List.mem_append_left _ hX)))
end LKN
