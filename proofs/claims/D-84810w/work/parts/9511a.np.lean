set_option maxRecDepth 100000
/-! HOW MANY PROOFS why a type is what it is worked out to is made of (plain) -/
section LNP
variable {ins : List INs} {gv : List GVs}
def nP (ins : List INs) (gv : List GVs) : Nat → Ty → Nat
  | 0, _ => 0
  | f + 1, T => (if tyE (innT ins gv T) T = true then 0 else 1 + (nP ins gv f (tL T) + 1) + (if lfB (tR' T) = true then 0 else nP ins gv f (tR' T) + 1)) + (match gby ins gv (innT ins gv T) with
    | none => 0
    | some b => 3 + nP ins gv f (gto ins gv b (tL (innT ins gv T))))
theorem nP_s {f : Nat} {T : Ty} : nP ins gv (f + 1) T = (if tyE (innT ins gv T) T = true then 0 else 1 + (nP ins gv f (tL T) + 1) + (if lfB (tR' T) = true then 0 else nP ins gv f (tR' T) + 1)) + (match gby ins gv (innT ins gv T) with
    | none => 0
    | some b => 3 + nP ins gv f (gto ins gv b (tL (innT ins gv T)))) := rfl
theorem nP_no {f : Nat} {T : Ty} (th : ¬ thB T = true) : nP ins gv f T = 0 := by
  cases f with
  | zero => rfl
  | succ f =>
    have ei : innT ins gv T = T := by unfold innT; rw [if_neg th]
    have gn : gby ins gv T = none := by
      cases g : gby ins gv T with
      | none => rfl
      | some b => exact absurd (gby_th g) th
    rw [nP_s, ei, gn, if_pos (tyE_iff.mpr rfl)]
    rfl
theorem nP_le : ∀ {f : Nat} {m : Bool} {bg : Nat} {s s' : WS} {T u : Ty}, f ≤ 130 → bg ≤ 20 → wk 2 ins gv f m bg s T = some (some (u, s')) → s.1 ≤ s'.1 ∧ ∀ f2, nP ins gv f2 T ≤ (if m = true then 3 * (20 - bg) + 3 else 3 * (20 - bg)) * (s'.1 - s.1)
  | 0, _, _, _, _, _, _, _, _, e => by cases e
  | f + 1, false, bg, s, s', T, u, hf, hb, e => by
    rw [if_neg (by decide)]
    obtain ⟨D, d, x, _⟩ := wk_st e
    have x1 : s'.1 = s.1 + d := congrArg (fun y : WS => y.1) x.1
    refine ⟨by omega, fun f2 => ?_⟩
    rw [wk_f] at e
    by_cases th : thB T = true
    · rw [if_pos th] at e
      by_cases b20 : 1 ≤ 2 ∧ 20 ≤ bg
      · rw [if_pos b20] at e; cases e
      rw [if_neg b20] at e
      cases q : wk 2 ins gv f true (bg + 1) s T with
      | none => rw [q] at e; cases e
      | some a =>
      rw [q] at e
      cases a with
      | none => cases e
      | some p =>
        obtain ⟨u1, s1⟩ := p
        have e' : fitO u1 s1 = some (u, s') := Option.some.inj e
        obtain ⟨_, f2', _⟩ := fitO_some e'
        obtain ⟨_, ih⟩ := nP_le (m := true) (by omega) (by omega) q
        have := ih f2
        rw [if_pos rfl] at this
        rw [f2']
        rw [show 3 * (20 - bg) = 3 * (20 - (bg + 1)) + 3 by omega]
        exact this
    · rw [nP_no th]
      exact Nat.zero_le _
  | f + 1, true, bg, s, s', T, u, hf, hb, e => by
    rw [if_pos rfl]
    obtain ⟨D, d, x, _⟩ := wk_st e
    have x1 : s'.1 = s.1 + d := congrArg (fun y : WS => y.1) x.1
    refine ⟨by omega, fun f2 => ?_⟩
    by_cases th : thB T = true
    rotate_left
    · rw [nP_no th]
      exact Nat.zero_le _
    cases f2 with
    | zero => exact Nat.zero_le _
    | succ f2 =>
    rw [wk_tt, if_pos th] at e
    cases e3 : wkP (wk 2 ins gv f false bg) s T with
    | none => rw [e3] at e; cases e
    | some a =>
    rw [e3, Option.bind_some] at e
    cases a with
    | none => cases e
    | some p =>
    obtain ⟨v, s2⟩ := p
    -- what the parts are worked out to, without counting
    obtain ⟨D2, d2, x2, w2⟩ := wkP_st (c := 2) (Q := fun r => ∃ f' c', c' ≤ 1 ∧ f ≤ f' ∧ r = wk c' ins gv f' false 0) (fun s T u s' e => by
      obtain ⟨D, d, x, w⟩ := wk_st e
      exact ⟨D, d, x, fun r' hr s0 => by
        obtain ⟨f', c', h0, h1, h2⟩ := hr
        rw [h2]
        exact wk_more h1 (w c' 0 s0 h0 (by omega) (Nat.zero_le _))⟩) e3
    have iv : innT ins gv T = v := by
      unfold innT
      rw [if_pos th, w2 (wk 0 ins gv 129 false 0) ⟨129, 0, by omega, by omega, rfl⟩ (0, 0, [])]
      rfl
    have x21 : s2.1 = s.1 + d2 := congrArg (fun y : WS => y.1) x2.1
    rw [nP_s, iv]
    -- the parts
    have parts : (if tyE v T = true then 0 else 1 + (nP ins gv f2 (tL T) + 1) + (if lfB (tR' T) = true then 0 else nP ins gv f2 (tR' T) + 1)) ≤ (3 * (20 - bg) + 3) * d2 := by
      by_cases ce : tyE v T = true
      · rw [if_pos ce]; exact Nat.zero_le _
      rw [if_neg ce]
      rcases T with ⟨k, w, xx, l, r⟩ | _
      rotate_left
      · cases th
      rw [wkP_inner] at e3
      cases h1 : wkQ (wk 2 ins gv f false bg) s l with
      | none => rw [h1] at e3; cases e3
      | some a =>
      rw [h1, Option.bind_some] at e3
      cases a with
      | none => cases e3
      | some p =>
      obtain ⟨l', t1⟩ := p
      simp only at e3
      cases h2 : wkQ (wk 2 ins gv f false bg) t1 r with
      | none => rw [h2] at e3; cases e3
      | some a =>
      rw [h2, Option.bind_some] at e3
      cases a with
      | none => cases e3
      | some p =>
      obtain ⟨r', t2⟩ := p
      simp only at e3
      injection Option.some.inj (Option.some.inj e3) with v1 v2
      have t21 : t2.1 = s2.1 := by rw [← v2]; rfl
      have one : ∀ (X X' : Ty) (s0 s3 : WS), wkQ (wk 2 ins gv f false bg) s0 X = some (some (X', s3)) → s0.1 ≤ s3.1 ∧ nP ins gv f2 X ≤ 3 * (20 - bg) * (s3.1 - s0.1) ∧ (s3.1 = s0.1 → X' = X) := fun X X' s0 s3 h => by
        by_cases xl : X = .leaf
        · rw [xl] at h ⊢
          injection Option.some.inj (Option.some.inj h) with y1 y2
          rw [← y2, ← y1]
          refine ⟨Nat.le_refl _, ?_, fun _ => rfl⟩
          rw [nP_no (by intro z; cases z)]
          exact Nat.zero_le _
        · rw [wkQ_inner xl] at h
          obtain ⟨a1, a2⟩ := nP_le (m := false) (by omega) hb h
          have a3 := a2 f2
          rw [if_neg (by decide)] at a3
          exact ⟨a1, a3, fun z => wk_zero h z⟩
      obtain ⟨a1, a2, a3⟩ := one _ _ _ _ h1
      obtain ⟨b1, b2, b3⟩ := one _ _ _ _ h2
      have dp : 1 ≤ d2 := Classical.byContradiction (fun z => ce (tyE_iff.mpr (by
        have e1 := a3 (by omega)
        have e2 := b3 (by omega)
        rw [← v1, e1, e2])))
      have ed : d2 = (t1.1 - s.1) + (t2.1 - t1.1) := by omega
      have r1 : (if lfB (tR' (.inner k w xx l r)) = true then 0 else nP ins gv f2 (tR' (.inner k w xx l r)) + 1) ≤ nP ins gv f2 r + 1 := by
        split
        · exact Nat.zero_le _
        · exact Nat.le_refl _
      have l1 : nP ins gv f2 (tL (.inner k w xx l r)) = nP ins gv f2 l := rfl
      rw [l1]
      have m1 : 3 * (20 - bg) * (t1.1 - s.1) + 3 * (20 - bg) * (t2.1 - t1.1) = 3 * (20 - bg) * d2 := by rw [ed, Nat.mul_add]
      have m2 : (3 * (20 - bg) + 3) * d2 = 3 * (20 - bg) * d2 + 3 * d2 := by rw [Nat.add_mul]
      omega
    have split' : ∀ c : Nat, (3 * (20 - bg) + 3) * d2 + (3 * (20 - bg) + 3) * c = (3 * (20 - bg) + 3) * (d2 + c) := fun c => (Nat.mul_add _ _ _).symm
    simp only at e
    cases gb : gby ins gv v with
    | none =>
      rw [gb] at e
      injection Option.some.inj (Option.some.inj e) with g1 g2
      have : s'.1 - s.1 = d2 := by rw [← g2]; omega
      rw [this]
      exact parts
    | some b =>
      rw [gb] at e
      simp only at e
      by_cases ov : (60 < s2.1 + 1 ∨ 300 < s2.2.1 + 1)
      · rw [if_pos ⟨trivial, ov⟩] at e; cases e
      rw [if_neg (fun z => ov z.2), if_pos trivial] at e
      by_cases z : tszW (gto ins gv b (tL v)) ≤ 60
      · rw [if_pos z] at e
        obtain ⟨n1, n2⟩ := nP_le (m := true) (by omega) hb e
        have n3 := n2 f2
        rw [if_pos rfl] at n3
        have n1' : s2.1 + 1 ≤ s'.1 := n1
        have n3' : nP ins gv f2 (gto ins gv b (tL v)) ≤ (3 * (20 - bg) + 3) * (s'.1 - (s2.1 + 1)) := n3
        have ed : s'.1 - s.1 = d2 + (1 + (s'.1 - (s2.1 + 1))) := by omega
        rw [ed, ← split']
        have m3 : (3 * (20 - bg) + 3) * (1 + (s'.1 - (s2.1 + 1))) = (3 * (20 - bg) + 3) + (3 * (20 - bg) + 3) * (s'.1 - (s2.1 + 1)) := by rw [Nat.mul_add, Nat.mul_one]
        rw [m3]
        show _ + (3 + nP ins gv f2 (gto ins gv b (tL v))) ≤ _
        omega
      · rw [if_neg z] at e
        cases e
end LNP
