set_option maxRecDepth 100000
/-! SIGNS OF AN EX ARE SMALL; what a term's place is, in the twin -/
section LXG
variable {Φ : Et → Nat → Nat → Nat → Prop} {G : om_G} {h : om_H} {N : List (List Int)} {cl : Nat → Nat} {U Sl : Nat → Prop} {fo mo : Nat → Nat}
theorem XC_sg : ∀ (e : Et) (d dp md m a alo ahi : Nat), XCg Prod.fst Φ G h N cl U Sl fo mo e d dp md m a alo ahi → eSg e := by
  refine tr_ind (fun _ _ _ _ _ _ _ H => (XCg_l H).elim) (fun t x u l r ihl ihr ihp => ?_)
  intro d dp md m a alo ahi H
  rw [XCg_e] at H
  unfold XCb at H
  obtain ⟨_, _, _, h4⟩ := H
  by_cases t10 : t = 10
  · exact ⟨fun z => by omega, fun z => absurd t10 z, fun z => absurd t10 z⟩
  rw [if_neg t10] at h4
  by_cases t11 : t = 11
  · exact ⟨fun z => by omega, fun _ z => absurd t11 z, fun _ z => absurd t11 z⟩
  rw [if_neg t11] at h4
  by_cases t12 : t = 12
  · rw [if_pos t12] at h4
    obtain ⟨_, _, _, i, am, _, _, _, _, _, Xl, Xr⟩ := h4
    exact ⟨fun z => by omega, fun _ _ => ihl _ _ _ _ _ _ _ Xl, fun _ _ _ _ => ihr _ _ _ _ _ _ _ Xr⟩
  rw [if_neg t12] at h4
  by_cases t13 : t = 13
  · rw [if_pos t13] at h4
    obtain ⟨_, _, _, i, am, _, _, _, _, Xl⟩ := h4
    exact ⟨fun z => by omega, fun _ _ => ihl _ _ _ _ _ _ _ Xl, fun _ _ z => absurd t13 z⟩
  rw [if_neg t13] at h4
  by_cases t18 : t = 18
  · rw [if_pos t18] at h4
    obtain ⟨_, _, e', am, cc, _, Xl, Xr⟩ := h4
    exact ⟨fun _ => by have := cc.2.2.2.2.1; omega, fun _ _ => ihl _ _ _ _ _ _ _ Xl, fun _ _ _ _ => ihr _ _ _ _ _ _ _ Xr⟩
  rw [if_neg t18] at h4
  obtain ⟨_, _, h4⟩ := h4
  by_cases t14 : t = 14
  · rw [if_pos t14] at h4
    obtain ⟨_, cT, W, a1, a2, _, _, Xl⟩ := h4
    exact ⟨fun z => by omega, fun _ _ => ihl _ _ _ _ _ _ _ Xl, fun _ _ _ z => absurd t14 z⟩
  rw [if_neg t14] at h4
  by_cases t15 : t = 15
  · rw [if_pos t15] at h4
    obtain ⟨_, cT, W, a1, a2, a3, _, _, _, Xl, Xr⟩ := h4
    exact ⟨fun z => by omega, fun _ _ => ihl _ _ _ _ _ _ _ Xl, fun _ _ _ _ => ihr _ _ _ _ _ _ _ Xr⟩
  rw [if_neg t15] at h4
  cases r with
  | leaf => exact h4.elim
  | inner t' x' u' r1 r2 =>
    obtain ⟨i1, i2⟩ := ihp t' x' u' r1 r2 rfl
    obtain ⟨z0, h4⟩ := h4
    by_cases t16 : t = 16
    · rw [if_pos t16] at h4
      obtain ⟨_, a1, a2, a3, a4, _, _, _, X1, X2, X3⟩ := h4
      exact ⟨fun z => by omega, fun _ _ => ihl _ _ _ _ _ _ _ X1, fun _ _ _ _ => ⟨fun z => by omega, fun _ _ => i1 _ _ _ _ _ _ _ X2, fun _ _ _ _ => i2 _ _ _ _ _ _ _ X3⟩⟩
    rw [if_neg t16] at h4
    by_cases t17 : t = 17
    · rw [if_pos t17] at h4
      obtain ⟨_, W1, W2, a1, a2, a3, a4, a5, _, _, _, X1, X2, X3⟩ := h4
      exact ⟨fun z => by omega, fun _ _ => ihl _ _ _ _ _ _ _ X1, fun _ _ _ _ => ⟨fun z => by omega, fun _ _ => i1 _ _ _ _ _ _ _ X2, fun _ _ _ _ => i2 _ _ _ _ _ _ _ X3⟩⟩
    · rw [if_neg t17] at h4
      exact h4.elim
end LXG
section LWH
variable {σ : tS}
theorem t_w93 {k : Nat} (hk : k < 125) : T_which_93 (k : Int) σ = some (if ga σ 902 k ≠ -1 then (k : Int) else -1) := by
  unfold T_which_93 T_which_109
  rw [if_neg (by omega), if_pos ⟨by omega, by omega⟩, show ((k : Int)).toNat = k by omega]
  by_cases c : ga σ 902 k ≠ -1
  · rw [if_pos c, if_pos c]
  · rw [if_neg c, if_neg c]
theorem t_w93n : T_which_93 (-1) σ = some (-1) := by
  unfold T_which_93 T_which_109
  rw [if_pos rfl]
/-- functions -/
theorem t_wh0 {k nf : Nat} (e443 : gs σ 443 ≠ 0) (e652 : gs σ 652 = (nf : Int)) (hf : nf ≤ 24) (hk : k < nf) (e902 : ga σ 902 k ≠ -1) : T_which 0 (k : Int) σ = some (k : Int) := by
  unfold T_which
  rw [if_neg e443, if_pos (by omega), if_neg (fun z => z rfl), e652, if_neg (by omega), t_w93 (by omega), if_pos e902]
/-- lines by methods -/
theorem t_wh1 {k ni : Nat} (e443 : gs σ 443 ≠ 0) (e648 : gs σ 648 = (ni : Int)) (hf : ni ≤ 20) (hk : k < 4 * ni) : T_which 1 (k : Int) σ = some (if ga σ 902 (24 + k) ≠ -1 then ((24 + k : Nat) : Int) else -1) := by
  have w1 : w32 (4 * (ni : Int)) = ((4 * ni : Nat) : Int) := by rw [w32_s (by omega) (by omega)]; omega
  have w2 : w32 (24 + (k : Int)) = ((24 + k : Nat) : Int) := by rw [w32_s (by omega) (by omega)]; omega
  unfold T_which T_which_29
  rw [if_neg e443, if_pos (by omega), if_pos (by decide), if_neg (fun z => z rfl), e648, w1, if_neg (by omega), w2, t_w93 (by omega)]
/-- the ones above -/
theorem t_wh2 {k ni : Nat} (e443 : gs σ 443 ≠ 0) (e648 : gs σ 648 = (ni : Int)) (hf : ni ≤ 20) (hk : k < ni) : T_which 2 (k : Int) σ = some (if ga σ 902 (104 + k) ≠ -1 then ((104 + k : Nat) : Int) else -1) := by
  have w2 : w32 (104 + (k : Int)) = ((104 + k : Nat) : Int) := by rw [w32_s (by omega) (by omega)]; omega
  unfold T_which T_which_29 T_which_51
  rw [if_neg e443, if_pos (by omega), if_pos (by decide), if_pos (by decide), if_neg (fun z => z rfl), e648, if_neg (by omega), w2, t_w93 (by omega)]
/-- none such -/
theorem t_whn {a b : Int} (hn : gs σ 443 = 0 ∨ b < 0 ∨ (a ≠ 0 ∧ a ≠ 1 ∧ a ≠ 2 ∧ a ≠ 3) ∨ (a = 0 ∧ gs σ 652 ≤ b) ∨ (a = 1 ∧ w32 (4 * gs σ 648) ≤ b) ∨ (a = 2 ∧ gs σ 648 ≤ b) ∨ (a = 3 ∧ (b ≠ 0 ∨ gs σ 447 = 0))) : T_which a b σ = some (-1) := by
  unfold T_which
  by_cases c1 : gs σ 443 = 0
  · rw [if_pos c1]
  rw [if_neg c1]
  by_cases c2 : 0 ≤ b
  · rw [if_pos c2]
    have w71 : a ≠ 3 ∨ b ≠ 0 ∨ gs σ 447 = 0 → T_which_71 a b σ = some (-1) := fun w => by
      unfold T_which_71
      by_cases q1 : a ≠ 3
      · rw [if_pos q1, t_w93n]
      rw [if_neg q1]
      by_cases q2 : b ≠ 0
      · rw [if_pos q2, t_w93n]
      rw [if_neg q2, if_pos (by rcases w with w | w | w; exact absurd w q1; exact absurd w q2; exact w), t_w93n]
    have w51 : (a = 2 → gs σ 648 ≤ b) → (a = 3 → b ≠ 0 ∨ gs σ 447 = 0) → T_which_51 a b σ = some (-1) := fun w v => by
      have g : a ≠ 3 ∨ b ≠ 0 ∨ gs σ 447 = 0 := by
        by_cases q : a = 3
        · exact .inr (v q)
        · exact .inl q
      unfold T_which_51
      by_cases q1 : a ≠ 2
      · rw [if_pos q1, w71 g]
      · rw [if_neg q1, if_pos (w (Classical.byContradiction q1)), w71 g]
    have w29 : (a = 1 → w32 (4 * gs σ 648) ≤ b) → (a = 2 → gs σ 648 ≤ b) → (a = 3 → b ≠ 0 ∨ gs σ 447 = 0) → T_which_29 a b σ = some (-1) := fun u w v => by
      unfold T_which_29
      by_cases q1 : a ≠ 1
      · rw [if_pos q1, w51 w v]
      · rw [if_neg q1, if_pos (u (Classical.byContradiction q1)), w51 w v]
    have key : (a = 0 → gs σ 652 ≤ b) ∧ (a = 1 → w32 (4 * gs σ 648) ≤ b) ∧ (a = 2 → gs σ 648 ≤ b) ∧ (a = 3 → b ≠ 0 ∨ gs σ 447 = 0) := by
      rcases hn with w | w | w | w | w | w | w
      · exact absurd w c1
      · omega
      · exact ⟨fun z => absurd z w.1, fun z => absurd z w.2.1, fun z => absurd z w.2.2.1, fun z => absurd z w.2.2.2⟩
      · exact ⟨fun _ => w.2, fun z => by omega, fun z => by omega, fun z => by omega⟩
      · exact ⟨fun z => by omega, fun _ => w.2, fun z => by omega, fun z => by omega⟩
      · exact ⟨fun z => by omega, fun z => by omega, fun _ => w.2, fun z => by omega⟩
      · exact ⟨fun z => by omega, fun z => by omega, fun z => by omega, fun _ => w.2⟩
    by_cases q0 : a ≠ 0
    · rw [if_pos q0]
      exact w29 key.2.1 key.2.2.1 key.2.2.2
    · rw [if_neg q0, if_pos (key.1 (Classical.byContradiction q0))]
      exact w29 key.2.1 key.2.2.1 key.2.2.2
  · rw [if_neg c2]
end LWH
