set_option maxRecDepth 100000
/-! THE TWIN: exs that are judged; places -/
/-- what there is at the node of an ex that is judged -/
def Pe (σ : tS) (n : Nat) (a : XL × Ty × Ty × List Dc) (v : Nat) : Prop := tyT σ n a.2.1 (ga σ 842 v) ∧ tyT σ n a.2.2.1 (ga σ 846 v)
abbrev XTe (σ : tS) (n : Nat) (e : Et) (lo hi v : Nat) : Prop := XTg Prod.fst (Pe σ n) σ n e lo hi v
abbrev XTp (σ : tS) (n : Nat) (t : Xt) (lo hi v : Nat) : Prop := XTg id (fun _ _ => True) σ n t lo hi v
section LTJ
variable {L : Type} {lab : L → XL} {Φ Φ' : L → Nat → Prop} {σ τ : tS} {n n' : Nat}
theorem XTb_keep {W W' : Std.DTreeMap.Internal.Impl L (fun _ => Unit) → Nat → Nat → Nat → Prop} {t : Nat} {a a' : L} {l r : Std.DTreeMap.Internal.Impl L (fun _ => Unit)} {lo hi v : Nat} (ea : lab a' = lab a) (F : fr JFS JFA σ τ) (X : tx σ n τ n') (hΦ : Φ a v → Φ' a' v) (hin : ∀ t lo hi v, W t lo hi v → lo ≤ v ∧ v < hi) (hW : ∀ t' lo' hi' v', lo ≤ lo' → hi' ≤ v → W t' lo' hi' v' → W' t' lo' hi' v') (h : XTb lab Φ σ n W t a l r lo hi v) : XTb lab Φ' τ n' W' t a' l r lo hi v := by
  unfold XTb at h ⊢
  rw [ea]
  obtain ⟨h1, h2, h3, h4⟩ := h
  have e538 := F.2 538 (by decide) v
  have e546 := F.2 546 (by decide) v
  have e550 := F.2 550 (by decide) v
  have e554 := F.2 554 (by decide) v
  have e558 := F.2 558 (by decide) v
  refine ⟨h1, by rw [e538]; exact h2, hΦ h3, ?_⟩
  by_cases t10 : t = 10
  · rw [if_pos t10] at h4 ⊢
    exact ⟨h4.1, tkP_keep F h4.2.1, nmT_keep F X h4.2.2⟩
  rw [if_neg t10] at h4 ⊢
  by_cases t11 : t = 11
  · rw [if_pos t11] at h4 ⊢
    exact tkP_keep F h4
  rw [if_neg t11] at h4 ⊢
  by_cases t12 : t = 12
  · rw [if_pos t12] at h4 ⊢
    obtain ⟨a1, a2, m, x, y, a3, a4, a5, a6⟩ := h4
    have i1 := hin _ _ _ _ a5
    have i2 := hin _ _ _ _ a6
    exact ⟨a1, a2, m, x, y, by rw [e546]; exact a3, by rw [e550]; exact a4, hW _ _ _ _ (Nat.le_refl _) (by omega) a5, hW _ _ _ _ (by omega) (Nat.le_refl _) a6⟩
  rw [if_neg t12] at h4 ⊢
  by_cases t13 : t = 13
  · rw [if_pos t13] at h4 ⊢
    obtain ⟨a1, a2, a3, m, x, a4, a5, a6⟩ := h4
    exact ⟨a1, a2, tkP_keep F a3, m, x, a4, by rw [e546]; exact a5, hW _ _ _ _ (Nat.le_refl _) a4 a6⟩
  rw [if_neg t13] at h4 ⊢
  by_cases t14 : t = 14
  · rw [if_pos t14] at h4 ⊢
    obtain ⟨a1, a2, a3, m, x, a4, a5, a6⟩ := h4
    exact ⟨a1, tkP_keep F a2, by rw [e550]; exact tyT_mono X a3, m, x, a4, by rw [e554]; exact a5, hW _ _ _ _ a4 (Nat.le_refl _) a6⟩
  rw [if_neg t14] at h4 ⊢
  by_cases t15 : t = 15
  · rw [if_pos t15] at h4 ⊢
    obtain ⟨a1, a2, a3, m, m', x, y, a4, a5, a6, a7, a8⟩ := h4
    have i1 := hin _ _ _ _ a7
    have i2 := hin _ _ _ _ a8
    exact ⟨a1, tkP_keep F a2, by rw [e550]; exact tyT_mono X a3, m, m', x, y, a4, by rw [e554]; exact a5, by rw [e558]; exact a6, hW _ _ _ _ a4 (by omega) a7, hW _ _ _ _ (by omega) (Nat.le_refl _) a8⟩
  rw [if_neg t15] at h4 ⊢
  by_cases t18 : t = 18
  · rw [if_pos t18] at h4 ⊢
    obtain ⟨a1, a2, ⟨k, k1, k2, k3⟩, m, x, y, a4, a5, a6, a7⟩ := h4
    have i1 := hin _ _ _ _ a6
    have i2 := hin _ _ _ _ a7
    exact ⟨a1, tkP_keep F a2, ⟨k, by rw [F.2 542 (by decide)]; exact k1, k2, by rw [F.2 470 (by decide)]; exact k3⟩, m, x, y, by rw [e546]; exact a4, by rw [e550]; exact a5, hW _ _ _ _ (Nat.le_refl _) (by omega) a6, hW _ _ _ _ (by omega) (Nat.le_refl _) a7⟩
  rw [if_neg t18] at h4 ⊢
  cases r with
  | leaf => exact h4
  | inner t' b' u' r1 r2 =>
    obtain ⟨a1, a2, a3, h5⟩ := h4
    refine ⟨a1, tkP_keep F a2, a3, ?_⟩
    by_cases t16 : t = 16
    · rw [if_pos t16] at h5 ⊢
      obtain ⟨m, m', x, y, z, b1, b2, b3, b4, b5, b6⟩ := h5
      have i1 := hin _ _ _ _ b4
      have i2 := hin _ _ _ _ b5
      have i3 := hin _ _ _ _ b6
      exact ⟨m, m', x, y, z, by rw [e546]; exact b1, by rw [e550]; exact b2, by rw [e554]; exact b3, hW _ _ _ _ (Nat.le_refl _) (by omega) b4, hW _ _ _ _ (by omega) (by omega) b5, hW _ _ _ _ (by omega) (Nat.le_refl _) b6⟩
    rw [if_neg t16] at h5 ⊢
    by_cases t17 : t = 17
    · rw [if_pos t17] at h5 ⊢
      obtain ⟨m, m', x, y, z, b1, b2, b3, b4, b5, b6⟩ := h5
      have i1 := hin _ _ _ _ b4
      have i2 := hin _ _ _ _ b5
      have i3 := hin _ _ _ _ b6
      exact ⟨m, m', x, y, z, by rw [e546]; exact b1, by rw [e550]; exact b2, by rw [e558]; exact b3, hW _ _ _ _ (Nat.le_refl _) (by omega) b4, hW _ _ _ _ (by omega) (by omega) b5, hW _ _ _ _ (by omega) (Nat.le_refl _) b6⟩
    rw [if_neg t17] at h5
    exact h5.elim
/-- the place of an ex -/
theorem t_placeOf : ∀ (t : Std.DTreeMap.Internal.Impl L (fun _ => Unit)) (lo hi v : Nat), XTg lab Φ σ n t lo hi v → T_placeOf (v : Int) σ = some ((gPl lab t : Nat) : Int) := by
  have key : ∀ (t : Std.DTreeMap.Internal.Impl L (fun _ => Unit)) (lo hi v : Nat), XTg lab Φ σ n t lo hi v → ∃ y : Nat, y < 4200 ∧ om_loop (T_placeOf_2s σ) (v : Int) = some (y : Int) ∧ tkP σ y (gPl lab t) := by
    refine tr_ind (fun _ _ _ h => (XTg_l h).elim) (fun t a u l r ihl ihr ihp => ?_)
    intro lo hi v h
    rw [XTg_e] at h
    unfold XTb at h
    obtain ⟨h1, h2, h3, h4⟩ := h
    have vN : ((v : Int)).toNat = v := by omega
    have left : (t = 12 ∨ t = 13) → ∀ x : Nat, ga σ 546 v = (x : Int) → om_loop (T_placeOf_2s σ) (v : Int) = om_loop (T_placeOf_2s σ) (x : Int) := fun ht x ex => by
      refine om_loop_in ?_
      unfold T_placeOf_2s T_placeOf_24
      rw [if_pos (by omega), vN, h2, ex]
      rcases ht with ht | ht
      · rw [if_pos (by omega), if_pos (by omega)]
      · rw [if_neg (by omega), if_pos (by omega), if_neg (by omega), if_pos (by omega)]
    have here : t ≠ 12 → t ≠ 13 → om_loop (T_placeOf_2s σ) (v : Int) = some (v : Int) := fun n1 n2 => by
      refine om_loop_out ?_
      unfold T_placeOf_2s
      rw [if_pos (by omega), vN, h2, if_neg (by omega), if_pos (by omega), if_pos (by omega)]
    by_cases t10 : t = 10
    · rw [if_pos t10] at h4
      exact ⟨v, by omega, here (by omega) (by omega), h4.2.1⟩
    rw [if_neg t10] at h4
    by_cases t11 : t = 11
    · rw [if_pos t11] at h4
      exact ⟨v, by omega, here (by omega) (by omega), h4⟩
    rw [if_neg t11] at h4
    by_cases t12 : t = 12
    · rw [if_pos t12] at h4
      obtain ⟨a1, a2, m, x, y, a3, a4, a5, a6⟩ := h4
      obtain ⟨z, z1, z2, z3⟩ := ihl _ _ _ a5
      exact ⟨z, z1, by rw [left (.inl t12) x a3]; exact z2, by show tkP σ z (lab a).1; rw [a2]; exact z3⟩
    rw [if_neg t12] at h4
    by_cases t13 : t = 13
    · rw [if_pos t13] at h4
      obtain ⟨a1, a2, a3, m, x, a4, a5, a6⟩ := h4
      obtain ⟨z, z1, z2, z3⟩ := ihl _ _ _ a6
      exact ⟨z, z1, by rw [left (.inr t13) x a5]; exact z2, by show tkP σ z (lab a).1; rw [a2]; exact z3⟩
    rw [if_neg t13] at h4
    refine ⟨v, by omega, here t12 t13, ?_⟩
    show tkP σ v (lab a).1
    by_cases t14 : t = 14
    · rw [if_pos t14] at h4; exact h4.2.1
    rw [if_neg t14] at h4
    by_cases t15 : t = 15
    · rw [if_pos t15] at h4; exact h4.2.1
    rw [if_neg t15] at h4
    by_cases t18 : t = 18
    · rw [if_pos t18] at h4; exact h4.2.1
    rw [if_neg t18] at h4
    cases r with
    | leaf => exact h4.elim
    | inner t' b' u' r1 r2 => exact h4.2.1
  intro t lo hi v h
  obtain ⟨y, y1, y2, k, y3, y4, y5⟩ := key t lo hi v h
  unfold T_placeOf
  rw [y2, Option.bind_some, show ((y : Int)).toNat = y by omega, y3, if_pos (by omega), show ((k : Int)).toNat = k by omega, y5]
/-- an ex's cast is set -/
theorem XTe_cast {e : Et} {lo hi v : Nat} {C : Ty} {c : Int} (H : XTe σ n e lo hi v) (hc : tyT σ n C c) : XTe (ua σ 846 v c) n (eCs C e) lo hi v := by
  cases e with
  | leaf => exact (XTg_l H).elim
  | inner t a u l r =>
    have F : fr JFS JFA σ (ua σ 846 v c) := ⟨fun _ _ => rfl, fun f hf i => by
      rw [ga_ua, if_neg (fun z => hf (by rw [z.1]; decide))]⟩
    have X : tx σ n (ua σ 846 v c) n := ⟨Nat.le_refl _, fun f hf _ x _ => by
      rw [ga_ua, if_neg (fun z => by rw [z.1] at hf; revert hf; decide)]⟩
    show XTg Prod.fst (Pe (ua σ 846 v c) n) (ua σ 846 v c) n (.inner t (a.1, a.2.1, C, a.2.2.2) u l r) lo hi v
    unfold XTe at H
    rw [XTg_e] at H ⊢
    refine XTb_keep (a := a) rfl F X (fun p => ⟨?_, ?_⟩) (fun t' lo' hi' v' w => ⟨(XTg_in w).1, (XTg_in w).2.1⟩) (fun t' lo' hi' v' g1 g2 w => ?_) H
    · show tyT _ n a.2.1 (ga (ua σ 846 v c) 842 v)
      rw [ga_ua, if_neg (fun z => absurd z.1 (by decide))]
      exact tyT_mono X p.1
    · show tyT _ n C (ga (ua σ 846 v c) 846 v)
      rw [ga_ua, if_pos ⟨rfl, rfl⟩]
      exact tyT_mono X hc
    · refine XTg_keep F X (lo0 := lo') (hi0 := hi') (fun b x g3 g4 p => ⟨?_, ?_⟩) t' lo' hi' v' (Nat.le_refl _) (Nat.le_refl _) w
      · rw [ga_ua, if_neg (fun z => absurd z.1 (by decide))]
        exact tyT_mono X p.1
      · rw [ga_ua, if_neg (fun z => by omega)]
        exact tyT_mono X p.2
theorem ePl_g : ∀ e : Et, gPl Prod.fst e = ePl e
  | .leaf => rfl
  | .inner _ _ _ _ _ => rfl
theorem xPl_g : ∀ t : Xt, gPl id t = xPl t
  | .leaf => rfl
  | .inner _ _ _ _ _ => rfl
theorem XTe_ty {e : Et} {lo hi v : Nat} (H : XTe σ n e lo hi v) : tyT σ n (eTy e) (ga σ 842 v) := by
  cases e with
  | leaf => exact (XTg_l H).elim
  | inner t a u l r =>
    unfold XTe at H
    rw [XTg_e] at H
    exact H.2.2.1.1
end LTJ
