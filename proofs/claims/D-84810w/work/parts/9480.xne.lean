set_option maxRecDepth 100000
/-! A TREE'S LISTS ARE NOT EMPTY -/
section LXN
variable {G : om_G} {h : om_H} {N : List (List Int)} {cl : Nat → Nat} {U Sl : Nat → Prop} {fo mo : Nat → Nat}
/-- lists that stand and are not empty -/
def neL (h : om_H) (Sl : Nat → Prop) (y : Nat) : Prop := Sl y ∧ ll h y ≠ []
theorem len_ne {l : List Nat} (hl : 1 ≤ l.length) : l ≠ [] := fun e => by rw [e] at hl; exact absurd hl (by decide)
theorem itC_ne {a M i : Nat} (H : itC h Sl a M i) : itC h (neL h Sl) a M i ∧ ll h (fR h 1494 a) ≠ [] := by
  have ne : ll h (fR h 1494 a) ≠ [] := len_ne (by have := H.2.1; omega)
  exact ⟨⟨⟨⟨H.1.1, ne⟩, H.1.2⟩, H.2⟩, ne⟩
theorem chC2_ne {a M sg e : Nat} (H : chC2 G h Sl a M sg e) : chC2 G h (neL h Sl) a M sg e := by
  have n1 : ll h (fR h 1522 a) ≠ [] := len_ne (by have := H.2.2.1; omega)
  have n2 : ll h (fR h 1526 a) ≠ [] := len_ne (by have := H.2.2.1; omega)
  exact ⟨⟨⟨H.1.1, n1⟩, H.1.2⟩, ⟨⟨H.2.1.1, n2⟩, H.2.1.2⟩, H.2.2⟩
theorem nmC_ne {lb : XL} {d a : Nat} (H : nmC h N cl U Sl fo mo lb d a) : nmC h N cl U (neL h Sl) fo mo lb d a := by
  obtain ⟨h1, h2, h3⟩ := H
  refine ⟨h1, h2, ?_⟩
  rcases h3 with w | ⟨w1, ⟨w2, w3, w4, w5, w6⟩, ⟨w7, w8, w9, w10, w11⟩, w12⟩
  · exact .inl w
  · have l1 : 1 ≤ lb.2.2.2.2.2.length := List.length_pos_iff.mpr w1
    exact .inr ⟨w1, ⟨w2, ⟨w3, len_ne (by omega)⟩, w4, w5, w6⟩, ⟨w7, ⟨w8, len_ne (by omega)⟩, w9, w10, w11⟩, w12⟩
theorem itL_ne {as : List (Ty × Nat)} {u : Nat} (n : ll h (fR h 1494 u) ≠ []) (H : itL h Sl as u) : itL h (neL h Sl) as u := ⟨⟨⟨H.1.1, n⟩, H.1.2⟩, H.2⟩
theorem atC_ne {lb : XL} {b md m a : Nat} (n : md = 1 → ll h (fR h 1494 a) ≠ []) (H : atC h Sl lb b md m a) : atC h (neL h Sl) lb b md m a := by
  unfold atC at H ⊢
  by_cases c : md = 1 ∧ kd h b = 28
  · rw [if_pos c] at H ⊢
    exact ⟨H.1, itL_ne (n c.1) H.2⟩
  · rw [if_neg c] at H ⊢
    refine ⟨H.1, H.2.imp id (fun w => ⟨w.1, w.2.1, w.2.2.1, w.2.2.2.1, itL_ne (len_ne ?_) w.2.2.2.2⟩)⟩
    have l1 : 1 ≤ lb.2.2.2.2.2.length := List.length_pos_iff.mpr w.2.2.1
    have := w.2.2.2.1
    omega
theorem XCg_ne {L : Type} {lab : L → XL} {Φ Φ' : Std.DTreeMap.Internal.Impl L (fun _ => Unit) → Nat → Nat → Nat → Prop} (hΦ : ∀ t md m a, Φ t md m a → Φ' t md m a) : ∀ (t : Std.DTreeMap.Internal.Impl L (fun _ => Unit)) (d dp md m a alo ahi : Nat), (md = 1 → ll h (fR h 1494 a) ≠ []) → XCg lab Φ G h N cl U Sl fo mo t d dp md m a alo ahi → XCg lab Φ' G h N cl U (neL h Sl) fo mo t d dp md m a alo ahi := by
  refine tr_ind (fun _ _ _ _ _ _ _ _ w => (XCg_l w).elim) (fun t x u l r ihl ihr ihp => ?_)
  intro d dp md m a alo ahi hn H
  rw [XCg_e] at H ⊢
  unfold XCb at H ⊢
  obtain ⟨h1, h2, h3, h4⟩ := H
  have z1 : ∀ b : Nat, (0 : Nat) = 1 → ll h (fR h 1494 b) ≠ [] := fun _ w => by omega
  have z2 : ∀ b : Nat, (2 : Nat) = 1 → ll h (fR h 1494 b) ≠ [] := fun _ w => by omega
  refine ⟨h1, h2, hΦ _ _ _ _ h3, ?_⟩
  by_cases t10 : t = 10
  · rw [if_pos t10] at h4 ⊢
    exact ⟨nmC_ne h4.1, h4.2.1, atC_ne hn h4.2.2⟩
  rw [if_neg t10] at h4 ⊢
  by_cases t11 : t = 11
  · rw [if_pos t11] at h4 ⊢
    exact h4
  rw [if_neg t11] at h4 ⊢
  by_cases t12 : t = 12
  · rw [if_pos t12] at h4 ⊢
    obtain ⟨a1, a2, a3, i, am, a4, b1, b2, b3, b4, b5, b6⟩ := h4
    obtain ⟨c1, c2⟩ := itC_ne b1
    exact ⟨a1, a2, a3, i, am, a4, c1, b2, b3, b4, ihl _ _ _ _ _ _ _ (fun _ => c2) b5, ihr _ _ _ _ _ _ _ (z1 _) b6⟩
  rw [if_neg t12] at h4 ⊢
  by_cases t13 : t = 13
  · rw [if_pos t13] at h4 ⊢
    obtain ⟨a1, a2, a3, i, am, b1, b2, b3, b4, b5⟩ := h4
    obtain ⟨c1, c2⟩ := itC_ne b1
    exact ⟨a1, a2, a3, i, am, c1, b2, b3, b4, ihl _ _ _ _ _ _ _ (fun _ => c2) b5⟩
  rw [if_neg t13] at h4 ⊢
  by_cases t18 : t = 18
  · rw [if_pos t18] at h4 ⊢
    obtain ⟨a1, a2, e, am, b1, b2, b3, b4⟩ := h4
    exact ⟨a1, a2, e, am, chC2_ne b1, b2, ihl _ _ _ _ _ _ _ (z2 _) b3, ihr _ _ _ _ _ _ _ (z1 _) b4⟩
  rw [if_neg t18] at h4 ⊢
  obtain ⟨k1, k2, h5⟩ := h4
  refine ⟨k1, k2, ?_⟩
  by_cases t14 : t = 14
  · rw [if_pos t14] at h5 ⊢
    obtain ⟨a1, a2, a3, b1, b2, b3, b4, b5⟩ := h5
    exact ⟨a1, a2, a3, b1, b2, b3, b4, ihl _ _ _ _ _ _ _ (z1 _) b5⟩
  rw [if_neg t14] at h5 ⊢
  by_cases t15 : t = 15
  · rw [if_pos t15] at h5 ⊢
    obtain ⟨a1, a2, a3, b1, b2, b3, b4, b5, b6, b7, b8⟩ := h5
    exact ⟨a1, a2, a3, b1, b2, b3, b4, b5, b6, ihl _ _ _ _ _ _ _ (z1 _) b7, ihr _ _ _ _ _ _ _ (z1 _) b8⟩
  rw [if_neg t15] at h5 ⊢
  cases r with
  | leaf => exact h5.elim
  | inner t' x' u' r1 r2 =>
    obtain ⟨ih1, ih2⟩ := ihp t' x' u' r1 r2 rfl
    dsimp only at h5 ⊢
    obtain ⟨e0, h6⟩ := h5
    refine ⟨e0, ?_⟩
    by_cases t16 : t = 16
    · rw [if_pos t16] at h6 ⊢
      obtain ⟨a1, b1, b2, b3, b4, b5, b6, b7, b8, b9, b10⟩ := h6
      exact ⟨a1, b1, b2, b3, b4, b5, b6, b7, ihl _ _ _ _ _ _ _ (z1 _) b8, ih1 _ _ _ _ _ _ _ (z1 _) b9, ih2 _ _ _ _ _ _ _ (z1 _) b10⟩
    rw [if_neg t16] at h6 ⊢
    by_cases t17 : t = 17
    · rw [if_pos t17] at h6 ⊢
      obtain ⟨a1, a2, a3, b1, b2, b3, b4, b5, b6, b7, b8, b9, b10, b11⟩ := h6
      exact ⟨a1, a2, a3, b1, b2, b3, b4, b5, b6, b7, b8, ihl _ _ _ _ _ _ _ (z1 _) b9, ih1 _ _ _ _ _ _ _ (z1 _) b10, ih2 _ _ _ _ _ _ _ (z1 _) b11⟩
    rw [if_neg t17] at h6
    exact h6.elim
/-- what judging has written, with lists that are not empty -/
theorem PhJ_ne {rest : List (Nat × List Nat)} {io : Nat → Nat} {E : JE} {lo H0 : Nat} {us : List Nat} {Dk : Nat → Prop} {ds : List Nat} {dm : Nat} : ∀ (t : Et) (md m a : Nat), PhJ N cl rest io E lo H0 Sl h us Dk ds dm t md m a → PhJ N cl rest io E lo H0 (neL h Sl) h us Dk ds dm t md m a
  | .leaf, _, _, _, w => w
  | .inner t x u l r, md, m, a, w => by
    obtain ⟨w1, w2, w3⟩ := w
    refine ⟨w1, fun e => ?_, w3⟩
    obtain ⟨evs, r1, r2⟩ := w2 e
    refine ⟨evs, ?_, r2⟩
    rcases r1 with v | ⟨v1, v2, v3, v4, v5, v6⟩
    · exact .inl v
    · exact .inr ⟨v1, v2, ⟨v3, by rw [v6]; exact v1⟩, v4, v5, v6⟩
end LXN
