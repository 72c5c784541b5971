set_option maxRecDepth 100000
/-! AN EX's LISTS: those that stood before it was judged -/
section LXW
variable {Φ Φ' : Et → Nat → Nat → Nat → Prop} {Φ2 : Xt → Nat → Nat → Nat → Prop} {G : om_G} {h : om_H} {N : List (List Int)} {cl : Nat → Nat} {U U2 Sl1 Sl2 : Nat → Prop} {fo mo fo2 mo2 : Nat → Nat}
theorem nmC_two {lb : XL} {d d2 a : Nat} (H : nmC h N cl U Sl1 fo mo lb d a) (H2 : nmC h N cl U2 Sl2 fo2 mo2 lb d2 a) : nmC h N cl U Sl2 fo mo lb d a := by
  obtain ⟨a1, a2, a3⟩ := H
  obtain ⟨_, _, b3⟩ := H2
  refine ⟨a1, a2, ?_⟩
  rcases a3 with w | ⟨c1, ⟨c2, c3, c4⟩, ⟨c5, c6, c7⟩, c8⟩
  · exact .inl w
  · rcases b3 with w | ⟨_, ⟨_, e3, _⟩, ⟨_, e6, _⟩, _⟩
    · exact absurd w.1 c1
    · exact .inr ⟨c1, ⟨c2, e3, c4⟩, ⟨c5, e6, c7⟩, c8⟩
theorem itL_two {as : List (Ty × Nat)} {u : Nat} (H : itL h Sl1 as u) (H2 : itL h Sl2 as u) : itL h Sl2 as u := H2
theorem atC_two {lb : XL} {b md m a : Nat} (H2 : atC h Sl2 lb b md m a) : atC h Sl2 lb b md m a := H2
theorem XCg_two (hΦ : ∀ t x l r md m a, Φ (.inner t x () l r) md m a → Φ' (.inner t x () l r) md m a) : ∀ (e : Et) (t : Xt) (d dp d2 dp2 md m a alo ahi alo2 ahi2 : Nat), eSm e t → XCg Prod.fst Φ G h N cl U Sl1 fo mo e d dp md m a alo ahi → XCg id Φ2 G h N cl U2 Sl2 fo2 mo2 t d2 dp2 md m a alo2 ahi2 → XCg Prod.fst Φ' G h N cl U Sl2 fo mo e d dp md m a alo ahi := by
  refine tr_ind (fun _ _ _ _ _ _ _ _ _ _ _ _ _ H _ => (XCg_l H).elim) (fun t x u l r ihl ihr ihp => ?_)
  intro y d dp d2 dp2 md m a alo ahi alo2 ahi2 sm H H2
  cases y with
  | leaf => exact sm.elim
  | inner t2 b u2 l2 r2 =>
  obtain ⟨et, eb, sl, sr⟩ := sm
  subst et
  subst eb
  rw [XCg_e] at H H2 ⊢
  unfold XCb at H H2 ⊢
  obtain ⟨p1, p2, p3, h4⟩ := H
  obtain ⟨_, _, _, g4⟩ := H2
  refine ⟨p1, p2, hΦ _ _ _ _ _ _ _ p3, ?_⟩
  by_cases t10 : t = 10
  · rw [if_pos t10] at h4 g4 ⊢
    exact ⟨nmC_two h4.1 g4.1, h4.2.1, g4.2.2⟩
  rw [if_neg t10] at h4 g4 ⊢
  by_cases t11 : t = 11
  · rw [if_pos t11] at h4 ⊢
    exact h4
  rw [if_neg t11] at h4 g4 ⊢
  by_cases t12 : t = 12
  · rw [if_pos t12] at h4 g4 ⊢
    obtain ⟨a1, a2, a3, i, am, a4, ic, a5, a6, a7, Xl, Xr⟩ := h4
    obtain ⟨_, _, _, i', am', b4, ic', _, _, _, Yl, Yr⟩ := g4
    have ei : i' = i := Option.some.inj (ic'.2.2.1.symm.trans ic.2.2.1)
    rw [ei] at Yr ic'
    exact ⟨a1, a2, a3, i, am, a4, ic', a5, a6, a7, ihl _ _ _ _ _ _ _ _ _ _ _ _ (sl t10 t11) Xl Yl, ihr _ _ _ _ _ _ _ _ _ _ _ _ (sr t10 t11 (by omega)) Xr Yr⟩
  rw [if_neg t12] at h4 g4 ⊢
  by_cases t13 : t = 13
  · rw [if_pos t13] at h4 g4 ⊢
    obtain ⟨a1, a2, a3, i, am, ic, a5, a6, a7, Xl⟩ := h4
    obtain ⟨_, _, _, i', am', ic', _, _, _, Yl⟩ := g4
    have ei : i' = i := Option.some.inj (ic'.2.2.1.symm.trans ic.2.2.1)
    rw [ei] at ic'
    exact ⟨a1, a2, a3, i, am, ic', a5, a6, a7, ihl _ _ _ _ _ _ _ _ _ _ _ _ (sl t10 t11) Xl Yl⟩
  rw [if_neg t13] at h4 g4 ⊢
  by_cases t18 : t = 18
  · rw [if_pos t18] at h4 g4 ⊢
    obtain ⟨a1, a2, e', am, cc, a3, Xl, Xr⟩ := h4
    obtain ⟨_, _, e2, am', cc', _, Yl, Yr⟩ := g4
    have ee : e2 = e' := Option.some.inj (cc'.2.2.2.1.symm.trans cc.2.2.2.1)
    rw [ee] at Yr cc'
    exact ⟨a1, a2, e', am, cc', a3, ihl _ _ _ _ _ _ _ _ _ _ _ _ (sl t10 t11) Xl Yl, ihr _ _ _ _ _ _ _ _ _ _ _ _ (sr t10 t11 (by omega)) Xr Yr⟩
  rw [if_neg t18] at h4 g4 ⊢
  obtain ⟨q1, q2, h4⟩ := h4
  obtain ⟨_, _, g4⟩ := g4
  refine ⟨q1, q2, ?_⟩
  by_cases t14 : t = 14
  · rw [if_pos t14] at h4 g4 ⊢
    obtain ⟨a1, a2, a3, b1, b2, b3, b4, Xl⟩ := h4
    obtain ⟨_, _, _, c1, c2, _, _, Yl⟩ := g4
    exact ⟨a1, a2, a3, b1, b2, b3, b4, ihl _ _ _ _ _ _ _ _ _ _ _ _ (sl t10 t11) Xl Yl⟩
  rw [if_neg t14] at h4 g4 ⊢
  by_cases t15 : t = 15
  · rw [if_pos t15] at h4 g4 ⊢
    obtain ⟨a1, a2, a3, b1, b2, b3, b4, b5, b6, Xl, Xr⟩ := h4
    obtain ⟨_, _, _, c1, c2, c3, _, _, _, Yl, Yr⟩ := g4
    exact ⟨a1, a2, a3, b1, b2, b3, b4, b5, b6, ihl _ _ _ _ _ _ _ _ _ _ _ _ (sl t10 t11) Xl Yl, ihr _ _ _ _ _ _ _ _ _ _ _ _ (sr t10 t11 t14) Xr Yr⟩
  rw [if_neg t15] at h4 g4 ⊢
  cases r with
  | leaf => exact h4.elim
  | inner t' x' u' r1 r2' =>
  cases r2 with
  | leaf => exact g4.elim
  | inner t2' b' u2' s1 s2 =>
    obtain ⟨i1, i2⟩ := ihp t' x' u' r1 r2' rfl
    obtain ⟨_, _, p4, p5⟩ := sr t10 t11 t14
    obtain ⟨z0, h4⟩ := h4
    obtain ⟨_, g4⟩ := g4
    have s4 := p4 (by omega) (by omega)
    have s5 := p5 (by omega) (by omega) (by omega)
    refine ⟨z0, ?_⟩
    by_cases t16 : t = 16
    · rw [if_pos t16] at h4 g4 ⊢
      obtain ⟨a1, b1, b2, b3, b4, b5, b6, b7, X1, X2, X3⟩ := h4
      obtain ⟨_, c1, c2, c3, c4, _, _, _, Y1, Y2, Y3⟩ := g4
      exact ⟨a1, b1, b2, b3, b4, b5, b6, b7, ihl _ _ _ _ _ _ _ _ _ _ _ _ (sl t10 t11) X1 Y1, i1 _ _ _ _ _ _ _ _ _ _ _ _ s4 X2 Y2, i2 _ _ _ _ _ _ _ _ _ _ _ _ s5 X3 Y3⟩
    rw [if_neg t16] at h4 g4 ⊢
    by_cases t17 : t = 17
    · rw [if_pos t17] at h4 g4 ⊢
      obtain ⟨a1, a2, a3, b1, b2, b3, b4, b5, b6, b7, b8, X1, X2, X3⟩ := h4
      obtain ⟨_, _, _, c1, c2, c3, c4, c5, _, _, _, Y1, Y2, Y3⟩ := g4
      exact ⟨a1, a2, a3, b1, b2, b3, b4, b5, b6, b7, b8, ihl _ _ _ _ _ _ _ _ _ _ _ _ (sl t10 t11) X1 Y1, i1 _ _ _ _ _ _ _ _ _ _ _ _ s4 X2 Y2, i2 _ _ _ _ _ _ _ _ _ _ _ _ s5 X3 Y3⟩
    rw [if_neg t17] at h4
    exact h4.elim
end LXW
section LXS
variable {G : om_G} {h h' : om_H} {N : List (List Int)} {cl : Nat → Nat} {rest : List (Nat × List Nat)} {io fo mo : Nat → Nat} {E : JE} {lo H0 dm : Nat} {us us' ds : List Nat} {Dk Sl Sl0 : Nat → Prop} {Lp : Nat}
/-- a tree that waited, behind a step: its shape stands -/
theorem XC_shape {g : Prop} {t : Xt} {d dp a alo ahi : Nat} (X : hSg g Sl0 h h') (kp : ∀ T a, tyC h N cl (UU us rest) T a → tyC h' N cl (UU us' rest) T a) (H : XCg id (Ph0 h) G h N cl (UU us rest) Sl0 fo mo t d dp 0 0 a alo ahi) : XCg id (fun _ _ _ _ => True) G h' N cl (UU us' rest) Sl0 fo mo t d dp 0 0 a alo ahi := XCg_keep X (fun _ w => w) kp alo ahi ahi (fun _ _ _ _ _ _ _ _ _ _ _ _ _ _ => trivial) t d dp 0 0 a alo ahi (Nat.le_refl _) (Nat.le_refl _) (fun z => absurd rfl z) (.inl (.inr (Nat.le_refl _))) H
/-- what is judged, with the lists that stood, none of which is the list of proofs -/
theorem XCt_sh {e : Et} {t : Xt} {d dp d2 dp2 a alo ahi alo2 ahi2 : Nat} (sm : eSm e t) (m0 : ∀ a, Sl0 a → Sl a) (n0 : ¬ Sl0 Lp) (hL : ∀ y ∈ ll h Lp, kd h y = 39) (H : XCg Prod.fst (PhJ N cl rest io E lo H0 Sl h us Dk ds dm) G h N cl (UU us rest) Sl fo mo e d dp 0 0 a alo ahi) (H2 : XCg id (fun _ _ _ _ => True) G h N cl (UU us rest) Sl0 fo mo t d2 dp2 0 0 a alo2 ahi2) : XCt G N cl (UU us rest) (fun a => Sl a ∧ a ≠ Lp) fo mo h (evC N cl rest io E lo h us Dk ds dm) e d dp 0 0 a alo ahi := by
  have H3 := XCt_of H
  unfold XCt at H3 ⊢
  have H4 : XCg Prod.fst (PhT N cl (UU us rest) (fun a => Sl a ∧ a ≠ Lp) h (evC N cl rest io E lo h us Dk ds dm)) G h N cl (UU us rest) Sl0 fo mo e d dp 0 0 a alo ahi := XCg_two (fun t x l r md m a p => by
    unfold PhT at p ⊢
    obtain ⟨p1, p2, p3⟩ := p
    refine ⟨p1, fun w => ?_, p3⟩
    obtain ⟨evs, e1, e2, e3, eB⟩ := p2 w
    refine ⟨evs, ?_, e2, e3, eB⟩
    rcases e1 with ⟨c1, c2⟩ | ⟨c1, c2, c3, c4, c5, c6⟩
    · exact .inl ⟨c1, c2⟩
    · refine .inr ⟨c1, c2, ⟨c3, fun z => ?_⟩, c4, c5, c6⟩
      cases ev : evs with
      | nil => exact c1 ev
      | cons y l =>
        rw [z] at c6
        have k39 := hL y (by rw [c6, ev]; exact List.mem_cons_self)
        have l0 : x.2.2.2[0]? = some (x.2.2.2[0]'(by rw [← e2, ev]; exact Nat.succ_pos _)) := List.getElem?_eq_getElem _
        have := (e3 0 y _ (by rw [ev]; rfl) l0).1.2
        omega) e t d dp d2 dp2 0 0 a alo ahi alo2 ahi2 sm H3 H2
  exact XCg_keep (hS_refl (g := True)) (fun a w => ⟨m0 a w, fun z => n0 (by rw [← z]; exact w)⟩) (fun _ _ c => c) alo ahi ahi (fun _ _ _ _ _ _ _ _ _ _ _ _ _ p => p) e d dp 0 0 a alo ahi (Nat.le_refl _) (Nat.le_refl _) (fun z => absurd rfl z) (.inl (.inr (Nat.le_refl _))) H4
end LXS
