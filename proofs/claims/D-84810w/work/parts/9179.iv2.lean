set_option maxRecDepth 100000
/-! WHERE THE TWIN'S NODES STAND: types and exs -/
/-- what reads and makes a node -/
def Rw (q : Int) (M dd : Nat) (rT : tS → Option (Int × tS)) : Prop := ∀ (σ : tS) (r : Int) (τ : tS), rT σ = some (r, τ) → Iv q M dd σ → Iv q M dd τ ∧ gs σ 564 ≤ gs τ 564 ∧ Nv M r τ
section LIW
variable {q : Int} {M dd : Nat} {σ τ : tS} {r k : Int} {rT : tS → Option (Int × tS)}
theorem v_node2 {t a b c d : Int} (e : T_node k t a b c d σ = some (r, τ)) (h1 : q ≤ t) (h2 : k = 17 → q ≤ c) (I : Iv q M dd σ) : Iv q M dd τ ∧ gs σ 564 ≤ gs τ 564 ∧ Nv M r τ := by
  obtain ⟨s1, s2⟩ := v_node (q := q) (M := M) (dd := dd) e (fun _ => h1) (fun _ => h2)
  exact ⟨(s1 I).1, (s1 I).2, s2 I⟩
theorem v_takes1 (e : T_takes k σ = some (r, τ)) (h : r ≠ 0) : gs τ 432 = gs σ 432 + 1 ∧ 0 ≤ gs σ 432 ∧ gs σ 432 < 4100 := by
  unfold T_takes at e
  split at e
  · cases e; exact absurd rfl h
  · split at e
    · rename_i c
      split at e
      · cases e
        exact ⟨by rw [gs_us, if_pos rfl, w32_s (by omega) (by omega)], c⟩
      · cases e; exact absurd rfl h
    · cases e
theorem v_piece51 (h : 0 ≤ gs σ 432 ∧ gs σ 432 < 4100) (e : T_piece_51 rT k σ = some (r, τ)) (hk : k ≠ 17) (I : Iv q M dd σ) : Iv q M dd τ ∧ gs σ 564 ≤ gs τ 564 ∧ Nv M r τ := by
  unfold T_piece_51 at e
  obtain ⟨p, e1, e⟩ := obind e
  have f1 := v_node2 (q := q) (M := M) (dd := dd) (r := p.1) (τ := p.2) e1 I.1.1 (fun z => absurd z hk) I
  have ha : gs p.2 432 = gs σ 432 := by
    unfold T_node at e1
    split at e1
    · cases e1; rfl
    · cases e1
  have f2 := Sv_at (q := q) (M := M) (dd := dd) (σ := p.2) (by rw [ha]; exact h) f1.1
  cases e
  exact ⟨f2.1, by have := f1.2.1; have := f2.2; omega, Nv_mono f1.2.2 f2.2⟩
theorem v_piece37 (e : T_piece_37 rT σ = some (r, τ)) (I : Iv q M dd σ) : Iv q M dd τ ∧ gs σ 564 ≤ gs τ 564 ∧ Nv M r τ := by
  unfold T_piece_37 at e
  obtain ⟨p, e1, e⟩ := obind e
  have h := is_in e1
  split at e
  · exact v_piece51 h e (by decide) I
  · exact v_piece51 h e (by decide) I
theorem v_paren {k2 : Int} (R : Rw q M dd rT) {p3 : tS} {y : Int × tS} (e3 : T_need k σ = some p3) (e4 : rT p3 = some y) (e5 : T_need k2 y.2 = some τ) (I : Iv q M dd σ) : Iv q M dd τ ∧ gs σ 564 ≤ gs τ 564 ∧ Nv M y.1 τ := by
  have f3 := v_need (q := q) (M := M) (dd := dd) e3 I
  have f4 := R p3 y.1 y.2 e4 f3.1
  have f5 := v_need (q := q) (M := M) (dd := dd) e5 f4.1
  exact ⟨f5.1, by have := f3.2; have := f4.2.1; have := f5.2; omega, Nv_mono f4.2.2 f5.2⟩
theorem v_piece (R : Rw q M dd rT) : Rw q M dd (T_piece rT) := by
  intro σ r τ e I
  unfold T_piece at e
  split at e
  · obtain ⟨p1, e1, e⟩ := obind e
    split at e
    · exact v_piece37 e I
    · obtain ⟨p2, e2, e⟩ := obind e
      split at e
      · obtain ⟨p3, e3, e⟩ := obind e
        obtain ⟨p4, e4, e⟩ := obind e
        obtain ⟨p5, e5, e⟩ := obind e
        cases e
        exact v_paren R e3 e4 e5 I
      · exact v_piece37 e I
  · obtain ⟨p6, e6, e⟩ := obind e
    cases e
    exact v_node2 (r := p6.1) (τ := p6.2) e6 I.1.1 (fun z => absurd z (by decide)) I
theorem v_ground (R : Rw q M dd rT) : Rw q M dd (T_ground rT) := by
  intro σ r τ e I
  unfold T_ground at e
  obtain ⟨p1, e1, e⟩ := obind e
  have h := is_in e1
  split at e
  · obtain ⟨p2, e2, e⟩ := obind e
    obtain ⟨y3, e3, e⟩ := obind e
    cases e
    have f1 := v_node2 (q := q) (M := M) (dd := dd) (r := p2.1) (τ := p2.2) e2 I.1.1 (fun z => absurd z (by decide)) I
    have ha : gs p2.2 432 = gs σ 432 := by
      unfold T_node at e2
      split at e2
      · cases e2; rfl
      · cases e2
    have f2 := Sv_at (q := q) (M := M) (dd := dd) (σ := p2.2) (by rw [ha]; exact h) f1.1
    have f3 := v_loop (q := q) (M := M) (dd := dd) (st := fun x : Int × tS => x.2) (sb := fun x : tS => x) (P := fun _ => True) (Q := fun _ => True) (fun a a' e => by
      refine ⟨fun I => ?_, fun _ _ => trivial⟩
      unfold T_ground_39s at e
      obtain ⟨q1, d1, e⟩ := obind e
      split at e
      · cases e
      · obtain ⟨q2, d2, e⟩ := obind e
        have g1 := v_piece R a.2 q2.1 q2.2 d2 I
        split at e
        · split at e
          · cases e
            have g2 := Sv_ua (q := q) (M := M) (dd := dd) (σ := q2.2) (f := 562) (j := a.1.toNat) (x := q2.1) (by decide) (by decide) (by decide) (.inl (by decide)) g1.1
            exact ⟨g2.1, Int.le_trans g1.2.1 g2.2⟩
          · cases e
        · split at e
          · cases e
            have g2 := Sv_ua (q := q) (M := M) (dd := dd) (σ := q2.2) (f := 546) (j := p2.1.toNat) (x := q2.1) (by decide) (by decide) (by decide) (.inl (by decide)) g1.1
            exact ⟨g2.1, Int.le_trans g1.2.1 g2.2⟩
          · cases e) (fun a b e => by
      refine ⟨fun I => ?_, fun _ _ => trivial⟩
      unfold T_ground_39s at e
      obtain ⟨q1, d1, e⟩ := obind e
      split at e
      · cases e; exact ⟨I, Int.le_refl _⟩
      · obtain ⟨q2, d2, e⟩ := obind e
        split at e
        · split at e
          · cases e
          · cases e
        · split at e
          · cases e
          · cases e) e3
    have f4 := f3.1 f2.1
    exact ⟨f4.1, by have := f1.2.1; have := f2.2; have := f4.2; simp only at *; omega, Nv_mono (Nv_mono f1.2.2 f2.2) f4.2⟩
  · obtain ⟨p4, e4, e⟩ := obind e
    cases e
    exact v_piece R σ p4.1 p4.2 e4 I
theorem v_readTypeB (R : Rw q M dd rT) : Rw q M dd (T_readTypeB rT) := by
  intro σ r τ e I
  unfold T_readTypeB at e
  obtain ⟨p1, e1, e⟩ := obind e
  obtain ⟨p2, e2, e⟩ := obind e
  obtain ⟨p3, e3, e⟩ := obind e
  have f1 := v_enter (q := q) (M := M) (dd := dd) e1 I
  have f2 := v_ground R p1 p2.1 p2.2 e2 f1.1
  have f3 := v_takes (q := q) (M := M) (dd := dd) (r := p3.1) (τ := p3.2) e3 f2.1
  split at e
  · cases e
    have f4 := Sv_us (q := q) (M := M) (dd := dd) (σ := p3.2) (f := 436) (x := w32 (gs p3.2 436 - 1)) (by decide) (by decide) f3.1
    exact ⟨f4.1, by have := f1.2; have := f2.2.1; have := f3.2; have := f4.2; omega, Nv_mono (Nv_mono f2.2.2 f3.2) f4.2⟩
  · obtain ⟨p4, e4, e⟩ := obind e
    have f4 := R p3.2 p4.1 p4.2 e4 f3.1
    split at e
    · obtain ⟨p5, e5, e⟩ := obind e
      cases e
      have nv := Nv_mono (Nv_mono f2.2.2 f3.2) f4.2.1
      have tk := (f4.1.2.2 p2.1.toNat (by have := nv.1; omega) (by have := nv.1; have := nv.2; omega)).1
      have f5 := v_node2 (q := q) (M := M) (dd := dd) (r := p5.1) (τ := p5.2) e5 tk (fun z => absurd z (by decide)) f4.1
      have f6 := Sv_us (q := q) (M := M) (dd := dd) (σ := p5.2) (f := 436) (x := w32 (gs p5.2 436 - 1)) (by decide) (by decide) f5.1
      exact ⟨f6.1, by have := f1.2; have := f2.2.1; have := f3.2; have := f4.2.1; have := f5.2.1; have := f6.2; omega, Nv_mono f5.2.2 f6.2⟩
    · cases e
theorem v_readTypeD : ∀ n, Rw q M dd (T_readTypeD n)
  | 0 => fun σ r τ e _ => by cases e
  | n + 1 => v_readTypeB (v_readTypeD n)
theorem v_readType : Rw q M dd T_readType := v_readTypeD 30
/-- one that is there is kept by a step -/
theorem Nv_of {x : Int × tS} (H : Iv q M dd x.2 ∧ gs σ 564 ≤ gs x.2 564 ∧ Nv M x.1 x.2) (h : gs x.2 564 ≤ gs τ 564) : Nv M x.1 τ := Nv_mono H.2.2 h
theorem v_num {t : Int} (h : 0 ≤ gs σ 432 ∧ gs σ 432 < 4100) (ht : t = w32 ((w32 ((gs σ 432) + 1)) - 1)) (e : T_node k t (-1) (-1) (-1) (-1) (us σ 432 (w32 ((gs σ 432) + 1))) = some (r, τ)) (hk : k ≠ 17) (I : Iv q M dd σ) : Iv q M dd τ ∧ gs σ 564 ≤ gs τ 564 ∧ Nv M r τ := by
  have f1 := Sv_at (q := q) (M := M) (dd := dd) h I
  have et : t = gs σ 432 := by rw [ht, w32_s (x := gs σ 432 + 1) (by omega) (by omega), w32_s (by omega) (by omega)]; omega
  have f2 := v_node2 (q := q) (M := M) (dd := dd) e (by rw [et]; exact I.1.1) (fun z => absurd z hk) f1.1
  exact ⟨f2.1, Int.le_trans f1.2 f2.2.1, f2.2.2⟩
theorem v_atom (R : Rw q M dd rT) : Rw q M dd (T_atom rT) := by
  intro σ r τ e I
  unfold T_atom at e
  split at e
  · obtain ⟨p1, e1, e⟩ := obind e
    have h := is_in e1
    split at e
    · obtain ⟨p2, e2, e⟩ := obind e
      split at e
      · obtain ⟨p3, e3, e⟩ := obind e
        obtain ⟨p4, e4, e⟩ := obind e
        obtain ⟨p5, e5, e⟩ := obind e
        cases e
        exact v_paren R e3 e4 e5 I
      · obtain ⟨p6, e6, e⟩ := obind e
        cases e
        exact v_num (r := p6.1) (τ := p6.2) h rfl e6 (by decide) I
    · obtain ⟨p7, e7, e⟩ := obind e
      cases e
      exact v_num (r := p7.1) (τ := p7.2) h rfl e7 (by decide) I
  · obtain ⟨p8, e8, e⟩ := obind e
    cases e
    exact v_node2 (r := p8.1) (τ := p8.2) e8 I.1.1 (fun z => absurd z (by decide)) I
/-- one more item of a use -/
theorem v_use42 (R : Rw q M dd rT) {l1 l2 l3 l4 : Int} {z : (Int × Int × Int × tS) ⊕ (Int × tS)} (h : 0 ≤ gs σ 432 ∧ gs σ 432 < 4100) (e : T_use_42 rT l1 l2 l3 l4 σ = some z) (I : Iv q M dd σ) (h1 : q ≤ l1) (n3 : Nv M l3 σ) : ∃ y : Int × Int × Int × tS, z = .inl y ∧ Iv q M dd y.2.2.2 ∧ gs σ 564 ≤ gs y.2.2.2 564 ∧ Nv M y.2.1 y.2.2.2 := by
  unfold T_use_42 at e
  obtain ⟨p1, e1, e⟩ := obind e
  split at e
  · obtain ⟨p2, e2, e⟩ := obind e
    have f0 := Sv_at (q := q) (M := M) (dd := dd) h I
    have f2 := v_piece v_readType _ p2.1 p2.2 e2 f0.1
    split at e
    · obtain ⟨p3, e3, e⟩ := obind e
      have f3 := v_node2 (q := q) (M := M) (dd := dd) (r := p3.1) (τ := p3.2) e3 I.1.1 (fun z => absurd z (by decide)) f2.1
      have mono := Int.le_trans f0.2 (Int.le_trans f2.2.1 f3.2.1)
      split at e
      · split at e
        · cases e
          have f4 := Sv_ua (q := q) (M := M) (dd := dd) (σ := p3.2) (f := 562) (j := l4.toNat) (x := p3.1) (by decide) (by decide) (by decide) (.inl (by decide)) f3.1
          exact ⟨_, rfl, f4.1, Int.le_trans mono f4.2, Nv_mono (Nv_mono n3 mono) f4.2⟩
        · cases e
      · split at e
        · cases e
          have f4 := Sv_ua (q := q) (M := M) (dd := dd) (σ := p3.2) (f := 546) (j := l3.toNat) (x := p3.1) (by decide) (by decide) (by decide) (.inl (by decide)) f3.1
          exact ⟨_, rfl, f4.1, Int.le_trans mono f4.2, Nv_mono (Nv_mono n3 mono) f4.2⟩
        · cases e
    · obtain ⟨p4, e4, e⟩ := obind e
      cases e
      have f3 := v_node2 (q := q) (M := M) (dd := dd) (r := p4.1) (τ := p4.2) e4 I.1.1 (fun z => absurd z (by decide)) f2.1
      exact ⟨_, rfl, f3.1, Int.le_trans f0.2 (Int.le_trans f2.2.1 f3.2.1), f3.2.2⟩
  · obtain ⟨p5, e5, e⟩ := obind e
    obtain ⟨p6, e6, e⟩ := obind e
    cases e
    have f2 := v_atom R σ p5.1 p5.2 e5 I
    have f3 := v_node2 (q := q) (M := M) (dd := dd) (r := p6.1) (τ := p6.2) e6 h1 (fun z => absurd z (by decide)) f2.1
    exact ⟨_, rfl, f3.1, Int.le_trans f2.2.1 f3.2.1, f3.2.2⟩
theorem isAtom_in {r : Int} (e : T_isAtom σ = some r) (h : r ≠ 0) : 0 ≤ gs σ 432 ∧ gs σ 432 < 4100 := by
  unfold T_isAtom at e
  split at e
  · unfold T_isAtom_37 at e
    rw [if_pos (.inl rfl)] at e
    cases e
    exact absurd rfl h
  · obtain ⟨p1, e1, e⟩ := obind e
    exact is_in e1
theorem v_loop2 {α β : Type} {f : α → Option (α ⊕ β)} {st : α → tS} {sb : β → tS} {P : α → Prop} {Q : β → Prop} (hs : ∀ a a', f a = some (.inl a') → Iv q M dd (st a) → P a → Iv q M dd (st a') ∧ gs (st a) 564 ≤ gs (st a') 564 ∧ P a') (hb : ∀ a b, f a = some (.inr b) → Iv q M dd (st a) → P a → Iv q M dd (sb b) ∧ gs (st a) 564 ≤ gs (sb b) 564 ∧ Q b) {a : α} {b : β} (e : om_loop f a = some b) (I : Iv q M dd (st a)) (p : P a) : Iv q M dd (sb b) ∧ gs (st a) 564 ≤ gs (sb b) 564 ∧ Q b := by
  refine om_loop_ind (P := fun a b => Iv q M dd (st a) → P a → Iv q M dd (sb b) ∧ gs (st a) 564 ≤ gs (sb b) 564 ∧ Q b) (fun a b e => hb a b e) (fun a a' b e H I p => ?_) e I p
  obtain ⟨s1, s2, s3⟩ := hs a a' e I p
  obtain ⟨t1, t2, t3⟩ := H s1 s3
  exact ⟨t1, Int.le_trans s2 t2, t3⟩
theorem v_use (R : Rw q M dd rT) : Rw q M dd (T_use rT) := by
  intro σ r τ e I
  unfold T_use at e
  obtain ⟨p1, e1, e⟩ := obind e
  obtain ⟨p2, e2, e⟩ := obind e
  obtain ⟨y3, e3, e⟩ := obind e
  cases e
  have f2 := v_atom R σ p2.1 p2.2 e2 I
  have f3 := v_loop2 (q := q) (M := M) (dd := dd) (st := fun x : Int × Int × Int × tS => x.2.2.2) (sb := fun x : Int × tS => x.2) (P := fun x => Nv M x.2.1 x.2.2.2) (Q := fun x => Nv M x.1 x.2) (fun a a' e I' n' => by
    unfold T_use_19s at e
    obtain ⟨q1, d1, e⟩ := obind e
    split at e
    · rename_i hq
      obtain ⟨y, y1, y2⟩ := v_use42 R (isAtom_in d1 hq) e I' I.1.1 n'
      cases y1
      exact y2
    · split at e
      · cases e
      · obtain ⟨q2, d2, e⟩ := obind e
        split at e
        · cases e
        · obtain ⟨y, y1, y2⟩ := v_use42 R (is_in d2) e I' I.1.1 n'
          cases y1
          exact y2) (fun a b e I' n' => by
    unfold T_use_19s at e
    obtain ⟨q1, d1, e⟩ := obind e
    split at e
    · rename_i hq
      obtain ⟨y, y1, y2⟩ := v_use42 R (isAtom_in d1 hq) e I' I.1.1 n'
      cases y1
    · split at e
      · cases e
        exact ⟨I', Int.le_refl _, n'⟩
      · obtain ⟨q2, d2, e⟩ := obind e
        split at e
        · cases e
          exact ⟨I', Int.le_refl _, n'⟩
        · obtain ⟨y, y1, y2⟩ := v_use42 R (is_in d2) e I' I.1.1 n'
          cases y1) e3 f2.1 f2.2.2
  exact ⟨f3.1, Int.le_trans f2.2.1 f3.2.1, f3.2.2⟩
theorem v_product (R : Rw q M dd rT) : Rw q M dd (T_product rT) := by
  intro σ r τ e I
  unfold T_product at e
  obtain ⟨p1, e1, e⟩ := obind e
  obtain ⟨y2, e2, e⟩ := obind e
  cases e
  have f1 := v_use R σ p1.1 p1.2 e1 I
  have f3 := v_loop2 (q := q) (M := M) (dd := dd) (st := fun x : Int × tS => x.2) (sb := fun x : Int × tS => x.2) (P := fun x => Nv M x.1 x.2) (Q := fun x => Nv M x.1 x.2) (fun a a' e I' n' => by
    unfold T_product_5s at e
    obtain ⟨q1, d1, e⟩ := obind e
    have g1 := v_takes (q := q) (M := M) (dd := dd) (r := q1.1) (τ := q1.2) d1 I'
    split at e
    · cases e
    · rename_i hq
      obtain ⟨q2, d2, e⟩ := obind e
      obtain ⟨q3, d3, e⟩ := obind e
      cases e
      have t1 := v_takes1 (r := q1.1) (τ := q1.2) d1 hq
      have g2 := v_use R q1.2 q2.1 q2.2 d2 g1.1
      have g3 := v_node2 (q := q) (M := M) (dd := dd) (r := q3.1) (τ := q3.2) d3 (by rw [t1.1, w32_s (by omega) (by omega)]; have h0 : q ≤ gs a.2 432 := I'.1.1; omega) (fun z => absurd z (by decide)) g2.1
      exact ⟨g3.1, Int.le_trans g1.2 (Int.le_trans g2.2.1 g3.2.1), g3.2.2⟩) (fun a b e I' n' => by
    unfold T_product_5s at e
    obtain ⟨q1, d1, e⟩ := obind e
    have g1 := v_takes (q := q) (M := M) (dd := dd) (r := q1.1) (τ := q1.2) d1 I'
    split at e
    · cases e
      exact ⟨g1.1, g1.2, Nv_mono n' g1.2⟩
    · obtain ⟨q2, d2, e⟩ := obind e
      obtain ⟨q3, d3, e⟩ := obind e
      cases e) e2 f1.1 f1.2.2
  exact ⟨f3.1, Int.le_trans f1.2.1 f3.2.1, f3.2.2⟩
theorem v_sum (R : Rw q M dd rT) : Rw q M dd (T_sum rT) := by
  intro σ r τ e I
  unfold T_sum at e
  obtain ⟨p1, e1, e⟩ := obind e
  obtain ⟨y2, e2, e⟩ := obind e
  cases e
  have f1 := v_product R σ p1.1 p1.2 e1 I
  have s30 : ∀ {l1 : Int} {σ : tS} {z : (Int × tS) ⊕ (Int × tS)}, 0 ≤ gs σ 432 ∧ gs σ 432 < 4100 → T_sum_30 rT l1 σ = some z → Iv q M dd σ → ∃ y : Int × tS, z = .inl y ∧ Iv q M dd y.2 ∧ gs σ 564 ≤ gs y.2 564 ∧ Nv M y.1 y.2 := by
    intro l1 σ z h e I
    unfold T_sum_30 at e
    obtain ⟨q1, d1, e⟩ := obind e
    obtain ⟨q2, d2, e⟩ := obind e
    cases e
    have g0 := Sv_at (q := q) (M := M) (dd := dd) h I
    have g1 := v_product R _ q1.1 q1.2 d1 g0.1
    have g2 := v_node2 (q := q) (M := M) (dd := dd) (r := q2.1) (τ := q2.2) d2 I.1.1 (fun z => absurd z (by decide)) g1.1
    exact ⟨_, rfl, g2.1, Int.le_trans g0.2 (Int.le_trans g1.2.1 g2.2.1), g2.2.2⟩
  have f3 := v_loop2 (q := q) (M := M) (dd := dd) (st := fun x : Int × tS => x.2) (sb := fun x : Int × tS => x.2) (P := fun x => Nv M x.1 x.2) (Q := fun x => Nv M x.1 x.2) (fun a a' e I' n' => by
    unfold T_sum_5s at e
    split at e
    · cases e
    · obtain ⟨q1, d1, e⟩ := obind e
      split at e
      · obtain ⟨y, y1, y2⟩ := s30 (is_in d1) e I'
        cases y1
        exact y2
      · obtain ⟨q2, d2, e⟩ := obind e
        split at e
        · cases e
        · obtain ⟨y, y1, y2⟩ := s30 (is_in d1) e I'
          cases y1
          exact y2) (fun a b e I' n' => by
    unfold T_sum_5s at e
    split at e
    · cases e
      exact ⟨I', Int.le_refl _, n'⟩
    · obtain ⟨q1, d1, e⟩ := obind e
      split at e
      · obtain ⟨y, y1, y2⟩ := s30 (is_in d1) e I'
        cases y1
      · obtain ⟨q2, d2, e⟩ := obind e
        split at e
        · cases e
          exact ⟨I', Int.le_refl _, n'⟩
        · obtain ⟨y, y1, y2⟩ := s30 (is_in d1) e I'
          cases y1) e2 f1.1 f1.2.2
  exact ⟨f3.1, Int.le_trans f1.2.1 f3.2.1, f3.2.2⟩
theorem v_compare (R : Rw q M dd rT) : Rw q M dd (T_compare rT) := by
  intro σ r τ e I
  unfold T_compare at e
  obtain ⟨p1, e1, e⟩ := obind e
  have f1 := v_sum R σ p1.1 p1.2 e1 I
  have c32 : 0 ≤ gs p1.2 432 ∧ gs p1.2 432 < 4100 → T_compare_32 rT p1.1 p1.2 = some (r, τ) → Iv q M dd τ ∧ gs σ 564 ≤ gs τ 564 ∧ Nv M r τ := by
    intro h e
    unfold T_compare_32 at e
    obtain ⟨q1, d1, e⟩ := obind e
    obtain ⟨q2, d2, e⟩ := obind e
    cases e
    have g0 := Sv_at (q := q) (M := M) (dd := dd) h f1.1
    have g1 := v_sum R _ q1.1 q1.2 d1 g0.1
    have g2 := v_node2 (q := q) (M := M) (dd := dd) (r := q2.1) (τ := q2.2) d2 f1.1.1.1 (fun z => absurd z (by decide)) g1.1
    exact ⟨g2.1, Int.le_trans f1.2.1 (Int.le_trans g0.2 (Int.le_trans g1.2.1 g2.2.1)), g2.2.2⟩
  split at e
  · cases e; exact f1
  · obtain ⟨p2, e2, e⟩ := obind e
    split at e
    · exact c32 (is_in e2) e
    · obtain ⟨p3, e3, e⟩ := obind e
      split at e
      · exact c32 (is_in e2) e
      · cases e; exact f1
theorem v_case (R : Rw q M dd rT) {l1 : Int} (hl : q ≤ l1) (e : T_readCase rT l1 σ = some (r, τ)) (I : Iv q M dd σ) : Iv q M dd τ ∧ gs σ 564 ≤ gs τ 564 ∧ Nv M r τ := by
  have c71 : ∀ {l2 l3 : Int} {σ : tS}, T_readCase_71 rT l1 l2 l3 σ = some (r, τ) → Iv q M dd σ → Iv q M dd τ ∧ gs σ 564 ≤ gs τ 564 ∧ Nv M r τ := by
    intro l2 l3 σ e I
    unfold T_readCase_71 at e
    obtain ⟨p1, e1, e⟩ := obind e
    obtain ⟨p2, e2, e⟩ := obind e
    obtain ⟨p3, e3, e⟩ := obind e
    obtain ⟨p4, e4, e⟩ := obind e
    obtain ⟨p5, e5, e⟩ := obind e
    obtain ⟨p6, e6, e⟩ := obind e
    obtain ⟨p7, e7, e⟩ := obind e
    cases e
    have f1 := v_need (q := q) (M := M) (dd := dd) e1 I
    have f2 := v_needed (q := q) (M := M) (dd := dd) (r := p2.1) (τ := p2.2) e2
    have f2' := f2.1 f1.1
    have f3 := v_need (q := q) (M := M) (dd := dd) e3 f2'.1
    have f4 := v_need (q := q) (M := M) (dd := dd) e4 f3.1
    have f5 := R p4 p5.1 p5.2 e5 f4.1
    have f6 := v_node2 (q := q) (M := M) (dd := dd) (r := p6.1) (τ := p6.2) e6 hl (fun _ => f2.2 f1.1) f5.1
    have f7 := v_need (q := q) (M := M) (dd := dd) e7 f6.1
    exact ⟨f7.1, by have := f1.2; have := f2'.2; have := f3.2; have := f4.2; have := f5.2.1; have := f6.2.1; have := f7.2; omega, Nv_mono f6.2.2 f7.2⟩
  have c33 : ∀ {l2 : Int} {σ : tS}, T_readCase_33 rT l1 l2 σ = some (r, τ) → Iv q M dd σ → Iv q M dd τ ∧ gs σ 564 ≤ gs τ 564 ∧ Nv M r τ := by
    intro l2 σ e I
    unfold T_readCase_33 at e
    obtain ⟨p1, e1, e⟩ := obind e
    obtain ⟨p2, e2, e⟩ := obind e
    obtain ⟨p3, e3, e⟩ := obind e
    obtain ⟨p4, e4, e⟩ := obind e
    obtain ⟨p5, e5, e⟩ := obind e
    have f1 := v_need (q := q) (M := M) (dd := dd) e1 I
    have f2 := v_need (q := q) (M := M) (dd := dd) e2 f1.1
    have f3 := R p2 p3.1 p3.2 e3 f2.1
    have f4 := v_need (q := q) (M := M) (dd := dd) e4 f3.1
    split at e
    · have f6 := c71 e f4.1
      exact ⟨f6.1, by have := f1.2; have := f2.2; have := f3.2.1; have := f4.2; have := f6.2.1; omega, f6.2.2⟩
    · obtain ⟨p6, e6, e⟩ := obind e
      have f5 := v_wrong (q := q) (M := M) (dd := dd) e6 f4.1
      have f6 := c71 e f5.1
      exact ⟨f6.1, by have := f1.2; have := f2.2; have := f3.2.1; have := f4.2; have := f5.2; have := f6.2.1; omega, f6.2.2⟩
  unfold T_readCase at e
  obtain ⟨p1, e1, e⟩ := obind e
  obtain ⟨p2, e2, e⟩ := obind e
  obtain ⟨p3, e3, e⟩ := obind e
  obtain ⟨p4, e4, e⟩ := obind e
  have f1 := R σ p1.1 p1.2 e1 I
  have f2 := v_need (q := q) (M := M) (dd := dd) e2 f1.1
  have f3 := v_need (q := q) (M := M) (dd := dd) e3 f2.1
  split at e
  · have f6 := c33 e f3.1
    exact ⟨f6.1, by have := f1.2.1; have := f2.2; have := f3.2; have := f6.2.1; omega, f6.2.2⟩
  · obtain ⟨p6, e6, e⟩ := obind e
    have f5 := v_wrong (q := q) (M := M) (dd := dd) e6 f3.1
    have f6 := c33 e f5.1
    exact ⟨f6.1, by have := f1.2.1; have := f2.2; have := f3.2; have := f5.2; have := f6.2.1; omega, f6.2.2⟩
/-- the end of an ex that was begun -/
theorem v_end {x : Int × tS} (H : Iv q M dd x.2 ∧ gs σ 564 ≤ gs x.2 564 ∧ Nv M x.1 x.2) (e : some (x.1, us x.2 436 (w32 ((gs x.2 436) - 1))) = some (r, τ)) : Iv q M dd τ ∧ gs σ 564 ≤ gs τ 564 ∧ Nv M r τ := by
  cases e
  have f := Sv_us (q := q) (M := M) (dd := dd) (σ := x.2) (f := 436) (x := w32 ((gs x.2 436) - 1)) (by decide) (by decide) H.1
  exact ⟨f.1, Int.le_trans H.2.1 f.2, Nv_mono H.2.2 f.2⟩
theorem v_readExB (R : Rw q M dd rT) : Rw q M dd (T_readExB rT) := by
  intro σ r τ e I
  unfold T_readExB at e
  obtain ⟨p1, e1, e⟩ := obind e
  have f1 := v_enter (q := q) (M := M) (dd := dd) e1 I
  have t1 := f1.1.1.1
  split at e
  · obtain ⟨p2, e2, e⟩ := obind e
    have f2 := v_takes (q := q) (M := M) (dd := dd) (r := p2.1) (τ := p2.2) e2 f1.1
    split at e
    · obtain ⟨p3, e3, e⟩ := obind e
      have f3 := v_takes (q := q) (M := M) (dd := dd) (r := p3.1) (τ := p3.2) e3 f2.1
      split at e
      · obtain ⟨p4, e4, e⟩ := obind e
        have f4 := v_takes (q := q) (M := M) (dd := dd) (r := p4.1) (τ := p4.2) e4 f3.1
        split at e
        · obtain ⟨p5, e5, e⟩ := obind e
          have f5 := v_takes (q := q) (M := M) (dd := dd) (r := p5.1) (τ := p5.2) e5 f4.1
          have m5 : gs σ 564 ≤ gs p5.2 564 := by have := f1.2; have := f2.2; have := f3.2; have := f4.2; have := f5.2; omega
          split at e
          · obtain ⟨p6, e6, e⟩ := obind e
            have f6 := v_compare R p5.2 p6.1 p6.2 e6 f5.1
            exact v_end ⟨f6.1, Int.le_trans m5 f6.2.1, f6.2.2⟩ e
          · obtain ⟨p7, e7, e⟩ := obind e
            have f6 := v_case R t1 (r := p7.1) (τ := p7.2) e7 f5.1
            exact v_end ⟨f6.1, Int.le_trans m5 f6.2.1, f6.2.2⟩ e
        · obtain ⟨p8, e8, e⟩ := obind e
          obtain ⟨p9, e9, e⟩ := obind e
          obtain ⟨p10, e10, e⟩ := obind e
          obtain ⟨p11, e11, e⟩ := obind e
          obtain ⟨p12, e12, e⟩ := obind e
          obtain ⟨p13, e13, e⟩ := obind e
          have f8 := R p4.2 p8.1 p8.2 e8 f4.1
          have f9 := v_need (q := q) (M := M) (dd := dd) e9 f8.1
          have f10 := R p9 p10.1 p10.2 e10 f9.1
          have f11 := v_need (q := q) (M := M) (dd := dd) e11 f10.1
          have f12 := R p11 p12.1 p12.2 e12 f11.1
          have f13 := v_node2 (q := q) (M := M) (dd := dd) (r := p13.1) (τ := p13.2) e13 t1 (fun z => absurd z (by decide)) f12.1
          exact v_end ⟨f13.1, by have := f1.2; have := f2.2; have := f3.2; have := f4.2; have := f8.2.1; have := f9.2; have := f10.2.1; have := f11.2; have := f12.2.1; have := f13.2.1; omega, f13.2.2⟩ e
      · obtain ⟨p14, e14, e⟩ := obind e
        obtain ⟨p15, e15, e⟩ := obind e
        obtain ⟨p16, e16, e⟩ := obind e
        obtain ⟨p17, e17, e⟩ := obind e
        obtain ⟨p18, e18, e⟩ := obind e
        obtain ⟨p19, e19, e⟩ := obind e
        obtain ⟨p20, e20, e⟩ := obind e
        obtain ⟨p21, e21, e⟩ := obind e
        have f14 := (v_needed (q := q) (M := M) (dd := dd) (r := p14.1) (τ := p14.2) e14).1 f3.1
        have f15 := v_need (q := q) (M := M) (dd := dd) e15 f14.1
        have f16 := v_readType p15 p16.1 p16.2 e16 f15.1
        have f17 := v_need (q := q) (M := M) (dd := dd) e17 f16.1
        have f18 := R p17 p18.1 p18.2 e18 f17.1
        have f19 := v_need (q := q) (M := M) (dd := dd) e19 f18.1
        have f20 := R p19 p20.1 p20.2 e20 f19.1
        have f21 := v_node2 (q := q) (M := M) (dd := dd) (r := p21.1) (τ := p21.2) e21 t1 (fun z => absurd z (by decide)) f20.1
        exact v_end ⟨f21.1, by have := f1.2; have := f2.2; have := f3.2; have := f14.2; have := f15.2; have := f16.2.1; have := f17.2; have := f18.2.1; have := f19.2; have := f20.2.1; have := f21.2.1; omega, f21.2.2⟩ e
    · obtain ⟨p22, e22, e⟩ := obind e
      obtain ⟨p23, e23, e⟩ := obind e
      obtain ⟨p24, e24, e⟩ := obind e
      obtain ⟨p25, e25, e⟩ := obind e
      obtain ⟨p26, e26, e⟩ := obind e
      obtain ⟨p27, e27, e⟩ := obind e
      have f22 := (v_needed (q := q) (M := M) (dd := dd) (r := p22.1) (τ := p22.2) e22).1 f2.1
      have f23 := v_need (q := q) (M := M) (dd := dd) e23 f22.1
      have f24 := v_readType p23 p24.1 p24.2 e24 f23.1
      have f25 := v_need (q := q) (M := M) (dd := dd) e25 f24.1
      have f26 := R p25 p26.1 p26.2 e26 f25.1
      have f27 := v_node2 (q := q) (M := M) (dd := dd) (r := p27.1) (τ := p27.2) e27 t1 (fun z => absurd z (by decide)) f26.1
      exact v_end ⟨f27.1, by have := f1.2; have := f2.2; have := f22.2; have := f23.2; have := f24.2.1; have := f25.2; have := f26.2.1; have := f27.2.1; omega, f27.2.2⟩ e
  · obtain ⟨p28, e28, e⟩ := obind e
    have f28 := v_node2 (q := q) (M := M) (dd := dd) (r := p28.1) (τ := p28.2) e28 t1 (fun z => absurd z (by decide)) f1.1
    exact v_end ⟨f28.1, by have := f1.2; have := f28.2.1; omega, f28.2.2⟩ e
theorem v_readExD : ∀ n, Rw q M dd (T_readExD n)
  | 0 => fun σ r τ e _ => by cases e
  | n + 1 => v_readExB (v_readExD n)
theorem v_readEx : Rw q M dd T_readEx := v_readExD 30
end LIW
