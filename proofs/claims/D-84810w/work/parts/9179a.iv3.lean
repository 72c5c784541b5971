set_option maxRecDepth 100000
/-! WHERE THE TWIN'S NODES STAND: declarations -/
section LID
variable {q : Int} {M dd : Nat} {σ τ : tS} {r k : Int}
/-- a step that is taken -/
def Tv (q : Int) (M dd : Nat) (σ τ : tS) : Prop := Iv q M dd τ ∧ gs σ 564 ≤ gs τ 564
theorem Tv_trans {υ : tS} (A : Tv q M dd σ τ) (B : Tv q M dd τ υ) : Tv q M dd σ υ := ⟨B.1, Int.le_trans A.2 B.2⟩
theorem iw_need (e : T_need k σ = some τ) (I : Iv q M dd σ) : Tv q M dd σ τ := v_need e I
theorem iw_takes {p : Int × tS} (e : T_takes k σ = some p) (I : Iv q M dd σ) : Tv q M dd σ p.2 := v_takes (r := p.1) (τ := p.2) e I
theorem iw_needed {p : Int × tS} (e : T_needed k σ = some p) (I : Iv q M dd σ) : Tv q M dd σ p.2 ∧ q ≤ p.1 := ⟨(v_needed (r := p.1) (τ := p.2) e).1 I, (v_needed (q := q) (M := M) (dd := dd) (r := p.1) (τ := p.2) e).2 I⟩
theorem w_ua {f j : Nat} {x : Int} (h1 : f ≠ 538) (h2 : f ≠ 542) (h3 : f ≠ 554) (h4 : f ∉ [578, 582, 586, 594, 610] ∨ x = -1 ∨ q ≤ x) (I : Iv q M dd σ) : Tv q M dd σ (ua σ f j x) := Sv_ua h1 h2 h3 h4 I
theorem iw_type {p : Int × tS} (e : T_readType σ = some p) (I : Iv q M dd σ) : Tv q M dd σ p.2 := by
  have f := v_readType σ p.1 p.2 e I
  exact ⟨f.1, f.2.1⟩
theorem w_ex {p : Int × tS} (e : T_readEx σ = some p) (I : Iv q M dd σ) : Tv q M dd σ p.2 := by
  have f := v_readEx σ p.1 p.2 e I
  exact ⟨f.1, f.2.1⟩
theorem iw_node {t a b c d : Int} {p : Int × tS} (e : T_node k t a b c d σ = some p) (h1 : q ≤ t) (h2 : k ≠ 17) (I : Iv q M dd σ) : Tv q M dd σ p.2 := by
  have f := v_node2 (r := p.1) (τ := p.2) e h1 (fun z => absurd z h2) I
  exact ⟨f.1, f.2.1⟩
theorem w_loop {α β : Type} {f : α → Option (α ⊕ β)} {st : α → tS} {sb : β → tS} (hs : ∀ a a', f a = some (.inl a') → Iv q M dd (st a) → Tv q M dd (st a) (st a')) (hb : ∀ a b, f a = some (.inr b) → Iv q M dd (st a) → Tv q M dd (st a) (sb b)) {a : α} {b : β} (e : om_loop f a = some b) (I : Iv q M dd (st a)) : Tv q M dd (st a) (sb b) := by
  have f := v_loop2 (q := q) (M := M) (dd := dd) (st := st) (sb := sb) (P := fun _ => True) (Q := fun _ => True) (fun a a' e I _ => ⟨(hs a a' e I).1, (hs a a' e I).2, trivial⟩) (fun a b e I _ => ⟨(hb a b e I).1, (hb a b e I).2, trivial⟩) e I trivial
  exact ⟨f.1, f.2.1⟩
theorem w_cond54 {l1 l2 l3 s2 s3 s4 : Int} {z : (Int × Int × Int × tS) ⊕ (Int × tS)} (e : T_conditions_54 l1 l2 l3 21 s2 s3 s4 σ = some z) (h : q ≤ s2) (I : Iv q M dd σ) : ∃ y : Int × Int × Int × tS, z = .inl y ∧ Tv q M dd σ y.2.2.2 := by
  unfold T_conditions_54 at e
  obtain ⟨p1, e1, e⟩ := obind e
  have f1 := iw_node (q := q) (M := M) (dd := dd) e1 h (by decide) I
  split at e
  · split at e
    · unfold T_conditions_80 at e
      obtain ⟨p2, e2, e⟩ := obind e
      cases e
      have f2 := w_ua (q := q) (M := M) (dd := dd) (σ := p1.2) (f := 562) (j := l3.toNat) (x := p1.1) (by decide) (by decide) (by decide) (.inl (by decide)) f1.1
      have f3 := iw_takes (q := q) (M := M) (dd := dd) e2 f2.1
      exact ⟨_, rfl, Tv_trans f1 (Tv_trans f2 f3)⟩
    · cases e
  · unfold T_conditions_80 at e
    obtain ⟨p2, e2, e⟩ := obind e
    cases e
    exact ⟨_, rfl, Tv_trans f1 (iw_takes e2 f1.1)⟩
theorem w_cond7 {l1 : Int} {a : Int × Int × Int × tS} {z : (Int × Int × Int × tS) ⊕ (Int × tS)} (e : T_conditions_7s l1 a = some z) (I : Iv q M dd a.2.2.2) : Tv q M dd a.2.2.2 (Sum.elim (fun y => y.2.2.2) (fun y => y.2) z) := by
  unfold T_conditions_7s at e
  split at e
  · cases e
    exact ⟨I, Int.le_refl _⟩
  · obtain ⟨p1, e1, e⟩ := obind e
    obtain ⟨p2, e2, e⟩ := obind e
    have f1 := iw_needed (q := q) (M := M) (dd := dd) e1 I
    have f2 := iw_needed (q := q) (M := M) (dd := dd) e2 f1.1.1
    have f12 := Tv_trans f1.1 f2.1
    split at e
    · obtain ⟨y, y1, y2⟩ := w_cond54 e f1.2 f12.1
      rw [y1]
      exact Tv_trans f12 y2
    · obtain ⟨p3, e3, e⟩ := obind e
      have f3 := iw_takes (q := q) (M := M) (dd := dd) e3 f12.1
      split at e
      · obtain ⟨y, y1, y2⟩ := w_cond54 e f1.2 f3.1
        rw [y1]
        exact Tv_trans f12 (Tv_trans f3 y2)
      · obtain ⟨p4, e4, e⟩ := obind e
        have f4 := iw_type (q := q) (M := M) (dd := dd) e4 f3.1
        obtain ⟨y, y1, y2⟩ := w_cond54 e f1.2 f4.1
        rw [y1]
        exact Tv_trans f12 (Tv_trans f3 (Tv_trans f4 y2))
theorem iw_conditions {l1 : Int} {p : Int × tS} (e : T_conditions l1 σ = some p) (I : Iv q M dd σ) : Tv q M dd σ p.2 := by
  unfold T_conditions at e
  obtain ⟨y1, e1, e⟩ := obind e
  obtain ⟨p2, e2, e⟩ := obind e
  cases e
  have f1 := w_loop (q := q) (M := M) (dd := dd) (st := fun x : Int × Int × Int × tS => x.2.2.2) (sb := fun x : Int × tS => x.2) (fun a a' e I => w_cond7 e I) (fun a b e I => w_cond7 e I) e1 I
  exact Tv_trans f1 (iw_need e2 f1.1)
theorem w_class76 {l1 : Int} {a : Int × tS} {z : (Int × tS) ⊕ tS} (e : T_aClass_76s l1 a = some z) (I : Iv q M dd a.2) : Tv q M dd a.2 (Sum.elim (fun y => y.2) (fun y => y) z) := by
  unfold T_aClass_76s at e
  split at e
  · cases e; exact ⟨I, Int.le_refl _⟩
  · obtain ⟨p1, e1, e⟩ := obind e
    have h := is_in e1
    split at e
    · cases e; exact ⟨I, Int.le_refl _⟩
    · obtain ⟨p2, e2, e⟩ := obind e
      obtain ⟨p3, e3, e⟩ := obind e
      obtain ⟨p4, e4, e⟩ := obind e
      obtain ⟨p5, e5, e⟩ := obind e
      have f0 : Tv q M dd a.2 _ := Sv_at (q := q) (M := M) (dd := dd) h I
      have f2 := iw_need (q := q) (M := M) (dd := dd) e2 f0.1
      have f3 := iw_type (q := q) (M := M) (dd := dd) e3 f2.1
      have f4 := iw_node (q := q) (M := M) (dd := dd) e4 I.1.1 (by decide) f3.1
      have f5 := iw_need (q := q) (M := M) (dd := dd) e5 f4.1
      have f := Tv_trans f0 (Tv_trans f2 (Tv_trans f3 (Tv_trans f4 f5)))
      split at e
      · split at e
        · cases e
          exact Tv_trans f (w_ua (f := 562) (by decide) (by decide) (by decide) (.inl (by decide)) f.1)
        · cases e
      · split at e
        · cases e
          exact Tv_trans f (w_ua (f := 602) (by decide) (by decide) (by decide) (.inl (by decide)) f.1)
        · cases e
theorem w_class42 {l1 : Int} (e : T_aClass_42 l1 σ = some τ) (I : Iv q M dd σ) : Tv q M dd σ τ := by
  have c74 : ∀ {σ : tS}, T_aClass_74 l1 σ = some τ → Iv q M dd σ → Tv q M dd σ τ := by
    intro σ e I
    unfold T_aClass_74 at e
    obtain ⟨y1, e1, e⟩ := obind e
    unfold T_aClass_164 at e
    obtain ⟨p1, e2, e⟩ := obind e
    cases e
    have f1 := w_loop (q := q) (M := M) (dd := dd) (st := fun x : Int × tS => x.2) (sb := fun x : tS => x) (fun a a' e I => w_class76 e I) (fun a b e I => w_class76 e I) e1 I
    exact Tv_trans f1 (iw_need e2 f1.1)
  unfold T_aClass_42 at e
  obtain ⟨p1, e1, e⟩ := obind e
  obtain ⟨p2, e2, e⟩ := obind e
  have f1 := iw_need (q := q) (M := M) (dd := dd) e1 I
  have f2 := Tv_trans f1 (iw_takes (q := q) (M := M) (dd := dd) e2 f1.1)
  split at e
  · exact Tv_trans f2 (c74 e f2.1)
  · obtain ⟨p3, e3, e⟩ := obind e
    split at e
    · obtain ⟨p4, e4, e⟩ := obind e
      have f3 := iw_needed (q := q) (M := M) (dd := dd) e3 f2.1
      have f4 := w_ua (q := q) (M := M) (dd := dd) (σ := p3.2) (f := 610) (j := l1.toNat) (x := p3.1) (by decide) (by decide) (by decide) (.inr (.inr f3.2)) f3.1.1
      have f5 := iw_need (q := q) (M := M) (dd := dd) e4 f4.1
      have f := Tv_trans f2 (Tv_trans f3.1 (Tv_trans f4 f5))
      exact Tv_trans f (c74 e f.1)
    · cases e
theorem w_class {l1 : Int} (e : T_aClass l1 σ = some τ) (I : Iv q M dd σ) : Tv q M dd σ τ := by
  unfold T_aClass at e
  obtain ⟨p1, e1, e⟩ := obind e
  split at e
  · obtain ⟨p2, e2, e⟩ := obind e
    have f1 := iw_needed (q := q) (M := M) (dd := dd) e1 I
    have f2 := w_ua (q := q) (M := M) (dd := dd) (σ := p1.2) (f := 578) (j := l1.toNat) (x := p1.1) (by decide) (by decide) (by decide) (.inr (.inr f1.2)) f1.1.1
    have f3 := iw_needed (q := q) (M := M) (dd := dd) e2 f2.1
    obtain ⟨p3, e3, e⟩ := obind e
    have f4 := w_ua (q := q) (M := M) (dd := dd) (σ := p2.2) (f := 582) (j := l1.toNat) (x := p2.1) (by decide) (by decide) (by decide) (.inr (.inr f3.2)) f3.1.1
    have f5 := iw_takes (q := q) (M := M) (dd := dd) e3 f4.1
    have f := Tv_trans f1.1 (Tv_trans f2 (Tv_trans f3.1 (Tv_trans f4 f5)))
    split at e
    · exact Tv_trans f (w_class42 e f.1)
    · obtain ⟨p4, e4, e⟩ := obind e
      have f6 := iw_needed (q := q) (M := M) (dd := dd) e4 f.1
      have f7 := w_ua (q := q) (M := M) (dd := dd) (σ := p4.2) (f := 586) (j := l1.toNat) (x := p4.1) (by decide) (by decide) (by decide) (.inr (.inr f6.2)) f6.1.1
      have g := Tv_trans f (Tv_trans f6.1 f7)
      exact Tv_trans g (w_class42 e g.1)
  · cases e
theorem w_inst152 {l1 : Int} {a : Int × tS} {z : (Int × tS) ⊕ tS} (e : T_anInstance_152s l1 a = some z) (I : Iv q M dd a.2) : Tv q M dd a.2 (Sum.elim (fun y => y.2) (fun y => y) z) := by
  unfold T_anInstance_152s at e
  split at e
  · cases e; exact ⟨I, Int.le_refl _⟩
  · obtain ⟨p1, e1, e⟩ := obind e
    have h := is_in e1
    split at e
    · cases e; exact ⟨I, Int.le_refl _⟩
    · obtain ⟨p2, e2, e⟩ := obind e
      obtain ⟨p3, e3, e⟩ := obind e
      obtain ⟨p4, e4, e⟩ := obind e
      obtain ⟨p5, e5, e⟩ := obind e
      have f0 : Tv q M dd a.2 _ := Sv_at (q := q) (M := M) (dd := dd) h I
      have f2 := iw_need (q := q) (M := M) (dd := dd) e2 f0.1
      have f3 := w_ex (q := q) (M := M) (dd := dd) e3 f2.1
      have f4 := iw_node (q := q) (M := M) (dd := dd) e4 I.1.1 (by decide) f3.1
      have f5 := iw_need (q := q) (M := M) (dd := dd) e5 f4.1
      have f := Tv_trans f0 (Tv_trans f2 (Tv_trans f3 (Tv_trans f4 f5)))
      split at e
      · split at e
        · cases e
          exact Tv_trans f (w_ua (f := 562) (by decide) (by decide) (by decide) (.inl (by decide)) f.1)
        · cases e
      · split at e
        · cases e
          exact Tv_trans f (w_ua (f := 602) (by decide) (by decide) (by decide) (.inl (by decide)) f.1)
        · cases e
theorem w_inst102 {l1 : Int} (e : T_anInstance_102 l1 σ = some τ) (I : Iv q M dd σ) : Tv q M dd σ τ := by
  have c150 : ∀ {σ : tS}, T_anInstance_150 l1 σ = some τ → Iv q M dd σ → Tv q M dd σ τ := by
    intro σ e I
    unfold T_anInstance_150 at e
    obtain ⟨y1, e1, e⟩ := obind e
    unfold T_anInstance_240 at e
    obtain ⟨p1, e2, e⟩ := obind e
    cases e
    have f1 := w_loop (q := q) (M := M) (dd := dd) (st := fun x : Int × tS => x.2) (sb := fun x : tS => x) (fun a a' e I => w_inst152 e I) (fun a b e I => w_inst152 e I) e1 I
    exact Tv_trans f1 (iw_need e2 f1.1)
  unfold T_anInstance_102 at e
  obtain ⟨p1, e1, e⟩ := obind e
  obtain ⟨p2, e2, e⟩ := obind e
  have f1 := iw_need (q := q) (M := M) (dd := dd) e1 I
  have f2 := Tv_trans f1 (iw_takes (q := q) (M := M) (dd := dd) e2 f1.1)
  split at e
  · exact Tv_trans f2 (c150 e f2.1)
  · obtain ⟨p3, e3, e⟩ := obind e
    split at e
    · obtain ⟨p4, e4, e⟩ := obind e
      obtain ⟨p5, e5, e⟩ := obind e
      have f3 := iw_needed (q := q) (M := M) (dd := dd) e3 f2.1
      have f4 := w_ua (q := q) (M := M) (dd := dd) (σ := p3.2) (f := 610) (j := l1.toNat) (x := p3.1) (by decide) (by decide) (by decide) (.inr (.inr f3.2)) f3.1.1
      have f5 := iw_need (q := q) (M := M) (dd := dd) e4 f4.1
      have f6 := iw_type (q := q) (M := M) (dd := dd) e5 f5.1
      obtain ⟨p6, e6, e⟩ := obind e
      have f7 := w_ua (q := q) (M := M) (dd := dd) (σ := p5.2) (f := 614) (j := l1.toNat) (x := p5.1) (by decide) (by decide) (by decide) (.inl (by decide)) f6.1
      have f8 := iw_need (q := q) (M := M) (dd := dd) e6 f7.1
      have f := Tv_trans f2 (Tv_trans f3.1 (Tv_trans f4 (Tv_trans f5 (Tv_trans f6 (Tv_trans f7 f8)))))
      exact Tv_trans f (c150 e f.1)
    · cases e
theorem w_names {l1 : Int} {F : Nat} (hF : F = 590 ∨ F = 598) {f : tS → Option (tS ⊕ tS)} (hf : ∀ x, f x = ((T_takes 2 x).bind fun p1 => if p1.1 = 0 then some (.inr p1.2) else if 0 ≤ l1 ∧ l1 < 700 then (some (.inl (ua p1.2 F l1.toNat (w32 ((ga p1.2 F l1.toNat) + 1))))) else none)) (e : om_loop f σ = some τ) (I : Iv q M dd σ) : Tv q M dd σ τ := by
  refine w_loop (q := q) (M := M) (dd := dd) (st := fun x : tS => x) (sb := fun x : tS => x) (fun a a' e I => ?_) (fun a b e I => ?_) e I
  · rw [hf] at e
    obtain ⟨p1, e1, e⟩ := obind e
    have f1 := iw_takes (q := q) (M := M) (dd := dd) e1 I
    split at e
    · cases e
    · split at e
      · cases e
        have f2 := w_ua (q := q) (M := M) (dd := dd) (σ := p1.2) (f := F) (j := l1.toNat) (x := w32 ((ga p1.2 F l1.toNat) + 1)) (by omega) (by omega) (by omega) (.inl (by rcases hF with z | z <;> rw [z] <;> decide)) f1.1
        exact Tv_trans f1 f2
      · cases e
  · rw [hf] at e
    obtain ⟨p1, e1, e⟩ := obind e
    have f1 := iw_takes (q := q) (M := M) (dd := dd) e1 I
    split at e
    · cases e; exact f1
    · split at e
      · cases e
      · cases e
theorem w_inst20 {l1 : Int} (e : T_anInstance_20 l1 σ = some τ) (I : Iv q M dd σ) : Tv q M dd σ τ := by
  unfold T_anInstance_20 at e
  obtain ⟨p1, e1, e⟩ := obind e
  have f1 := iw_needed (q := q) (M := M) (dd := dd) e1 I
  split at e
  · obtain ⟨p2, e2, e⟩ := obind e
    have f2 := w_ua (q := q) (M := M) (dd := dd) (σ := p1.2) (f := 578) (j := l1.toNat) (x := p1.1) (by decide) (by decide) (by decide) (.inr (.inr f1.2)) f1.1.1
    have f3 := iw_takes (q := q) (M := M) (dd := dd) e2 f2.1
    have f := Tv_trans f1.1 (Tv_trans f2 f3)
    split at e
    · obtain ⟨p3, e3, e⟩ := obind e
      have f4 := iw_needed (q := q) (M := M) (dd := dd) e3 f.1
      have f5 := w_ua (q := q) (M := M) (dd := dd) (σ := p3.2) (f := 582) (j := l1.toNat) (x := p3.1) (by decide) (by decide) (by decide) (.inr (.inr f4.2)) f4.1.1
      have g := Tv_trans f (Tv_trans f4.1 f5)
      exact Tv_trans g (w_inst102 e g.1)
    · obtain ⟨p4, e4, e⟩ := obind e
      have f4 := iw_needed (q := q) (M := M) (dd := dd) e4 f.1
      split at e
      · obtain ⟨y5, e5, e⟩ := obind e
        obtain ⟨p6, e6, e⟩ := obind e
        have f5 := w_ua (q := q) (M := M) (dd := dd) (σ := p4.2) (f := 582) (j := l1.toNat) (x := p4.1) (by decide) (by decide) (by decide) (.inr (.inr f4.2)) f4.1.1
        have f6 := w_ua (q := q) (M := M) (dd := dd) (σ := ua p4.2 582 l1.toNat p4.1) (f := 586) (j := l1.toNat) (x := gs p4.2 432) (by decide) (by decide) (by decide) (.inr (.inr f4.1.1.1.1)) f5.1
        have f7 := w_names (q := q) (M := M) (dd := dd) (l1 := l1) (.inl rfl) (fun x => rfl) e5 f6.1
        have f8 := iw_need (q := q) (M := M) (dd := dd) e6 f7.1
        have g := Tv_trans f (Tv_trans f4.1 (Tv_trans f5 (Tv_trans f6 (Tv_trans f7 f8))))
        exact Tv_trans g (w_inst102 e g.1)
      · cases e
  · cases e
theorem w_inst {l1 : Int} (e : T_anInstance l1 σ = some τ) (I : Iv q M dd σ) : Tv q M dd σ τ := by
  unfold T_anInstance at e
  obtain ⟨p1, e1, e⟩ := obind e
  have f1 := iw_takes (q := q) (M := M) (dd := dd) e1 I
  split at e
  · exact Tv_trans f1 (w_inst20 e f1.1)
  · obtain ⟨p2, e2, e⟩ := obind e
    have f2 := iw_conditions (q := q) (M := M) (dd := dd) e2 f1.1
    split at e
    · have f3 := w_ua (q := q) (M := M) (dd := dd) (σ := p2.2) (f := 606) (j := l1.toNat) (x := p2.1) (by decide) (by decide) (by decide) (.inl (by decide)) f2.1
      have g := Tv_trans f1 (Tv_trans f2 f3)
      exact Tv_trans g (w_inst20 e g.1)
    · cases e
theorem w_fun75 {l1 : Int} (e : T_aFunction_75 l1 σ = some τ) (I : Iv q M dd σ) : Tv q M dd σ τ := by
  have c95 : ∀ {σ : tS}, T_aFunction_95 l1 σ = some τ → Iv q M dd σ → Tv q M dd σ τ := by
    intro σ e I
    unfold T_aFunction_95 at e
    obtain ⟨p1, e1, e⟩ := obind e
    have f1 := iw_type (q := q) (M := M) (dd := dd) e1 I
    split at e
    · obtain ⟨p2, e2, e⟩ := obind e
      obtain ⟨p3, e3, e⟩ := obind e
      have f2 := w_ua (q := q) (M := M) (dd := dd) (σ := p1.2) (f := 618) (j := l1.toNat) (x := p1.1) (by decide) (by decide) (by decide) (.inl (by decide)) f1.1
      have f3 := iw_need (q := q) (M := M) (dd := dd) e2 f2.1
      have f4 := w_ex (q := q) (M := M) (dd := dd) e3 f3.1
      cases e
      have f5 := w_ua (q := q) (M := M) (dd := dd) (σ := p3.2) (f := 622) (j := l1.toNat) (x := p3.1) (by decide) (by decide) (by decide) (.inl (by decide)) f4.1
      exact Tv_trans f1 (Tv_trans f2 (Tv_trans f3 (Tv_trans f4 f5)))
    · cases e
  unfold T_aFunction_75 at e
  obtain ⟨p1, e1, e⟩ := obind e
  have f1 := iw_takes (q := q) (M := M) (dd := dd) e1 I
  split at e
  · exact Tv_trans f1 (c95 e f1.1)
  · obtain ⟨p2, e2, e⟩ := obind e
    have f2 := iw_conditions (q := q) (M := M) (dd := dd) e2 f1.1
    split at e
    · have f3 := w_ua (q := q) (M := M) (dd := dd) (σ := p2.2) (f := 606) (j := l1.toNat) (x := p2.1) (by decide) (by decide) (by decide) (.inl (by decide)) f2.1
      have g := Tv_trans f1 (Tv_trans f2 f3)
      exact Tv_trans g (c95 e g.1)
    · cases e
theorem w_fun {l1 : Int} (e : T_aFunction l1 σ = some τ) (I : Iv q M dd σ) : Tv q M dd σ τ := by
  unfold T_aFunction at e
  obtain ⟨p1, e1, e⟩ := obind e
  have f1 := iw_needed (q := q) (M := M) (dd := dd) e1 I
  split at e
  · obtain ⟨p2, e2, e⟩ := obind e
    obtain ⟨p3, e3, e⟩ := obind e
    have f2 := w_ua (q := q) (M := M) (dd := dd) (σ := p1.2) (f := 578) (j := l1.toNat) (x := p1.1) (by decide) (by decide) (by decide) (.inr (.inr f1.2)) f1.1.1
    have f3 := iw_need (q := q) (M := M) (dd := dd) e2 f2.1
    have f4 := iw_takes (q := q) (M := M) (dd := dd) e3 f3.1
    have f := Tv_trans f1.1 (Tv_trans f2 (Tv_trans f3 f4))
    split at e
    · exact Tv_trans f (w_fun75 e f.1)
    · obtain ⟨p4, e4, e⟩ := obind e
      have f5 := w_ua (q := q) (M := M) (dd := dd) (σ := p3.2) (f := 594) (j := l1.toNat) (x := gs p3.2 432) (by decide) (by decide) (by decide) (.inr (.inr f.1.1.1)) f.1
      have f6 := iw_need (q := q) (M := M) (dd := dd) e4 f5.1
      obtain ⟨y5, e5, e⟩ := obind e
      obtain ⟨p6, e6, e⟩ := obind e
      have f7 := w_ua (q := q) (M := M) (dd := dd) (σ := p4) (f := 598) (j := l1.toNat) (x := 1) (by decide) (by decide) (by decide) (.inl (by decide)) f6.1
      have f8 := w_names (q := q) (M := M) (dd := dd) (l1 := l1) (.inr rfl) (fun x => rfl) e5 f7.1
      have f9 := iw_need (q := q) (M := M) (dd := dd) e6 f8.1
      have g := Tv_trans f (Tv_trans f5 (Tv_trans f6 (Tv_trans f7 (Tv_trans f8 f9))))
      exact Tv_trans g (w_fun75 e g.1)
  · cases e
/-- which declaration it is -/
theorem w_declT {l1 : Int} {υ : tS} (e : ((T_takes 5 υ).bind fun p1 => if p1.1 = 0 then (T_takes 6 p1.2).bind fun p2 => if p2.1 = 0 then (T_aFunction l1 p2.2).bind fun p3 => T_decl_165 p3 else (T_anInstance l1 p2.2).bind fun p4 => T_decl_165 p4 else (T_aClass l1 p1.2).bind fun p5 => T_decl_165 p5) = some τ) (I : Iv q M dd υ) : Tv q M dd υ τ := by
  have c165 : ∀ {σ : tS}, T_decl_165 σ = some τ → Iv q M dd σ → Tv q M dd σ τ := by
    intro σ e I
    unfold T_decl_165 at e
    obtain ⟨p1, e1, e⟩ := obind e
    cases e
    exact iw_need e1 I
  obtain ⟨p1, e1, e⟩ := obind e
  have f1 := iw_takes (q := q) (M := M) (dd := dd) e1 I
  split at e
  · obtain ⟨p2, e2, e⟩ := obind e
    have f2 := Tv_trans f1 (iw_takes (q := q) (M := M) (dd := dd) e2 f1.1)
    split at e
    · obtain ⟨p3, e3, e⟩ := obind e
      have f3 := Tv_trans f2 (w_fun (q := q) (M := M) (dd := dd) e3 f2.1)
      exact Tv_trans f3 (c165 e f3.1)
    · obtain ⟨p4, e4, e⟩ := obind e
      have f3 := Tv_trans f2 (w_inst (q := q) (M := M) (dd := dd) e4 f2.1)
      exact Tv_trans f3 (c165 e f3.1)
  · obtain ⟨p5, e5, e⟩ := obind e
    have f3 := Tv_trans f1 (w_class (q := q) (M := M) (dd := dd) e5 f1.1)
    exact Tv_trans f3 (c165 e f3.1)
/-- a token written down in a declaration -/
def Dq (q : Int) (d f : Nat) (σ : tS) : Prop := ga σ f d = -1 ∨ q ≤ ga σ f d
theorem Dq_ne {d f g j : Nat} {x : Int} (h : f ≠ g) (e : Dq q d f σ) : Dq q d f (ua σ g j x) := by
  unfold Dq
  rw [ga_ua, if_neg (fun z => h z.1)]
  exact e
theorem Dq_eq {d f : Nat} {x : Int} (h : x = -1 ∨ q ≤ x) : Dq q d f (ua σ f d x) := by
  unfold Dq
  rw [ga_ua, if_pos ⟨rfl, rfl⟩]
  exact h
/-- WHERE A DECLARATION'S NODES STAND: from its first token on -/
theorem iw_decl {d : Nat} (hd : gs σ 624 = (d : Int)) (hM : gs σ 564 = (M : Int)) (e : T_decl σ = some τ) : Iv (gs σ 432) M d τ := by
  unfold T_decl at e
  split at e
  · unfold T_decl_78 at e
    split at e
    · have et : (gs σ 624).toNat = d := by omega
      rw [et] at e
      refine (w_declT (q := gs σ 432) (M := M) (dd := d) e ⟨⟨?_, fun _ f hf => ?_⟩, ?_, fun i c1 c2 => ?_⟩).1
      · show gs σ 432 ≤ gs (us σ 624 (w32 ((gs σ 624) + 1))) 432
        rw [gs_us, if_neg (by decide)]; exact Int.le_refl _
      · simp only [List.mem_cons, List.not_mem_nil, or_false] at hf
        have L := Int.le_refl (gs σ 432)
        rcases hf with z | z | z | z | z <;> rw [z]
        · exact Dq_ne (by decide) (Dq_ne (by decide) (Dq_ne (by decide) (Dq_ne (by decide) (Dq_ne (by decide) (Dq_ne (by decide) (Dq_ne (by decide) (Dq_ne (by decide) (Dq_ne (by decide) (Dq_ne (by decide) (Dq_ne (by decide) (Dq_eq (.inr L))))))))))))
        · exact Dq_ne (by decide) (Dq_ne (by decide) (Dq_ne (by decide) (Dq_ne (by decide) (Dq_ne (by decide) (Dq_ne (by decide) (Dq_ne (by decide) (Dq_ne (by decide) (Dq_ne (by decide) (Dq_ne (by decide) (Dq_eq (.inl rfl)))))))))))
        · exact Dq_ne (by decide) (Dq_ne (by decide) (Dq_ne (by decide) (Dq_ne (by decide) (Dq_ne (by decide) (Dq_ne (by decide) (Dq_ne (by decide) (Dq_ne (by decide) (Dq_ne (by decide) (Dq_eq (.inl rfl))))))))))
        · exact Dq_ne (by decide) (Dq_ne (by decide) (Dq_ne (by decide) (Dq_ne (by decide) (Dq_ne (by decide) (Dq_ne (by decide) (Dq_ne (by decide) (Dq_eq (.inl rfl))))))))
        · exact Dq_ne (by decide) (Dq_ne (by decide) (Dq_ne (by decide) (Dq_eq (.inl rfl))))
      · show (M : Int) ≤ gs (us σ 624 (w32 ((gs σ 624) + 1))) 564
        rw [gs_us, if_neg (by decide), hM]; exact Int.le_refl _
      · have c3 : (i : Int) < gs (us σ 624 (w32 ((gs σ 624) + 1))) 564 := c2
        rw [gs_us, if_neg (by decide), hM] at c3
        omega
    · cases e
  · cases e
end LID
theorem Iv_begin {q : Int} {M : Nat} {σ : tS} (e1 : gs σ 432 = q) (e2 : gs σ 564 = (M : Int)) : Iv q M 700 σ := ⟨⟨by omega, fun h => absurd h (by decide)⟩, by omega, fun i c d => by omega⟩
/-- a type's nodes -/
theorem v_types {q v : Int} {M : Nat} {σ τ : tS} (e1 : gs σ 432 = q) (e2 : gs σ 564 = (M : Int)) (e : T_readType σ = some (v, τ)) : ∀ y : Nat, M ≤ y → (y : Int) < gs τ 564 → q ≤ ga τ 542 y := fun y c d => ((v_readType σ v τ e (Iv_begin e1 e2)).1.2.2 y c d).1
theorem RO_and {α β : Type} {G : om_G} {A t : Nat} {N : List (List Int)} {S : List Int} {b m i : Nat} {n : Int} {M : Nat} {σ : tS} {h : om_H} {P : Nat → Nat → tS → om_H → α → β → Prop} {V : tS → Prop} {X : Option (α × tS)} {Y : Option ((Nat ⊕ β) × om_H)} (R : RO G A t N S b m i n M σ h P X Y) (U : ∀ v τ, X = some (v, τ) → V τ) : RO G A t N S b m i n M σ h (fun j M' τ h' v w => P j M' τ h' v w ∧ V τ) X Y := by
  rcases R with ⟨j, M', τ, h', v, w, q1, q2, q3, q4, q5, q6, q7, q8⟩ | R
  · exact .inl ⟨j, M', τ, h', v, w, q1, q2, q3, q4, q5, q6, q7, q8, U v τ q1⟩
  · exact .inr R
/-- a function's nodes lie behind its forall -/
def fvR (lo hi d : Nat) (σ : tS) : Prop := ∀ y : Nat, lo ≤ y → y < hi → ga σ 594 d + ga σ 598 d ≤ ga σ 542 y ∧ (ga σ 538 y = 17 → ga σ 594 d + ga σ 598 d ≤ ga σ 554 y)
