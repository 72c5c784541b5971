set_option maxRecDepth 100000
/-! HOW MANY NAMES HAVE @s, AND LINES: each costs three tokens (the twin's reading alone) -/
def ctS (σ : tS) : Nat := ctP σ (gs σ 564).toNat
theorem ctP_eq {σ τ : tS} : ∀ {n : Nat}, (∀ i, i < n → ga τ 538 i = ga σ 538 i ∧ ga τ 546 i = ga σ 546 i) → ctP τ n = ctP σ n
  | 0, _ => rfl
  | n + 1, H => by
    have h1 := H n (by omega)
    show ctP τ n + _ = ctP σ n + _
    rw [ctP_eq (fun i hi => H i (by omega)), h1.1, h1.2]
/-- a step: c tokens more than what it costs -/
def Qv (c : Int) (σ τ : tS) : Prop := 0 ≤ gs σ 564 → (gs σ 564 ≤ gs τ 564 ∧ ∀ i : Nat, (i : Int) < gs σ 564 → ga τ 538 i = ga σ 538 i ∧ ga τ 546 i = ga σ 546 i) ∧ (gs τ 452 = 0 → gs σ 452 = 0 ∧ 3 * (ctS τ : Int) + gs σ 432 + c ≤ 3 * (ctS σ : Int) + gs τ 432)
def QO {β : Type} (c : Int) (σ : tS) (X : Option β) (st : β → tS) : Prop := ∀ y, X = some y → Qv c σ (st y)
section LQV
variable {c d : Int} {σ τ υ : tS} {k r : Int} {rT : tS → Option (Int × tS)}
theorem Qv_refl : Qv 0 σ σ := fun _ => ⟨⟨Int.le_refl _, fun _ _ => ⟨rfl, rfl⟩⟩, fun h => ⟨h, by omega⟩⟩
theorem Qv_trans (A : Qv c σ τ) (B : Qv d τ υ) : Qv (c + d) σ υ := fun h => by
  obtain ⟨⟨a1, a2⟩, a3⟩ := A h
  obtain ⟨⟨b1, b2⟩, b3⟩ := B (by omega)
  refine ⟨⟨by omega, fun i hi => ?_⟩, fun hf => ?_⟩
  · have h1 := a2 i hi
    have h2 := b2 i (by omega)
    exact ⟨h2.1.trans h1.1, h2.2.trans h1.2⟩
  · obtain ⟨f1, f2⟩ := b3 hf
    obtain ⟨g1, g2⟩ := a3 f1
    exact ⟨g1, by omega⟩
theorem Qv_le (A : Qv c σ τ) (h : d ≤ c) : Qv d σ τ := fun h0 => ⟨(A h0).1, fun hf => ⟨((A h0).2 hf).1, by have := ((A h0).2 hf).2; omega⟩⟩
theorem Qv_us {f : Nat} {x : Int} (h1 : f ≠ 432) (h2 : f ≠ 564) (h3 : f ≠ 452) : Qv 0 σ (us σ f x) := fun _ => by
  have e1 : gs (us σ f x) 432 = gs σ 432 := by rw [gs_us, if_neg (fun z => h1 z.symm)]
  have e2 : gs (us σ f x) 564 = gs σ 564 := by rw [gs_us, if_neg (fun z => h2 z.symm)]
  have e3 : gs (us σ f x) 452 = gs σ 452 := by rw [gs_us, if_neg (fun z => h3 z.symm)]
  have e4 : ctS (us σ f x) = ctS σ := by unfold ctS; rw [e2]; exact ctP_eq (fun _ _ => ⟨rfl, rfl⟩)
  exact ⟨⟨by rw [e2]; exact Int.le_refl _, fun _ _ => ⟨rfl, rfl⟩⟩, fun h => ⟨by rw [← e3]; exact h, by rw [e1, e4]; omega⟩⟩
theorem Qv_at (h : 0 ≤ gs σ 432 ∧ gs σ 432 < 4100) : Qv 1 σ (us σ 432 (w32 (gs σ 432 + 1))) := fun _ => by
  have e1 : gs (us σ 432 (w32 (gs σ 432 + 1))) 432 = gs σ 432 + 1 := by rw [gs_us, if_pos rfl, w32_s (by omega) (by omega)]
  have e2 : gs (us σ 432 (w32 (gs σ 432 + 1))) 564 = gs σ 564 := by rw [gs_us, if_neg (by decide)]
  have e3 : gs (us σ 432 (w32 (gs σ 432 + 1))) 452 = gs σ 452 := by rw [gs_us, if_neg (by decide)]
  have e4 : ctS (us σ 432 (w32 (gs σ 432 + 1))) = ctS σ := by unfold ctS; rw [e2]; exact ctP_eq (fun _ _ => ⟨rfl, rfl⟩)
  exact ⟨⟨by rw [e2]; exact Int.le_refl _, fun _ _ => ⟨rfl, rfl⟩⟩, fun h => ⟨by rw [← e3]; exact h, by rw [e1, e4]; omega⟩⟩
theorem Qv_ua {f j : Nat} {x : Int} (h1 : f ≠ 538) (h2 : f ≠ 546) : Qv 0 σ (ua σ f j x) := fun _ => by
  have e : ∀ i, ga (ua σ f j x) 538 i = ga σ 538 i ∧ ga (ua σ f j x) 546 i = ga σ 546 i := fun i => ⟨by rw [ga_ua, if_neg (fun z => h1 z.1.symm)], by rw [ga_ua, if_neg (fun z => h2 z.1.symm)]⟩
  have e4 : ctS (ua σ f j x) = ctS σ := ctP_eq (fun i _ => e i)
  exact ⟨⟨Int.le_refl _, fun i _ => e i⟩, fun h => ⟨h, by rw [e4]; show _ + gs σ 432 + 0 ≤ _ + gs σ 432; omega⟩⟩
/-- the first part of a node is written: that costs three at most -/
theorem Qv_w {σ0 : tS} {j : Nat} {x : Int} (A : Qv c σ0 σ) (hj : gs σ0 564 ≤ (j : Int)) : Qv (c - 3) σ0 (ua σ 546 j x) := fun h => by
  obtain ⟨⟨a1, a2⟩, a3⟩ := A h
  have ct : ∀ n, ctP (ua σ 546 j x) n ≤ ctP σ n + (if j < n then 1 else 0) := fun n => by
    induction n with
    | zero => exact Nat.zero_le _
    | succ n ih =>
      show ctP (ua σ 546 j x) n + (if (ga (ua σ 546 j x) 538 n = 10 ∧ ga (ua σ 546 j x) 546 n ≠ -1) ∨ ga (ua σ 546 j x) 538 n = 22 then 1 else 0) ≤ ctP σ n + (if (ga σ 538 n = 10 ∧ ga σ 546 n ≠ -1) ∨ ga σ 538 n = 22 then 1 else 0) + _
      have e8 : ga (ua σ 546 j x) 538 n = ga σ 538 n := by rw [ga_ua, if_neg (fun z => by omega)]
      by_cases q : n = j
      · rw [if_neg (by omega)] at ih
        rw [if_pos (show j < n + 1 by omega)]
        split <;> omega
      · have e6 : ga (ua σ 546 j x) 546 n = ga σ 546 n := by rw [ga_ua, if_neg (fun z => q z.2)]
        rw [e8, e6]
        by_cases q2 : j < n
        · rw [if_pos q2] at ih
          rw [if_pos (show j < n + 1 by omega)]
          omega
        · rw [if_neg q2] at ih
          rw [if_neg (show ¬ j < n + 1 by omega)]
          omega
  have c1 : ctS (ua σ 546 j x) ≤ ctS σ + 1 := by
    have := ct (gs σ 564).toNat
    show ctP (ua σ 546 j x) (gs σ 564).toNat ≤ ctP σ (gs σ 564).toNat + 1
    split at this <;> omega
  refine ⟨⟨a1, fun i hi => ?_⟩, fun hf => ?_⟩
  · have h1 := a2 i hi
    exact ⟨by rw [ga_ua, if_neg (fun z => by omega)]; exact h1.1, by rw [ga_ua, if_neg (fun z => by omega)]; exact h1.2⟩
  · obtain ⟨g1, g2⟩ := a3 hf
    refine ⟨g1, ?_⟩
    show 3 * (ctS (ua σ 546 j x) : Int) + gs σ0 432 + (c - 3) ≤ 3 * (ctS σ0 : Int) + gs σ 432
    omega
/-- that of a type costs nothing -/
theorem Qv_w1 {σ0 : tS} {j : Nat} {x : Int} (A : Qv c σ0 σ) (hj : gs σ0 564 ≤ (j : Int)) (k1 : ga σ 538 j = 1) : Qv c σ0 (ua σ 546 j x) := fun h => by
  obtain ⟨⟨a1, a2⟩, a3⟩ := A h
  have ct : ∀ n, ctP (ua σ 546 j x) n = ctP σ n := fun n => by
    induction n with
    | zero => rfl
    | succ n ih =>
      show ctP (ua σ 546 j x) n + (if (ga (ua σ 546 j x) 538 n = 10 ∧ ga (ua σ 546 j x) 546 n ≠ -1) ∨ ga (ua σ 546 j x) 538 n = 22 then 1 else 0) = ctP σ n + (if (ga σ 538 n = 10 ∧ ga σ 546 n ≠ -1) ∨ ga σ 538 n = 22 then 1 else 0)
      have e8 : ga (ua σ 546 j x) 538 n = ga σ 538 n := by rw [ga_ua, if_neg (fun z => by omega)]
      rw [ih, e8]
      by_cases q : n = j
      · rw [q, k1, if_neg (by omega), if_neg (by omega)]
      · rw [show ga (ua σ 546 j x) 546 n = ga σ 546 n by rw [ga_ua, if_neg (fun z => q z.2)]]
  have c1 : ctS (ua σ 546 j x) = ctS σ := ct _
  refine ⟨⟨a1, fun i hi => ?_⟩, fun hf => ?_⟩
  · have h1 := a2 i hi
    exact ⟨by rw [ga_ua, if_neg (fun z => by omega)]; exact h1.1, by rw [ga_ua, if_neg (fun z => by omega)]; exact h1.2⟩
  · obtain ⟨g1, g2⟩ := a3 hf
    refine ⟨g1, ?_⟩
    show 3 * (ctS (ua σ 546 j x) : Int) + gs σ0 432 + c ≤ 3 * (ctS σ0 : Int) + gs σ 432
    rw [c1]
    exact g2
theorem q_wrong (e : T_wrong σ = some τ) : Qv c σ τ := fun _ => by
  unfold T_wrong at e
  split at e
  · split at e
    · cases e
      exact ⟨⟨Int.le_refl _, fun _ _ => ⟨rfl, rfl⟩⟩, fun h => by
        have h' : gs (us (us σ 452 1) 456 (ga σ 474 (gs σ 432).toNat)) 452 = 0 := h
        rw [gs_us, if_neg (by decide), gs_us, if_pos rfl] at h'
        omega⟩
    · cases e
  · rename_i h0
    cases e
    exact ⟨⟨Int.le_refl _, fun _ _ => ⟨rfl, rfl⟩⟩, fun h => absurd h h0⟩
theorem q_takes (e : T_takes k σ = some (r, τ)) : Qv 0 σ τ ∧ (r ≠ 0 → Qv 1 σ τ) := by
  unfold T_takes at e
  split at e
  · cases e; exact ⟨Qv_refl, fun z => absurd rfl z⟩
  · split at e
    · rename_i h
      split at e
      · cases e; exact ⟨Qv_le (Qv_at h) (by omega), fun _ => Qv_at h⟩
      · cases e; exact ⟨Qv_refl, fun z => absurd rfl z⟩
    · cases e
theorem q_need (e : T_need k σ = some τ) : Qv 1 σ τ := by
  unfold T_need at e
  obtain ⟨p, e1, e⟩ := obind e
  have s1 := q_takes (show T_takes k σ = some (p.1, p.2) from e1)
  split at e
  · rename_i h; cases e; exact s1.2 h
  · obtain ⟨p2, e2, e⟩ := obind e
    cases e
    exact Qv_le (Qv_trans s1.1 (q_wrong (c := 1) e2)) (by omega)
theorem q_enter (e : T_enter σ = some τ) : Qv 0 σ τ := by
  unfold T_enter at e
  split at e
  · cases e; exact Qv_us (by decide) (by decide) (by decide)
  · obtain ⟨p, e1, e⟩ := obind e
    cases e
    exact Qv_le (Qv_trans (q_wrong (c := 0) e1) (Qv_us (by decide) (by decide) (by decide))) (by omega)
/-- a node is made -/
theorem q_node {t a b c d : Int} (e : T_node k t a b c d σ = some (r, τ)) (h10 : k = 10 → a = -1) : Qv (if k = 22 then -3 else 0) σ τ ∧ r = gs σ 564 ∧ (0 ≤ gs σ 564 ∧ gs τ 564 = gs σ 564 + 1) ∧ ga τ 538 r.toNat = k := by
  unfold T_node at e
  split at e
  · rename_i h
    cases e
    have hw : w32 (gs σ 564 + 1) = gs σ 564 + 1 := w32_s (by omega) (by omega)
    have e2 : ∀ x, gs (ua (ua (ua (ua (ua (ua (ua (us σ 564 (w32 (gs σ 564 + 1))) 538 (gs σ 564).toNat k) 542 (gs σ 564).toNat t) 546 (gs σ 564).toNat a) 550 (gs σ 564).toNat b) 554 (gs σ 564).toNat c) 558 (gs σ 564).toNat d) 562 (gs σ 564).toNat (-1)) x = gs (us σ 564 (w32 (gs σ 564 + 1))) x := fun _ => rfl
    have n1 : gs (us σ 564 (w32 (gs σ 564 + 1))) 564 = gs σ 564 + 1 := by rw [gs_us, if_pos rfl, hw]
    have n2 : gs (us σ 564 (w32 (gs σ 564 + 1))) 432 = gs σ 432 := by rw [gs_us, if_neg (by decide)]
    have n3 : gs (us σ 564 (w32 (gs σ 564 + 1))) 452 = gs σ 452 := by rw [gs_us, if_neg (by decide)]
    have g8 : ga (ua (ua (ua (ua (ua (ua (ua (us σ 564 (w32 (gs σ 564 + 1))) 538 (gs σ 564).toNat k) 542 (gs σ 564).toNat t) 546 (gs σ 564).toNat a) 550 (gs σ 564).toNat b) 554 (gs σ 564).toNat c) 558 (gs σ 564).toNat d) 562 (gs σ 564).toNat (-1)) 538 (gs σ 564).toNat = k := by
      rw [ga_ua, if_neg (by simp), ga_ua, if_neg (by simp), ga_ua, if_neg (by simp), ga_ua, if_neg (by simp), ga_ua, if_neg (by simp), ga_ua, if_neg (by simp), ga_ua, if_pos ⟨rfl, rfl⟩]
    have g6 : ga (ua (ua (ua (ua (ua (ua (ua (us σ 564 (w32 (gs σ 564 + 1))) 538 (gs σ 564).toNat k) 542 (gs σ 564).toNat t) 546 (gs σ 564).toNat a) 550 (gs σ 564).toNat b) 554 (gs σ 564).toNat c) 558 (gs σ 564).toNat d) 562 (gs σ 564).toNat (-1)) 546 (gs σ 564).toNat = a := by
      rw [ga_ua, if_neg (by simp), ga_ua, if_neg (by simp), ga_ua, if_neg (by simp), ga_ua, if_neg (by simp), ga_ua, if_pos ⟨rfl, rfl⟩]
    have g : ∀ f i, i ≠ (gs σ 564).toNat → ga (ua (ua (ua (ua (ua (ua (ua (us σ 564 (w32 (gs σ 564 + 1))) 538 (gs σ 564).toNat k) 542 (gs σ 564).toNat t) 546 (gs σ 564).toNat a) 550 (gs σ 564).toNat b) 554 (gs σ 564).toNat c) 558 (gs σ 564).toNat d) 562 (gs σ 564).toNat (-1)) f i = ga σ f i := fun f i z => by
      rw [ga_ua, if_neg (fun y => z y.2), ga_ua, if_neg (fun y => z y.2), ga_ua, if_neg (fun y => z y.2), ga_ua, if_neg (fun y => z y.2), ga_ua, if_neg (fun y => z y.2), ga_ua, if_neg (fun y => z y.2), ga_ua, if_neg (fun y => z y.2)]
      rfl
    have ct : ctS (ua (ua (ua (ua (ua (ua (ua (us σ 564 (w32 (gs σ 564 + 1))) 538 (gs σ 564).toNat k) 542 (gs σ 564).toNat t) 546 (gs σ 564).toNat a) 550 (gs σ 564).toNat b) 554 (gs σ 564).toNat c) 558 (gs σ 564).toNat d) 562 (gs σ 564).toNat (-1)) = ctS σ + (if k = 22 then 1 else 0) := by
      have e0 := e2 564
      unfold ctS
      rw [e0, n1, show (gs σ 564 + 1).toNat = (gs σ 564).toNat + 1 by omega]
      show ctP _ (gs σ 564).toNat + _ = _
      rw [ctP_eq (σ := σ) (fun i hi => ⟨g _ _ (by omega), g _ _ (by omega)⟩), g8, g6]
      by_cases k22 : k = 22
      · rw [if_pos (.inr k22), if_pos k22]
      · rw [if_neg (fun z => by
          rcases z with ⟨z1, z2⟩ | z
          · exact z2 (h10 z1)
          · exact k22 z), if_neg k22]
    refine ⟨fun _ => ⟨⟨by rw [e2, n1]; omega, fun i hi => ⟨g _ _ (by omega), g _ _ (by omega)⟩⟩, fun hf => ⟨by rw [e2, n3] at hf; exact hf, ?_⟩⟩, rfl, ⟨h.1, by rw [e2, n1]⟩, g8⟩
    rw [ct, e2, n2]
    split <;> omega
  · cases e
/-! computations -/
theorem QO_none {β : Type} {st : β → tS} : QO c σ none st := fun y e => by cases e
theorem QO_some {β : Type} {st : β → tS} {y : β} (h : Qv c σ (st y)) : QO c σ (some y) st := fun z e => by cases e; exact h
theorem QO_b {β γ : Type} {X : Option β} {f : β → Option γ} {s1 : β → tS} {s2 : γ → tS} (h1 : QO 0 σ X s1) (h2 : ∀ y, QO 0 (s1 y) (f y) s2) : QO 0 σ (X.bind f) s2 := fun z e => by
  obtain ⟨y, e1, e2⟩ := obind e
  exact Qv_le (Qv_trans (h1 y e1) (h2 y z e2)) (by omega)
/-- what only looks -/
theorem QO_l {β γ : Type} {X : Option β} {f : β → Option γ} {s2 : γ → tS} (h2 : ∀ y, X = some y → QO c σ (f y) s2) : QO c σ (X.bind f) s2 := fun z e => by
  obtain ⟨y, e1, e2⟩ := obind e
  exact h2 y e1 z e2
theorem QO_i {β : Type} {p : Prop} [Decidable p] {X Y : Option β} {st : β → tS} (h1 : p → QO c σ X st) (h2 : ¬ p → QO c σ Y st) : QO c σ (if p then X else Y) st := fun z e => by
  split at e
  · rename_i h; exact h1 h z e
  · rename_i h; exact h2 h z e
theorem QO_us {β : Type} {X : Option β} {st : β → tS} (A : Qv 0 σ τ) (h : QO 0 τ X st) : QO 0 σ X st := fun z e => Qv_le (Qv_trans A (h z e)) (by omega)
theorem QO_tk : QO 0 σ (T_takes k σ) Prod.snd := fun y e => (q_takes (r := y.1) (τ := y.2) e).1
theorem QO_nd : QO 0 σ (T_need k σ) id := fun y e => Qv_le (q_need e) (by omega)
theorem QO_ndd : QO 0 σ (T_needed k σ) Prod.snd := fun y e => by
  unfold T_needed at e
  obtain ⟨p, e1, e⟩ := obind e
  cases e
  exact Qv_le (q_need e1) (by omega)
theorem QO_wr : QO 0 σ (T_wrong σ) id := fun y e => q_wrong e
theorem QO_en : QO 0 σ (T_enter σ) id := fun y e => q_enter e
theorem QO_no {t a b c d : Int} (h1 : k ≠ 22) (h2 : k ≠ 10) : QO 0 σ (T_node k t a b c d σ) Prod.snd := fun y e => by
  have f := (q_node (r := y.1) (τ := y.2) e (fun z => absurd z h2)).1
  rw [if_neg h1] at f
  exact f
theorem QO_lp {α β : Type} {f : α → Option (α ⊕ β)} {st : α → tS} {sb : β → tS} (hs : ∀ a, QO 0 (st a) (f a) (Sum.elim st sb)) {a : α} : QO 0 (st a) (om_loop f a) sb := fun b e => by
  refine om_loop_ind (P := fun a b => Qv 0 (st a) (sb b)) (fun a b e => hs a _ e) (fun a a' b e H => ?_) e
  exact Qv_le (Qv_trans (hs a _ e) H) (by omega)
theorem q_piece51 (h : 0 ≤ gs σ 432 ∧ gs σ 432 < 4100) (hk : k = 0 ∨ k = 1) : QO 1 σ (T_piece_51 rT k σ) Prod.snd := fun y e => by
  unfold T_piece_51 at e
  obtain ⟨p, e1, e⟩ := obind e
  have f1 := q_node (r := p.1) (τ := p.2) e1 (fun z => by omega)
  rw [if_neg (by omega)] at f1
  have ha : gs p.2 432 = gs σ 432 := by
    unfold T_node at e1
    split at e1
    · cases e1; rfl
    · cases e1
  cases e
  exact Qv_le (Qv_trans f1.1 (Qv_at (by rw [ha]; exact h))) (by omega)
theorem q_piece (R : ∀ σ, QO 0 σ (rT σ) Prod.snd) : ∀ σ, QO 1 σ (T_piece rT σ) Prod.snd := by
  have p37 : ∀ σ, QO 1 σ (T_piece_37 rT σ) Prod.snd := fun σ => by
    unfold T_piece_37
    refine QO_l (fun y e => QO_i (fun _ => q_piece51 (is_in e) (.inl rfl)) (fun _ => q_piece51 (is_in e) (.inr rfl)))
  intro σ
  unfold T_piece
  refine QO_i (fun h0 => QO_l (fun y e => QO_i (fun _ => p37 σ) (fun _ => QO_l (fun y2 e2 => QO_i (fun _ => ?_) (fun _ => p37 σ))))) (fun h0 => ?_)
  · intro z e3
    obtain ⟨p3, e4, e3⟩ := obind e3
    obtain ⟨p4, e5, e3⟩ := obind e3
    obtain ⟨p5, e6, e3⟩ := obind e3
    cases e3
    exact Qv_le (Qv_trans (q_need e4) (Qv_trans (R p3 p4 e5) (q_need e6))) (by omega)
  · intro z e3
    obtain ⟨p3, e4, e3⟩ := obind e3
    cases e3
    have f1 := q_node (r := p3.1) (τ := p3.2) e4 (fun z => by omega)
    rw [if_neg (by omega)] at f1
    refine fun hn => ⟨(f1.1 hn).1, fun hf => absurd ((f1.1 hn).2 hf).1 h0⟩
theorem q_ground (R : ∀ σ, QO 0 σ (rT σ) Prod.snd) : ∀ σ, QO 0 σ (T_ground rT σ) Prod.snd := by
  intro σ
  unfold T_ground
  refine QO_l (fun y e => QO_i (fun _ => fun z e1 => ?_) (fun _ => fun z e1 => ?_))
  · have h := is_in e
    obtain ⟨p2, e2, e1⟩ := obind e1
    obtain ⟨y3, e3, e1⟩ := obind e1
    cases e1
    have f1 := q_node (r := p2.1) (τ := p2.2) e2 (fun z => by omega)
    rw [if_neg (by omega)] at f1
    obtain ⟨f1, f2, ⟨f3, f4⟩, f5⟩ := f1
    have ha : gs p2.2 432 = gs σ 432 := by
      unfold T_node at e2
      split at e2
      · cases e2; rfl
      · cases e2
    have g0 : Qv 0 σ (us p2.2 432 (w32 (gs p2.2 432 + 1))) := Qv_le (Qv_trans f1 (Qv_at (by rw [ha]; exact h))) (by omega)
    refine (om_loop_ind (P := fun (a : Int × tS) (b : tS) => Qv 0 σ a.2 → ga a.2 538 p2.1.toNat = 1 → p2.1 < gs a.2 564 → Qv 0 σ b) (fun a b e q1 q2 q3 => ?_) (fun a a' b e H q1 q2 q3 => ?_) e3) g0 f5 (by rw [f2]; show gs σ 564 < gs p2.2 564; omega)
    · unfold T_ground_39s at e
      obtain ⟨r1, d1, e⟩ := obind e
      split at e
      · cases e; exact q1
      · obtain ⟨r2, d2, e⟩ := obind e
        split at e <;> split at e <;> cases e
    · unfold T_ground_39s at e
      obtain ⟨r1, d1, e⟩ := obind e
      split at e
      · cases e
      · obtain ⟨r2, d2, e⟩ := obind e
        have g1 := Qv_le (q_piece R a.2 r2 d2) (show (0 : Int) ≤ 1 by omega)
        have hn : 0 ≤ gs a.2 564 := by omega
        have k2 : ga r2.2 538 p2.1.toNat = 1 := by rw [(((g1 hn).1).2 p2.1.toNat (by omega)).1]; exact q2
        have g2 : Qv 0 σ r2.2 := Qv_le (Qv_trans q1 g1) (by omega)
        have k3 : p2.1 < gs r2.2 564 := by have := (g1 hn).1.1; omega
        split at e
        · split at e
          · cases e
            exact H (Qv_le (Qv_trans g2 (Qv_ua (by decide) (by decide))) (by omega)) (by show ga (ua r2.2 562 _ _) 538 _ = 1; rw [ga_ua, if_neg (fun z => by omega)]; exact k2) k3
          · cases e
        · split at e
          · cases e
            exact H (Qv_w1 g2 (by omega) k2) (by show ga (ua r2.2 546 _ _) 538 _ = 1; rw [ga_ua, if_neg (fun z => by omega)]; exact k2) k3
          · cases e
  · obtain ⟨p4, e4, e1⟩ := obind e1
    cases e1
    exact Qv_le (q_piece R σ p4 e4) (by omega)
theorem q_readTypeB (R : ∀ σ, QO 0 σ (rT σ) Prod.snd) : ∀ σ, QO 0 σ (T_readTypeB rT σ) Prod.snd := by
  intro σ
  unfold T_readTypeB
  refine QO_b QO_en (fun p1 => QO_b (q_ground R _) (fun p2 => QO_b QO_tk (fun p3 => QO_i (fun _ => QO_some (Qv_us (by decide) (by decide) (by decide))) (fun _ => QO_b (R _) (fun p4 => QO_i (fun _ => QO_b (QO_no (by decide) (by decide)) (fun p5 => QO_some (Qv_us (by decide) (by decide) (by decide)))) (fun _ => QO_none))))))
theorem q_readTypeD : ∀ n σ, QO 0 σ (T_readTypeD n σ) Prod.snd
  | 0, σ => fun y e => by cases e
  | n + 1, σ => q_readTypeB (q_readTypeD n) σ
theorem q_readType : ∀ σ, QO 0 σ (T_readType σ) Prod.snd := q_readTypeD 30
theorem q_atom (R : ∀ σ, QO 0 σ (rT σ) Prod.snd) (e : T_atom rT σ = some (r, τ)) : Qv 0 σ τ ∧ ∀ p, T_is 2 σ = some p → p ≠ 0 → Qv 1 σ τ ∧ r = gs σ 564 := by
  unfold T_atom at e
  split at e
  · obtain ⟨p1, e1, e⟩ := obind e
    have h := is_in e1
    split at e
    · rename_i z0
      have no : ∀ p, T_is 2 σ = some p → p ≠ 0 → Qv 1 σ τ ∧ r = gs σ 564 := fun p hp n0 => by
        rw [e1] at hp
        exact absurd ((Option.some.inj hp).symm.trans z0) n0
      obtain ⟨p2, e2, e⟩ := obind e
      split at e
      · obtain ⟨p3, e3, e⟩ := obind e
        obtain ⟨p4, e4, e⟩ := obind e
        obtain ⟨p5, e5, e⟩ := obind e
        cases e
        exact ⟨Qv_le (Qv_trans (q_need e3) (Qv_trans (R p3 p4 e4) (q_need e5))) (by omega), no⟩
      · obtain ⟨p6, e6, e⟩ := obind e
        cases e
        have f := q_node (r := p6.1) (τ := p6.2) e6 (fun z => by omega)
        rw [if_neg (by omega)] at f
        exact ⟨Qv_le (Qv_trans (Qv_at h) f.1) (by omega), no⟩
    · obtain ⟨p7, e7, e⟩ := obind e
      cases e
      have f := q_node (r := p7.1) (τ := p7.2) e7 (fun _ => rfl)
      rw [if_neg (by omega)] at f
      have g := Qv_trans (Qv_at h) f.1
      exact ⟨Qv_le g (by omega), fun _ _ _ => ⟨Qv_le g (by omega), by rw [f.2.1, gs_us, if_neg (by decide)]⟩⟩
  · rename_i h0
    obtain ⟨p8, e8, e⟩ := obind e
    cases e
    have f := q_node (r := p8.1) (τ := p8.2) e8 (fun z => by omega)
    rw [if_neg (by omega)] at f
    exact ⟨f.1, fun _ _ _ => ⟨fun hn => ⟨(f.1 hn).1, fun hf => absurd ((f.1 hn).2 hf).1 h0⟩, f.2.1⟩⟩
/-- A USE -/
theorem q_use (R : ∀ σ, QO 0 σ (rT σ) Prod.snd) : ∀ σ, QO 0 σ (T_use rT σ) Prod.snd := by
  intro σ0 z e
  unfold T_use at e
  obtain ⟨p1, e1, e⟩ := obind e
  obtain ⟨p2, e2, e⟩ := obind e
  obtain ⟨y3, e3, e⟩ := obind e
  cases e
  have f2 := q_atom R (r := p2.1) (τ := p2.2) e2
  have u42 : ∀ {l1 l2 l3 l4 : Int} {σ : tS} {z : (Int × Int × Int × tS) ⊕ (Int × tS)}, 0 ≤ gs σ 432 ∧ gs σ 432 < 4100 → T_use_42 rT l1 l2 l3 l4 σ = some z → Qv 0 σ0 σ → (l2 ≠ 0 → gs σ0 564 ≤ l3 ∧ (l4 = -1 → Qv 1 σ0 σ)) → ∃ y : Int × Int × Int × tS, z = .inl y ∧ Qv 0 σ0 y.2.2.2 ∧ (y.1 ≠ 0 → gs σ0 564 ≤ y.2.1 ∧ (y.2.2.1 = -1 → Qv 1 σ0 y.2.2.2)) := by
    intro l1 l2 l3 l4 σ z h e q1 q2
    unfold T_use_42 at e
    obtain ⟨r1, d1, e⟩ := obind e
    split at e
    · obtain ⟨r2, d2, e⟩ := obind e
      have g2 := Qv_trans (Qv_at h) (q_piece q_readType _ r2 d2)
      split at e
      · rename_i n0
        obtain ⟨s1, s2⟩ := q2 n0
        obtain ⟨r3, d3, e⟩ := obind e
        have f := q_node (r := r3.1) (τ := r3.2) d3 (fun z => by omega)
        rw [if_neg (by omega)] at f
        have g3 := Qv_trans g2 f.1
        split at e
        · split at e
          · cases e
            exact ⟨_, rfl, Qv_le (Qv_trans q1 (Qv_trans g3 (Qv_ua (by decide) (by decide)))) (by omega), fun _ => ⟨s1, fun w => by have w' : r3.1 = -1 := w; have := f.2.1; have := f.2.2.1.1; omega⟩⟩
          · cases e
        · rename_i m1
          have m1' : l4 = -1 := Classical.byContradiction m1
          split at e
          · cases e
            have g4 := Qv_trans (s2 m1') g3
            exact ⟨_, rfl, Qv_le (Qv_w (j := l3.toNat) (x := r3.1) g4 (by omega)) (by omega), fun _ => ⟨s1, fun w => by have w' : r3.1 = -1 := w; have := f.2.1; have := f.2.2.1.1; omega⟩⟩
          · cases e
      · rename_i n0
        have n0' : l2 = 0 := Classical.byContradiction n0
        obtain ⟨r3, d3, e⟩ := obind e
        cases e
        have f := q_node (r := r3.1) (τ := r3.2) d3 (fun z => by omega)
        rw [if_neg (by omega)] at f
        exact ⟨_, rfl, Qv_le (Qv_trans q1 (Qv_trans g2 f.1)) (by omega), fun w => absurd n0' w⟩
    · obtain ⟨r5, d5, e⟩ := obind e
      obtain ⟨r6, d6, e⟩ := obind e
      cases e
      have f := q_node (r := r6.1) (τ := r6.2) d6 (fun z => by omega)
      rw [if_neg (by omega)] at f
      exact ⟨_, rfl, Qv_le (Qv_trans q1 (Qv_trans (q_atom R (r := r5.1) (τ := r5.2) d5).1 f.1)) (by omega), fun w => absurd rfl w⟩
  refine (om_loop_ind (P := fun (a : Int × Int × Int × tS) (b : Int × tS) => Qv 0 σ0 a.2.2.2 → (a.1 ≠ 0 → gs σ0 564 ≤ a.2.1 ∧ (a.2.2.1 = -1 → Qv 1 σ0 a.2.2.2)) → Qv 0 σ0 b.2) (fun a b e q1 q2 => ?_) (fun a a' b e H q1 q2 => ?_) e3) f2.1 (fun n0 => ?_)
  · unfold T_use_19s at e
    obtain ⟨r1, d1, e⟩ := obind e
    split at e
    · rename_i hq
      obtain ⟨y, y1, _⟩ := u42 (isAtom_in d1 hq) e q1 q2
      cases y1
    · split at e
      · cases e; exact q1
      · obtain ⟨r2, d2, e⟩ := obind e
        split at e
        · cases e; exact q1
        · obtain ⟨y, y1, _⟩ := u42 (is_in d2) e q1 q2
          cases y1
  · unfold T_use_19s at e
    obtain ⟨r1, d1, e⟩ := obind e
    split at e
    · rename_i hq
      obtain ⟨y, y1, y2, y3⟩ := u42 (isAtom_in d1 hq) e q1 q2
      cases y1
      exact H y2 y3
    · split at e
      · cases e
      · obtain ⟨r2, d2, e⟩ := obind e
        split at e
        · cases e
        · obtain ⟨y, y1, y2, y3⟩ := u42 (is_in d2) e q1 q2
          cases y1
          exact H y2 y3
  · obtain ⟨g1, g2⟩ := f2.2 p1 e1 n0
    exact ⟨by show gs σ0 564 ≤ p2.1; omega, fun _ => g1⟩
end LQV
