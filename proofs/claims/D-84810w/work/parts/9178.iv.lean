set_option maxRecDepth 100000
/-! WHERE THE TWIN'S NODES STAND: no new node's token lies ahead of where reading began -/
theorem obind {α β : Type} {x : Option α} {f : α → Option β} {r : β} (e : x.bind f = some r) : ∃ y, x = some y ∧ f y = some r := by
  cases x with
  | none => cases e
  | some y => exact ⟨y, rfl, e⟩
/-- tokens from q on, nodes from M on -/
def Iv (q : Int) (M dd : Nat) (σ : tS) : Prop := (q ≤ gs σ 432 ∧ (dd < 700 → ∀ f ∈ [578, 582, 586, 594, 610], ga σ f dd = -1 ∨ q ≤ ga σ f dd)) ∧ (M : Int) ≤ gs σ 564 ∧ ∀ i : Nat, M ≤ i → (i : Int) < gs σ 564 → q ≤ ga σ 542 i ∧ (ga σ 538 i = 17 → q ≤ ga σ 554 i)
/-- a step -/
def Sv (q : Int) (M dd : Nat) (σ τ : tS) : Prop := Iv q M dd σ → Iv q M dd τ ∧ gs σ 564 ≤ gs τ 564
/-- a node was made -/
def Nv (M : Nat) (r : Int) (τ : tS) : Prop := (M : Int) ≤ r ∧ r < gs τ 564
section LIV
variable {q : Int} {M dd : Nat} {σ τ υ : tS} {r k : Int}
theorem Sv_refl : Sv q M dd σ σ := fun I => ⟨I, Int.le_refl _⟩
theorem Sv_trans (A : Sv q M dd σ τ) (B : Sv q M dd τ υ) : Sv q M dd σ υ := fun I => by
  obtain ⟨a1, a2⟩ := A I
  obtain ⟨b1, b2⟩ := B a1
  exact ⟨b1, by omega⟩
theorem Nv_mono (H : Nv M r τ) (h : gs τ 564 ≤ gs υ 564) : Nv M r υ := ⟨H.1, by have := H.2; omega⟩
theorem Sv_us {f : Nat} {x : Int} (h1 : f ≠ 432) (h2 : f ≠ 564) : Sv q M dd σ (us σ f x) := fun I => by
  have e1 : gs (us σ f x) 432 = gs σ 432 := by rw [gs_us, if_neg (fun z => h1 z.symm)]
  have e2 : gs (us σ f x) 564 = gs σ 564 := by rw [gs_us, if_neg (fun z => h2 z.symm)]
  exact ⟨⟨⟨by rw [e1]; exact I.1.1, I.1.2⟩, by rw [e2]; exact I.2.1, fun i c d => by rw [e2] at d; exact I.2.2 i c d⟩, by rw [e2]; exact Int.le_refl _⟩
theorem Sv_at (h : 0 ≤ gs σ 432 ∧ gs σ 432 < 4100) : Sv q M dd σ (us σ 432 (w32 (gs σ 432 + 1))) := fun I => by
  have e1 : gs (us σ 432 (w32 (gs σ 432 + 1))) 432 = gs σ 432 + 1 := by rw [gs_us, if_pos rfl, w32_s (by omega) (by omega)]
  have e2 : gs (us σ 432 (w32 (gs σ 432 + 1))) 564 = gs σ 564 := by rw [gs_us, if_neg (by decide)]
  exact ⟨⟨⟨by rw [e1]; have := I.1.1; omega, I.1.2⟩, by rw [e2]; exact I.2.1, fun i c d => by rw [e2] at d; exact I.2.2 i c d⟩, by rw [e2]; exact Int.le_refl _⟩
theorem Sv_ua {f j : Nat} {x : Int} (h1 : f ≠ 538) (h2 : f ≠ 542) (h3 : f ≠ 554) (h4 : f ∉ [578, 582, 586, 594, 610] ∨ x = -1 ∨ q ≤ x) : Sv q M dd σ (ua σ f j x) := fun I => by
  refine ⟨⟨⟨I.1.1, fun h7 g hg => ?_⟩, I.2.1, fun i c d => ?_⟩, Int.le_refl _⟩
  · rw [ga_ua]
    split
    · rename_i z
      rcases h4 with h4 | h4
      · exact absurd (z.1 ▸ hg) h4
      · exact h4
    · exact I.1.2 h7 g hg
  rw [ga_ua, if_neg (fun z => h2 z.1.symm), ga_ua, if_neg (fun z => h1 z.1.symm), ga_ua, if_neg (fun z => h3 z.1.symm)]
  exact I.2.2 i c d
theorem is_in (e : T_is k σ = some r) : 0 ≤ gs σ 432 ∧ gs σ 432 < 4100 := by
  unfold T_is at e
  by_cases c : 0 ≤ gs σ 432 ∧ gs σ 432 < 4100
  · exact c
  · rw [if_neg c] at e; cases e
theorem v_takes (e : T_takes k σ = some (r, τ)) : Sv q M dd σ τ := by
  unfold T_takes at e
  split at e
  · cases e; exact Sv_refl
  · split at e
    · rename_i h
      split at e
      · cases e; exact Sv_at h
      · cases e; exact Sv_refl
    · cases e
theorem v_wrong (e : T_wrong σ = some τ) : Sv q M dd σ τ := by
  unfold T_wrong at e
  split at e
  · split at e
    · cases e; exact Sv_trans (Sv_us (by decide) (by decide)) (Sv_us (by decide) (by decide))
    · cases e
  · cases e; exact Sv_refl
theorem v_need (e : T_need k σ = some τ) : Sv q M dd σ τ := by
  unfold T_need at e
  obtain ⟨p, e1, e⟩ := obind e
  have s1 := v_takes (q := q) (M := M) (dd := dd) (show T_takes k σ = some (p.1, p.2) from e1)
  split at e
  · cases e; exact s1
  · obtain ⟨p2, e2, e⟩ := obind e
    cases e
    exact Sv_trans s1 (v_wrong e2)
theorem v_needed (e : T_needed k σ = some (r, τ)) : Sv q M dd σ τ ∧ (Iv q M dd σ → q ≤ r) := by
  unfold T_needed at e
  obtain ⟨p, e1, e⟩ := obind e
  cases e
  exact ⟨v_need e1, fun I => I.1.1⟩
theorem v_enter (e : T_enter σ = some τ) : Sv q M dd σ τ := by
  unfold T_enter at e
  split at e
  · cases e; exact Sv_us (by decide) (by decide)
  · obtain ⟨p, e1, e⟩ := obind e
    cases e
    exact Sv_trans (v_wrong e1) (Sv_us (by decide) (by decide))
theorem v_node {t a b c d : Int} (e : T_node k t a b c d σ = some (r, τ)) (h1 : Iv q M dd σ → q ≤ t) (h2 : Iv q M dd σ → k = 17 → q ≤ c) : Sv q M dd σ τ ∧ (Iv q M dd σ → Nv M r τ) := by
  unfold T_node at e
  split at e
  · rename_i h
    cases e
    have hw : w32 (gs σ 564 + 1) = gs σ 564 + 1 := w32_s (by omega) (by omega)
    have e2 : ∀ x, gs (ua (ua (ua (ua (ua (ua (ua (us σ 564 (w32 (gs σ 564 + 1))) 538 (gs σ 564).toNat k) 542 (gs σ 564).toNat t) 546 (gs σ 564).toNat a) 550 (gs σ 564).toNat b) 554 (gs σ 564).toNat c) 558 (gs σ 564).toNat d) 562 (gs σ 564).toNat (-1)) x = gs (us σ 564 (w32 (gs σ 564 + 1))) x := fun _ => rfl
    have n1 : gs (us σ 564 (w32 (gs σ 564 + 1))) 564 = gs σ 564 + 1 := by rw [gs_us, if_pos rfl, hw]
    have n2 : gs (us σ 564 (w32 (gs σ 564 + 1))) 432 = gs σ 432 := by rw [gs_us, if_neg (by decide)]
    have ht : (((gs σ 564).toNat : Nat) : Int) = gs σ 564 := by omega
    refine ⟨fun I => ⟨⟨⟨by rw [e2, n2]; exact I.1.1, fun h7 f hf => ?_⟩, by rw [e2, n1]; have := I.2.1; omega, fun i c1 d1 => ?_⟩, by rw [e2, n1]; omega⟩, fun I => ⟨I.2.1, by rw [e2, n1]; omega⟩⟩
    · simp only [List.mem_cons, List.not_mem_nil, or_false] at hf
      have gd : ga (ua (ua (ua (ua (ua (ua (ua (us σ 564 (w32 (gs σ 564 + 1))) 538 (gs σ 564).toNat k) 542 (gs σ 564).toNat t) 546 (gs σ 564).toNat a) 550 (gs σ 564).toNat b) 554 (gs σ 564).toNat c) 558 (gs σ 564).toNat d) 562 (gs σ 564).toNat (-1)) f dd = ga σ f dd := by
        rw [ga_ua, if_neg (by omega), ga_ua, if_neg (by omega), ga_ua, if_neg (by omega), ga_ua, if_neg (by omega), ga_ua, if_neg (by omega), ga_ua, if_neg (by omega), ga_ua, if_neg (by omega)]
        rfl
      rw [gd]
      exact I.1.2 h7 f (by simp only [List.mem_cons, List.not_mem_nil, or_false]; exact hf)
    rw [e2, n1] at d1
    by_cases z : i = (gs σ 564).toNat
    · rw [z]
      have g1 : ga (ua (ua (ua (ua (ua (ua (ua (us σ 564 (w32 (gs σ 564 + 1))) 538 (gs σ 564).toNat k) 542 (gs σ 564).toNat t) 546 (gs σ 564).toNat a) 550 (gs σ 564).toNat b) 554 (gs σ 564).toNat c) 558 (gs σ 564).toNat d) 562 (gs σ 564).toNat (-1)) 542 (gs σ 564).toNat = t := by
        rw [ga_ua, if_neg (by simp), ga_ua, if_neg (by simp), ga_ua, if_neg (by simp), ga_ua, if_neg (by simp), ga_ua, if_neg (by simp), ga_ua, if_pos ⟨rfl, rfl⟩]
      have g2 : ga (ua (ua (ua (ua (ua (ua (ua (us σ 564 (w32 (gs σ 564 + 1))) 538 (gs σ 564).toNat k) 542 (gs σ 564).toNat t) 546 (gs σ 564).toNat a) 550 (gs σ 564).toNat b) 554 (gs σ 564).toNat c) 558 (gs σ 564).toNat d) 562 (gs σ 564).toNat (-1)) 538 (gs σ 564).toNat = k := by
        rw [ga_ua, if_neg (by simp), ga_ua, if_neg (by simp), ga_ua, if_neg (by simp), ga_ua, if_neg (by simp), ga_ua, if_neg (by simp), ga_ua, if_neg (by simp), ga_ua, if_pos ⟨rfl, rfl⟩]
      have g3 : ga (ua (ua (ua (ua (ua (ua (ua (us σ 564 (w32 (gs σ 564 + 1))) 538 (gs σ 564).toNat k) 542 (gs σ 564).toNat t) 546 (gs σ 564).toNat a) 550 (gs σ 564).toNat b) 554 (gs σ 564).toNat c) 558 (gs σ 564).toNat d) 562 (gs σ 564).toNat (-1)) 554 (gs σ 564).toNat = c := by
        rw [ga_ua, if_neg (by simp), ga_ua, if_neg (by simp), ga_ua, if_pos ⟨rfl, rfl⟩]
      rw [g1, g2, g3]
      exact ⟨h1 I, h2 I⟩
    · have g : ∀ f, ga (ua (ua (ua (ua (ua (ua (ua (us σ 564 (w32 (gs σ 564 + 1))) 538 (gs σ 564).toNat k) 542 (gs σ 564).toNat t) 546 (gs σ 564).toNat a) 550 (gs σ 564).toNat b) 554 (gs σ 564).toNat c) 558 (gs σ 564).toNat d) 562 (gs σ 564).toNat (-1)) f i = ga σ f i := fun f => by
        rw [ga_ua, if_neg (fun y => z y.2), ga_ua, if_neg (fun y => z y.2), ga_ua, if_neg (fun y => z y.2), ga_ua, if_neg (fun y => z y.2), ga_ua, if_neg (fun y => z y.2), ga_ua, if_neg (fun y => z y.2), ga_ua, if_neg (fun y => z y.2)]
        rfl
      rw [g, g, g]
      exact I.2.2 i c1 (by omega)
  · cases e
/-- what reads and makes a node -/
def Rv (q : Int) (M dd : Nat) (rT : tS → Option (Int × tS)) : Prop := ∀ (σ : tS) (r : Int) (τ : tS), rT σ = some (r, τ) → Sv q M dd σ τ ∧ (Iv q M dd σ → Nv M r τ)
/-- a loop that keeps a step -/
theorem v_loop {α β : Type} {f : α → Option (α ⊕ β)} {st : α → tS} {sb : β → tS} {P : α → Prop} {Q : β → Prop} (hs : ∀ a a', f a = some (.inl a') → Sv q M dd (st a) (st a') ∧ (Iv q M dd (st a) → P a → P a')) (hb : ∀ a b, f a = some (.inr b) → Sv q M dd (st a) (sb b) ∧ (Iv q M dd (st a) → P a → Q b)) {a : α} {b : β} (e : om_loop f a = some b) : Sv q M dd (st a) (sb b) ∧ (Iv q M dd (st a) → P a → Q b) := by
  refine om_loop_ind (P := fun a b => Sv q M dd (st a) (sb b) ∧ (Iv q M dd (st a) → P a → Q b)) (fun a b e => hb a b e) (fun a a' b e H => ?_) e
  obtain ⟨s1, s2⟩ := hs a a' e
  exact ⟨Sv_trans s1 H.1, fun I p => H.2 (s1 I).1 (s2 I p)⟩
end LIV
