set_option maxRecDepth 100000
/-! THE TWIN's insts and givens; looking for them -/
/-- classes above, insts -/
def PGT (σ : tS) (n : Nat) (ab : List (Option Nat)) (ins : List INs) : Prop := (ab.length ≤ 8 ∧ ∀ (c : Nat) (o : Option Nat), ab[c]? = some o → ga σ 670 c = oI o ∧ ∀ a ∈ o, a < c) ∧ gs σ 648 = (ins.length : Int) ∧ ins.length ≤ 20 ∧ ∀ (i : Nat) (d : INs), ins[i]? = some d → (ga σ 694 i = (d.1 : Int) ∧ d.1 < ab.length) ∧ (ga σ 698 i = (d.2.1 : Int) ∧ d.2.1 ≤ 3) ∧ (ga σ 702 i = (d.2.2.1.length : Int) ∧ d.2.2.1.length = pN d.2.1 ∧ ∀ (j w : Nat), d.2.2.1[j]? = some w → ga σ 706 (2 * i + j) = (w : Int)) ∧ (ga σ 710 i = (d.2.2.2.1.length : Int) ∧ d.2.2.2.1.length ≤ 4 ∧ ∀ (j : Nat) (c : Nat × Nat), d.2.2.2.1[j]? = some c → ga σ 714 (4 * i + j) = (c.1 : Int) ∧ ga σ 718 (4 * i + j) = (c.2 : Int) ∧ c.1 < ab.length ∧ c.2 < d.2.2.1.length) ∧ tyT σ n d.2.2.2.2 (ga σ 722 i)
/-- what is given here -/
def GVT (σ : tS) (n : Nat) (gv : List GVs) : Prop := gs σ 792 = (gv.length : Int) ∧ gv.length ≤ 4 ∧ ∀ (i : Nat) (g : GVs), gv[i]? = some g → ga σ 798 i = (g.1 : Int) ∧ ga σ 802 i = (g.2.1 : Int) ∧ tyT σ n g.2.2 (ga σ 806 i) ∧ g.1 < 108
abbrev PGA : List Nat := [670, 694, 698, 702, 706, 710, 714, 718, 722]
section LTE
variable {σ τ : tS} {n n' : Nat} {ab : List (Option Nat)} {ins : List INs} {gv : List GVs}
theorem PGT_fr {F B : List Nat} (H : PGT σ n ab ins) (R : fr F B σ τ) (dF : 648 ∉ F) (dB : ∀ f ∈ PGA, f ∉ B) (X : tx σ n τ n') : PGT τ n' ab ins := by
  obtain ⟨⟨a1, a2⟩, b1, b2, b3⟩ := H
  have g : ∀ f ∈ PGA, ∀ i, ga τ f i = ga σ f i := fun f hf i => R.2 f (dB f hf) i
  refine ⟨⟨a1, fun c o e => by rw [g 670 (by simp)]; exact a2 c o e⟩, by rw [R.1 648 dF]; exact b1, b2, fun i d e => ?_⟩
  obtain ⟨c1, c2, c3, c4, c5⟩ := b3 i d e
  refine ⟨by rw [g 694 (by simp)]; exact c1, by rw [g 698 (by simp)]; exact c2, ⟨by rw [g 702 (by simp)]; exact c3.1, c3.2.1, fun j w e => by rw [g 706 (by simp)]; exact c3.2.2 j w e⟩, ⟨by rw [g 710 (by simp)]; exact c4.1, c4.2.1, fun j c e => ?_⟩, by rw [g 722 (by simp)]; exact tyT_mono X c5⟩
  rw [g 714 (by simp), g 718 (by simp)]
  exact c4.2.2 j c e
theorem GVT_fr {F B : List Nat} (H : GVT σ n gv) (R : fr F B σ τ) (dF : 792 ∉ F) (dB : ∀ f ∈ [798, 802, 806], f ∉ B) (X : tx σ n τ n') : GVT τ n' gv := by
  obtain ⟨a1, a2, a3⟩ := H
  have g : ∀ f ∈ [798, 802, 806], ∀ i, ga τ f i = ga σ f i := fun f hf i => R.2 f (dB f hf) i
  refine ⟨by rw [R.1 792 dF]; exact a1, a2, fun i x e => ?_⟩
  rw [g 798 (by simp), g 802 (by simp), g 806 (by simp)]
  exact ⟨(a3 i x e).1, (a3 i x e).2.1, tyT_mono X (a3 i x e).2.2.1, (a3 i x e).2.2.2⟩
/-- a loop that looks for the first place -/
theorem lp_find {α β : Type} {step : Int → Option (Int ⊕ (Int ⊕ Unit))} {p : α → Bool} {l0 : List α} (hl : l0.length ≤ 1000) (h1 : ∀ (i : Nat) (x : α), l0[i]? = some x → p x = true → step (i : Int) = some (.inr (.inl (i : Int)))) (h2 : ∀ (i : Nat) (x : α), l0[i]? = some x → ¬ p x = true → step (i : Int) = some (.inl (w32 ((i : Int) + 1)))) (h3 : step (l0.length : Int) = some (.inr (.inr ()))) : ∀ (l : List α) (i : Nat), l0.drop i = l → i ≤ l0.length → om_loop step (i : Int) = some (match ixF p l with | some j => .inl ((i + j : Nat) : Int) | none => .inr ())
  | [], i, e, hi => by
    have : l0.length ≤ i := List.drop_eq_nil_iff.mp e
    rw [show i = l0.length by omega]
    exact om_loop_out h3
  | x :: l, i, e, hi => by
    have ei : l0[i]? = some x := by
      have := congrArg (fun z => z[0]?) e
      simpa using this
    have il := (List.getElem?_eq_some_iff.mp ei).1
    by_cases c : p x = true
    · rw [show ixF p (x :: l) = some 0 by show (if p x = true then _ else _) = _; rw [if_pos c]]
      rw [om_loop_out (h1 i x ei c)]
      rfl
    · have st := h2 i x ei c
      rw [w32_s (by omega) (by omega), show ((i : Int) + 1) = ((i + 1 : Nat) : Int) by omega] at st
      rw [om_loop_in st, lp_find (β := β) hl h1 h2 h3 l (i + 1) (by rw [← List.tail_drop, e]; rfl) (by omega)]
      rw [show ixF p (x :: l) = (ixF p l).map (fun i => i + 1) by show (if p x = true then _ else _) = _; rw [if_neg c]]
      cases ixF p l with
      | none => rfl
      | some j =>
        show some (Sum.inl ((i + 1 + j : Nat) : Int)) = some (Sum.inl ((i + (j + 1) : Nat) : Int))
        rw [show i + 1 + j = i + (j + 1) by omega]
theorem t_instanceOf (H : PGT σ n ab ins) (c k : Nat) : T_instanceOf (c : Int) (k : Int) σ = some (oI (iOf ins c k)) := by
  obtain ⟨_, b1, b2, b3⟩ := H
  have key := lp_find (β := Unit) (step := T_instanceOf_2s (c : Int) (k : Int) σ) (p := fun i : INs => i.1 == c && i.2.1 == k) (l0 := ins) (by omega) (fun i x e hp => by
      have il := (List.getElem?_eq_some_iff.mp e).1
      obtain ⟨c1, c2, _⟩ := b3 i x e
      have hp' : x.1 = c ∧ x.2.1 = k := by simpa using hp
      unfold T_instanceOf_2s
      rw [b1, if_neg (by omega), if_pos (by omega), show ((i : Int)).toNat = i by omega, c1.1, c2.1, if_neg (by omega), if_pos (by omega), if_neg (by omega)]) (fun i x e hp => by
      have il := (List.getElem?_eq_some_iff.mp e).1
      obtain ⟨c1, c2, _⟩ := b3 i x e
      have hp' : ¬ (x.1 = c ∧ x.2.1 = k) := by simpa using hp
      unfold T_instanceOf_2s
      rw [b1, if_neg (by omega), if_pos (by omega), show ((i : Int)).toNat = i by omega, c1.1, c2.1]
      by_cases q : x.1 = c
      · rw [if_neg (by omega), if_pos (by omega), if_pos (by omega)]
      · rw [if_pos (by omega)]) (by
      unfold T_instanceOf_2s
      rw [b1, if_pos (Int.le_refl _)]) ins 0 rfl (by omega)
  unfold T_instanceOf
  have k0 : om_loop (T_instanceOf_2s (c : Int) (k : Int) σ) 0 = _ := key
  rw [k0]
  show (some (match iOf ins c k with | some j => Sum.inl ((0 + j : Nat) : Int) | none => Sum.inr ())).bind _ = _
  cases iOf ins c k with
  | none => rfl
  | some j =>
    show some (((0 + j : Nat) : Int)) = some ((j : Nat) : Int)
    rw [Nat.zero_add]
theorem t_givenFamily (H : GVT σ n gv) {f : Nat} (hf : f < 1000) (w : Nat) : T_givenFamily (f : Int) (w : Int) σ = some (oI (gFm gv f w)) := by
  obtain ⟨b1, b2, b3⟩ := H
  have e100 : w32 (100 + (f : Int)) = ((100 + f : Nat) : Int) := by rw [w32_s (by omega) (by omega)]; omega
  have key := lp_find (β := Unit) (step := T_givenFamily_2s (f : Int) (w : Int) σ) (p := fun g : GVs => g.1 == 100 + f && g.2.1 == w) (l0 := gv) (by omega) (fun i x e hp => by
      have il := (List.getElem?_eq_some_iff.mp e).1
      obtain ⟨c1, c2, _⟩ := b3 i x e
      have hp' : x.1 = 100 + f ∧ x.2.1 = w := by simpa using hp
      unfold T_givenFamily_2s
      rw [b1, if_neg (by omega), if_pos (by omega), show ((i : Int)).toNat = i by omega, c1, c2, e100, if_neg (by omega), if_pos (by omega), if_neg (by omega)]) (fun i x e hp => by
      have il := (List.getElem?_eq_some_iff.mp e).1
      obtain ⟨c1, c2, _⟩ := b3 i x e
      have hp' : ¬ (x.1 = 100 + f ∧ x.2.1 = w) := by simpa using hp
      unfold T_givenFamily_2s
      rw [b1, if_neg (by omega), if_pos (by omega), show ((i : Int)).toNat = i by omega, c1, c2, e100]
      by_cases q : x.1 = 100 + f
      · rw [if_neg (by omega), if_pos (by omega), if_pos (by omega)]
      · rw [if_pos (by omega)]) (by
      unfold T_givenFamily_2s
      rw [b1, if_pos (Int.le_refl _)]) gv 0 rfl (by omega)
  unfold T_givenFamily
  have k0 : om_loop (T_givenFamily_2s (f : Int) (w : Int) σ) 0 = _ := key
  rw [k0]
  show (some (match gFm gv f w with | some j => Sum.inl ((0 + j : Nat) : Int) | none => Sum.inr ())).bind _ = _
  cases gFm gv f w with
  | none => rfl
  | some j =>
    show some (((0 + j : Nat) : Int)) = some ((j : Nat) : Int)
    rw [Nat.zero_add]
/-- why a family goes -/
theorem t_goesBy (P : PGT σ n ab ins) (V : GVT σ n gv) {f : Nat} (hf : f < 1000) {u : Unit} {l r : Ty} {o : Int} (hl : l ≠ .leaf) (hn : n ≤ 126000) (c : tyT σ n l o) : T_goesBy (f : Int) o σ = some (oI (gby ins gv (.inner 2 f u l r))) := by
  rcases l with ⟨k', w, u', l', r'⟩ | _
  · obtain ⟨m, c1, c2, c3, c4, _, _⟩ := c
    have g : 0 ≤ o ∧ o < 126000 := by omega
    have om : o.toNat = m := by omega
    unfold T_goesBy
    rw [if_pos g, om, c3]
    show _ = some (oI (if (2 : Nat) = 2 then (if k' = 1 then iOf ins f w else if k' = 0 then (gFm gv f w).map (fun g => 100 + g) else none) else none))
    rw [if_pos rfl]
    by_cases k1 : k' = 1
    · rw [if_neg (by omega), if_pos g, c4, t_instanceOf P f w, if_pos k1]
      rfl
    · rw [if_pos (by omega), if_pos g, if_neg k1]
      by_cases k0 : k' = 0
      · rw [if_neg (by omega), if_pos g, c4, t_givenFamily V hf w, if_pos k0, Option.bind_some]
        unfold T_goesBy_46
        cases q : gFm gv f w with
        | none => rw [if_neg (fun z => z rfl)]; rfl
        | some j =>
          have lt := ixF_lt q
          have l4 := V.2.1
          show (if ((j : Nat) : Int) ≠ -1 then some (w32 (100 + ((j : Nat) : Int))) else some (-1)) = some ((((100 + j) : Nat)) : Int)
          rw [if_pos (by omega), w32_s (by omega) (by omega)]
          rfl
      · rw [if_pos (by omega), if_neg k0]
        unfold T_goesBy_46
        rw [if_neg (fun z => z rfl)]
        rfl
  · exact absurd rfl hl
end LTE
