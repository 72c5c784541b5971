set_option maxRecDepth 100000
/-! PHASE ONE: what stands for what. The least of breaks; plain data of a program; greats and names told in the twin -/
/-- the least of them and x -/
def mnl (x : Int) : List Int → Int
  | [] => x
  | y :: ys => mnl (min x y) ys
theorem mnl_app {B : List Int} : ∀ {A : List Int} {x : Int}, mnl x (A ++ B) = mnl (mnl x A) B
  | [], _ => rfl
  | y :: ys, x => mnl_app (A := ys) (x := min x y)
theorem mnl_le : ∀ {A : List Int} {x : Int}, mnl x A ≤ x ∧ ∀ y ∈ A, mnl x A ≤ y
  | [], x => ⟨Int.le_refl _, fun _ z => absurd z List.not_mem_nil⟩
  | y :: ys, x => by
    have i := mnl_le (A := ys) (x := min x y)
    refine ⟨by have := i.1; show mnl (min x y) ys ≤ x; omega, fun z hz => ?_⟩
    show mnl (min x y) ys ≤ z
    rcases List.mem_cons.mp hz with e | hz
    · have := i.1; omega
    · exact i.2 z hz
theorem mnl_in : ∀ {A : List Int} {x : Int}, mnl x A = x ∨ mnl x A ∈ A
  | [], x => .inl rfl
  | y :: ys, x => by
    show mnl (min x y) ys = x ∨ mnl (min x y) ys ∈ y :: ys
    rcases mnl_in (A := ys) (x := min x y) with i | i
    · rw [i]
      rcases Int.le_total x y with c | c
      · exact .inl (by omega)
      · exact .inr (by rw [show min x y = y by omega]; simp)
    · exact .inr (List.mem_cons_of_mem _ i)
/-- they have the same least one if each of the one lies behind one of the other -/
theorem mnl_eq {A B : List Int} {x : Int} (h1 : ∀ y ∈ A, x ≤ y ∨ ∃ z ∈ B, z ≤ y) (h2 : ∀ y ∈ B, x ≤ y ∨ ∃ z ∈ A, z ≤ y) : mnl x A = mnl x B := by
  have a := mnl_le (A := A) (x := x)
  have b := mnl_le (A := B) (x := x)
  have k1 : mnl x B ≤ mnl x A := by
    rcases mnl_in (A := A) (x := x) with i | i
    · rw [i]; exact b.1
    · rcases h1 _ i with q | ⟨z, z1, z2⟩
      · have := b.1; omega
      · have := b.2 z z1; omega
  have k2 : mnl x A ≤ mnl x B := by
    rcases mnl_in (A := B) (x := x) with i | i
    · rw [i]; exact a.1
    · rcases h2 _ i with q | ⟨z, z1, z2⟩
      · have := a.1; omega
      · have := a.2 z z1; omega
  omega
theorem FI_app {α : Type} {g : α → Option (List Int)} {L : List Int} {k : α} : ∀ {K : List α}, FI g L (K ++ [k]) = (FI g L K).elim (if g k = some L then some K.length else none) some
  | [] => by
    show (if g k = some L then some 0 else (none : Option Nat).map (· + 1)) = _
    rfl
  | k' :: K => by
    show (if g k' = some L then some 0 else (FI g L (K ++ [k])).map (· + 1)) = (if g k' = some L then some 0 else (FI g L K).map (· + 1)).elim _ some
    by_cases c : g k' = some L
    · rw [if_pos c, if_pos c]; rfl
    · rw [if_neg c, if_neg c, FI_app (K := K)]
      cases FI g L K with
      | none =>
        show (if g k = some L then some K.length else none).map (· + 1) = if g k = some L then some (K.length + 1) else none
        by_cases d : g k = some L
        · rw [if_pos d, if_pos d]; rfl
        · rw [if_neg d, if_neg d]; rfl
      | some i => rfl
theorem FI_no {α : Type} {g : α → Option (List Int)} {L : List Int} {k : α} {K : List α} (h : g k ≠ some L) : FI g L (K ++ [k]) = FI g L K := by
  rw [FI_app, if_neg h]
  cases FI g L K <;> rfl
theorem FI_new {α : Type} {g : α → Option (List Int)} {L : List Int} {k : α} {K : List α} (h : g k = some L) (e : FI g L K = none) : FI g L (K ++ [k]) = some K.length := by
  rw [FI_app, if_pos h, e]
  rfl
theorem FI_old {α : Type} {g : α → Option (List Int)} {L : List Int} {k : α} {K : List α} {i : Nat} (e : FI g L K = some i) : FI g L (K ++ [k]) = some i := by
  rw [FI_app, e]
  rfl
/-- greats in the twin: what they stand for, which were told -/
def GT (σ : tS) (N : List (List Int)) (K : KT) (tg : List (List Int)) : Prop := GL σ N K ∧ (∀ (w : Nat) (L : List Int), N[w]? = some L → (ga σ 770 w = 0 ↔ cnI L = none ∧ L ∉ tg)) ∧ ∀ L, (FI Prod.fst L K ≠ none ∨ FI Prod.snd L K ≠ none) → L ∈ tg
section LPH
variable {S : List Int} {N : List (List Int)} {b m j : Nat} {σ τ : tS} {K : KT} {tg : List (List Int)} {L : List Int} {w : Nat}
theorem GT_same (g : ∀ f ∈ [630, 634, 770], ∀ i, ga τ f i = ga σ f i) (H : GT σ N K tg) : GT τ N K tg := by
  have g1 := g 630 (by decide)
  have g2 := g 634 (by decide)
  have g3 := g 770 (by decide)
  refine ⟨fun w L e => ?_, fun w L e => by rw [g3]; exact H.2.1 w L e, H.2.2⟩
  have := H.1 w L e
  simp only [g1, g2]
  exact this
/-- told again, or a class that stands for nothing -/
theorem GT_told (H : GT σ N K tg) (hL : cnI L ≠ none ∨ L ∈ tg) : GT σ N K (tg ++ [L]) := by
  refine ⟨H.1, fun w L' e => ?_, fun L' h => List.mem_append_left _ (H.2.2 L' h)⟩
  rw [H.2.1 w L' e, List.mem_append, List.mem_singleton]
  constructor
  · rintro ⟨h1, h2⟩
    refine ⟨h1, fun z => ?_⟩
    rcases z with z | z
    · exact h2 z
    · rw [z] at h1 h2
      rcases hL with q | q
      · exact q h1
      · exact h2 q
  · rintro ⟨h1, h2⟩
    exact ⟨h1, fun z => h2 (.inl z)⟩
theorem GL_nn (H : GL σ N K) : GL σ N (K ++ [(none, none)]) := by
  intro w L e
  have := H w L e
  rw [FI_no (by simp), FI_no (by simp)]
  exact this
theorem GT_nn (H : GT σ N K tg) : GT σ N (K ++ [(none, none)]) tg := by
  refine ⟨GL_nn H.1, H.2.1, fun L h => H.2.2 L ?_⟩
  rw [FI_no (by simp), FI_no (by simp)] at h
  exact h
/-- it is told from now on, and stands for nothing -/
theorem GT_mark (nd : ndN N) (H : GT σ N K tg) (hw : N[w]? = some L) : GT (ua σ 770 w 1) N K (tg ++ [L]) := by
  refine ⟨fun w' L' e => ?_, fun w' L' e => ?_, fun L' h => List.mem_append_left _ (H.2.2 L' h)⟩
  · have := H.1 w' L' e
    rw [show ∀ i, ga (ua σ 770 w 1) 630 i = ga σ 630 i from fun i => by rw [ga_ua, if_neg (fun z => absurd z.1 (by decide))], show ∀ i, ga (ua σ 770 w 1) 634 i = ga σ 634 i from fun i => by rw [ga_ua, if_neg (fun z => absurd z.1 (by decide))]]
    exact this
  · rw [ga_ua, List.mem_append, List.mem_singleton]
    by_cases c : w' = w
    · rw [if_pos ⟨rfl, c⟩]
      have e2 : L' = L := by rw [c, hw] at e; exact (Option.some.inj e).symm
      constructor
      · intro z; exact absurd z (by decide)
      · intro z; exact absurd (.inr e2) z.2
    · rw [if_neg (fun z => c z.2), H.2.1 w' L' e]
      have n : L' ≠ L := fun z => c (nd w' w L (by rw [← z]; exact e) hw)
      constructor
      · intro z; exact ⟨z.1, fun q => q.elim z.2 n⟩
      · intro z; exact ⟨z.1, fun q => z.2 (.inl q)⟩
end LPH
