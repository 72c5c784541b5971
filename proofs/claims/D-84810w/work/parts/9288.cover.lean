set_option maxRecDepth 100000
/-! PHASE ONE: the component's breaks at a declaration's head and the twin's cover one another -/
/-- methods too many -/
def m4 (S : List Int) : Nat → List Nat → List Int
  | _, [] => []
  | k, j :: js => (if k < 4 then [] else [(tokq S j : Int)]) ++ m4 S (k + 1) js
/-- the component's breaks at the head of a declaration -/
def cH (S : List Int) (s : PS) (p : PD) : List Int := toB S cnI s.2.2.2.1 (gJ p) ++ toB S btI s.2.2.2.2.1 (nJ p) ++ (if p.1 = 5 then (if s.1.length < 8 then [] else [(tokq S p.2.1 : Int)]) ++ abB S s.1 p.2.2.1 ++ m4 S 0 p.2.2.2.2 else if p.1 = 6 then (if s.2.2.2.2.2 < 20 then [] else [(tokq S p.2.1 : Int)]) else (if s.2.1.length < 24 then [] else [(tokq S p.2.1 : Int)]))
/-- the tokens lie as they are read -/
def oK (p : PD) : Prop := p.1 = 5 → (∀ f ∈ p.2.2.2.1, p.2.1 + 1 ≤ f) ∧ (∀ j ∈ p.2.2.2.2, p.2.1 + 1 ≤ j) ∧ ∀ a ∈ p.2.2.1, p.2.1 ≤ a
/-- each of A lies behind one of B -/
def lb (A B : List Int) : Prop := ∀ y ∈ A, ∃ z ∈ B, z ≤ y
section LCV
variable {S : List Int} {s : PS} {p : PD} {A B C D : List Int}
theorem lb_refl : lb A A := fun y hy => ⟨y, hy, Int.le_refl _⟩
theorem lb_nil : lb [] A := fun y hy => absurd hy List.not_mem_nil
theorem lb_app (h1 : lb A C) (h2 : lb B C) : lb (A ++ B) C := fun y hy => (List.mem_append.mp hy).elim (h1 y) (h2 y)
theorem lb_l (h : lb A B) : lb A (B ++ C) := fun y hy => by obtain ⟨z, z1, z2⟩ := h y hy; exact ⟨z, List.mem_append_left _ z1, z2⟩
theorem lb_r (h : lb A C) : lb A (B ++ C) := fun y hy => by obtain ⟨z, z1, z2⟩ := h y hy; exact ⟨z, List.mem_append_right _ z1, z2⟩
theorem lb_trans (h1 : lb A B) (h2 : lb B C) : lb A C := fun y hy => by
  obtain ⟨z, z1, z2⟩ := h1 y hy
  obtain ⟨x, x1, x2⟩ := h2 z z1
  exact ⟨x, x1, by omega⟩
theorem lb_both (h1 : lb A C) (h2 : lb B D) : lb (A ++ B) (C ++ D) := lb_app (lb_l h1) (lb_r h2)
theorem lb_eq {x : Int} (h1 : lb A B) (h2 : lb B A) : mnl x A = mnl x B := mnl_eq (fun y hy => .inr (h1 y hy)) (fun y hy => .inr (h2 y hy))
theorem lb_one {x : Int} (h : ∀ y ∈ A, x ≤ y) : lb A [x] := fun y hy => ⟨x, List.mem_cons_self, h y hy⟩
theorem toB_mem {f : List Int → Option Nat} : ∀ {js : List Nat} {tg : List (List Int)} {y : Int}, y ∈ toB S f tg js → ∃ j ∈ js, y = (tokq S j : Int)
  | [], _, y, h => absurd h List.not_mem_nil
  | j :: js, tg, y, h => by
    rcases List.mem_append.mp h with h | h
    · split at h
      · exact absurd h List.not_mem_nil
      · exact ⟨j, List.mem_cons_self, List.mem_singleton.mp h⟩
    · obtain ⟨i, h1, h2⟩ := toB_mem h
      exact ⟨i, List.mem_cons_of_mem _ h1, h2⟩
theorem m4_mem : ∀ {js : List Nat} {k : Nat} {y : Int}, y ∈ m4 S k js → ∃ j ∈ js, y = (tokq S j : Int)
  | [], _, y, h => absurd h List.not_mem_nil
  | j :: js, k, y, h => by
    rcases List.mem_append.mp h with h | h
    · split at h
      · exact absurd h List.not_mem_nil
      · exact ⟨j, List.mem_cons_self, List.mem_singleton.mp h⟩
    · obtain ⟨i, h1, h2⟩ := m4_mem h
      exact ⟨i, List.mem_cons_of_mem _ h1, h2⟩
theorem mthB_mem : ∀ {js : List Nat} {tn : List (List Int)} {k : Nat} {y : Int}, (y ∈ mthB S tn k js ↔ y ∈ toB S btI tn js ++ m4 S k js)
  | [], _, _, y => by
    show y ∈ [] ↔ y ∈ [] ++ []
    simp
  | j :: js, tn, k, y => by
    show y ∈ (if btI (tokw S j) = none ∧ tokw S j ∉ tn ∧ k < 4 then [] else [(tokq S j : Int)]) ++ mthB S (tn ++ [tokw S j]) (k + 1) js ↔ y ∈ ((if btI (tokw S j) = none ∧ tokw S j ∉ tn then [] else [(tokq S j : Int)]) ++ toB S btI (tn ++ [tokw S j]) js) ++ ((if k < 4 then [] else [(tokq S j : Int)]) ++ m4 S (k + 1) js)
    rw [List.mem_append, mthB_mem (js := js), List.mem_append, List.mem_append, List.mem_append, List.mem_append]
    by_cases a : btI (tokw S j) = none ∧ tokw S j ∉ tn
    · by_cases b : k < 4
      · rw [if_pos ⟨a.1, a.2, b⟩, if_pos a, if_pos b]
        constructor
        · rintro (h | h | h)
          · exact absurd h List.not_mem_nil
          · exact .inl (.inr h)
          · exact .inr (.inr h)
        · rintro ((h | h) | (h | h))
          · exact absurd h List.not_mem_nil
          · exact .inr (.inl h)
          · exact absurd h List.not_mem_nil
          · exact .inr (.inr h)
      · rw [if_neg (fun z => b z.2.2), if_pos a, if_neg b]
        constructor
        · rintro (h | h | h)
          · exact .inr (.inl h)
          · exact .inl (.inr h)
          · exact .inr (.inr h)
        · rintro ((h | h) | (h | h))
          · exact absurd h List.not_mem_nil
          · exact .inr (.inl h)
          · exact .inl h
          · exact .inr (.inr h)
    · rw [if_neg (fun z => a ⟨z.1, z.2.1⟩), if_neg a]
      constructor
      · rintro (h | h | h)
        · exact .inl (.inl h)
        · exact .inl (.inr h)
        · exact .inr (.inr h)
      · rintro ((h | h) | (h | h))
        · exact .inl h
        · exact .inr (.inl h)
        · split at h
          · exact absurd h List.not_mem_nil
          · exact .inl h
        · exact .inr (.inr h)
theorem lb_mthB {tn : List (List Int)} {k : Nat} {js : List Nat} : lb (mthB S tn k js) (toB S btI tn js ++ m4 S k js) ∧ lb (toB S btI tn js ++ m4 S k js) (mthB S tn k js) := ⟨fun y hy => ⟨y, mthB_mem.mp hy, Int.le_refl _⟩, fun y hy => ⟨y, mthB_mem.mpr hy, Int.le_refl _⟩⟩
theorem tq_i {i j : Nat} (h : i ≤ j) : (tokq S i : Int) ≤ (tokq S j : Int) := by have := tokq_mono S h; omega
theorem abB_mem {K : KT} {ab : Option Nat} {y : Int} (h : y ∈ abB S K ab) : ∃ a ∈ ab, y = (tokq S a : Int) := by
  cases ab with
  | none => exact absurd h List.not_mem_nil
  | some a =>
    refine ⟨a, rfl, ?_⟩
    have h : y ∈ (if FI Prod.fst (tokw S a) K = none then [(tokq S a : Int)] else []) := h
    split at h
    · exact List.mem_singleton.mp h
    · exact absurd h List.not_mem_nil
theorem lb_head (h2 : p.1 = 5 ∨ p.1 = 6 ∨ p.1 = 2) (o : oK p) : lb (cH S s p) (psB S s p) ∧ lb (psB S s p) (cH S s p) := by
  unfold cH psB
  rcases h2 with e | e | e
  · obtain ⟨o1, o2, o3⟩ := o e
    rw [if_pos e, if_pos e]
    have en : nJ p = p.2.2.2.2 := by unfold nJ; rw [if_pos e]
    have eg : gJ p = (p.2.1 + 1) :: p.2.2.2.1.elim [] (fun f => [f]) := by unfold gJ; rw [if_pos e]
    rw [en]
    have gm : ∀ y ∈ toB S cnI s.2.2.2.1 (gJ p), (tokq S (p.2.1 + 1) : Int) ≤ y := fun y hy => by
      obtain ⟨j, j1, j2⟩ := toB_mem hy
      rw [j2]
      rw [eg] at j1
      rcases List.mem_cons.mp j1 with z | z
      · rw [z]; exact Int.le_refl _
      · cases ef : p.2.2.2.1 with
        | none => rw [ef] at z; exact absurd z List.not_mem_nil
        | some f =>
          rw [ef] at z
          rw [List.mem_singleton.mp z]
          exact tq_i (o1 f ef)
    have nm : ∀ y ∈ toB S btI s.2.2.2.2.1 p.2.2.2.2, (tokq S (p.2.1 + 1) : Int) ≤ y := fun y hy => by
      obtain ⟨j, j1, j2⟩ := toB_mem hy
      rw [j2]; exact tq_i (o2 j j1)
    have mm : ∀ y ∈ m4 S 0 p.2.2.2.2, (tokq S (p.2.1 + 1) : Int) ≤ y := fun y hy => by
      obtain ⟨j, j1, j2⟩ := m4_mem hy
      rw [j2]; exact tq_i (o2 j j1)
    have am : ∀ y ∈ abB S s.1 p.2.2.1, (tokq S p.2.1 : Int) ≤ y := fun y hy => by
      obtain ⟨a, j1, j2⟩ := abB_mem hy
      rw [j2]; exact tq_i (o3 a j1)
    have le1 : (tokq S p.2.1 : Int) ≤ (tokq S (p.2.1 + 1) : Int) := tq_i (by omega)
    by_cases c8 : s.1.length < 8
    · rw [if_pos c8, if_pos c8, List.nil_append]
      unfold clbB
      by_cases st : nwG S s.2.2.2.1 (p.2.1 + 1)
      · rw [if_pos st]
        have g1 : toB S cnI s.2.2.2.1 (gJ p) = p.2.2.2.1.elim [] (grB S (s.2.2.2.1 ++ [tokw S (p.2.1 + 1)])) := by
          rw [eg]
          show (if cnI (tokw S (p.2.1 + 1)) = none ∧ tokw S (p.2.1 + 1) ∉ s.2.2.2.1 then [] else _) ++ toB S cnI (s.2.2.2.1 ++ [tokw S (p.2.1 + 1)]) _ = _
          rw [if_pos st, List.nil_append]
          cases p.2.2.2.1 with
          | none => rfl
          | some f =>
            show (if cnI (tokw S f) = none ∧ tokw S f ∉ s.2.2.2.1 ++ [tokw S (p.2.1 + 1)] then [] else [(tokq S f : Int)]) ++ [] = _
            rw [List.append_nil]
            rfl
        rw [g1]
        refine ⟨lb_app (lb_app (lb_r (lb_l lb_refl)) (lb_r (lb_r (lb_trans (lb_l lb_refl) lb_mthB.2)))) (lb_app (lb_l lb_refl) (lb_r (lb_r (lb_trans (lb_r lb_refl) lb_mthB.2)))), lb_app (lb_r (lb_l lb_refl)) (lb_app (lb_l (lb_l lb_refl)) (lb_trans lb_mthB.1 (lb_app (lb_l (lb_r lb_refl)) (lb_r (lb_r lb_refl)))))⟩
      · rw [if_neg st]
        have g1 : lb [(tokq S (p.2.1 + 1) : Int)] (toB S cnI s.2.2.2.1 (gJ p)) := by
          rw [eg]
          show lb _ ((if cnI (tokw S (p.2.1 + 1)) = none ∧ tokw S (p.2.1 + 1) ∉ s.2.2.2.1 then [] else [(tokq S (p.2.1 + 1) : Int)]) ++ _)
          rw [if_neg st]
          exact lb_l lb_refl
        exact ⟨lb_app (lb_app (lb_r (lb_one gm)) (lb_r (lb_one nm))) (lb_app (lb_l lb_refl) (lb_r (lb_one mm))), lb_app (lb_r (lb_l lb_refl)) (lb_l (lb_l g1))⟩
    · rw [if_neg c8, if_neg c8]
      exact ⟨lb_one (fun y hy => by
        rcases List.mem_append.mp hy with hy | hy
        · rcases List.mem_append.mp hy with hy | hy
          · have := gm y hy; omega
          · have := nm y hy; omega
        · rcases List.mem_append.mp hy with hy | hy
          · rcases List.mem_append.mp hy with hy | hy
            · rw [List.mem_singleton.mp hy]; exact Int.le_refl _
            · exact am y hy
          · have := mm y hy; omega), lb_r (lb_l (lb_l lb_refl))⟩
  · have n5 : ¬ p.1 = 5 := by omega
    rw [if_neg n5, if_pos e, if_neg n5, if_pos e, show gJ p = [] by unfold gJ; rw [if_neg (by omega)], show nJ p = [] by unfold nJ; rw [if_neg (by omega), if_pos e]]
    exact ⟨lb_refl, lb_refl⟩
  · have n5 : ¬ p.1 = 5 := by omega
    have n6 : ¬ p.1 = 6 := by omega
    rw [if_neg n5, if_neg n6, if_neg n5, if_neg n6, show gJ p = [] by unfold gJ; rw [if_neg (by omega)], show nJ p = [p.2.1] by unfold nJ; rw [if_neg (by omega), if_neg (by omega)]]
    show lb ([] ++ ((if btI (tokw S p.2.1) = none ∧ tokw S p.2.1 ∉ s.2.2.2.2.1 then [] else [(tokq S p.2.1 : Int)]) ++ []) ++ _) _ ∧ lb _ ([] ++ ((if btI (tokw S p.2.1) = none ∧ tokw S p.2.1 ∉ s.2.2.2.2.1 then [] else [(tokq S p.2.1 : Int)]) ++ []) ++ _)
    rw [List.append_nil, List.nil_append]
    by_cases a : btI (tokw S p.2.1) = none ∧ tokw S p.2.1 ∉ s.2.2.2.2.1
    · by_cases b : s.2.1.length < 24
      · rw [if_pos a, if_pos b, if_pos ⟨a.1, a.2, b⟩]; exact ⟨lb_refl, lb_refl⟩
      · rw [if_pos a, if_neg b, if_neg (fun z => b z.2.2)]; exact ⟨lb_refl, lb_refl⟩
    · have nn : ¬ nwF S s.2.2.2.2.1 s.2.1.length p.2.1 := fun z => a ⟨z.1, z.2.1⟩
      rw [if_neg a, if_neg nn]
      refine ⟨lb_app lb_refl ?_, lb_l lb_refl⟩
      split
      · exact lb_nil
      · exact lb_refl
end LCV
