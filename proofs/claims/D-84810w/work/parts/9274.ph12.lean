set_option maxRecDepth 100000
/-! PHASE ONE, plainly: a program as data; what stands; the twin's tables -/
/-- a declaration: kind, first token, above, family, methods -/
abbrev PD : Type := Nat × Nat × Option Nat × Option Nat × List Nat
/-- what stands, what was told, how many insts -/
abbrev PS : Type := KT × FT × List FT × List (List Int) × List (List Int) × Nat
def pst (S : List Int) (s : PS) (q : PD) : PS :=
  if q.1 = 5 then (s.1 ++ [if s.1.length < 8 then clsK S s.2.2.2.1 (q.2.1 + 1) q.2.2.2.1 else (none, none)], s.2.1, s.2.2.1 ++ [if s.1.length < 8 then mthF S (nwG S s.2.2.2.1 (q.2.1 + 1)) s.2.2.2.2.1 0 q.2.2.2.2 else q.2.2.2.2.map (fun _ => none)], s.2.2.2.1 ++ [tokw S (q.2.1 + 1)] ++ oW S q.2.2.2.1, s.2.2.2.2.1 ++ q.2.2.2.2.map (tokw S), s.2.2.2.2.2)
  else if q.1 = 6 then (s.1, s.2.1, s.2.2.1, s.2.2.2.1, s.2.2.2.2.1, s.2.2.2.2.2 + 1)
  else (s.1, s.2.1 ++ [if nwF S s.2.2.2.2.1 s.2.1.length q.2.1 then some (tokw S q.2.1) else none], s.2.2.1, s.2.2.2.1, s.2.2.2.2.1 ++ [tokw S q.2.1], s.2.2.2.2.2)
def pss (S : List Int) (qs : List PD) : PS := qs.foldl (pst S) ([], [], [], [], [], 0)
/-- the twin's breaks at a declaration -/
def psB (S : List Int) (s : PS) (q : PD) : List Int :=
  if q.1 = 5 then (if s.1.length < 8 then abB S s.1 q.2.2.1 ++ clbB S s.2.2.2.1 s.2.2.2.2.1 (q.2.1 + 1) q.2.2.2.1 q.2.2.2.2 else [(tokq S q.2.1 : Int)])
  else if q.1 = 6 then (if s.2.2.2.2.2 < 20 then [] else [(tokq S q.2.1 : Int)])
  else (if nwF S s.2.2.2.2.1 s.2.1.length q.2.1 then [] else [(tokq S q.2.1 : Int)])
/-- and at all of them -/
def psA (S : List Int) : PS → List PD → List Int
  | _, [] => []
  | s, q :: qs => psB S s q ++ psA S (pst S s q) qs
/-- the twin's declaration d is q -/
def dTw (S : List Int) (b m : Nat) (σ : tS) (d : Nat) (q : PD) : Prop := (d < 700 ∧ q.2.1 ≤ m) ∧ ga σ 570 d = (q.1 : Int) ∧ ga σ 574 d = ((b + q.2.1 : Nat) : Int) ∧
  ((q.1 = 5 ∧ (ga σ 578 d = ((b + (q.2.1 + 1) : Nat) : Int) ∧ tokk S (q.2.1 + 1) = 3) ∧ (ga σ 582 d = ((b + (q.2.1 + 2) : Nat) : Int) ∧ tokk S (q.2.1 + 2) = 2) ∧ (ga σ 586 d = oT b q.2.2.1 ∧ ∀ a ∈ q.2.2.1, tokk S a = 3) ∧ (ga σ 610 d = oT b q.2.2.2.1 ∧ ∀ f ∈ q.2.2.2.1, tokk S f = 3) ∧ ∃ ns, chain σ (ga σ 602 d) ns ∧ mT S b σ ns q.2.2.2.2) ∨
   q.1 = 6 ∨ (q.1 = 2 ∧ ga σ 578 d = ((b + q.2.1 : Nat) : Int) ∧ tokk S q.2.1 = 2))
/-- the fields that phase one writes -/
abbrev ZF : List Nat := [452, 456, 644, 648, 652, 764]
abbrev ZA : List Nat := [630, 634, 770, 638, 642, 774, 658, 662, 666, 670, 674, 678, 682, 690, 730, 734]
/-- the row of declaration d in the twin's tables; s what stood ahead of it -/
def rowT (S : List Int) (N : List (List Int)) (σ : tS) (d : Nat) (q : PD) (s : PS) : Prop :=
  (q.1 = 5 → s.1.length < 8 → cRow S N σ s.1.length d (q.2.1 + 1) (q.2.1 + 2) q.2.2.1 q.2.2.2.1 s.1 s.2.2.2.1 (mthF S (nwG S s.2.2.2.1 (q.2.1 + 1)) s.2.2.2.2.1 0 q.2.2.2.2)) ∧
  (q.1 = 6 → s.2.2.2.2.2 < 20 → ga σ 690 s.2.2.2.2.2 = (d : Int)) ∧
  (q.1 = 2 → nwF S s.2.2.2.2.1 s.2.1.length q.2.1 → ga σ 730 (cntS s.2.1 s.2.1.length) = (d : Int) ∧ ∃ w : Nat, N[w]? = some (tokw S q.2.1) ∧ ga σ 734 (cntS s.2.1 s.2.1.length) = (w : Int))
/-- where phase one stands in the twin -/
def PT1 (S : List Int) (N : List (List Int)) (b m : Nat) (σ : tS) (s : PS) : Prop := TT σ N S b m ∧ s.1.length = s.2.2.1.length ∧ gs σ 644 = ((min 8 s.1.length : Nat) : Int) ∧ gs σ 648 = ((min 20 s.2.2.2.2.2 : Nat) : Int) ∧ gs σ 764 = ((min 24 s.2.1.length : Nat) : Int) ∧ gs σ 652 = (cntS s.2.1 s.2.1.length : Int) ∧ GT σ N s.1 s.2.2.2.1 ∧ XM σ N s.2.1 s.2.2.1 s.2.2.2.2.1 ∧ (gs σ 452 = 0 ∨ gs σ 452 = 2)
section LPI
variable {S : List Int} {N : List (List Int)} {b m d : Nat} {σ τ : tS} {s : PS} {q : PD}
theorem pst_5 (h : q.1 = 5) : pst S s q = (s.1 ++ [if s.1.length < 8 then clsK S s.2.2.2.1 (q.2.1 + 1) q.2.2.2.1 else (none, none)], s.2.1, s.2.2.1 ++ [if s.1.length < 8 then mthF S (nwG S s.2.2.2.1 (q.2.1 + 1)) s.2.2.2.2.1 0 q.2.2.2.2 else q.2.2.2.2.map (fun _ => none)], s.2.2.2.1 ++ [tokw S (q.2.1 + 1)] ++ oW S q.2.2.2.1, s.2.2.2.2.1 ++ q.2.2.2.2.map (tokw S), s.2.2.2.2.2) := if_pos h
theorem pst_6 (h : q.1 = 6) : pst S s q = (s.1, s.2.1, s.2.2.1, s.2.2.2.1, s.2.2.2.2.1, s.2.2.2.2.2 + 1) := by
  unfold pst
  rw [if_neg (by omega), if_pos h]
theorem pst_2 (h : q.1 = 2) : pst S s q = (s.1, s.2.1 ++ [if nwF S s.2.2.2.2.1 s.2.1.length q.2.1 then some (tokw S q.2.1) else none], s.2.2.1, s.2.2.2.1, s.2.2.2.2.1 ++ [tokw S q.2.1], s.2.2.2.2.2) := by
  unfold pst
  rw [if_neg (by omega), if_neg (by omega)]
/-- indices only grow -/
theorem pst_grow : s.1.length ≤ (pst S s q).1.length ∧ s.2.2.2.2.2 ≤ (pst S s q).2.2.2.2.2 ∧ cntS s.2.1 s.2.1.length ≤ cntS (pst S s q).2.1 (pst S s q).2.1.length := by
  by_cases h5 : q.1 = 5
  · rw [pst_5 h5]; simp
  · by_cases h6 : q.1 = 6
    · rw [pst_6 h6]; simp
    · unfold pst
      rw [if_neg h5, if_neg h6]
      refine ⟨Nat.le_refl _, Nat.le_refl _, ?_⟩
      show cntS s.2.1 s.2.1.length ≤ cntS (s.2.1 ++ [_]) (s.2.1 ++ [_]).length
      rw [List.length_append]
      show _ ≤ cntS (s.2.1 ++ [_]) (s.2.1.length + 1)
      rw [cntS_more]
      omega
end LPI
