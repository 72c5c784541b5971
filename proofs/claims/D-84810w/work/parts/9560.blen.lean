set_option maxRecDepth 100000
/-! HOW MANY BYTES ARE TOLD: types, proofs -/
/-- letters are few -/
def lt10 (nm con fam cnm : Nat → List Int) : Prop := ∀ w, (nm w).length ≤ 10 ∧ (con w).length ≤ 10 ∧ (fam w).length ≤ 10 ∧ (cnm w).length ≤ 10
/-- how long -/
def oL (p : Option (List Int)) : Nat := p.elim 0 List.length
section LBL
variable {nm con fam cnm : Nat → List Int} {ins : List INs} {gv : List GVs} {Q : Ty → Prop} {H : Nat → Nat → Prop} {B : Nat}
theorem hdB_len (L : lt10 nm con fam cnm) {k w : Nat} : (hdB nm con fam k w).length ≤ 10 := by
  unfold hdB
  by_cases c : k = 0
  · rw [if_pos c]; exact (L w).1
  · rw [if_neg c]
    by_cases c1 : k = 1
    · rw [if_pos c1]; exact (L w).2.1
    · rw [if_neg c1]; exact (L w).2.2.1
theorem tyB_len (L : lt10 nm con fam cnm) : ∀ (T : Ty), (tyB nm con fam T).length ≤ 13 * tsz T
  | .leaf => Nat.zero_le _
  | .inner k w u l r => by
    have h1 := tyB_len L l
    have h2 := tyB_len L r
    have h3 : (hdB nm con fam k w).length ≤ 10 := hdB_len L
    have e : tsz (.inner k w u l r) = 1 + tsz l + tsz r := rfl
    rw [tyB_inner, e]
    by_cases c : k = 3
    · rw [if_pos c]
      simp only [List.length_append, List.length_cons, List.length_nil]
      omega
    · rw [if_neg c, List.length_append]
      by_cases c1 : lfB l = true
      · rw [if_pos c1, List.length_nil]
        omega
      · rw [if_neg c1]
        by_cases c2 : lfB r = true
        · rw [if_pos c2]
          simp only [List.length_append, List.length_cons, List.length_nil]
          omega
        · rw [if_neg c2]
          simp only [List.length_append, List.length_cons, List.length_nil]
          omega
theorem prtB_len (L : lt10 nm con fam cnm) {T : Ty} : (prtB nm con fam T).length ≤ 13 * tsz T := by
  cases T with
  | leaf => exact Nat.zero_le _
  | inner k w u l r =>
    have h1 := tyB_len L l
    have h2 := tyB_len L r
    have e : tsz (.inner k w u l r) = 1 + tsz l + tsz r := rfl
    rw [e]
    show (if lfB l = true then [] else 91 :: tyB nm con fam l ++ (if lfB r = true then [] else 44 :: tyB nm con fam r) ++ [93]).length ≤ _
    by_cases c1 : lfB l = true
    · rw [if_pos c1]
      exact Nat.zero_le _
    · rw [if_neg c1]
      by_cases c2 : lfB r = true
      · rw [if_pos c2]
        simp only [List.length_append, List.length_cons, List.length_nil]
        omega
      · rw [if_neg c2]
        simp only [List.length_append, List.length_cons, List.length_nil]
        omega
theorem altB_len (L : lt10 nm con fam cnm) {T : Ty} : (altB nm con fam T).length ≤ 13 * tsz T + 2 := by
  have h1 := tyB_len L T
  unfold altB
  simp only [List.length_append, List.length_cons, List.length_nil]
  omega
theorem numB_len {v : Nat} : (numB v).length ≤ 12 := numBD_len
theorem thnB_len {p q : Option (List Int)} : oL (thnB p q) ≤ oL p + oL q + 3 := by
  cases p with
  | none => exact Nat.le_trans (Nat.le_refl _) (by show oL q ≤ 0 + oL q + 3; omega)
  | some a =>
    cases q with
    | none => show a.length ≤ a.length + 0 + 3; omega
    | some b =>
      show (40 :: a ++ [59] ++ b ++ [41]).length ≤ a.length + b.length + 3
      simp only [List.length_append, List.length_cons, List.length_nil]
      omega
theorem wpB_len (L : lt10 nm con fam cnm) {w : Ty → Option (List Int)} {k x nl nr : Nat} {u : Unit} {l r : Ty} (h1 : ((w l).getD (altB nm con fam l)).length ≤ 900 * nl + 800) (h2 : ((w r).getD (altB nm con fam r)).length ≤ 900 * nr + 800) : (wpB nm con fam w (.inner k x u l r)).length ≤ 900 * (1 + (nl + 1) + (if lfB r = true then 0 else nr + 1)) := by
  have h3 : (hdB nm con fam k x).length ≤ 10 := hdB_len L
  show ((if k = 3 then [] else hdB nm con fam k x) ++ 40 :: (w l).getD (altB nm con fam l) ++ (if lfB r = true then [] else (if k = 3 then [45, 62] else [44]) ++ (w r).getD (altB nm con fam r)) ++ [41]).length ≤ _
  have h4 : (if k = 3 then [] else hdB nm con fam k x).length ≤ 10 := by
    by_cases c : k = 3
    · rw [if_pos c]; exact Nat.zero_le _
    · rw [if_neg c]; exact h3
  have h5 : (if k = 3 then [45, 62] else [(44 : Int)]).length ≤ 2 := by
    by_cases c : k = 3
    · rw [if_pos c]; exact Nat.le_refl _
    · rw [if_neg c]; exact Nat.le_succ _
  by_cases c2 : lfB r = true
  · rw [if_pos c2, if_pos c2]
    simp only [List.length_append, List.length_cons, List.length_nil]
    omega
  · rw [if_neg c2, if_neg c2]
    simp only [List.length_append, List.length_cons, List.length_nil]
    omega
theorem goB_len (L : lt10 nm con fam cnm) {b : Nat} {u : Ty} (h : tsz (tL u) ≤ 60) : (goB nm con fam b u).length ≤ 793 := by
  unfold goB
  by_cases c : b < 100
  · rw [if_pos c]
    have h1 := prtB_len (cnm := cnm) L (T := tL u)
    have h2 := numB_len (v := b)
    simp only [List.length_append, List.length_cons]
    omega
  · rw [if_neg c]
    have h2 := numB_len (v := b - 100)
    rw [List.length_cons]
    omega
theorem why_len (L : lt10 nm con fam cnm) (I : InH H ins gv B) : ∀ (f : Nat), f ≤ 130 → ∀ (T u : Ty) (f2 : Nat), f ≤ f2 → knT ins gv Q f T u → T ≠ .leaf → GTH ins H T → oL (whyB nm con fam ins gv f2 T) ≤ 900 * nP ins gv f2 T := fun f => by
  induction f using Nat.strongRecOn with
  | _ f ih =>
  intro hf T u f2 h2 kn hT g
  by_cases th : thB T = true
  rotate_left
  · rw [whyB_no th]
    exact Nat.zero_le _
  obtain ⟨g0, rfl⟩ := knT_2 kn th
  obtain ⟨f2', rfl⟩ : ∃ a, f2 = a + 1 := ⟨f2 - 1, by omega⟩
  obtain ⟨⟨gi, hi, sl, dl⟩, hb⟩ := kn_step I (by omega) kn th g
  obtain ⟨_, prt, hno, hgo⟩ := knT_step (by omega) kn th
  obtain ⟨pl, pr⟩ := prt hT
  have lf : ((whyB nm con fam ins gv f2' .leaf).getD (altB nm con fam .leaf)).length ≤ 900 * nP ins gv f2' .leaf + 800 := by
    rw [whyB_no (T := .leaf) (by decide)]
    show (altB nm con fam .leaf).length ≤ _
    have : (altB nm con fam .leaf).length = 2 := rfl
    omega
  have part : ∀ X uX, X ≠ .leaf → GTH ins H X → knT ins gv Q g0 X uX → ((whyB nm con fam ins gv f2' X).getD (altB nm con fam X)).length ≤ 900 * nP ins gv f2' X + 800 := by
    intro X uX nX gX kX
    have i1 := ih g0 (by omega) (by omega) X uX f2' (by omega) kX nX gX
    cases q : whyB nm con fam ins gv f2' X with
    | some a =>
      rw [q] at i1
      have i2 : a.length ≤ 900 * nP ins gv f2' X := i1
      show a.length ≤ _
      omega
    | none =>
      have e : uX = X := (why_none (by omega) (by omega) kX).mp q
      have fit := (knT_fit I kX nX gX).2.1
      rw [e] at fit
      have := altB_len (cnm := cnm) L (T := X)
      show (altB nm con fam X).length ≤ _
      omega
  have wp : (wpB nm con fam (whyB nm con fam ins gv f2') T).length ≤ 900 * (1 + (nP ins gv f2' (tL T) + 1) + (if lfB (tR' T) = true then 0 else nP ins gv f2' (tR' T) + 1)) := by
    cases T with
    | leaf => exact absurd rfl hT
    | inner k w x l r =>
      obtain ⟨gl, gr⟩ := GTy_l g
      refine wpB_len (cnm := cnm) L ?_ ?_
      · by_cases c : l = .leaf
        · rw [c]; exact lf
        · rcases pl with ⟨z, _⟩ | z
          · exact absurd z c
          · exact part l _ c gl z
      · by_cases c : r = .leaf
        · rw [c]; exact lf
        · rcases pr with ⟨z, _⟩ | z
          · exact absurd z c
          · exact part r _ c gr z
  have W : oL (if tyE (innT ins gv T) T = true then none else some (wpB nm con fam (whyB nm con fam ins gv f2') T)) ≤ 900 * (if tyE (innT ins gv T) T = true then 0 else 1 + (nP ins gv f2' (tL T) + 1) + (if lfB (tR' T) = true then 0 else nP ins gv f2' (tR' T) + 1)) := by
    by_cases c : tyE (innT ins gv T) T = true
    · rw [if_pos c, if_pos c]
      exact Nat.zero_le _
    · rw [if_neg c, if_neg c]
      exact wp
  rw [whyB_s, nP_s]
  cases q : gby ins gv (innT ins gv T) with
  | none =>
    simp only
    omega
  | some b =>
    simp only
    obtain ⟨g1, g2⟩ := hb b q
    obtain ⟨_, k2, _⟩ := hgo b q
    have nx := ih (g0 + 1) (by omega) (by omega) _ _ f2' (by omega) k2 g2 g1
    have go := goB_len (cnm := cnm) L (b := b) sl
    have t1 := thnB_len (p := if tyE (innT ins gv T) T = true then none else some (wpB nm con fam (whyB nm con fam ins gv f2') T)) (q := some (goB nm con fam b (innT ins gv T)))
    have t2 := thnB_len (p := thnB (if tyE (innT ins gv T) T = true then none else some (wpB nm con fam (whyB nm con fam ins gv f2') T)) (some (goB nm con fam b (innT ins gv T)))) (q := whyB nm con fam ins gv f2' (gto ins gv b (tL (innT ins gv T))))
    have e1 : oL (some (goB nm con fam b (innT ins gv T))) = (goB nm con fam b (innT ins gv T)).length := rfl
    omega
/-- why two types are one -/
theorem oneB_len {T U : Ty} (ne : ¬ tyE T U = true) : (oneB nm con fam ins gv T U).length ≤ oL (whyB nm con fam ins gv 130 T) + oL (whyB nm con fam ins gv 130 U) + 4 := by
  unfold oneB
  rw [if_neg ne]
  have t := thnB_len (p := whyB nm con fam ins gv 130 T) (q := (whyB nm con fam ins gv 130 U).map (fun a => 126 :: a))
  have e : oL ((whyB nm con fam ins gv 130 U).map (fun a => 126 :: a)) ≤ oL (whyB nm con fam ins gv 130 U) + 1 := by
    cases whyB nm con fam ins gv 130 U with
    | none => exact Nat.zero_le _
    | some a => exact Nat.le_refl _
  cases q : thnB (whyB nm con fam ins gv 130 T) ((whyB nm con fam ins gv 130 U).map (fun a => 126 :: a)) with
  | none => exact Nat.zero_le _
  | some a =>
    rw [q] at t
    have t' : a.length ≤ oL (whyB nm con fam ins gv 130 T) + oL ((whyB nm con fam ins gv 130 U).map (fun a => 126 :: a)) + 3 := t
    show a.length ≤ _
    omega
end LBL
