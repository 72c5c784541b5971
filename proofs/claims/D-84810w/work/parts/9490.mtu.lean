set_option maxRecDepth 100000
/-! METHODS HAVE NAMES OF THEIR OWN -/
theorem mthF_at {S : List Int} {st : Prop} [Decidable st] : ∀ {js : List Nat} {tn : List (List Int)} {k i : Nat} {L : List Int}, (mthF S st tn k js)[i]? = some (some L) → L ∉ tn ∧ L ∈ js.map (tokw S)
  | [], _, _, _, _, e => by cases e
  | j :: js, tn, k, 0, L, e => by
    have e' : (if st ∧ btI (tokw S j) = none ∧ tokw S j ∉ tn ∧ k < 4 then some (tokw S j) else none) = some L := Option.some.inj e
    split at e'
    · rename_i c
      rw [← Option.some.inj e']
      exact ⟨c.2.2.1, by simp⟩
    · cases e'
  | j :: js, tn, k, i + 1, L, e => by
    have e' : (mthF S st (tn ++ [tokw S j]) (k + 1) js)[i]? = some (some L) := e
    obtain ⟨h1, h2⟩ := mthF_at e'
    exact ⟨fun z => h1 (List.mem_append_left _ z), by rw [List.map_cons]; exact List.mem_cons_of_mem _ h2⟩
theorem mthF_one {S : List Int} {st : Prop} [Decidable st] : ∀ {js : List Nat} {tn : List (List Int)} {k i i' : Nat} {L : List Int}, (mthF S st tn k js)[i]? = some (some L) → (mthF S st tn k js)[i']? = some (some L) → i = i'
  | [], _, _, _, _, _, e, _ => by cases e
  | j :: js, tn, k, 0, 0, L, _, _ => rfl
  | j :: js, tn, k, 0, i' + 1, L, e, e2 => by
    have e' : (if st ∧ btI (tokw S j) = none ∧ tokw S j ∉ tn ∧ k < 4 then some (tokw S j) else none) = some L := Option.some.inj e
    have e2' : (mthF S st (tn ++ [tokw S j]) (k + 1) js)[i']? = some (some L) := e2
    split at e'
    · have el := Option.some.inj e'
      exact absurd (List.mem_append_right _ (by rw [el]; simp)) (mthF_at e2').1
    · cases e'
  | j :: js, tn, k, i + 1, 0, L, e, e2 => by
    have e' : (if st ∧ btI (tokw S j) = none ∧ tokw S j ∉ tn ∧ k < 4 then some (tokw S j) else none) = some L := Option.some.inj e2
    have e2' : (mthF S st (tn ++ [tokw S j]) (k + 1) js)[i]? = some (some L) := e
    split at e'
    · have el := Option.some.inj e'
      exact absurd (List.mem_append_right _ (by rw [el]; simp)) (mthF_at e2').1
    · cases e'
  | j :: js, tn, k, i + 1, i' + 1, L, e, e2 => by
    have e' : (mthF S st (tn ++ [tokw S j]) (k + 1) js)[i]? = some (some L) := e
    have e2' : (mthF S st (tn ++ [tokw S j]) (k + 1) js)[i']? = some (some L) := e2
    rw [mthF_one e' e2']
def mtI (s : PS) : Prop := (∀ (c k : Nat) (Fm : FT) (L : List Int), s.2.2.1[c]? = some Fm → Fm[k]? = some (some L) → L ∈ s.2.2.2.2.1) ∧ ∀ (c c' k k' : Nat) (Fm Fm' : FT) (L : List Int), s.2.2.1[c]? = some Fm → Fm[k]? = some (some L) → s.2.2.1[c']? = some Fm' → Fm'[k']? = some (some L) → c = c' ∧ k = k'
theorem mtI_st {S : List Int} {s : PS} {p : PD} (H : mtI s) : mtI (pst S s p) := by
  by_cases h5 : p.1 = 5
  · rw [pst_5 h5]
    generalize hF : (if s.1.length < 8 then mthF S (nwG S s.2.2.2.1 (p.2.1 + 1)) s.2.2.2.2.1 0 p.2.2.2.2 else p.2.2.2.2.map (fun _ => none)) = Fn
    have hn : ∀ (k : Nat) (L : List Int), Fn[k]? = some (some L) → L ∉ s.2.2.2.2.1 ∧ L ∈ p.2.2.2.2.map (tokw S) := fun k L e => by
      rw [← hF] at e
      split at e
      · exact mthF_at e
      · rw [List.getElem?_map] at e
        cases q : p.2.2.2.2[k]? with
        | none => rw [q] at e; cases e
        | some v => rw [q] at e; cases Option.some.inj e
    have h1 : ∀ (k k' : Nat) (L : List Int), Fn[k]? = some (some L) → Fn[k']? = some (some L) → k = k' := fun k k' L e e' => by
      rw [← hF] at e e'
      by_cases c : s.1.length < 8
      · rw [if_pos c] at e e'
        exact mthF_one e e'
      · rw [if_neg c, List.getElem?_map] at e
        cases q : p.2.2.2.2[k]? with
        | none => rw [q] at e; cases e
        | some v => rw [q] at e; cases Option.some.inj e
    have get : ∀ (i : Nat) (Fm : FT), (s.2.2.1 ++ [Fn])[i]? = some Fm → (i < s.2.2.1.length ∧ s.2.2.1[i]? = some Fm) ∨ (i = s.2.2.1.length ∧ Fn = Fm) := fun i Fm e => by
      by_cases c : i < s.2.2.1.length
      · rw [List.getElem?_append_left c] at e
        exact .inl ⟨c, e⟩
      · have il := (List.getElem?_eq_some_iff.mp e).1
        rw [List.length_append, List.length_singleton] at il
        have ei : i = s.2.2.1.length := by omega
        rw [ei, List.getElem?_append_right (Nat.le_refl _), Nat.sub_self] at e
        exact .inr ⟨ei, Option.some.inj e⟩
    refine ⟨fun c k Fm L e e2 => ?_, fun c c' k k' Fm Fm' L e e2 e' e2' => ?_⟩
    · rcases get c Fm e with ⟨_, w⟩ | ⟨_, w⟩
      · exact List.mem_append_left _ (H.1 c k Fm L w e2)
      · rw [← w] at e2
        exact List.mem_append_right _ (hn k L e2).2
    · rcases get c Fm e with ⟨_, w⟩ | ⟨wi, w⟩
      · rcases get c' Fm' e' with ⟨_, w'⟩ | ⟨_, w'⟩
        · exact H.2 c c' k k' Fm Fm' L w e2 w' e2'
        · rw [← w'] at e2'
          exact absurd (H.1 c k Fm L w e2) (hn k' L e2').1
      · rw [← w] at e2
        rcases get c' Fm' e' with ⟨_, w'⟩ | ⟨wi', w'⟩
        · exact absurd (H.1 c' k' Fm' L w' e2') (hn k L e2).1
        · rw [← w'] at e2'
          exact ⟨by omega, h1 k k' L e2 e2'⟩
  · by_cases h6 : p.1 = 6
    · rw [pst_6 h6]; exact H
    · unfold pst
      rw [if_neg h5, if_neg h6]
      exact ⟨fun c k Fm L e e2 => List.mem_append_left _ (H.1 c k Fm L e e2), H.2⟩
theorem mtI_all {S : List Int} : ∀ {ps : List PD} {s : PS}, mtI s → mtI (ps.foldl (pst S) s)
  | [], _, H => H
  | _ :: ps, _, H => mtI_all (ps := ps) (mtI_st H)
theorem MI_mem {L : List Int} : ∀ {Ms : List FT} {c k : Nat} {Fm : FT}, Ms[c]? = some Fm → Fm[k]? = some (some L) → ∃ p q, MI L Ms = some (p, q)
  | [], _, _, _, e, _ => by cases e
  | F0 :: Ms, c, k, Fm, e, e2 => by
    unfold MI
    cases ef : FI id L F0 with
    | some j => exact ⟨0, j, rfl⟩
    | none =>
      cases c with
      | zero =>
        rw [← Option.some.inj e] at e2
        obtain ⟨i, hi⟩ := FI_mem (g := id) e2 rfl
        rw [ef] at hi; cases hi
      | succ c =>
        obtain ⟨p, q, h1⟩ := MI_mem (Ms := Ms) (c := c) e e2
        exact ⟨p + 1, q, by show (MI L Ms).map _ = _; rw [h1]; rfl⟩
section LMU
variable {G : om_G} {A : Nat} {S : List Int} {b m : Nat} {N : List (List Int)} {pr tb z0 : Nat} {cs fo : List Nat} {mo : List (List Nat)} {K : KT} {F : FT} {Ms : List FT} {hr : om_H} {σr : tS} {M : Nat} {qs : List dcl} {ps : List PD} {rs : List (Nat × Nat × Nat × Nat)} {h : om_H} {ul fl : List Nat} {τ : tS} {n : Nat} {Sl : Nat → Prop}
theorem RA_mi (R : RA G A S b m N pr tb z0 cs fo mo K F Ms hr σr M qs ps rs h ul fl τ n) {c k : Nat} {Fm : FT} {L : List Int} (e : Ms[c]? = some Fm) (e2 : Fm[k]? = some (some L)) : MI L Ms = some (c, k) := by
  have I : mtI (ps.foldl (pst S) ([], [], [], [], [], 0)) := mtI_all ⟨fun c k Fm L e => (by cases e), fun c c' k k' Fm Fm' L e => (by cases e)⟩
  have eM : Ms = (ps.foldl (pst S) ([], [], [], [], [], 0)).2.2.1 := R.2.2.1.2.2.2.2.2
  have I2 : ∀ (c c' k k' : Nat) (Fm Fm' : FT) (L : List Int), Ms[c]? = some Fm → Fm[k]? = some (some L) → Ms[c']? = some Fm' → Fm'[k']? = some (some L) → c = c' ∧ k = k' := by rw [eM]; exact I.2
  obtain ⟨p, q, h1⟩ := MI_mem e e2
  obtain ⟨Fm', x1, x2⟩ := MI_get h1
  have ql := FI_lt x2
  have e3 : Fm'[q]? = some Fm'[q] := List.getElem?_eq_getElem ql
  have e4 : Fm'[q] = some L := FI_at (g := id) x2 e3
  rw [e4] at e3
  obtain ⟨y1, y2⟩ := I2 p c q k Fm' Fm L x1 e3 e e2
  rw [h1, y1, y2]
end LMU
