set_option maxRecDepth 100000
/-! PHASE ONE in the twin: methods -/
section LPN
variable {S : List Int} {N : List (List Int)} {b m j : Nat} {σ τ : tS} {F Fm : FT} {Ms : List FT} {tn : List (List Int)} {L : List Int} {w : Nat} {x : Option (List Int)}
theorem MI_old {p : Nat × Nat} (e : MI L (Ms ++ [Fm]) = some p) : MI L (Ms ++ [Fm ++ [x]]) = some p := by
  rw [MI_app] at e ⊢
  cases q : MI L Ms with
  | some y => rw [q] at e; exact e
  | none =>
    rw [q] at e
    show (FI id L (Fm ++ [x])).map (fun q => (Ms.length, q)) = some p
    cases r : FI id L Fm with
    | none => rw [r] at e; cases e
    | some i => rw [r] at e; rw [FI_old (g := id) r]; exact e
theorem MI_no (h : x ≠ some L) : MI L (Ms ++ [Fm ++ [x]]) = MI L (Ms ++ [Fm]) := by
  rw [MI_app, MI_app, FI_no (g := id) h]
theorem MI_new (e : MI L (Ms ++ [Fm]) = none) : MI L (Ms ++ [Fm ++ [some L]]) = some (Ms.length, Fm.length) := by
  rw [MI_app] at e ⊢
  cases q : MI L Ms with
  | some y => rw [q] at e; cases e
  | none =>
    rw [q] at e
    show (FI id L (Fm ++ [some L])).map (fun q => (Ms.length, q)) = some (Ms.length, Fm.length)
    cases r : FI id L Fm with
    | none => rw [FI_new (g := id) (k := some L) rfl r]; rfl
    | some i => rw [r] at e; cases e
theorem MI_nil : MI L (Ms ++ [[]]) = MI L Ms := by
  rw [MI_app]
  cases MI L Ms <;> rfl
/-- which of those that stand it is, with one more behind -/
theorem cnt_more {p q : Nat} (e : MI L (Ms ++ [Fm]) = some (p, q)) : cntS ((Ms ++ [Fm ++ [x]]).getD p []) q = cntS ((Ms ++ [Fm]).getD p []) q := by
  obtain ⟨F', e1, e2⟩ := MI_lt e
  rcases Nat.lt_or_ge p Ms.length with c | c
  · rw [getD_app c, getD_app c]
  · have pl : p < (Ms ++ [Fm]).length := by
      rcases Nat.lt_or_ge p (Ms ++ [Fm]).length with z | z
      · exact z
      · rw [List.getElem?_eq_none z] at e1; cases e1
    have pe : p = Ms.length := by rw [List.length_append] at pl; simp at pl; omega
    rw [pe, getD_last, getD_last]
    rw [pe, List.getElem?_append_right (Nat.le_refl _), Nat.sub_self] at e1
    have e3 : F' = Fm := (Option.some.inj e1).symm
    rw [e3] at e2
    exact cntS_app (by have := FI_lt e2; omega)
/-- a class begins -/
theorem XM_cls (H : XM σ N F Ms tn) : XM σ N F (Ms ++ [[]]) tn := by
  refine ⟨fun w L h => ?_, H.2.1, fun L h => H.2.2 L (by rw [MI_nil] at h; exact h)⟩
  have := H.1 w L h
  refine ⟨this.1, ?_⟩
  rw [MI_nil]
  rcases this.2 with h | h | h | ⟨p, q, h⟩
  · exact .inl h
  · exact .inr (.inl h)
  · exact .inr (.inr (.inl h))
  · refine .inr (.inr (.inr ⟨p, q, h.1, ?_, h.2.2⟩))
    obtain ⟨F', e1, e2⟩ := MI_lt h.2.2.2.2.2
    have pl : p < Ms.length := by
      rcases Nat.lt_or_ge p Ms.length with z | z
      · exact z
      · rw [List.getElem?_eq_none z] at e1; cases e1
    rw [getD_app pl]
    exact h.2.1
/-- a method that stands for nothing -/
theorem XM_mn (H : XM σ N F (Ms ++ [Fm]) tn) : XM σ N F (Ms ++ [Fm ++ [none]]) tn := by
  have e : ∀ L, MI L (Ms ++ [Fm ++ [none]]) = MI L (Ms ++ [Fm]) := fun L => MI_no (by simp)
  refine ⟨fun w L h => ?_, H.2.1, fun L h => H.2.2 L (by rw [e] at h; exact h)⟩
  have := H.1 w L h
  refine ⟨this.1, ?_⟩
  rw [e]
  rcases this.2 with h | h | h | ⟨p, q, h⟩
  · exact .inl h
  · exact .inr (.inl h)
  · exact .inr (.inr (.inl h))
  · exact .inr (.inr (.inr ⟨p, q, h.1, by rw [cnt_more h.2.2.2.2.2]; exact h.2.1, h.2.2⟩))
/-- a method stands from now on -/
theorem t_term2 (nd : ndN N) (T : TT σ N S b m) (H : XM σ N F (Ms ++ [Fm]) tn) (hM : Ms.length < 8) (hj : tokk S j = 2) (hn : btI (tokw S j) = none ∧ tokw S j ∉ tn) : ∃ τ, T_standsTerm ((b + j : Nat) : Int) 2 ((4 * Ms.length + cntS Fm Fm.length : Nat) : Int) σ = some (1, τ) ∧ fr [] [638, 642, 774] σ τ ∧ XM τ N F (Ms ++ [Fm ++ [some (tokw S j)]]) (tn ++ [tokw S j]) := by
  obtain ⟨w, w2, w4, e⟩ := t_termY T H hj hn 2 ((4 * Ms.length + cntS Fm Fm.length : Nat) : Int)
  refine ⟨_, e, fr_ua (fr_ua (fr_ua (fr_refl _ _ _) (by simp)) (by simp)) (by simp), ?_⟩
  have r := fun i => rd3 (σ := σ) (w := w) (f1 := 774) (f2 := 638) (f3 := 642) (x1 := 1) (x2 := 2) (x3 := ((4 * Ms.length + cntS Fm Fm.length : Nat) : Int)) (by decide) (by decide) (by decide) i
  generalize ua (ua (ua σ 774 w 1) 638 w 2) 642 w ((4 * Ms.length + cntS Fm Fm.length : Nat) : Int) = τ at *
  have f1 : FI id (tokw S j) F = none := by
    cases q : FI id (tokw S j) F with
    | none => rfl
    | some i => exact absurd (H.2.2 _ (.inl (by rw [q]; simp))) hn.2
  have f2 : MI (tokw S j) (Ms ++ [Fm]) = none := by
    cases q : MI (tokw S j) (Ms ++ [Fm]) with
    | none => rfl
    | some i => exact absurd (H.2.2 _ (.inr (by rw [q]; simp))) hn.2
  refine ⟨fun w' L' e' => ?_, fun w' L' e' => ?_, fun L' h => ?_⟩
  · have old := H.1 w' L' e'
    rw [(r w').2.1, (r w').2.2]
    refine ⟨old.1, ?_⟩
    by_cases c : w' = w
    · rw [if_pos c, if_pos c]
      have e2 : L' = tokw S j := by rw [c, w2] at e'; exact (Option.some.inj e').symm
      rw [e2]
      exact .inr (.inr (.inr ⟨Ms.length, Fm.length, rfl, by rw [getD_last, cntS_app (Nat.le_refl _)], hM, hn.1, f1, MI_new f2⟩))
    · rw [if_neg c, if_neg c]
      have n : some (tokw S j) ≠ some L' := fun z => c (nd w' w L' e' (by rw [← Option.some.inj z]; exact w2))
      rw [MI_no n]
      rcases old.2 with h | h | h | ⟨p, q, h⟩
      · exact .inl h
      · exact .inr (.inl h)
      · exact .inr (.inr (.inl h))
      · exact .inr (.inr (.inr ⟨p, q, h.1, by rw [cnt_more h.2.2.2.2.2]; exact h.2.1, h.2.2⟩))
  · rw [(r w').1]
    exact toldN_new nd w2 e' (by decide) (H.2.1 w' L' e')
  · rw [List.mem_append, List.mem_singleton]
    by_cases c : L' = tokw S j
    · exact .inr c
    · rw [MI_no (fun z => c (Option.some.inj z).symm)] at h
      exact .inl (H.2.2 L' h)
end LPN
