set_option maxRecDepth 100000
/-! EXS THAT ARE KNOWN, AS TREES: tokens, names -/
/-- functions and methods, by the twin's numbers -/
def foM (fo' mo' : Nat → Nat) (fo : List Nat) (F : FT) (mo : List (List Nat)) (Ms : List FT) : Prop := (∀ (L : List Int) (i : Nat), FI id L F = some i → fo' (cntS F i) = clA fo (some i) ∧ clA fo (some i) ≠ 0) ∧ ∀ (L : List Int) (p q : Nat), MI L Ms = some (p, q) → mo' (4 * p + cntS (Ms.getD p []) q) = moA mo (some (p, q)) ∧ moA mo (some (p, q)) ≠ 0
/-- what there is when exs are known -/
def XE (A : Nat) (S : List Int) (b m : Nat) (N : List (List Int)) (fo : List Nat) (F : FT) (mo : List (List Nat)) (Ms : List FT) (fo' mo' : Nat → Nat) (h : om_H) (σ : tS) : Prop := TT σ N S b m ∧ TM σ N F Ms ∧ (txC h A S ∧ A < hz h) ∧ foM fo' mo' fo F mo Ms
/-- what a name may be -/
def nmI (F : FT) (Ms : List FT) (d k i : Nat) : Prop := (k = 0 ∧ i < d) ∨ (k = 1 ∧ ∃ (L : List Int) (x : Nat), FI id L F = some x ∧ i = cntS F x) ∨ (k = 2 ∧ ∃ (L : List Int) (p q : Nat), MI L Ms = some (p, q) ∧ p < 8 ∧ i = 4 * p + cntS (Ms.getD p []) q) ∨ (k = 3 ∧ i < 7)
/-- a name's object, but for its @s -/
def nmC0 (h : om_H) (N : List (List Int)) (fo mo : Nat → Nat) (pl k i w d a : Nat) : Prop := (kd h a = 28 ∧ fI h 1372 a = (pl : Int) ∧ wN h N w (fR h 1454 a)) ∧ ((k = 0 ∧ (∃ up : Nat, fI h 1464 a = (up : Int) ∧ up + i + 1 = d) ∧ fI h 1476 a = -1 ∧ fR h 1470 a = 0 ∧ fR h 1474 a = 0) ∨ (fI h 1464 a = -1 ∧ ((k = 1 ∧ fI h 1476 a = -1 ∧ fR h 1470 a = fo i ∧ fo i ≠ 0 ∧ fR h 1474 a = 0) ∨ (k = 2 ∧ fI h 1476 a = -1 ∧ fR h 1470 a = 0 ∧ fR h 1474 a = mo i ∧ mo i ≠ 0) ∨ (k = 3 ∧ fI h 1476 a = (i : Int) ∧ fR h 1470 a = 0 ∧ fR h 1474 a = 0))))
/-- a name's node, but for its @s -/
def nmT0 (σ : tS) (k i w v : Nat) : Prop := (∃ x : Nat, ga σ 542 v = (x : Int) ∧ x < 4100 ∧ ga σ 482 x = (w : Int) ∧ w < 2100) ∧ ((k = 0 ∧ ga σ 550 v = (i : Int)) ∨ (k ≠ 0 ∧ ga σ 550 v = -1 ∧ ga σ 642 w = (i : Int) ∧ ((k = 1 ∧ ga σ 638 w = 1) ∨ (k = 2 ∧ ga σ 638 w = 2) ∨ (k = 3 ∧ ga σ 638 w ≠ 1 ∧ ga σ 638 w ≠ 2))))
section LXN
variable {A : Nat} {S : List Int} {b m : Nat} {N : List (List Int)} {fo : List Nat} {F : FT} {mo : List (List Nat)} {Ms : List FT} {fo' mo' : Nat → Nat} {h : om_H} {σ : tS}
theorem tk_place (T : TT σ N S b m) {v j : Nat} (e : ga σ 542 v = ((b + j : Nat) : Int)) (tk : tokk S j ≠ 0) : tkP σ v (tokq S j) := by
  have jm := TT_lt T tk
  have t := T.1 j (by omega)
  have bm := T.2.1
  exact ⟨b + j, e, by omega, t.2.1⟩
/-- a word that is a name -/
theorem tk_nm (T : TT σ N S b m) (X : txC h A S ∧ A < hz h) {j wo : Nat} (tk : tokk S j = 2) (lw : wo < hz h) (W : wd h A S wo j) : ∃ w, wN h N w wo ∧ ga σ 482 (b + j) = (w : Int) ∧ N[w]? = some (tokw S j) ∧ b + j < 4100 := by
  have jm := TT_lt T (j := j) (by omega)
  have t := T.1 j (by omega)
  have bm := T.2.1
  have mem := t.2.2.2.2 (.inl tk)
  have lt : N.idxOf (tokw S j) < N.length := List.idxOf_lt_length_iff.mpr mem
  have g : N[N.idxOf (tokw S j)]? = some (tokw S j) := by rw [List.getElem?_eq_getElem lt, List.getElem_idxOf lt]
  refine ⟨N.idxOf (tokw S j), ⟨⟨lw, by rw [W.2.1]; exact X.2⟩, tokw S j, g, wd_wb X.1 W⟩, ?_, g, by omega⟩
  rw [t.2.2.2.1]
  unfold tVal
  rw [if_pos (.inl tk)]
theorem btI_lt {L : List Int} {c : Nat} (e : btI L = some c) : c < 7 := by
  unfold btI at e
  repeat' split at e
  all_goals first | (have := Option.some.inj e; omega) | cases e
/-- A NAME THAT IS KNOWN -/
theorem nm_lab (E : XE A S b m N fo F mo Ms fo' mo' h σ) {d a v j : Nat} (R : nmR S b fo F mo Ms h σ d a v) (k28 : kd h a = 28) (ej : ga σ 542 v = ((b + j : Nat) : Int)) (tk : tokk S j = 2) (p72 : fI h 1372 a = (tokq S j : Int)) (lw : fR h 1454 a < hz h) (W : wd h A S (fR h 1454 a) j) : ∃ k i w, nmI F Ms d k i ∧ nmC0 h N fo' mo' (tokq S j) k i w d a ∧ nmT0 σ k i w v := by
  obtain ⟨T, M, X, fm1, fm2⟩ := E
  obtain ⟨w, w1, w2, w3, w4⟩ := tk_nm T X tk lw W
  obtain ⟨wl, cs⟩ := M w _ w3
  obtain ⟨j', e', R'⟩ := R
  have ejj : j' = j := by omega
  subst ejj
  have tw : ∃ x : Nat, ga σ 542 v = (x : Int) ∧ x < 4100 ∧ ga σ 482 x = (w : Int) ∧ w < 2100 := ⟨b + j', ej, w4, w2, wl⟩
  rcases R' with ⟨up, k, u1, u2, u3, u4, u5, u6⟩ | ⟨u1, ⟨u2, u3, u4, u5⟩, u6⟩
  · exact ⟨0, k, w, .inl ⟨rfl, by omega⟩, ⟨⟨k28, p72, w1⟩, .inl ⟨rfl, ⟨up, u1, u3⟩, u4, u5, u6⟩⟩, ⟨tw, .inl ⟨rfl, u2⟩⟩⟩
  · rcases cs with ⟨_, c2, c3, c4⟩ | ⟨c, c1, c2, c3, c4, c5⟩ | ⟨i, c1, c2, c3, c4, c5⟩ | ⟨p, q, c1, c2, c3, c4, c5, c6⟩
    · exact absurd ⟨c2, c3, c4⟩ u6
    · rw [c3] at u3
      rw [if_neg (by rw [c3]; intro z; cases z)] at u4
      rw [if_neg (by rw [c3]; intro z; cases z.1)] at u5
      exact ⟨3, c, w, .inr (.inr (.inr ⟨rfl, btI_lt c3⟩)), ⟨⟨k28, p72, w1⟩, .inr ⟨u2, .inr (.inr ⟨rfl, u3, u4, u5⟩)⟩⟩, ⟨tw, .inr ⟨by decide, u1, c2, .inr (.inr ⟨rfl, by omega, by omega⟩)⟩⟩⟩
    · obtain ⟨f1, f2⟩ := fm1 _ i c4
      rw [c3] at u3
      rw [if_pos c3, c4] at u4
      rw [if_neg (by rw [c4]; intro z; cases z.2)] at u5
      exact ⟨1, cntS F i, w, .inr (.inl ⟨rfl, _, i, c4, rfl⟩), ⟨⟨k28, p72, w1⟩, .inr ⟨u2, .inl ⟨rfl, u3, by rw [f1]; exact u4, by rw [f1]; exact f2, u5⟩⟩⟩, ⟨tw, .inr ⟨by decide, u1, c2, .inl ⟨rfl, c1⟩⟩⟩⟩
    · obtain ⟨f1, f2⟩ := fm2 _ p q c6
      rw [c4] at u3
      rw [if_pos c4, c5] at u4
      rw [if_pos ⟨c4, c5⟩, c6] at u5
      exact ⟨2, 4 * p + cntS (Ms.getD p []) q, w, .inr (.inr (.inl ⟨rfl, _, p, q, c6, c3, rfl⟩)), ⟨⟨k28, p72, w1⟩, .inr ⟨u2, .inr (.inl ⟨rfl, u3, u4, by rw [f1]; exact u5, by rw [f1]; exact f2⟩)⟩⟩, ⟨tw, .inr ⟨by decide, u1, c2, .inr (.inl ⟨rfl, c1⟩)⟩⟩⟩
end LXN
