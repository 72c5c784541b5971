set_option maxRecDepth 100000
/-! PHASE ONE in the twin: names of terms -/
/-- how many stand ahead of it -/
def cntS (F : FT) (i : Nat) : Nat := ((F.take i).filter Option.isSome).length
theorem cntS_app {F : FT} {x : Option (List Int)} {i : Nat} (h : i ≤ F.length) : cntS (F ++ [x]) i = cntS F i := by
  unfold cntS
  rw [List.take_append_of_le_length h]
theorem cntS_more {F : FT} {x : Option (List Int)} : cntS (F ++ [x]) (F.length + 1) = cntS F F.length + (if x.isSome then 1 else 0) := by
  unfold cntS
  rw [List.take_of_length_le (by simp), List.take_of_length_le (Nat.le_refl _), List.filter_append, List.length_append]
  cases x <;> rfl
theorem MI_app {L : List Int} {Fm : FT} : ∀ {Ms : List FT}, MI L (Ms ++ [Fm]) = (MI L Ms).elim ((FI id L Fm).map (fun q => (Ms.length, q))) some
  | [] => by
    show (FI id L Fm).elim ((none : Option (Nat × Nat)).map (fun p => (p.1 + 1, p.2))) (fun j => some (0, j)) = _
    cases FI id L Fm <;> rfl
  | F :: Ms => by
    show (FI id L F).elim ((MI L (Ms ++ [Fm])).map (fun p => (p.1 + 1, p.2))) (fun j => some (0, j)) = ((FI id L F).elim ((MI L Ms).map (fun p => (p.1 + 1, p.2))) (fun j => some (0, j))).elim _ some
    cases FI id L F with
    | some i => rfl
    | none =>
      show (MI L (Ms ++ [Fm])).map (fun p => (p.1 + 1, p.2)) = ((MI L Ms).map (fun p => (p.1 + 1, p.2))).elim _ some
      rw [MI_app (Ms := Ms)]
      cases MI L Ms with
      | some p => rfl
      | none => cases FI id L Fm <;> rfl
/-- names of terms in the twin: what they stand for -/
def TM (σ : tS) (N : List (List Int)) (F : FT) (Ms : List FT) : Prop := ∀ (w : Nat) (L : List Int), N[w]? = some L → w < 2100 ∧
  ((ga σ 638 w = 0 ∧ btI L = none ∧ FI id L F = none ∧ MI L Ms = none) ∨
   (∃ c : Nat, ga σ 638 w = 3 ∧ ga σ 642 w = (c : Int) ∧ btI L = some c ∧ FI id L F = none ∧ MI L Ms = none) ∨
   (∃ i : Nat, ga σ 638 w = 1 ∧ ga σ 642 w = (cntS F i : Int) ∧ btI L = none ∧ FI id L F = some i ∧ MI L Ms = none) ∨
   (∃ p q : Nat, ga σ 638 w = 2 ∧ ga σ 642 w = ((4 * p + cntS (Ms.getD p []) q : Nat) : Int) ∧ p < 8 ∧ btI L = none ∧ FI id L F = none ∧ MI L Ms = some (p, q)))
/-- and which were told -/
def XM (σ : tS) (N : List (List Int)) (F : FT) (Ms : List FT) (tn : List (List Int)) : Prop := TM σ N F Ms ∧ (∀ (w : Nat) (L : List Int), N[w]? = some L → (ga σ 774 w = 0 ↔ btI L = none ∧ L ∉ tn)) ∧ ∀ L, (FI id L F ≠ none ∨ MI L Ms ≠ none) → L ∈ tn
section LPM
variable {S : List Int} {N : List (List Int)} {b m j : Nat} {σ τ : tS} {F : FT} {Ms : List FT} {tn : List (List Int)} {L : List Int} {w : Nat}
theorem TM_TLk (H : TM σ N F Ms) : TLk σ N F Ms := by
  intro w L e
  rcases (H w L e).2 with h | ⟨c, h⟩ | ⟨i, h⟩ | ⟨p, q, h⟩
  · exact ⟨fun _ => h.2, fun _ => h.1⟩
  · exact ⟨fun z => by rw [h.1] at z; exact absurd z (by decide), fun z => by rw [h.2.2.1] at z; exact absurd z.1 (by simp)⟩
  · exact ⟨fun z => by rw [h.1] at z; exact absurd z (by decide), fun z => by rw [h.2.2.2.1] at z; exact absurd z.2.1 (by simp)⟩
  · exact ⟨fun z => by rw [h.1] at z; exact absurd z (by decide), fun z => by rw [h.2.2.2.2.2] at z; exact absurd z.2.2 (by simp)⟩
theorem XM_same (g : ∀ f ∈ [638, 642, 774], ∀ i, ga τ f i = ga σ f i) (H : XM σ N F Ms tn) : XM τ N F Ms tn := by
  have g1 := g 638 (by decide)
  have g2 := g 642 (by decide)
  have g3 := g 774 (by decide)
  refine ⟨fun w L e => ?_, fun w L e => by rw [g3]; exact H.2.1 w L e, H.2.2⟩
  have := H.1 w L e
  simp only [g1, g2]
  exact this
theorem XM_w (H : XM σ N F Ms tn) (hw : N[w]? = some L) : w < 2100 := (H.1 w L hw).1
/-- told again -/
theorem XM_told (H : XM σ N F Ms tn) (hL : btI L ≠ none ∨ L ∈ tn) : XM σ N F Ms (tn ++ [L]) := by
  refine ⟨H.1, fun w L' e => ?_, fun L' h => List.mem_append_left _ (H.2.2 L' h)⟩
  rw [H.2.1 w L' e, List.mem_append, List.mem_singleton]
  constructor
  · rintro ⟨h1, h2⟩
    refine ⟨h1, fun z => ?_⟩
    rcases z with z | z
    · exact h2 z
    · rw [z] at h1 h2
      rcases hL with q | q
      · exact q h1
      · exact h2 q
  · rintro ⟨h1, h2⟩
    exact ⟨h1, fun z => h2 (.inl z)⟩
theorem toldN_new (nd : ndN N) (hw : N[w]? = some L) {w' : Nat} {L' : List Int} (e : N[w']? = some L') {x y : Int} (hx : x ≠ 0) (hy : y = 0 ↔ btI L' = none ∧ L' ∉ tn) : ((if w' = w then x else y) = 0 ↔ btI L' = none ∧ L' ∉ tn ++ [L]) := by
  rw [List.mem_append, List.mem_singleton]
  by_cases c : w' = w
  · rw [if_pos c]
    have e2 : L' = L := by rw [c, hw] at e; exact (Option.some.inj e).symm
    constructor
    · intro z; exact absurd z hx
    · intro z; exact absurd (.inr e2) z.2
  · rw [if_neg c, hy]
    have n : L' ≠ L := fun z => c (nd w' w L (by rw [← z]; exact e) hw)
    constructor
    · intro z; exact ⟨z.1, fun q => q.elim z.2 n⟩
    · intro z; exact ⟨z.1, fun q => z.2 (.inl q)⟩
theorem XM_mark (nd : ndN N) (H : XM σ N F Ms tn) (hw : N[w]? = some L) : XM (ua σ 774 w 1) N F Ms (tn ++ [L]) := by
  refine ⟨fun w' L' e => ?_, fun w' L' e => ?_, fun L' h => List.mem_append_left _ (H.2.2 L' h)⟩
  · have := H.1 w' L' e
    rw [show ga (ua σ 774 w 1) 638 w' = ga σ 638 w' by rw [ga_ua, if_neg (fun z => absurd z.1 (by decide))], show ga (ua σ 774 w 1) 642 w' = ga σ 642 w' by rw [ga_ua, if_neg (fun z => absurd z.1 (by decide))]]
    exact this
  · have e2 : ga (ua σ 774 w 1) 774 w' = if w' = w then 1 else ga σ 774 w' := by
      rw [ga_ua]
      by_cases c : w' = w
      · rw [if_pos ⟨rfl, c⟩, if_pos c]
      · rw [if_neg (fun z => c z.2), if_neg c]
    rw [e2]
    exact toldN_new nd hw e (by decide) (H.2.1 w' L' e)
/-- functions and methods that stand for nothing are put behind the others -/
theorem XM_fn (H : XM σ N F Ms tn) : XM σ N (F ++ [none]) Ms tn := by
  have e : ∀ L, FI id L (F ++ [none]) = FI id L F := fun L => FI_no (by simp)
  refine ⟨fun w L h => ?_, H.2.1, fun L h => H.2.2 L (by rw [e] at h; exact h)⟩
  have := H.1 w L h
  refine ⟨this.1, ?_⟩
  rw [e]
  rcases this.2 with h | ⟨c, h⟩ | ⟨i, h⟩ | h
  · exact .inl h
  · exact .inr (.inl ⟨c, h⟩)
  · exact .inr (.inr (.inl ⟨i, h.1, by rw [cntS_app (by have := FI_lt h.2.2.2.1; omega)]; exact h.2.1, h.2.2⟩))
  · exact .inr (.inr (.inr h))
/-- it was told before: a break -/
theorem t_termN (hS : S.length ≤ 2000) (T : TT σ N S b m) (H : XM σ N F Ms tn) (hj : tokk S j = 2) (hn : ¬ (btI (tokw S j) = none ∧ tokw S j ∉ tn)) (x y : Int) : ∃ τ, T_standsTerm ((b + j : Nat) : Int) x y σ = some (0, τ) ∧ fr [452, 456] [] σ τ ∧ gs τ 452 = 2 ∧ bp τ = min (bp σ) (tokq S j : Int) ∧ XM τ N F Ms tn := by
  obtain ⟨w, w1, w2, w3⟩ := t_nameAt T (.inl hj)
  obtain ⟨τ, e1, e2, e3, e4⟩ := t_breaks T (j := j) (by omega) hS (w := 2) (by decide)
  have w4 := XM_w H w2
  have told : ga σ 774 w ≠ 0 := fun z => hn ((H.2.1 w _ w2).mp z)
  refine ⟨τ, ?_, e2, e3, e4, XM_same (fun f _ i => e2.2 f (by simp) i) H⟩
  unfold T_standsTerm
  rw [w1]
  simp only [Option.bind_some]
  rw [if_pos ⟨by omega, by omega⟩, Int.toNat_natCast, if_neg told, e1]
  rfl
theorem t_termY (T : TT σ N S b m) (H : XM σ N F Ms tn) (hj : tokk S j = 2) (hn : btI (tokw S j) = none ∧ tokw S j ∉ tn) (x y : Int) : ∃ w : Nat, N[w]? = some (tokw S j) ∧ w < 2100 ∧ T_standsTerm ((b + j : Nat) : Int) x y σ = some (1, ua (ua (ua σ 774 w 1) 638 w x) 642 w y) := by
  obtain ⟨w, w1, w2, w3⟩ := t_nameAt T (.inl hj)
  have w4 := XM_w H w2
  refine ⟨w, w2, w4, ?_⟩
  unfold T_standsTerm
  rw [w1]
  simp only [Option.bind_some]
  rw [if_pos ⟨by omega, by omega⟩, Int.toNat_natCast, if_pos ((H.2.1 w _ w2).mpr hn), if_pos ⟨by omega, by omega⟩]
/-- a function stands from now on -/
theorem t_term1 (nd : ndN N) (T : TT σ N S b m) (H : XM σ N F Ms tn) (hj : tokk S j = 2) (hn : btI (tokw S j) = none ∧ tokw S j ∉ tn) : ∃ τ, T_standsTerm ((b + j : Nat) : Int) 1 (cntS F F.length : Int) σ = some (1, τ) ∧ fr [] [638, 642, 774] σ τ ∧ XM τ N (F ++ [some (tokw S j)]) Ms (tn ++ [tokw S j]) := by
  obtain ⟨w, w2, w4, e⟩ := t_termY T H hj hn 1 (cntS F F.length : Int)
  refine ⟨_, e, fr_ua (fr_ua (fr_ua (fr_refl _ _ _) (by simp)) (by simp)) (by simp), ?_⟩
  have r := fun i => rd3 (σ := σ) (w := w) (f1 := 774) (f2 := 638) (f3 := 642) (x1 := 1) (x2 := 1) (x3 := (cntS F F.length : Int)) (by decide) (by decide) (by decide) i
  generalize ua (ua (ua σ 774 w 1) 638 w 1) 642 w (cntS F F.length : Int) = τ at *
  have f1 : FI id (tokw S j) F = none := by
    cases q : FI id (tokw S j) F with
    | none => rfl
    | some i => exact absurd (H.2.2 _ (.inl (by rw [q]; simp))) hn.2
  have f2 : MI (tokw S j) Ms = none := by
    cases q : MI (tokw S j) Ms with
    | none => rfl
    | some i => exact absurd (H.2.2 _ (.inr (by rw [q]; simp))) hn.2
  refine ⟨fun w' L' e' => ?_, fun w' L' e' => ?_, fun L' h => ?_⟩
  · have old := H.1 w' L' e'
    rw [(r w').2.1, (r w').2.2]
    refine ⟨old.1, ?_⟩
    by_cases c : w' = w
    · rw [if_pos c, if_pos c]
      have e2 : L' = tokw S j := by rw [c, w2] at e'; exact (Option.some.inj e').symm
      rw [e2]
      exact .inr (.inr (.inl ⟨F.length, rfl, by rw [cntS_app (Nat.le_refl _)], hn.1, FI_new rfl f1, f2⟩))
    · rw [if_neg c, if_neg c]
      have n : id (some (tokw S j)) ≠ some L' := fun z => c (nd w' w L' e' (by rw [← Option.some.inj z]; exact w2))
      rw [FI_no n]
      rcases old.2 with h | ⟨c, h⟩ | ⟨i, h⟩ | h
      · exact .inl h
      · exact .inr (.inl ⟨c, h⟩)
      · exact .inr (.inr (.inl ⟨i, h.1, by rw [cntS_app (by have := FI_lt h.2.2.2.1; omega)]; exact h.2.1, h.2.2⟩))
      · exact .inr (.inr (.inr h))
  · rw [(r w').1]
    exact toldN_new nd w2 e' (by decide) (H.2.1 w' L' e')
  · rw [List.mem_append, List.mem_singleton]
    by_cases c : L' = tokw S j
    · exact .inr c
    · rw [FI_no (g := id) (k := some (tokw S j)) (fun z => c (Option.some.inj z).symm)] at h
      exact .inl (H.2.2 L' h)
theorem getD_last {Fm : FT} : (Ms ++ [Fm]).getD Ms.length [] = Fm := by
  rw [List.getD_eq_getElem?_getD, List.getElem?_append_right (Nat.le_refl _), Nat.sub_self]
  rfl
theorem getD_app {Fm : FT} {p : Nat} (h : p < Ms.length) : (Ms ++ [Fm]).getD p [] = Ms.getD p [] := by
  rw [List.getD_eq_getElem?_getD, List.getD_eq_getElem?_getD, List.getElem?_append_left h]
end LPM
