set_option maxRecDepth 100000
/-! THE THIRD RULE AS A WHOLE: the twin's end of it -/
def dcF (il : List IX) (i : Nat) : Nat := (il[i]?).elim 0 (fun x => x.1)
def jtF (b : Nat) (il : List IX) (i : Nat) : Nat := (il[i]?).elim 0 (fun x => b + x.2.2.2.2.2.1)
def plF (S : List Int) (il : List IX) (i : Nat) : Nat := (il[i]?).elim 0 (fun x => tokq S x.2.2.2.2.2.1)
/-- insts with their places -/
def abIn (S : List Int) (il : List IX) : List (INs × Nat) := (inS il).zip ((List.range' 0 (inS il).length).map (plF S il))
section LTW2
variable {G : om_G} {A : Nat} {S : List Int} {b m : Nat} {N : List (List Int)} {pr tb z0 : Nat} {cs fo : List Nat} {mo : List (List Nat)} {K : KT} {F : FT} {Ms : List FT} {hr : om_H} {σr : tS} {M : Nat} {qs : List dcl} {ps : List PD} {rs : List (Nat × Nat × Nat × Nat)} {h : om_H} {ul fl : List Nat} {τ σ3 : tS} {n : Nat} {Sl : Nat → Prop} {cl : List Cp} {il : List IX} {fl' : List FX}
/-- a third rule is broken: the twin stops -/
theorem t_third_f (e : bp σ3 ≤ 2000) : om_loop T_third_538s (0, σ3) = some σ3 ∧ gs σ3 452 ≠ 0 ∧ gs σ3 456 = bp σ3 := by
  have b5 := bp_at (σ := σ3) (p := bp σ3) rfl (by omega)
  refine ⟨om_loop_out ?_, b5⟩
  unfold T_third_538s
  simp only
  by_cases z1 : gs σ3 648 ≤ 0
  · rw [if_pos z1]
  · rw [if_neg z1, if_pos b5.1]
/-- none is broken: the one above, in the twin -/
theorem t_third_a (R : RA G A S b m N pr tb z0 cs fo mo K F Ms hr σr M qs ps rs h ul fl τ n) (X : AX G A S b m N pr tb z0 cs fo mo K F Ms hr σr M qs ps rs h ul fl τ n Sl cl il) (O : TOk cl il) (F3 : fr [452, 456] [726] τ σ3) (f0 : gs σ3 452 = 0) (e812 : gs τ 812 = 0) (hn : n + 32100 < 126000) {z : (Nat × Nat) ⊕ JS} (ez : abJ (abS cl) (inS il) (abIn S il) (0, []) = some z) : ∃ τ' n', om_loop T_third_538s (0, σ3) = some τ' ∧ fr ABS ABA σ3 τ' ∧ TyS τ' n' ∧ tx σ3 n τ' n' ∧ n' ≤ n + 31920 ∧ (∀ kk p, z = .inl (kk, p) → gs τ' 452 = (kk : Int) ∧ gs τ' 456 = (p : Int)) ∧ (∀ s', z = .inr s' → gs τ' 452 = 0 ∧ gs τ' 812 = (s'.1 : Int) ∧ s'.1 ≤ 300 ∧ n' ≤ n + 60 + 81 * s'.1 ∧ ∀ X ∈ s'.2, ∃ t, tyT τ' n' X t) := by
  obtain ⟨o1, o2, o3, o4, o5⟩ := ok_ins R X O
  have TTt := R.2.2.2.2.2.1.1.1.2.1
  have TYt := R.2.2.2.2.2.1.1.1.1.1
  have hS := R.1.2.2.2.2.2.2.1
  have K8 := RA_K8 R
  have X3 : tx τ n σ3 n := tx_same (fun g hg i => F3.2 g ((by decide : ∀ g ∈ TYA, g ∉ [726]) g hg) i)
  have S3 : TyS σ3 n := TyS_same (F3.1 532 (by decide)) (fun g hg i => F3.2 g ((by decide : ∀ g ∈ TYA, g ∉ [726]) g hg) i) TYt
  have P3 : PGT σ3 n (abS cl) (inS il) := PGT_f2 (F3.1 648 (by decide)) (fun g hg i => F3.2 g ((by decide : ∀ g ∈ [670, 694, 698, 702, 706, 710, 714, 718, 722], g ∉ [726]) g hg) i) X3 o5
  have li : (inS il).length = il.length := by unfold inS; rw [List.length_map]
  have hcd : ∀ d ∈ inS il, ∀ c ∈ d.2.2.2.1, c.1 < 100 := fun d hd c hc => by
    obtain ⟨j, x, ex, exd⟩ := inS_at hd
    obtain ⟨_, _, _, Tw, _⟩ := X.2.2 j x ex
    rw [exd] at Tw
    obtain ⟨i, hi, ei⟩ := List.getElem_of_mem hc
    have := (Tw.2.2.2.1.2.2 i c (by rw [List.getElem?_eq_getElem hi, ei])).2.2.1
    omega
  have Pl : ∀ i, i < (inS il).length → ga σ3 690 i = (dcF il i : Int) ∧ dcF il i < 700 ∧ ga σ3 578 (dcF il i) = (jtF b il i : Int) ∧ jtF b il i < 4100 ∧ ga σ3 474 (jtF b il i) = (plF S il i : Int) := fun i hi => by
    have ex : il[i]? = some (il[i]'(by omega)) := List.getElem?_eq_getElem (by omega)
    generalize il[i]'(by omega) = x at ex
    obtain ⟨_, ⟨k1, _⟩, _, _, _, _, ⟨e690, _⟩, ⟨_, e578, tkc⟩, _⟩ := X.2.2 i x ex
    have d0 : dcF il i = x.1 := by unfold dcF; rw [ex]; rfl
    have j0 : jtF b il i = b + x.2.2.2.2.2.1 := by unfold jtF; rw [ex]; rfl
    have p0 : plF S il i = tokq S x.2.2.2.2.2.1 := by unfold plF; rw [ex]; rfl
    obtain ⟨wt, wt1, wt2, wt3⟩ := t_nameAt TTt (j := x.2.2.2.2.2.1) (.inr tkc)
    have tk := TT_tok TTt (RA_nd R) (.inr tkc) wt2
    have il' := (List.getElem?_eq_some_iff.mp k1).1
    have q650 := R.2.1.2.2.2.1
    rw [d0, j0, p0, F3.2 690 (by simp), F3.2 578 (by simp), F3.2 474 (by simp)]
    exact ⟨e690, by omega, e578, tk.1, tk.2.2⟩
  have hpl : ∀ i, plF S il i ≤ 2000 := fun i => by
    unfold plF
    cases il[i]? with
    | none => exact Nat.zero_le _
    | some x => have := tok_le S x.2.2.2.2.2.1; show tokq S _ ≤ 2000; omega
  have ez' : abJ (abS cl) (inS il) (((inS il).drop 0).zip ((List.range' 0 (inS il).length).map (plF S il))) (0, []) = some z := ez
  obtain ⟨τ', n', r1, r2, r3, r4, r5, r6, r7⟩ := t_abv o1 o3 hcd (pl := plF S il) (dc := dcF il) (jt := jtF b il) hpl (inS il).length 0 (0, []) z σ3 n (by omega) ez' S3 P3 Pl f0 (by rw [F3.1 812 (by decide)]; exact e812) (Nat.zero_le _) (by show n + 3 * (inS il).length + 81 * (360 - 0) + 2700 + 100 < 126000; omega)
  have r5' : n' ≤ n + 3 * (inS il).length + 81 * (360 - 0) + 2700 := r5
  refine ⟨τ', n', r1, r2, r3, r4, by omega, r6, fun s' w => ?_⟩
  obtain ⟨q1, q2, q3, q4, D, q5, q6⟩ := r7 s' w
  have q4' : n' ≤ n + 3 * (inS il).length + 81 * (s'.1 - 0) := q4
  refine ⟨q1, q2, q3.2, by omega, fun X hX => q6 X ?_⟩
  rw [q5] at hX
  exact hX
end LTW2
