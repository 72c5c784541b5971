set_option maxRecDepth 100000
/-! NO THIRD RULE IS BROKEN: types are in order -/
/-- no inst breaks a third rule -/
def TOk (cl : List Cp) (il : List IX) : Prop := ∀ (j : Nat) (x : IX) (y : Cp), il[j]? = some x → cl[x.2.2.2.2.1.1]? = some y → InOk il j x y
def abS (cl : List Cp) : List (Option Nat) := cl.map (fun x => x.2.2.1)
theorem thA_nil {ins : List INs} {f : Nat} {d : INs} {cfam fam : Option Nat} {ms : List (Nat × Ty)} {lns : List (Nat × Nat)} {q : Int} (e : thA ins f d cfam fam ms lns q = []) : iOf (ins.take f) d.1 d.2.1 = none ∧ fam = cfam ∧ lnB ms 0 [] lns = [] ∧ ∀ m, m < ms.length → tkn (lnA ms 0 [] lns) m = true := by
  unfold thA at e
  obtain ⟨e1, e2⟩ := List.append_eq_nil_iff.mp e
  obtain ⟨e2, e3⟩ := List.append_eq_nil_iff.mp e2
  obtain ⟨e3, e4⟩ := List.append_eq_nil_iff.mp e3
  refine ⟨?_, ?_, e3, msB_nil e4⟩
  · unfold dpB at e1
    split at e1
    · assumption
    · cases e1
  · split at e2
    · assumption
    · cases e2
section LTO
variable {G : om_G} {A : Nat} {S : List Int} {b m : Nat} {N : List (List Int)} {pr tb z0 : Nat} {cs fo : List Nat} {mo : List (List Nat)} {K : KT} {F : FT} {Ms : List FT} {hr : om_H} {σr : tS} {M : Nat} {qs : List dcl} {ps : List PD} {rs : List (Nat × Nat × Nat × Nat)} {h : om_H} {ul fl : List Nat} {τ : tS} {n : Nat} {Sl : Nat → Prop} {cl : List Cp} {il : List IX}
theorem RA_K8 (R : RA G A S b m N pr tb z0 cs fo mo K F Ms hr σr M qs ps rs h ul fl τ n) : K.length ≤ 8 := Classical.byContradiction (fun w => by
  obtain ⟨_, _, _, _, _, _, _, ⟨_, z⟩, _⟩ := RA_cl R (c := 8) (by omega)
  omega)
theorem inS_at {d : INs} (h : d ∈ inS il) : ∃ (j : Nat) (x : IX), il[j]? = some x ∧ x.2.2.2.2.1 = d := by
  unfold inS at h
  obtain ⟨x, hx, e⟩ := List.mem_map.mp h
  obtain ⟨j, hj, ej⟩ := List.getElem_of_mem hx
  exact ⟨j, x, by rw [List.getElem?_eq_getElem hj, ej], e⟩
theorem inS_get {j : Nat} {d : INs} (h : (inS il)[j]? = some d) : ∃ x, il[j]? = some x ∧ x.2.2.2.2.1 = d := by
  unfold inS at h
  rw [List.getElem?_map] at h
  cases e : il[j]? with
  | none => rw [e] at h; cases h
  | some x => rw [e] at h; exact ⟨x, rfl, Option.some.inj h⟩
/-- families of types are families of insts -/
theorem ok_fam (R : RA G A S b m N pr tb z0 cs fo mo K F Ms hr σr M qs ps rs h ul fl τ n) (X : AX G A S b m N pr tb z0 cs fo mo K F Ms hr σr M qs ps rs h ul fl τ n Sl cl il) (O : TOk cl il) : ∀ {T : Ty}, fmK K T → okF (inS il) T
  | .leaf, _ => trivial
  | .inner k w u l r, H => by
    obtain ⟨h1, h2, h3⟩ := H
    refine ⟨fun k2 => ?_, ok_fam R X O h2, ok_fam R X O h3⟩
    obtain ⟨o, L, e⟩ := h1 k2
    have wl := (List.getElem?_eq_some_iff.mp e).1
    have K8 := RA_K8 R
    refine ⟨by omega, fun d hd ed => ?_⟩
    obtain ⟨j, x, ex, exd⟩ := inS_at hd
    have ey : cl[w]? = some (cl[w]'(by rw [X.1.1]; exact wl)) := List.getElem?_eq_getElem _
    generalize cl[w]'(by rw [X.1.1]; exact wl) = y at ey
    obtain ⟨_, _, _, ⟨L1, _, o', kc, kf⟩, _⟩ := X.1.2 w y ey
    rw [e] at kc
    have eo : some L = o' := (Prod.mk.inj (Option.some.inj kc)).2
    have cf : y.2.2.2.1 ≠ none := by
      rcases kf with ⟨_, z⟩ | ⟨w', L2, z1, _⟩
      · rw [← eo] at z; cases z
      · rw [z1]; exact fun z => by cases z
    have ey' : cl[x.2.2.2.2.1.1]? = some y := by rw [exd, ed]; exact ey
    obtain ⟨⟨q, eq⟩, _⟩ := O j x y ex ey'
    have fm := (thA_nil eq).2.1
    obtain ⟨_, _, _, _, _, _, _, _, FAM, _⟩ := X.2.2 j x ex
    rcases FAM with ⟨f1, _⟩ | ⟨w', jf, lo', hi', b1, b2, p', f1, _, _, _, f9, _⟩
    · rw [f1] at fm; exact absurd fm.symm cf
    · rw [← exd]; exact f9
theorem ok_ty (R : RA G A S b m N pr tb z0 cs fo mo K F Ms hr σr M qs ps rs h ul fl τ n) (X : AX G A S b m N pr tb z0 cs fo mo K F Ms hr σr M qs ps rs h ul fl τ n Sl cl il) (O : TOk cl il) {T : Ty} {t : Int} (c : tyT τ n T t) : okF (inS il) T ∧ wfT T := ⟨ok_fam R X O (tyT_fk R.2.2.2.2.2.1.1.1.1 c), tyT_wf R.2.2.2.2.2.1.1.1.1.1 c⟩
/-- insts are in order -/
theorem ok_ins (R : RA G A S b m N pr tb z0 cs fo mo K F Ms hr σr M qs ps rs h ul fl τ n) (X : AX G A S b m N pr tb z0 cs fo mo K F Ms hr σr M qs ps rs h ul fl τ n Sl cl il) (O : TOk cl il) : insF (inS il) 2700 ∧ (inS il).length ≤ 20 ∧ (∀ d ∈ inS il, d.2.2.1.length = pN d.2.1) ∧ insK (inS il) ∧ PGT τ n (abS cl) (inS il) := by
  have l20 : il.length ≤ 20 := Classical.byContradiction (fun w => by
    have e : il[20]? = some (il[20]'(by omega)) := List.getElem?_eq_getElem (by omega)
    have := (X.2.2 20 _ e).1
    omega)
  have K8 := RA_K8 R
  have li : (inS il).length = il.length := by unfold inS; rw [List.length_map]
  have la : (abS cl).length = K.length := by unfold abS; rw [List.length_map]; exact X.1.1
  refine ⟨fun d hd => ?_, by omega, fun d hd => ?_, ?_, ⟨by omega, fun c o e => ?_⟩, ?_, by omega, fun i d e => ?_⟩
  · obtain ⟨j, x, ex, exd⟩ := inS_at hd
    obtain ⟨_, _, _, Tw, _, ⟨_, _, _, tm⟩, _⟩ := X.2.2 j x ex
    rw [exd] at Tw tm
    obtain ⟨o1, o2⟩ := ok_ty R X O Tw.2.2.2.2
    by_cases z : d.2.2.2.2 = .leaf
    · rw [z]; exact ⟨trivial, trivial, by decide, by decide⟩
    · obtain ⟨t1, t2, t3⟩ := tm z
      exact ⟨o1, o2, by omega, t2⟩
  · obtain ⟨j, x, ex, exd⟩ := inS_at hd
    obtain ⟨_, _, _, Tw, _⟩ := X.2.2 j x ex
    rw [exd] at Tw
    exact Tw.2.2.1.2.1
  · intro d hd
    obtain ⟨j, x, ex, exd⟩ := inS_at hd
    obtain ⟨_, _, _, Tw, _, ⟨_, _, cdu, _⟩, _⟩ := X.2.2 j x ex
    rw [exd] at Tw cdu
    refine ⟨Tw.2.1.2, Tw.2.2.2.1.2.1, fun c hc => ⟨?_, cdu c hc⟩⟩
    obtain ⟨i, hi, ei⟩ := List.getElem_of_mem hc
    exact (Tw.2.2.2.1.2.2 i c (by rw [List.getElem?_eq_getElem hi, ei])).2.2.2
  · unfold abS at e
    rw [List.getElem?_map] at e
    cases ey : cl[c]? with
    | none => rw [ey] at e; cases e
    | some y =>
      rw [ey] at e
      have eo : y.2.2.1 = o := Option.some.inj e
      obtain ⟨cT, _⟩ := X.1.2 c y ey
      rw [← eo]
      exact cT.2.2.1
  · have g648 := R.1.2.2.2.2.2.2.2.2.2.1
    have := X.2.1
    omega
  · obtain ⟨x, ex, exd⟩ := inS_get e
    obtain ⟨_, _, _, Tw, _⟩ := X.2.2 i x ex
    rw [exd] at Tw
    rw [la]
    exact Tw
end LTO
