set_option maxRecDepth 100000
/-! EXS ARE TREES: what is needed for it, out of what resolve left -/
theorem MI_get {L : List Int} : ∀ {Ms : List FT} {p q : Nat}, MI L Ms = some (p, q) → ∃ Fm, Ms[p]? = some Fm ∧ FI id L Fm = some q
  | [], _, _, e => by cases e
  | Fm :: Ms, p, q, e => by
    unfold MI at e
    cases ef : FI id L Fm with
    | some j =>
      rw [ef] at e
      have e' : (0, j) = (p, q) := Option.some.inj e
      injection e' with e1 e2
      rw [← e1, ← e2]
      exact ⟨Fm, rfl, ef⟩
    | none =>
      rw [ef] at e
      have e' : (MI L Ms).map (fun p => (p.1 + 1, p.2)) = some (p, q) := e
      obtain ⟨⟨a, c⟩, e1, e2⟩ := Option.map_eq_some_iff.mp e'
      injection e2 with e3 e4
      obtain ⟨Fm', x1, x2⟩ := MI_get e1
      rw [← e3, ← e4]
      exact ⟨Fm', x1, x2⟩
section LXHs
variable {G : om_G} {A : Nat} {S : List Int} {b m : Nat} {N : List (List Int)} {pr tb z0 : Nat} {cs fo : List Nat} {mo : List (List Nat)} {K : KT} {F : FT} {Ms : List FT} {hr : om_H} {σr : tS} {M : Nat} {qs : List dcl} {ps : List PD} {rs : List (Nat × Nat × Nat × Nat)} {h : om_H} {ul fl : List Nat} {τ : tS} {n : Nat} {Sl Sl0 : Nat → Prop} {cl : List Cp} {il : List IX} {fl' : List FX}
/-- methods of a class, in both -/
theorem ms_at (R : RA G A S b m N pr tb z0 cs fo mo K F Ms hr σr M qs ps rs h ul fl τ n) (X : AX G A S b m N pr tb z0 cs fo mo K F Ms hr σr M qs ps rs h ul fl τ n Sl cl il) {L : List Int} {p q : Nat} (e : MI L Ms = some (p, q)) : cntS (Ms.getD p []) q = q ∧ q < 4 ∧ ∃ (x : Cp) (y : Nat × Ty), cl[p]? = some x ∧ x.2.2.2.2[q]? = some y := by
  obtain ⟨Fm, e1, e2⟩ := MI_get e
  have HF := R.2.2.2.1.2.1
  have lM := HF.2.2.1
  have lm := HF.2.1
  have pM := (List.getElem?_eq_some_iff.mp e1).1
  have all := RA_Ms R e1
  have ql := FI_lt e2
  have CL := R.2.2.2.1.1.2.2.1
  have lK : cs.length = K.length := CL.2.2.1
  have eg : Ms.getD p [] = Fm := by rw [List.getD_eq_getElem?_getD, e1]; rfl
  have ec : cs[p]? = some (cs[p]'(by omega)) := List.getElem?_eq_getElem (by omega)
  have em : mo[p]? = some (mo[p]'(by omega)) := List.getElem?_eq_getElem (by omega)
  have SL := HF.2.2.2 p _ _ _ ec em e1
  have ex : cl[p]? = some (cl[p]'(by have := X.1.1; omega)) := List.getElem?_eq_getElem _
  generalize cl[p]'(by have := X.1.1; omega) = x at ex
  obtain ⟨cT, C, _⟩ := X.1.2 p x ex
  have ecl : clF cs p = cs[p]'(by omega) := by unfold clF; rw [List.getD_eq_getElem?_getD, ec]; rfl
  have l1 := C.2.2.2.2.2.1.2.2.2
  rw [ecl, SL.2.2.1, SL.2.2.2.1] at l1
  have l4 := cT.2.2.2.2.1.2
  rw [eg]
  exact ⟨cntS_id all (by omega), by omega, x, _, ex, List.getElem?_eq_getElem (show q < x.2.2.2.2.length by omega)⟩
theorem F_all (Xf : FXs G A S b m N pr tb z0 cs fo mo K F Ms hr σr M qs ps rs h ul fl τ n Sl fl') : ∀ x ∈ F, x.isSome = true := fun x hx => by
  obtain ⟨i, hi, ei⟩ := List.getElem_of_mem hx
  have e : fl'[i]? = some (fl'[i]'(by rw [Xf.1]; exact hi)) := List.getElem?_eq_getElem _
  obtain ⟨L, _, l2⟩ := (Xf.2 i _ e).2.2.2.2.1.2.1
  rw [List.getElem?_eq_getElem hi, ei] at l2
  rw [Option.some.inj l2]; rfl
theorem env_xh (hI : intO G) (R : RA G A S b m N pr tb z0 cs fo mo K F Ms hr σr M qs ps rs h ul fl τ n) (X : AX G A S b m N pr tb z0 cs fo mo K F Ms hr σr M qs ps rs h ul fl τ n Sl cl il) (Xf : FXs G A S b m N pr tb z0 cs fo mo K F Ms hr σr M qs ps rs h ul fl τ n Sl fl') (O : TOk cl il) (hSl : ∀ y, z0 ≤ y → y < hz h → kd h y = 42 → ll h y ≠ [] → Sl0 y) {z1 : Nat} (hz1 : z0 ≤ z1) {gv : List GVs} : XH G A S b m N fo F mo Ms (clF fo) (moF mo) (fnS fl', mtS cl, abS cl, inS il, gv) Sl0 z0 z1 h τ n := by
  have fa := F_all Xf
  have hzz := R.2.2.2.2.1.2.1
  refine ⟨⟨R.2.2.2.2.2.1.1.1.2.1, R.2.2.2.2.2.1.2.2.1, ⟨R.2.2.2.1.1.2.1.1, by have := R.1.2.1; omega⟩, fun L i e => ?_, fun L p q e => ?_⟩, ⟨hSl, hz1, R.1.2.2.1⟩, fun d k i H => ?_, fun T t t1 t2 => ?_, hI⟩
  · have il' := FI_lt e
    rw [cntS_id fa (Nat.le_of_lt il')]
    have ex : fl'[i]? = some (fl'[i]'(by rw [Xf.1]; exact il')) := List.getElem?_eq_getElem _
    exact ⟨rfl, (Xf.2 i _ ex).2.2.2.1.1.1⟩
  · obtain ⟨c1, c2, x, y, ex, ey⟩ := ms_at R X e
    obtain ⟨_, C, _⟩ := X.1.2 p x ex
    have n0 := (C.2.2.2.2.2.2.2 q y ey).2.1.1
    rw [c1]
    have e2 : moF mo (4 * p + q) = moA mo (some (p, q)) := by
      unfold moF
      rw [show (4 * p + q) / 4 = p by omega, show (4 * p + q) % 4 = q by omega]
    rw [← e2]
    exact ⟨rfl, n0⟩
  · rcases H with w | ⟨w, L, x, e, ei⟩ | ⟨w, L, p, q, e, _, ei⟩ | w
    · exact .inl w
    · have il' := FI_lt e
      rw [cntS_id fa (Nat.le_of_lt il')] at ei
      refine .inr (.inl ⟨w, ?_⟩)
      show i < (fnS fl').length
      unfold fnS
      rw [List.length_map, Xf.1, ei]
      exact il'
    · obtain ⟨c1, c2, x, y, ex, ey⟩ := ms_at R X e
      rw [c1] at ei
      exact .inr (.inr (.inl ⟨w, _, by rw [ei]; exact mtS_at ex ey c2⟩))
    · exact .inr (.inr (.inr w))
  · obtain ⟨o1, o2⟩ := ok_ty R X O t2
    exact ⟨t1.1, o2, o1⟩
end LXHs
