set_option maxRecDepth 100000
/-! THE ENVIRONMENT OF JUDGING, out of what resolve left -/
/-- methods at 4c + m -/
def mtS (cl : List Cp) : List (Option (Nat × Nat × Ty)) := (List.range (4 * cl.length)).map (fun k => (cl[k / 4]?).bind (fun x => (x.2.2.2.2[k % 4]?).map (fun y => (k / 4, x.2.1, y.2))))
def fnS (fl' : List FX) : List (List Nat × List GVs × Ty) := fl'.map (fun x => x.2.2.2.2.2.1)
theorem mtS_get {cl : List Cp} {i : Nat} {m : Nat × Nat × Ty} (e : (mtS cl)[i]? = some (some m)) : i < 4 * cl.length ∧ ∃ (x : Cp) (y : Nat × Ty), cl[i / 4]? = some x ∧ x.2.2.2.2[i % 4]? = some y ∧ m = (i / 4, x.2.1, y.2) := by
  unfold mtS at e
  rw [List.getElem?_map] at e
  have il : i < 4 * cl.length := Classical.byContradiction (fun w => by
    rw [List.getElem?_eq_none_iff.mpr (by rw [List.length_range]; omega)] at e
    cases e)
  rw [List.getElem?_range il] at e
  have e' : (cl[i / 4]?).bind (fun x => (x.2.2.2.2[i % 4]?).map (fun y => (i / 4, x.2.1, y.2))) = some m := Option.some.inj e
  cases ex : cl[i / 4]? with
  | none => rw [ex] at e'; cases e'
  | some x =>
    rw [ex, Option.bind_some] at e'
    cases ey : x.2.2.2.2[i % 4]? with
    | none => rw [ey] at e'; cases e'
    | some y =>
      rw [ey] at e'
      exact ⟨il, x, y, rfl, ey, (Option.some.inj e').symm⟩
theorem mtS_at {cl : List Cp} {c k : Nat} {x : Cp} {y : Nat × Ty} (ex : cl[c]? = some x) (ey : x.2.2.2.2[k]? = some y) (hk : k < 4) : (mtS cl)[4 * c + k]? = some (some (c, x.2.1, y.2)) := by
  have cl' := (List.getElem?_eq_some_iff.mp ex).1
  unfold mtS
  rw [List.getElem?_map, List.getElem?_range (by omega)]
  show some ((cl[(4 * c + k) / 4]?).bind (fun x => (x.2.2.2.2[(4 * c + k) % 4]?).map (fun y => ((4 * c + k) / 4, x.2.1, y.2)))) = _
  rw [show (4 * c + k) / 4 = c by omega, show (4 * c + k) % 4 = k by omega, ex, Option.bind_some, ey]
  rfl
theorem mtS_len {cl : List Cp} : (mtS cl).length = 4 * cl.length := by unfold mtS; rw [List.length_map, List.length_range]
theorem fnS_get {fl' : List FX} {i : Nat} {f : List Nat × List GVs × Ty} (e : (fnS fl')[i]? = some f) : ∃ x, fl'[i]? = some x ∧ x.2.2.2.2.2.1 = f := by
  unfold fnS at e
  rw [List.getElem?_map] at e
  cases ex : fl'[i]? with
  | none => rw [ex] at e; cases e
  | some x => rw [ex] at e; exact ⟨x, rfl, Option.some.inj e⟩
section LEV
variable {G : om_G} {A : Nat} {S : List Int} {b m : Nat} {N : List (List Int)} {pr tb z0 : Nat} {cs fo : List Nat} {mo : List (List Nat)} {K : KT} {F : FT} {Ms : List FT} {hr : om_H} {σr : tS} {M : Nat} {qs : List dcl} {ps : List PD} {rs : List (Nat × Nat × Nat × Nat)} {h : om_H} {ul fl : List Nat} {τ : tS} {n : Nat} {Sl : Nat → Prop} {cl : List Cp} {il : List IX} {fl' : List FX}
theorem tyM_ok (R : RA G A S b m N pr tb z0 cs fo mo K F Ms hr σr M qs ps rs h ul fl τ n) (X : AX G A S b m N pr tb z0 cs fo mo K F Ms hr σr M qs ps rs h ul fl τ n Sl cl il) (O : TOk cl il) {T : Ty} {t : Int} (c : tyT τ n T t) (t' : tyM T) : tyOk (inS il) T ∧ tsz T ≤ 2700 ∧ tdp T < 60 := by
  obtain ⟨o1, o2⟩ := ok_ty R X O c
  exact ⟨⟨t'.1, o2, o1⟩, t'.2.1, by have := t'.2.2; omega⟩
/-- a class with a family: its insts have a line for it -/
theorem fam_ins (X : AX G A S b m N pr tb z0 cs fo mo K F Ms hr σr M qs ps rs h ul fl τ n Sl cl il) (O : TOk cl il) {c : Nat} {k : Option (List Int) × Option (List Int)} (ek : K[c]? = some k) (nk : k.2 ≠ none) : ∀ d ∈ inS il, d.1 = c → d.2.2.2.2 ≠ .leaf := fun d hd ec => by
  obtain ⟨j, x, ex, exd⟩ := inS_at hd
  obtain ⟨_, _, _, Tw, _, _, _, _, f9, _⟩ := X.2.2 j x ex
  rw [exd] at Tw f9
  have cK : c < K.length := (List.getElem?_eq_some_iff.mp ek).1
  have ey : cl[c]? = some (cl[c]'(by have := X.1.1; omega)) := List.getElem?_eq_getElem _
  generalize cl[c]'(by have := X.1.1; omega) = y at ey
  obtain ⟨_, _, _, ⟨L1, l1, o, k1, k2⟩, _⟩ := X.1.2 c y ey
  have eko : k = (some L1, o) := Option.some.inj (ek.symm.trans k1)
  have nf : y.2.2.2.1 ≠ none := by
    rcases k2 with ⟨_, v⟩ | ⟨w, L2, v, _⟩
    · rw [eko] at nk; exact absurd v nk
    · rw [v]; intro z; cases z
  have ey' : cl[x.2.2.2.2.1.1]? = some y := by rw [exd, ec]; exact ey
  obtain ⟨⟨q, th⟩, _⟩ := O j x y ex ey'
  have fm := (thA_nil th).2.1
  rcases f9 with ⟨v, _⟩ | ⟨w, jf, lo', hi', a1, a2, p', _, _, _, _, v, _⟩
  · rw [v] at fm; exact absurd fm.symm nf
  · exact v
theorem env_fn (R : RA G A S b m N pr tb z0 cs fo mo K F Ms hr σr M qs ps rs h ul fl τ n) (X : AX G A S b m N pr tb z0 cs fo mo K F Ms hr σr M qs ps rs h ul fl τ n Sl cl il) (Xf : FXs G A S b m N pr tb z0 cs fo mo K F Ms hr σr M qs ps rs h ul fl τ n Sl fl') (O : TOk cl il) {f : Nat} {x : FX} (e : fl'[f]? = some x) : ((tyOk (inS il) x.2.2.2.2.2.1.2.2 ∧ tsz x.2.2.2.2.2.1.2.2 ≤ 2700 ∧ tdp x.2.2.2.2.2.1.2.2 < 60) ∧ (x.2.2.2.2.2.1.1.length ≤ 4 ∧ x.2.2.2.2.2.1.2.1.length ≤ 4) ∧ ∀ g ∈ x.2.2.2.2.2.1.2.1, g.2.1 ∈ x.2.2.2.2.2.1.1 ∧ (100 ≤ g.1 → g.1 < 1000 ∧ tyOk (inS il) g.2.2 ∧ tsz g.2.2 ≤ 2700 ∧ tdp g.2.2 < 60 ∧ ∀ d ∈ inS il, d.1 = g.1 - 100 → d.2.2.2.2 ≠ .leaf)) ∧ gvF' (inS il) x.2.2.2.2.2.1.2.1 ∧ ∀ g ∈ x.2.2.2.2.2.1.2.1, g.1 < 100 → g.1 < (abS cl).length := by
  obtain ⟨_, _, FT', _, ⟨t1, _, t3⟩, _⟩ := Xf.2 f x e
  obtain ⟨_, ⟨b1, b2, b3⟩, ⟨c1, c2, c3⟩, d⟩ := FT'
  have la : (abS cl).length = K.length := by unfold abS; rw [List.length_map]; exact X.1.1
  have gt : ∀ g ∈ x.2.2.2.2.2.1.2.1, 100 ≤ g.1 → tyOk (inS il) g.2.2 ∧ tsz g.2.2 ≤ 2700 ∧ tdp g.2.2 < 60 := fun g hg h1 => by
    obtain ⟨i, hi, ei⟩ := List.getElem_of_mem hg
    obtain ⟨_, _, _, c4⟩ := c3 i g (by rw [List.getElem?_eq_getElem hi, ei])
    exact tyM_ok R X O c4 ((t3 g hg).2.2.1 h1)
  refine ⟨⟨tyM_ok R X O d t1, ⟨b2, c2⟩, fun g hg => ⟨(t3 g hg).1, fun h1 => ?_⟩⟩, fun g hg h1 => ?_, fun g hg h1 => by rw [la]; exact (t3 g hg).2.1.2.1 h1⟩
  · obtain ⟨u1, u2, u3⟩ := gt g hg h1
    obtain ⟨k, k1, k2⟩ := (t3 g hg).2.2.2.2 h1
    exact ⟨by have := (t3 g hg).2.1.1; omega, u1, u2, u3, fam_ins X O k1 k2⟩
  · obtain ⟨u1, u2, u3⟩ := gt g hg h1
    exact ⟨u1.1, u1.2.2, u1.2.1, by omega⟩
/-- THE ENVIRONMENT IS IN ORDER -/
theorem env_ok (R : RA G A S b m N pr tb z0 cs fo mo K F Ms hr σr M qs ps rs h ul fl τ n) (X : AX G A S b m N pr tb z0 cs fo mo K F Ms hr σr M qs ps rs h ul fl τ n Sl cl il) (Xf : FXs G A S b m N pr tb z0 cs fo mo K F Ms hr σr M qs ps rs h ul fl τ n Sl fl') (O : TOk cl il) {gv : List GVs} (g1 : gvF' (inS il) gv) (g2 : gvN gv) : JOk (fnS fl', mtS cl, abS cl, inS il, gv) 2700 ∧ JOk2 (fnS fl', mtS cl, abS cl, inS il, gv) := by
  obtain ⟨i1, i2, i3, i4, _⟩ := ok_ins R X O
  have la : (abS cl).length = K.length := by unfold abS; rw [List.length_map]; exact X.1.1
  have K8 := RA_K8 R
  refine ⟨⟨⟨Nat.le_refl _, i1, g1, i2, i3⟩, fun f hf => ?_, fun mm hm => ?_⟩, by show (abS cl).length ≤ 8; omega, i4, g2⟩
  · obtain ⟨i, hi, ei⟩ := List.getElem_of_mem hf
    obtain ⟨x, ex, exf⟩ := fnS_get (fl' := fl') (i := i) (f := f) (by rw [List.getElem?_eq_getElem hi, ei])
    rw [← exf]
    exact (env_fn R X Xf O ex).1
  · obtain ⟨i, hi, ei⟩ := List.getElem_of_mem hm
    obtain ⟨_, x, y, ex, ey, em⟩ := mtS_get (cl := cl) (i := i) (m := mm) (by rw [List.getElem?_eq_getElem hi, ei])
    obtain ⟨cT, _, tm, _⟩ := X.1.2 _ x ex
    rw [em]
    exact tyM_ok R X O (cT.2.2.2.2.2 _ y ey).2.2 (tm y (List.mem_of_getElem? ey))
/-- functions and methods in the component -/
theorem env_jce (X : AX G A S b m N pr tb z0 cs fo mo K F Ms hr σr M qs ps rs h ul fl τ n Sl cl il) (Xf : FXs G A S b m N pr tb z0 cs fo mo K F Ms hr σr M qs ps rs h ul fl τ n Sl fl') {gv : List GVs} : JCE N (clF cs) (clF fo) (moF mo) (fnS fl', mtS cl, abS cl, inS il, gv) h (UU ul []) Sl := by
  refine ⟨fun i f e => ?_, fun i mm e => ?_⟩
  · obtain ⟨x, ex, exf⟩ := fnS_get e
    obtain ⟨_, _, _, C, _⟩ := Xf.2 i x ex
    rw [exf] at C
    exact ⟨⟨C.1.1, C.1.2.1, C.1.2.2.1⟩, C.2.2.1, C.2.2.2.1, C.2.2.2.2⟩
  · obtain ⟨il', x, y, ex, ey, em⟩ := mtS_get e
    obtain ⟨_, C, _⟩ := X.1.2 _ x ex
    obtain ⟨_, c2, _, c4, c5, c6⟩ := C.2.2.2.2.2.2.2 (i % 4) y ey
    rw [show 4 * (i / 4) + i % 4 = i by omega] at c2 c4 c5 c6
    rw [em]
    exact ⟨c2, ⟨c4, C.1⟩, C.2.2.1, c6⟩
/-- names that are there always, in the twin -/
def BTy (σ : tS) (n : Nat) : Prop := (∃ wa wb : Nat, wa ≠ wb ∧ gs σ 868 = (wa : Int) ∧ gs σ 872 = (wb : Int) ∧ ∀ k, k < 7 → tyT σ n (btT k (tNm wa) (tNm wb)) (ga σ 878 k)) ∧ tyT σ n tInt (gs σ 860) ∧ tyT σ n tBool (gs σ 864)
theorem env_jt (R : RA G A S b m N pr tb z0 cs fo mo K F Ms hr σr M qs ps rs h ul fl τ n) (X : AX G A S b m N pr tb z0 cs fo mo K F Ms hr σr M qs ps rs h ul fl τ n Sl cl il) (Xf : FXs G A S b m N pr tb z0 cs fo mo K F Ms hr σr M qs ps rs h ul fl τ n Sl fl') (O : TOk cl il) (BT : BTy τ n) {gv : List GVs} : JT0 τ n (fnS fl', mtS cl, abS cl, inS il, gv) := by
  obtain ⟨_, _, _, _, PG⟩ := ok_ins R X O
  have K8 := RA_K8 R
  have lc := X.1.1
  have f24 : fl'.length ≤ 24 := Classical.byContradiction (fun w => by
    have e : fl'[24]? = some (fl'[24]'(by omega)) := List.getElem?_eq_getElem (by omega)
    have := (Xf.2 24 _ e).1
    omega)
  refine ⟨PG, ⟨by show (fnS fl').length ≤ 24; unfold fnS; rw [List.length_map]; exact f24, fun i f e => ?_⟩, ⟨by show (mtS cl).length ≤ 32; rw [mtS_len]; omega, fun i mm e => ?_⟩, BT.1, BT.2⟩
  · obtain ⟨x, ex, exf⟩ := fnS_get e
    obtain ⟨_, _, FT', _⟩ := Xf.2 i x ex
    rw [exf] at FT'
    exact FT'.2
  · obtain ⟨il', x, y, ex, ey, em⟩ := mtS_get e
    obtain ⟨cT, _⟩ := X.1.2 _ x ex
    have ct := (cT.2.2.2.2.2 _ y ey).2.2
    rw [show 4 * (i / 4) + i % 4 = i by omega] at ct
    rw [em]
    exact ⟨rfl, cT.2.1.1, ct⟩
end LEV
