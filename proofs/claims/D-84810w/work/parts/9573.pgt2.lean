set_option maxRecDepth 100000
/-! THE PROGRAM, for telling: environment -/
section LPG2
variable {G : om_G} {A : Nat} {S : List Int} {b m : Nat} {N : List (List Int)} {pr tb z0 : Nat} {cs fo : List Nat} {mo : List (List Nat)} {K : KT} {F : FT} {Ms : List FT} {hr : om_H} {σr : tS} {M : Nat} {qs : List dcl} {ps : List PD} {rs : List (Nat × Nat × Nat × Nat)} {h h1 : om_H} {ul fl us : List Nat} {τ : tS} {n : Nat} {Sl0 : Nat → Prop} {cl : List Cp} {il : List IX} {fl' : List FX} {g : Prop}
/-- what is given, in an environment -/
def gvG (h1 : om_H) (N : List (List Int)) (cl : Nat → Nat) (U : Nat → Prop) (K : KT) (ins : List INs) (gv : List GVs) : Prop := (gvF' ins gv ∧ gvN gv ∧ gv.length ≤ 4) ∧ (∀ x ∈ gv, x.1 < 100 → x.1 < K.length) ∧ ∀ x ∈ gv, 100 ≤ x.1 → allH (hFam K) x.2.2 ∧ (∃ y, tyC h1 N cl U x.2.2 y) ∧ tdp x.2.2 < 70 ∧ clO h1 cl (x.1 - 100) ∧ hFam K 2 (x.1 - 100)
theorem gvG_in (R : RA G A S b m N pr tb z0 cs fo mo K F Ms hr σr M qs ps rs h ul fl τ n) (X : AX G A S b m N pr tb z0 cs fo mo K F Ms hr σr M qs ps rs h ul fl τ n Sl0 cl il) {U : Nat → Prop} {i : Nat} {x : IX} (e : il[i]? = some x) : gvG h1 N (clF cs) U K (inS il) (gvI x.2.2.2.2.1) := by
  obtain ⟨_, _, _, Tw, _⟩ := X.2.2 i x e
  have K8 := RA_K8 R
  have lt : ∀ y ∈ gvI x.2.2.2.2.1, y.1 < K.length := fun y hy => by
    unfold gvI at hy
    obtain ⟨c, c1, c2⟩ := List.mem_map.mp hy
    obtain ⟨j, hj, ej⟩ := List.getElem_of_mem c1
    have := (Tw.2.2.2.1.2.2 j c (by rw [List.getElem?_eq_getElem hj, ej])).2.2.1
    rw [← c2]
    exact this
  refine ⟨⟨fun y hy z => ?_, fun y hy z => ?_, ?_⟩, fun y hy _ => lt y hy, fun y hy z => ?_⟩
  · have := lt y hy; omega
  · have := lt y hy; omega
  · unfold gvI
    rw [List.length_map]
    exact Tw.2.2.2.1.2.1
  · have := lt y hy; omega
theorem gvG_fn (R : RA G A S b m N pr tb z0 cs fo mo K F Ms hr σr M qs ps rs h ul fl τ n) (X : AX G A S b m N pr tb z0 cs fo mo K F Ms hr σr M qs ps rs h ul fl τ n Sl0 cl il) (Xf : FXs G A S b m N pr tb z0 cs fo mo K F Ms hr σr M qs ps rs h ul fl τ n Sl0 fl') (O : TOk cl il) (Og : ∀ (f : Nat) (x : FX), fl'[f]? = some x → gvOk x.2.2.2.2.2.1.2.1) (XS : hSg g Sl0 h h1) (kp : ∀ T a, tyC h N (clF cs) (UU ul []) T a → tyC h1 N (clF cs) (UU us []) T a) {f : Nat} {x : FX} (e : fl'[f]? = some x) : gvG h1 N (clF cs) (UU us []) K (inS il) x.2.2.2.2.2.1.2.1 := by
  obtain ⟨_, _, fT, fC, ⟨_, _, gq⟩, _⟩ := Xf.2 f x e
  obtain ⟨⟨_, ⟨_, g4⟩, gk⟩, _⟩ := env_fn R X Xf O e
  obtain ⟨_, _, _, ⟨⟨_, _⟩, _, ⟨gl, _⟩, gc⟩, _⟩ := fC
  refine ⟨⟨fun y hy z => ?_, (Og f x e).1, g4⟩, fun y hy z => (gq y hy).2.1.2.1 z, fun y hy z => ?_⟩
  · obtain ⟨_, q2⟩ := gk y hy
    obtain ⟨_, q3, q4, _⟩ := q2 z
    exact ⟨q3.1, q3.2.2, q3.2.1, by omega⟩
  · obtain ⟨_, q2⟩ := gk y hy
    obtain ⟨_, _, _, q5, _⟩ := q2 z
    obtain ⟨j, hj, ej⟩ := List.getElem_of_mem hy
    have ey : x.2.2.2.2.2.1.2.1[j]? = some y := by rw [List.getElem?_eq_getElem hj, ej]
    have fy := (fT.2.2.1.2.2 j y ey).2.2.2
    obtain ⟨_, _, w⟩ := gc j _ y (List.getElem?_eq_getElem (by omega)) ey
    rcases w with ⟨_, _, _, w4, w5⟩ | ⟨w1, _⟩
    · refine ⟨tyHk R fy, ⟨_, kp _ _ w5⟩, by omega, clO_hS XS w4, fun _ => ?_⟩
      obtain ⟨k, k1, k2⟩ := (gq y hy).2.2.2.2 z
      cases qk : k.2 with
      | none => exact absurd qk k2
      | some L => exact ⟨k.1, L, by rw [k1, ← qk]⟩
    · omega
theorem env_H (R : RA G A S b m N pr tb z0 cs fo mo K F Ms hr σr M qs ps rs h ul fl τ n) (X : AX G A S b m N pr tb z0 cs fo mo K F Ms hr σr M qs ps rs h ul fl τ n Sl0 cl il) (Xf : FXs G A S b m N pr tb z0 cs fo mo K F Ms hr σr M qs ps rs h ul fl τ n Sl0 fl') (O : TOk cl il) {U : Nat → Prop} {gv : List GVs} (V : gvG h1 N (clF cs) U K (inS il) gv) : (JL (fnS fl', mtS cl, abS cl, inS il, gv) 2700 ∧ JHe (fnS fl', mtS cl, abS cl, inS il, gv) (hFam K) 2700 ∧ gvN gv) ∧ JOk2 (fnS fl', mtS cl, abS cl, inS il, gv) := by
  obtain ⟨⟨v1, v2, v3⟩, v4, v5⟩ := V
  obtain ⟨J, J2⟩ := env_ok R X Xf O v1 v2
  obtain ⟨i1, i2, i3, i4, _⟩ := ok_ins R X O
  refine ⟨⟨⟨J, v3, fun d hd => (i4 d hd).2.1⟩, ⟨⟨⟨Nat.le_refl _, i1, v1⟩, ⟨i2, v3, i3⟩, fun d hd => ?_, fun x hx z => (v5 x hx z).1⟩, fun f hf => ?_, fun mm hm => ?_, fun k w z z' => absurd z' z⟩, v2⟩, J2⟩
  · obtain ⟨j, x, ex, exd⟩ := inS_at hd
    obtain ⟨_, _, _, Tw, _⟩ := X.2.2 j x ex
    rw [exd] at Tw
    exact tyHk R Tw.2.2.2.2
  · obtain ⟨i, hi, ei⟩ := List.getElem_of_mem hf
    obtain ⟨x, ex, exf⟩ := fnS_get (fl' := fl') (i := i) (f := f) (by rw [List.getElem?_eq_getElem hi, ei])
    obtain ⟨_, _, fT, _⟩ := Xf.2 i x ex
    rw [← exf]
    exact tyHk R fT.2.2.2
  · obtain ⟨i, hi, ei⟩ := List.getElem_of_mem hm
    obtain ⟨_, x, y, ex, ey, em⟩ := mtS_get (cl := cl) (i := i) (m := mm) (by rw [List.getElem?_eq_getElem hi, ei])
    obtain ⟨cT, _⟩ := X.1.2 _ x ex
    rw [em]
    exact tyHk R (cT.2.2.2.2.2 _ y ey).2.2
/-- insts and givens can be told, in the component -/
theorem inh_C (R : RA G A S b m N pr tb z0 cs fo mo K F Ms hr σr M qs ps rs h ul fl τ n) (X : AX G A S b m N pr tb z0 cs fo mo K F Ms hr σr M qs ps rs h ul fl τ n Sl0 cl il) (O : TOk cl il) (NC : NmC h1 N (clF cs) (hFam K) (nmN N) cnN (fmN K)) (kp : ∀ T a, tyC h N (clF cs) (UU ul []) T a → tyC h1 N (clF cs) (UU us []) T a) {gv : List GVs} (V : gvG h1 N (clF cs) (UU us []) K (inS il) gv) : InH (hdC N (clF cs) (nmN N) cnN (fmN K) h1) (inS il) gv 2700 := by
  obtain ⟨⟨v1, v2, v3⟩, v4, v5⟩ := V
  obtain ⟨i1, i2, i3, i4, _⟩ := ok_ins R X O
  refine ⟨⟨Nat.le_refl _, i1, v1⟩, ⟨i2, v3, i3⟩, fun d hd => ?_, fun x hx z => ?_⟩
  · by_cases c : d.2.2.2.2 = .leaf
    · rw [c]; trivial
    obtain ⟨j, x, ex, exd⟩ := inS_at hd
    obtain ⟨_, _, _, Tw, ic, _⟩ := X.2.2 j x ex
    rw [exd] at Tw ic
    exact hty_of NC _ _ (kp _ _ (ic.2.2.2.1 c)) (i1 d hd).2.1 (tyHk R Tw.2.2.2.2)
  · obtain ⟨w1, ⟨y, w2⟩, _⟩ := v5 x hx z
    exact hty_of NC _ _ w2 (v1 x hx z).2.2.1 w1
theorem pgt_of (R : RA G A S b m N pr tb z0 cs fo mo K F Ms hr σr M qs ps rs h ul fl τ n) (X : AX G A S b m N pr tb z0 cs fo mo K F Ms hr σr M qs ps rs h ul fl τ n Sl0 cl il) (Xf : FXs G A S b m N pr tb z0 cs fo mo K F Ms hr σr M qs ps rs h ul fl τ n Sl0 fl') (O : TOk cl il) (Og : ∀ (f : Nat) (x : FX), fl'[f]? = some x → gvOk x.2.2.2.2.2.1.2.1) (XS : hSg g Sl0 h h1) (kp : ∀ T a, tyC h N (clF cs) (UU ul []) T a → tyC h1 N (clF cs) (UU us []) T a) {Lp : Nat} {Dk : Nat → Prop} (Dl : DkL h1 tb Lp Dk) {gv : List GVs} (V : gvG h1 N (clF cs) (UU us []) K (inS il) gv) : PgT h1 N (clF cs) (hFam K) (nmN N) cnN (fmN K) (kcN K) (ioF il) tb Lp Dk (fnS fl', mtS cl, abS cl, inS il, gv) := by
  have NC := nmc_of X XS
  have la : (abS cl).length = K.length := by unfold abS; rw [List.length_map]; exact X.1.1
  refine ⟨NC, (env_H R X Xf O V).1, inh_C R X O NC kp V, nmp_of R X XS V.2.1, Dl, fun f hf x hx => ?_, fun mm hm => ?_⟩
  · obtain ⟨i, hi, ei⟩ := List.getElem_of_mem hf
    obtain ⟨y, ey, eyf⟩ := fnS_get (fl' := fl') (i := i) (f := f) (by rw [List.getElem?_eq_getElem hi, ei])
    obtain ⟨⟨w1, _, _⟩, w4, w5⟩ := gvG_fn R X Xf O Og XS kp ey
    rw [eyf] at w1 w4 w5
    refine ⟨fun z => by show x.1 < (abS cl).length; rw [la]; exact w4 x hx z, fun z => ?_⟩
    obtain ⟨q1, ⟨q, q2⟩, _, q4, q5⟩ := w5 x hx z
    exact ⟨hty_of NC _ _ q2 (w1 x hx z).2.2.1 q1, ⟨fun z => by omega, fun z => by omega, fun _ => NC.2.2 _ q4 q5⟩⟩
  · obtain ⟨i, hi, ei⟩ := List.getElem_of_mem hm
    obtain ⟨i4, x, y, ex, ey, em⟩ := mtS_get (cl := cl) (i := i) (m := mm) (by rw [List.getElem?_eq_getElem hi, ei])
    rw [em]
    show i / 4 < (abS cl).length
    rw [la, ← X.1.1]
    omega
/-- a scope can be told: a function's, an inst's -/
theorem sct_of (NC : NmC h1 N (clF cs) (hFam K) (nmN N) cnN (fmN K)) {sc tb' Lp : Nat} {ns : List Nat} {gv : List GVs} {U Sl : Nat → Prop} (V : gvG h1 N (clF cs) U K (inS il) gv) (GC : GVC h1 N (clF cs) U Sl sc gv) (W : Sl (fR h1 162 sc) ∧ WNs h1 N (fR h1 162 sc) ns) (n1 : ¬ Sl (fR h1 122 tb')) (n2 : ¬ Sl Lp) (gw : ∀ (i y : Nat) (g : GVs), (ll h1 (fR h1 166 sc))[i]? = some y → gv[i]? = some g → gwC h1 K y g.1) : ScT N (clF cs) U (fun a => a ≠ fR h1 122 tb' ∧ a ≠ Lp) (nmN N) cnN (fmN K) (kcN K) h1 sc ns gv := by
  obtain ⟨s1, ⟨g1, g2, g3⟩, ⟨g4, g5⟩, g6⟩ := GC
  obtain ⟨w1, ⟨w2, w3⟩, w4, w5, w6⟩ := W
  refine ⟨s1, ⟨⟨w2, w3, fun z => n1 (by rw [← z]; exact w1), fun z => n2 (by rw [← z]; exact w1)⟩, w4, fun i y w e1 e2 => ?_⟩, ⟨⟨g2, g3, fun z => n1 (by rw [← z]; exact g1), fun z => n2 (by rw [← z]; exact g1)⟩, g4, fun i y x e1 e2 => ?_⟩⟩
  · obtain ⟨⟨a1, a2⟩, L, a3, a4⟩ := w6 i y w e1 e2
    rw [nmN_e a3]
    exact ⟨a4.1, ⟨a1, a2⟩, a4⟩
  · obtain ⟨a1, ⟨⟨b1, b2⟩, L, b3, b4⟩, a3⟩ := g6 i y x e1 e2
    obtain ⟨L', c1, c2, c3⟩ := gw i y x e1 e2
    have hx := List.mem_of_getElem? e2
    refine ⟨a1, ?_, ?_, fun z => ?_, fun z => ?_⟩
    · by_cases c : x.1 < 100
      · rw [if_pos c]
        obtain ⟨o, ek⟩ := c2 c
        have : kcN K x.1 = L' := by unfold kcN; rw [ek]; rfl
        rw [this]
        exact c1
      · rw [if_neg c]
        obtain ⟨o, ek⟩ := c3 (by omega)
        have : fmN K (x.1 - 100) = L' := by unfold fmN; rw [ek]; rfl
        rw [this]
        exact c1
    · rw [nmN_e b3]
      exact ⟨⟨b1, b2⟩, b4⟩
    · rcases a3 with ⟨q, _⟩ | ⟨_, q, _⟩
      · omega
      · exact q
    · obtain ⟨v1, ⟨y', v2⟩, v3, _⟩ := V.2.2 x hx z
      have u := V.1.1 x hx z
      rcases a3 with ⟨_, q1, _, _, q2⟩ | ⟨q, _⟩
      · exact ⟨q1, q2, u.1, u.2.2.1, v3, hty_of NC _ _ q2 u.2.2.1 v1⟩
      · omega
end LPG2
