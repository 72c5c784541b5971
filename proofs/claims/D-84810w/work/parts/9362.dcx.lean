set_option maxRecDepth 100000
/-! THE COMPONENT's dictionaries as trees -/
def tW : Ty → Nat
  | .leaf => 0
  | .inner _ w _ _ _ => w
/-- the cast of a dictionary -/
def cstC (h : om_H) (N : List (List Int)) (cl : Nat → Nat) (U : Nat → Prop) (u T : Ty) (a : Nat) : Prop := (tyE u T = true ∧ fR h 1638 a = 0) ∨ (tyE u T = false ∧ fR h 1638 a ≠ 0 ∧ tyC h N cl U u (fR h 1638 a) ∧ tyC h N cl U T (fR h 1642 a))
/-- a given's, so many steps above -/
def gcX (h : om_H) (cl : Nat → Nat) (ab : List (Option Nat)) (Lv : Nat → Prop) (g1 j : Nat) : Nat → Nat → Prop
  | 0, a => Lv a ∧ (a ≠ 0 ∧ a < hz h ∧ kd h a = 36) ∧ fI h 1616 a = (j : Int) ∧ fR h 1622 a = 0 ∧ fR h 1626 a = 0 ∧ fR h 1614 a = cl g1
  | n + 1, a => Lv a ∧ (a ≠ 0 ∧ a < hz h ∧ kd h a = 36) ∧ fI h 1616 a = -1 ∧ fR h 1626 a = 0 ∧ (∃ k, upA ab (n + 1) g1 = some k ∧ fR h 1614 a = cl k) ∧ fR h 1638 (fR h 1622 a) = 0 ∧ gcX h cl ab Lv g1 j n (fR h 1622 a)
/-- an inst's -/
def icX (h : om_H) (N : List (List Int)) (cl : Nat → Nat) (U Lv : Nat → Prop) (io : Nat → Nat) (i c : Nat) (u : Ty) (a : Nat) : Prop := Lv a ∧ (a ≠ 0 ∧ a < hz h ∧ kd h a = 36) ∧ (fI h 1616 a = -1 ∧ fR h 1622 a = 0 ∧ fR h 1614 a = cl c ∧ fR h 1626 a = io i ∧ io i ≠ 0) ∧ (fR h 1630 a ≠ 0 ∧ fR h 1630 a < hz h ∧ kd h (fR h 1630 a) = 42) ∧ (fR h 1634 a ≠ 0 ∧ fR h 1634 a < hz h ∧ kd h (fR h 1634 a) = 42) ∧ (ll h (fR h 1630 a)).length = pN (tW u) ∧ ∀ (k y : Nat), (ll h (fR h 1630 a))[k]? = some y → tyC h N cl U (if k = 0 then tL u else tR' u) y
/-- the objects of a chain of dictionaries -/
def DcX (h : om_H) (N : List (List Int)) (cl : Nat → Nat) (U Lv : Nat → Prop) (io : Nat → Nat) (ab : List (Option Nat)) (gv : List GVs) : Dc → List Nat → Prop
  | .leaf, l => l = []
  | .inner t a _ cs nx, l => ∃ x l', l = x :: l' ∧ cstC h N cl U a.2.2.1 a.2.2.2 x ∧ (if t = 0 then ∃ g, gv[a.1]? = some g ∧ gcX h cl ab Lv g.1 a.1 a.2.1 x else icX h N cl U Lv io a.1 a.2.1 a.2.2.1 x) ∧ DcX h N cl U Lv io ab gv cs (if t = 0 then [] else ll h (fR h 1634 x)) ∧ DcX h N cl U Lv io ab gv nx l'
section LDX
variable {h h' : om_H} {N : List (List Int)} {cl : Nat → Nat} {U U' Lv Lv' : Nat → Prop} {io : Nat → Nat} {ab : List (Option Nat)} {gv : List GVs}
theorem gcX_keep (E : ∀ d, Lv d → eqA d h h') (hl : hz h ≤ hz h') (sL : ∀ d, Lv d → Lv' d) {g1 j : Nat} : ∀ {n a : Nat}, gcX h cl ab Lv g1 j n a → gcX h' cl ab Lv' g1 j n a
  | 0, a, ⟨a1, ⟨a2, a3, a4⟩, a5, a6, a7, a8⟩ => by
    have e := E a a1
    exact ⟨sL a a1, ⟨a2, by omega, by rw [e.1]; exact a4⟩, by rw [e.2.1]; exact a5, by rw [e.2.2.1]; exact a6, by rw [e.2.2.1]; exact a7, by rw [e.2.2.1]; exact a8⟩
  | n + 1, a, ⟨a1, ⟨a2, a3, a4⟩, a5, a6, ⟨k, a7, a8⟩, a9, a10⟩ => by
    have e := E a a1
    have l1 : Lv (fR h 1622 a) := by
      cases n with
      | zero => exact a10.1
      | succ n => exact a10.1
    refine ⟨sL a a1, ⟨a2, by omega, by rw [e.1]; exact a4⟩, by rw [e.2.1]; exact a5, by rw [e.2.2.1]; exact a6, ⟨k, a7, by rw [e.2.2.1]; exact a8⟩, ?_, ?_⟩
    · rw [e.2.2.1, (E _ l1).2.2.1]; exact a9
    · rw [e.2.2.1]; exact gcX_keep E hl sL a10
theorem gcX_lv {g1 j n a : Nat} (H : gcX h cl ab Lv g1 j n a) : Lv a := by
  cases n with
  | zero => exact H.1
  | succ n => exact H.1
/-- dictionaries that are live stay -/
theorem DcX_keep (E : ∀ d, Lv d → eqA d h h') (EL : ∀ d, Lv d → (fR h 1630 d ≠ 0 → ll h' (fR h 1630 d) = ll h (fR h 1630 d)) ∧ (fR h 1634 d ≠ 0 → ll h' (fR h 1634 d) = ll h (fR h 1634 d))) (kk : ∀ a, a < hz h → kd h' a = kd h a) (hl : hz h ≤ hz h') (sL : ∀ d, Lv d → Lv' d) (kp : ∀ T a, tyC h N cl U T a → tyC h' N cl U' T a) : ∀ {D : Dc} {l : List Nat}, DcX h N cl U Lv io ab gv D l → DcX h' N cl U' Lv' io ab gv D l
  | .leaf, l, H => H
  | .inner t a _ cs nx, l, ⟨x, l', e1, e2, e3, e4, e5⟩ => by
    have lx : Lv x := by
      split at e3
      · obtain ⟨g, _, g2⟩ := e3
        exact gcX_lv g2
      · exact e3.1
    have e := E x lx
    refine ⟨x, l', e1, ?_, ?_, ?_, DcX_keep E EL kk hl sL kp e5⟩
    · unfold cstC at e2 ⊢
      rw [e.2.2.1, e.2.2.1]
      rcases e2 with e2 | ⟨c1, c2, c3, c4⟩
      · exact .inl e2
      · exact .inr ⟨c1, c2, kp _ _ c3, kp _ _ c4⟩
    · by_cases t0 : t = 0
      · rw [if_pos t0] at e3 ⊢
        obtain ⟨g, g1, g2⟩ := e3
        exact ⟨g, g1, gcX_keep E hl sL g2⟩
      · rw [if_neg t0] at e3 ⊢
        obtain ⟨a1, ⟨a2, a3, a4⟩, ⟨b1, b2, b3, b4, b5⟩, ⟨c1, c2, c3⟩, ⟨d1, d2, d3⟩, f1, f2⟩ := e3
        unfold icX
        rw [e.2.1, e.2.2.1, e.2.2.1, e.2.2.1, e.2.2.1, e.2.2.1, (EL x lx).1 c1]
        exact ⟨sL x lx, ⟨a2, by omega, by rw [e.1]; exact a4⟩, ⟨b1, b2, b3, b4, b5⟩, ⟨c1, by omega, by rw [kk _ c2]; exact c3⟩, ⟨d1, by omega, by rw [kk _ d2]; exact d3⟩, f1, fun k y h1 => kp _ _ (f2 k y h1)⟩
    · by_cases t0 : t = 0
      · rw [if_pos t0] at e4 ⊢
        exact DcX_keep E EL kk hl sL kp e4
      · rw [if_neg t0] at e3 e4 ⊢
        rw [e.2.2.1, (EL x lx).2 e3.2.2.2.2.1.1]
        exact DcX_keep E EL kk hl sL kp e4
end LDX
