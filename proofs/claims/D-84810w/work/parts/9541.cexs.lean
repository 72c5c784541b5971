set_option maxRecDepth 100000
/-! THE COMPONENT TELLS EXS -/
/-- how big a judged ex is; without its cast -/
def esz : Et → Nat
  | .leaf => 0
  | .inner _ _ _ l r => 1 + esz l + esz r
/-- inside a chain nothing is cast -/
def chN : Et → Prop
  | .leaf => True
  | .inner t a _ _ _ => t = 18 → a.1.2.1 ≠ 60 → a.1.2.1 ≠ 61 → a.2.2.1 = .leaf
/-- an ex that can be told -/
def eT (N : List (List Int)) (cl : Nat → Nat) (nm con fam : Nat → List Int) (h : om_H) (k2 : Ty → Ty → Prop) (evT : Dc → Prop) : Et → Prop
  | .leaf => True
  | .inner t a _ l r => (t ≠ 0 → a.2.2.1 ≠ .leaf → k2 a.2.1 a.2.2.1 ∧ a.2.1 ≠ a.2.2.1) ∧ t ≠ 13 ∧ (t = 10 → (∀ p ∈ a.1.2.2.2.2.2, tyG N cl nm con fam h p.1) ∧ ∀ D ∈ a.2.2.2, evT D) ∧ (t = 11 → a.1.2.1 ≤ 2147483647) ∧ (t = 14 ∨ t = 15 → tyG N cl nm con fam h (lbT a.1)) ∧ (t = 18 → chN l) ∧ (t ≠ 10 → t ≠ 11 → eT N cl nm con fam h k2 evT l) ∧ (t ≠ 10 → t ≠ 11 → t ≠ 14 → eT N cl nm con fam h k2 evT r)
/-- what judging has written, as it is told -/
noncomputable def PhT (N : List (List Int)) (cl : Nat → Nat) (U Sl : Nat → Prop) (h0 : om_H) (evR : Dc → Nat → Prop) : Et → Nat → Nat → Nat → Prop
  | .leaf, _, _, _ => False
  | .inner t x _ l _, md, m, a => ((md = 0 ∨ (md = 2 ∧ ¬ aO t md m)) → tyC h0 N cl U x.2.1 (fR h0 1378 (aX h0 t md m a)) ∧ tyC h0 N cl U x.2.2.1 (fR h0 1382 (aX h0 t md m a))) ∧ (t = 10 → ∃ evs, rsJ h0 Sl (aN h0 (aX h0 t md m a)) evs ∧ evs.length = x.2.2.2.length ∧ (∀ (i y : Nat) (D : Dc), evs[i]? = some y → x.2.2.2[i]? = some D → evR D y) ∧ btX h0 N cl U x.1) ∧ (t = 12 → ∀ i, (ll h0 (fR h0 1494 (aX h0 t md m a)))[aM h0 1494 (md == 1) m (aX h0 t md m a) - 1]? = some i → tyC h0 N cl U (eTy l) (fR h0 1510 i) ∧ tyC h0 N cl U (eCt l) (fR h0 1514 i))
section LXD
variable (G : om_G) (N : List (List Int)) (cl : Nat → Nat) (U Sl : Nat → Prop) (fo mo : Nat → Nat) (ab : List (Option Nat)) (ins : List INs) (gv : List GVs) (nm con fam cnm : Nat → List Int) (te s : Nat) (E : om_H → Prop) (K : om_H → om_H → Prop) (h0 : om_H) (evR : Dc → Nat → Prop)
/-- its object -/
noncomputable def XCt (e : Et) (d dp md m a alo ahi : Nat) : Prop := XCg Prod.fst (PhT N cl U Sl h0 evR) G h0 N cl U Sl fo mo e d dp md m a alo ahi
def corE : Et → List Int
  | .leaf => []
  | .inner t a _ l r => corB nm con fam cnm ab ins gv t a l r
/-- it is told as a whole; as the first items of a use; as the first of a chain -/
def WHI (e : Et) : Prop := ∀ d dp a alo ahi F, XCt G N cl U Sl fo mo h0 evR e d dp 0 0 a alo ahi → dp + 1 ≤ F → RXt G te s E K h0 (C_6_plainD G F) a (exB nm con fam cnm ab ins gv e []) ∧ a < hz h0 ∧ 24 ≤ kd h0 a ∧ kd h0 a ≤ 32 ∧ kd h0 a ≠ 31
def SPI (e : Et) : Prop := ∀ d dp M a alo ahi F, XCt G N cl U Sl fo mo h0 evR e d dp 1 M a alo ahi → (a < hz h0 ∧ kd h0 a = 30) → dp ≤ F → ∃ P Q f0 cor, corE ab ins gv nm con fam cnm e = P ++ cor ++ Q ∧ SPn G te s E K h0 (C_6_plainD G F) a M f0 P Q ∧ (∀ h, K h0 h → C_6_first G a h = some (f0 : Int)) ∧ RPt s E K h0 te (C_6_plainD G F) (fR h0 1490 a) cor
def SCI (e : Et) : Prop := ∀ d dp M a alo ahi F, XCt G N cl U Sl fo mo h0 evR e d dp 2 M a alo ahi → (a < hz h0 ∧ kd h0 a = 32) → dp ≤ F → (0 < M → chN e ∧ 2 ≤ (ll h0 (fR h0 1522 a)).length) → ∃ Q L0, exB nm con fam cnm ab ins gv e [] = List.replicate M 40 ++ L0 ++ Q ∧ SCn G te s E K h0 (C_6_plainD G F) a M Q ∧ RXt G te s E K h0 (C_6_plainD G F) (fR h0 1518 a) L0
end LXD
section LXE
variable {G : om_G} {h0 h h1 : om_H} {N : List (List Int)} {cl : Nat → Nat} {U Sx Sl : Nat → Prop} {ins : List INs} {gv : List GVs} {ab : List (Option Nat)} {nm con fam cnm : Nat → List Int} {te s : Nat} {E : om_H → Prop} {K : om_H → om_H → Prop} {k2 : Ty → Ty → Prop} {fo mo : Nat → Nat} {evR : Dc → Nat → Prop} {evT : Dc → Prop}
/-- the cast of what lies left -/
theorem cIt_of (nd : ndN N) (hun : ∀ T a a', tyC h0 N cl U T a → tyC h0 N cl U T a' → a = a') {t i : Nat} {x : XL × Ty × Ty × List Dc} {u : Unit} {l r : Et} (T : eT N cl nm con fam h0 k2 evT (.inner t x u l r)) (t0 : t ≠ 0) (c : tyC h0 N cl U (eTy (.inner t x u l r)) (fR h0 1510 i) ∧ tyC h0 N cl U (eCt (.inner t x u l r)) (fR h0 1514 i)) : cIt h0 N cl U k2 x.2.1 x.2.2.1 i := by
  have c1 : tyC h0 N cl U x.2.1 (fR h0 1510 i) := c.1
  by_cases z : x.2.2.1 = .leaf
  · have e : eCt (.inner t x u l r) = x.2.1 := by
      show (match x.2.2.1 with | .leaf => x.2.1 | .inner k w u l r => .inner k w u l r) = _
      rw [z]
    rw [e] at c
    exact .inl ⟨z, hun _ _ _ c1 c.2⟩
  · have e : eCt (.inner t x u l r) = x.2.2.1 := by
      show (match x.2.2.1 with | .leaf => x.2.1 | .inner k w u l r => .inner k w u l r) = _
      cases q : x.2.2.1 with
      | leaf => exact absurd q z
      | inner k w u l r => rfl
    rw [e] at c
    obtain ⟨q1, q2⟩ := T.1 t0 z
    exact .inr ⟨z, fun w => q2 (tyC_fun nd c1 (by rw [w]; exact c.2)), c1, c.2, q1⟩
theorem XCt_0 {t d dp md m a alo ahi : Nat} {x : XL × Ty × Ty × List Dc} {u : Unit} {l r : Et} (X : XCt G N cl U Sl fo mo h0 evR (.inner t x u l r) d dp md m a alo ahi) : t ≠ 0 := by
  intro z
  subst z
  unfold XCt at X
  rw [XCg_e] at X
  unfold XCb at X
  have X := X.2.2.2
  rw [if_neg (by decide), if_neg (by decide), if_neg (by decide), if_neg (by decide), if_neg (by decide)] at X
  have X := X.2.2
  rw [if_neg (by decide), if_neg (by decide)] at X
  cases r with
  | leaf => exact X
  | inner t' a' u' r1 r2 =>
    have X := X.2
    rw [if_neg (by decide), if_neg (by decide)] at X
    exact X
end LXE
