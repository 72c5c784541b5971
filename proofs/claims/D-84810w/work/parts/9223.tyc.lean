set_option maxRecDepth 100000
/-! THE COMPONENT'S TYPES AS TREES -/
/-- what a type is beyond its parts: constructor, name, family -/
def tyW (h : om_H) (N : List (List Int)) (cl : Nat → Nat) (k w : Nat) (con : Int) (nm fam : Nat) : Prop :=
  (k = 0 ∧ con = 0 ∧ fam = 0 ∧ nm ≠ 0 ∧ (nm < hz h ∧ fR h 1186 nm < hz h) ∧ ∃ L, N[w]? = some L ∧ wb h nm L) ∨
  (k = 1 ∧ con = (w : Int) ∧ fam = 0 ∧ nm = 0) ∨
  (k = 2 ∧ con = 0 ∧ nm = 0 ∧ fam ≠ 0 ∧ fam < hz h ∧ fam = cl w ∧ kd h fam = 18 ∧ fI h 1200 fam = (w : Int)) ∨
  (k = 3 ∧ w = 0 ∧ con = 0 ∧ nm = 0 ∧ fam = 0)
def tmH (k con ns fs as bs : Int) : Int := w32 (w32 (w32 (w32 (w32 (w32 (7 * k) + w32 (31 * con)) + ns) + fs) + as) + bs)
def tmx (k con ns fs as bs : Int) : Int := xor32 (tmH k con ns fs as bs) (ushr32 (tmH k con ns fs as bs) 13)
/-- a type's mark -/
def tmk (N : List (List Int)) : Ty → Option Int
  | .leaf => none
  | .inner k w _ l r => some (tmx (k : Int) (if k = 1 then (w : Int) else 0) (if k = 0 then sumW (N.getD w []) else 0) (if k = 2 then w32 (57 * (w : Int)) else 0) ((tmk N l).elim 0 (fun m => w32 (131 * m))) ((tmk N r).elim 0 (fun m => w32 (1031 * m))))
/-- the component's object of a type; U: those in the tables -/
def tyC (h : om_H) (N : List (List Int)) (cl : Nat → Nat) (U : Nat → Prop) : Ty → Nat → Prop
  | .leaf, a => a = 0
  | .inner k w _ l r, a => (U a ∧ a ≠ 0 ∧ a < hz h) ∧ kd h a = 34 ∧ fI h 1556 a = (k : Int) ∧ tyW h N cl k w (fI h 1560 a) (fR h 1574 a) (fR h 1578 a) ∧ tyC h N cl U l (fR h 1582 a) ∧ tyC h N cl U r (fR h 1586 a) ∧ fI h 1564 a = tszW (tnd k w l r) ∧ fI h 1591 a = thI (tnd k w l r) ∧ tmk N (tnd k w l r) = some (fI h 1568 a)
/-- the same at an address -/
def eqA (a : Nat) (h h' : om_H) : Prop := kd h' a = kd h a ∧ (∀ f, fI h' f a = fI h f a) ∧ (∀ f, fR h' f a = fR h f a) ∧ an h' a = an h a ∧ (∀ k, aI h' a k = aI h a k) ∧ (∀ k, aR h' a k = aR h a k) ∧ ll h' a = ll h a ∧ lc h' a = lc h a
theorem eqA_refl (a : Nat) (h : om_H) : eqA a h h := ⟨rfl, fun _ => rfl, fun _ => rfl, rfl, fun _ => rfl, fun _ => rfl, rfl, rfl⟩
theorem eqA_trans {a : Nat} {h h1 h2 : om_H} (A : eqA a h h1) (B : eqA a h1 h2) : eqA a h h2 := by
  obtain ⟨a1, a2, a3, a4, a5, a6, a7, a8⟩ := A
  obtain ⟨b1, b2, b3, b4, b5, b6, b7, b8⟩ := B
  exact ⟨b1.trans a1, fun f => (b2 f).trans (a2 f), fun f => (b3 f).trans (a3 f), b4.trans a4, fun f => (b5 f).trans (a5 f), fun f => (b6 f).trans (a6 f), b7.trans a7, b8.trans a8⟩
/-- only addresses of D are written -/
def hT (D : Nat → Prop) (h h' : om_H) : Prop := hz h ≤ hz h' ∧ hu h ≤ hu h' ∧ (∀ a, a < hz h → kd h' a = kd h a) ∧ ∀ a, a < hz h → ¬ D a → eqA a h h'
theorem hT_refl (D : Nat → Prop) (h : om_H) : hT D h h := ⟨Nat.le_refl _, Nat.le_refl _, fun _ _ => rfl, fun a _ _ => eqA_refl a h⟩
theorem hT_trans {D D' : Nat → Prop} {h h1 h2 : om_H} (A : hT D h h1) (B : hT D' h1 h2) (s : ∀ a, a < hz h → D' a → D a) : hT D h h2 := ⟨Nat.le_trans A.1 B.1, Nat.le_trans A.2.1 B.2.1, fun a ha => (B.2.2.1 a (Nat.lt_of_lt_of_le ha A.1)).trans (A.2.2.1 a ha), fun a ha nd => eqA_trans (A.2.2.2 a ha nd) (B.2.2.2 a (Nat.lt_of_lt_of_le ha A.1) (fun z => nd (s a ha z)))⟩
theorem hT_mono {D D' : Nat → Prop} {h h' : om_H} (A : hT D h h') (s : ∀ a, a < hz h → D a → D' a) : hT D' h h' := ⟨A.1, A.2.1, A.2.2.1, fun a ha nd => A.2.2.2 a ha (fun z => nd (s a ha z))⟩
/-- what is written is no word, no text, and of a family not its number -/
def dOK (D : Nat → Prop) (h h' : om_H) : Prop := ∀ a, D a → kd h a ≠ 17 ∧ kd h a ≠ 50 ∧ (kd h a = 18 → fI h' 1200 a = fI h 1200 a)
/-- more names -/
def sNN (N N' : List (List Int)) : Prop := ∀ (i : Nat) (L : List Int), N[i]? = some L → N'[i]? = some L
/-- each name once -/
def ndN (N : List (List Int)) : Prop := ∀ (i j : Nat) (L : List Int), N[i]? = some L → N[j]? = some L → i = j
section LTC
variable {h h' : om_H} {N N' : List (List Int)} {cl : Nat → Nat} {U U' D : Nat → Prop} {k w k' w' : Nat} {con con' : Int} {nm nm' fam fam' a a' : Nat}
theorem wb_hT {L : List Int} (X : hT D h h') (d : dOK D h h') (h1 : w < hz h) (h2 : fR h 1186 w < hz h) (H : wb h w L) : wb h' w L := by
  have e1 := X.2.2.2 w h1 (fun z => (d w z).1 H.1)
  have e2 := X.2.2.2 _ h2 (fun z => (d _ z).2.1 H.2.1)
  exact wb_keep H e1.1 e2.1 e1.2.1 e1.2.2.1 e2.2.2.2.1 e2.2.2.2.2.1
theorem tyW_hT (X : hT D h h') (d : dOK D h h') (sN : sNN N N') (H : tyW h N cl k w con nm fam) : tyW h' N' cl k w con nm fam := by
  rcases H with ⟨c1, c2, c3, c4, c5, L, c6, c7⟩ | c | ⟨c1, c2, c3, c4, c5, c6, c7, c8⟩ | c
  · have e1 := X.2.2.2 nm c5.1 (fun z => (d nm z).1 c7.1)
    exact .inl ⟨c1, c2, c3, c4, ⟨Nat.lt_of_lt_of_le c5.1 X.1, by rw [e1.2.2.1]; exact Nat.lt_of_lt_of_le c5.2 X.1⟩, L, sN w L c6, wb_hT X d c5.1 c5.2 c7⟩
  · exact .inr (.inl c)
  · have e1 : fI h' 1200 fam = fI h 1200 fam := by
      by_cases z : D fam
      · exact (d fam z).2.2 c7
      · exact (X.2.2.2 fam c5 z).2.1 1200
    exact .inr (.inr (.inl ⟨c1, c2, c3, c4, Nat.lt_of_lt_of_le c5 X.1, c6, by rw [X.2.2.1 fam c5]; exact c7, by rw [e1]; exact c8⟩))
  · exact .inr (.inr (.inr c))
theorem tyW_k (H : tyW h N cl k w con nm fam) : k ≤ 3 := by
  rcases H with c | c | c | c <;> omega
theorem getD_of {i : Nat} {L : List Int} (e : N[i]? = some L) : N.getD i [] = L := by
  rw [List.getD_eq_getElem?_getD, e]; rfl
theorem tmk_N (sN : sNN N N') : ∀ {T : Ty} {a : Nat}, tyC h N cl U T a → tmk N' T = tmk N T
  | .leaf, _, _ => rfl
  | .inner k w _ l r, a, ⟨c0, c1, c2, c3, c4, c5, _⟩ => by
    unfold tmk
    rw [tmk_N sN c4, tmk_N sN c5]
    have e : (if k = 0 then sumW (N'.getD w []) else 0) = (if k = 0 then sumW (N.getD w []) else 0) := by
      by_cases z : k = 0
      · rw [if_pos z, if_pos z]
        rcases c3 with ⟨_, _, _, _, _, L, q, _⟩ | c | c | c
        · rw [getD_of q, getD_of (sN w L q)]
        · omega
        · omega
        · omega
      · rw [if_neg z, if_neg z]
    rw [e]
theorem tyC_hT (X : hT D h h') (d : dOK D h h') (dU : ∀ a, U a → ¬ D a) (sU : ∀ a, U a → U' a) (sN : sNN N N') : ∀ {T : Ty} {a : Nat}, tyC h N cl U T a → tyC h' N' cl U' T a
  | .leaf, _, c => c
  | .inner k w _ l r, a, c => by
    have cc := c
    obtain ⟨c0, c1, c2, c3, c4, c5, c6, c7, c8⟩ := c
    have e := X.2.2.2 a c0.2.2 (dU a c0.1)
    refine ⟨⟨sU a c0.1, c0.2.1, Nat.lt_of_lt_of_le c0.2.2 X.1⟩, by rw [e.1]; exact c1, by rw [e.2.1]; exact c2, ?_, ?_, ?_, by rw [e.2.1]; exact c6, by rw [e.2.1]; exact c7, ?_⟩
    · rw [e.2.1, e.2.2.1, e.2.2.1]; exact tyW_hT X d sN c3
    · rw [e.2.2.1]; exact tyC_hT X d dU sU sN c4
    · rw [e.2.2.1]; exact tyC_hT X d dU sU sN c5
    · rw [e.2.1, ← c8]; exact tmk_N sN cc
theorem tyC_U (sU : ∀ a, U a → U' a) : ∀ {T : Ty} {a : Nat}, tyC h N cl U T a → tyC h N cl U' T a
  | .leaf, _, c => c
  | .inner k w _ l r, a, ⟨c0, c1, c2, c3, c4, c5, c6⟩ => ⟨⟨sU a c0.1, c0.2⟩, c1, c2, c3, tyC_U sU c4, tyC_U sU c5, c6⟩
theorem tyC_0 : ∀ {T : Ty} {a : Nat}, tyC h N cl U T a → (a = 0 ↔ T = .leaf)
  | .leaf, _, c => ⟨fun _ => rfl, fun _ => c⟩
  | .inner _ _ _ _ _, _, c => ⟨fun z => absurd z c.1.2.1, fun z => by cases z⟩
theorem tyW_fun (hN : ndN N) (A : tyW h N cl k w con nm fam) (B : tyW h N cl k w' con nm fam) : w = w' := by
  rcases A with ⟨a1, a2, a3, a4, a5, L, a6, a7⟩ | a | ⟨a1, a2, a3, a4, a5, a6, a7, a8⟩ | a
  · rcases B with ⟨b1, b2, b3, b4, b5, M, b6, b7⟩ | b | b | b
    · exact hN w w' L a6 (by rw [wb_fun a7 b7]; exact b6)
    · omega
    · omega
    · omega
  · rcases B with b | b | b | b <;> omega
  · rcases B with b | b | ⟨b1, b2, b3, b4, b5, b6, b7, b8⟩ | b <;> omega
  · rcases B with b | b | b | b <;> omega
theorem tyC_fun (hN : ndN N) : ∀ {T T' : Ty} {a : Nat}, tyC h N cl U T a → tyC h N cl U T' a → T = T'
  | .leaf, .leaf, _, _, _ => rfl
  | .leaf, .inner _ _ _ _ _, _, c, d => absurd c d.1.2.1
  | .inner _ _ _ _ _, .leaf, _, c, d => absurd d c.1.2.1
  | .inner k w _ l r, .inner k' w' _ l' r', a, ⟨c0, c1, c2, c3, c4, c5, _⟩, ⟨d0, d1, d2, d3, d4, d5, _⟩ => by
    have e1 : k = k' := by omega
    subst e1
    rw [tyW_fun hN c3 d3, tyC_fun hN c4 d4, tyC_fun hN c5 d5]
/-- one object for each type -/
def cOne (h : om_H) (N : List (List Int)) (cl : Nat → Nat) (U : Nat → Prop) : Prop := ∀ (T : Ty) (a b : Nat), tyC h N cl U T a → tyC h N cl U T b → a = b
/-- whether an object is the type that is asked for -/
theorem c_alike {G : om_G} {l r l' r' : Ty} {x y z : Nat} (hN : ndN N) (h1 : cOne h N cl U) (X : tyC h N cl U (tnd k' w' l' r') x) (W : tyW h N cl k w con nm fam) (Y : tyC h N cl U l y) (Z : tyC h N cl U r z) : ∃ v : Int, C_34_isAlike G x (k : Int) con nm fam y z h = some v ∧ (v = 0 ∨ v = 1) ∧ (v = 1 ↔ tnd k' w' l' r' = tnd k w l r) := by
  obtain ⟨c0, c1, c2, c3, c4, c5, _⟩ := X
  have no : ∀ {P : Prop}, ¬ P → (tnd k' w' l' r' = tnd k w l r → P) → ∃ v : Int, C_34_isAlike_63 G 0 h = some v ∧ (v = 0 ∨ v = 1) ∧ (v = 1 ↔ tnd k' w' l' r' = tnd k w l r) := fun np q => by
    refine ⟨0, ?_, .inl rfl, ⟨fun z => by omega, fun z => absurd (q z) np⟩⟩
    unfold C_34_isAlike_63
    exact gd_pos (.inl rfl)
  have yes : tnd k' w' l' r' = tnd k w l r → ∃ v : Int, C_34_isAlike_63 G 1 h = some v ∧ (v = 0 ∨ v = 1) ∧ (v = 1 ↔ tnd k' w' l' r' = tnd k w l r) := fun q => by
    refine ⟨1, ?_, .inr rfl, ⟨fun _ => q, fun _ => rfl⟩⟩
    unfold C_34_isAlike_63
    exact gd_pos (.inr rfl)
  unfold C_34_isAlike
  rw [gd_pos c1, c2]
  by_cases q1 : k' = k
  · subst q1
    rw [if_neg (fun z => z rfl), gd_pos c1]
    by_cases q2 : fI h 1560 x = con
    · rw [if_neg (fun z => z q2), gd_pos c1]
      by_cases q3 : fR h 1582 x = y
      · rw [if_neg (fun z => z q3), gd_pos c1]
        by_cases q4 : fR h 1586 x = z
        · rw [if_neg (fun z => z q4), gd_pos c1]
          by_cases q5 : fR h 1578 x = fam
          · rw [if_neg (fun z => z q5)]
            have el : l' = l := tyC_fun hN c4 (by rw [q3]; exact Y)
            have er : r' = r := tyC_fun hN c5 (by rw [q4]; exact Z)
            have iff : tnd k' w' l' r' = tnd k' w l r ↔ w' = w := by
              rw [el, er]
              constructor
              · intro z; injection z
              · intro z; rw [z]
            by_cases q6 : k' = 0
            · rw [if_neg (by omega)]
              rcases c3 with ⟨a1, a2, a3, a4, a5, L, a6, a7⟩ | a | a | a
              · rcases W with ⟨b1, b2, b3, b4, b5, M, b6, b7⟩ | b | b | b
                · rw [gd_pos ⟨c1, a7.1⟩, c_is2 a7 b7]
                  by_cases e : L = M
                  · rw [if_pos e, Option.bind_some, if_neg (by decide)]
                    exact yes (iff.mpr (hN _ _ L a6 (by rw [e]; exact b6)))
                  · rw [if_neg e, Option.bind_some, if_pos rfl]
                    exact no e (fun z => by have z' := iff.mp z; rw [z', b6] at a6; exact (Option.some.inj a6).symm)
                · omega
                · omega
                · omega
              · omega
              · omega
              · omega
            · rw [if_pos (by omega)]
              have ew : w' = w := by
                rw [q2, q5] at c3
                rcases c3 with a | a | ⟨a1, a2, a3, a4, a5, a6, a7, a8⟩ | a
                · omega
                · rcases W with b | b | b | b <;> omega
                · rcases W with b | b | ⟨b1, b2, b3, b4, b5, b6, b7, b8⟩ | b <;> omega
                · rcases W with b | b | b | b <;> omega
              exact yes (iff.mpr ew)
          · rw [if_pos q5]
            refine no q5 (fun z => ?_)
            injection z with z1 z2 z3 z4 z5
            subst z2
            rcases c3 with a | a | ⟨a1, a2, a3, a4, a5, a6, a7, a8⟩ | a
            · rcases W with b | b | b | b <;> omega
            · rcases W with b | b | b | b <;> omega
            · rcases W with b | b | ⟨b1, b2, b3, b4, b5, b6, b7, b8⟩ | b <;> omega
            · rcases W with b | b | b | b <;> omega
        · rw [if_pos q4]
          refine no q4 (fun z => ?_)
          injection z with z1 z2 z3 z4 z5
          rw [z5] at c5
          exact h1 r _ _ c5 Z
      · rw [if_pos q3]
        refine no q3 (fun z => ?_)
        injection z with z1 z2 z3 z4 z5
        rw [z4] at c4
        exact h1 l _ _ c4 Y
    · rw [if_pos q2]
      refine no q2 (fun z => ?_)
      injection z with z1 z2 z3 z4 z5
      subst z2
      rcases c3 with a | a | a | a <;> (rcases W with b | b | b | b <;> omega)
  · rw [if_pos (by omega)]
    refine no q1 (fun z => ?_)
    injection z
end LTC
