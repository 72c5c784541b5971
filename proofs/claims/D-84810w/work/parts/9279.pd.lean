set_option maxRecDepth 100000
/-! THE PROGRAM AS DATA, out of what was read -/
/-- a word of the range -/
def wR (A : Nat) (S : List Int) (h : om_H) (z0 z1 w j : Nat) : Prop := z0 ≤ w ∧ w < z1 ∧ wd h A S w j
/-- a word, or none -/
def oC (A : Nat) (S : List Int) (h : om_H) (z0 z1 w : Nat) (o : Option Nat) : Prop := (o = none ∧ w = 0) ∨ ∃ j, o = some j ∧ w ≠ 0 ∧ wR A S h z0 z1 w j
/-- methods, in the component -/
def mC (A : Nat) (S : List Int) (h : om_H) (z0 z1 c : Nat) : Nat → List Nat → List Nat → Prop
  | _, [], [] => True
  | k, x :: xs, j :: js => ((z0 ≤ x ∧ x < z1) ∧ kd h x = 19 ∧ wR A S h z0 z1 (fR h 1242 x) j ∧ fR h 1250 x = c ∧ fI h 1252 x = (k : Int)) ∧ mC A S h z0 z1 c (k + 1) xs js
  | _, _, _ => False
/-- a class, in the component -/
def clsC (A : Nat) (S : List Int) (h : om_H) (z0 z1 c : Nat) (p : PD) (nb : Int) : Prop := (z0 ≤ c ∧ c < z1) ∧ (kd h c = 18 ∧ fI h 1196 c = (tokq S p.2.1 : Int) ∧ fI h 1200 c = nb) ∧ wR A S h z0 z1 (fR h 1206 c) (p.2.1 + 1) ∧ oC A S h z0 z1 (fR h 1210 c) p.2.2.1 ∧ oC A S h z0 z1 (fR h 1214 c) p.2.2.2.1 ∧ ((z0 ≤ fR h 1230 c ∧ fR h 1230 c < z1) ∧ kd h (fR h 1230 c) = 42 ∧ mC A S h z0 z1 c 0 (ll h (fR h 1230 c)) p.2.2.2.2) ∧ ((z0 ≤ fR h 1234 c ∧ fR h 1234 c < z1) ∧ kd h (fR h 1234 c) = 42 ∧ ∃ w, ll h (fR h 1234 c) = [w] ∧ wR A S h z0 z1 w (p.2.1 + 2)) ∧ (fI h 1219 c = 0 ∧ fI h 1223 c = 0 ∧ fR h 1226 c = 0) ∧ tokk S (p.2.1 + 1) = 3 ∧ (∀ f ∈ p.2.2.2.1, p.2.1 + 3 ≤ f) ∧ (∀ j ∈ p.2.2.2.2, p.2.1 ≤ j ∧ tokk S j = 2) ∧ ∀ a ∈ p.2.2.1, p.2.1 ≤ a
section LPD2
variable {G : om_G} {A : Nat} {S : List Int} {b m : Nat} {h : om_H} {σ : tS} {z0 z1 : Nat}
theorem wR_wide {y0 y1 w j : Nat} (h1 : y0 ≤ z0) (h2 : z1 ≤ y1) (H : wR A S h z0 z1 w j) : wR A S h y0 y1 w j := ⟨by have := H.1; omega, by have := H.2.1; omega, H.2.2⟩
theorem owd_oC {ahi w : Nat} {x : Int} (h2 : ahi ≤ z1) (o : owd A S b h z0 ahi w x) : ∃ p : Option Nat, x = oT b p ∧ (∀ j ∈ p, tokk S j = 3) ∧ oC A S h z0 z1 w p := by
  rcases o with ⟨o1, o2⟩ | ⟨j, o1, o2, o3, o4, o5, o6⟩
  · exact ⟨none, o2, fun j hj => (by cases hj), .inl ⟨rfl, o1⟩⟩
  · exact ⟨some j, o1, fun i hi => by have e : j = i := Option.some.inj hi; rw [← e]; exact o2, .inr ⟨j, rfl, o3, o4, by omega, o6⟩⟩
theorem mrows_pd {c j0 : Nat} : ∀ {k : Nat} {xs os : List Nat} {lo hi alo ahi : Nat}, mrows A S b h σ c k xs os lo hi alo ahi → z0 ≤ alo → ahi ≤ z1 → hi ≤ 8400 → (∀ i : Nat, lo ≤ i → i < hi → ((b + j0 : Nat) : Int) ≤ ga σ 542 i) → ∃ js, mT S b σ os js ∧ mC A S h z0 z1 c k xs js ∧ ∀ j ∈ js, j0 ≤ j ∧ tokk S j = 2
  | _, [], [], _, _, _, _, _, _, _, _, _ => ⟨[], trivial, trivial, fun j hj => absurd hj List.not_mem_nil⟩
  | k, x :: xs, o :: os, lo, hi, alo, ahi, ⟨kk, a1, a2, p, j, q1, q2, q3, q4, q5⟩, h1, h2, h3, nv => by
    obtain ⟨c1, c2, c3, c4, c5⟩ := mrows_in q5
    have i := WR_in q1
    obtain ⟨js, r1, r2, r3⟩ := mrows_pd (j0 := j0) q5 (by omega) h2 h3 (fun x y z => nv x (by omega) z)
    have nvo := nv o (by omega) (by omega)
    rw [q2.2.1] at nvo
    exact ⟨j :: js, ⟨⟨by omega, q2.2.1, q2.2.2.1⟩, r1⟩, ⟨⟨⟨by omega, by omega⟩, q4.1, ⟨by omega, by omega, q4.2.1⟩, q4.2.2⟩, r2⟩, fun l hl => by
      rcases List.mem_cons.mp hl with e | hl
      · rw [e]; exact ⟨by omega, q2.2.2.1⟩
      · exact r3 l hl⟩
  | _, [], _ :: _, _, _, _, _, r, _, _, _, _ => r.elim
  | _, _ :: _, [], _, _, _, _, r, _, _, _, _ => r.elim
theorem cls_pd {lo hi c d j0 : Nat} {nb : Int} (w : clsR A S b h σ lo hi z0 z1 c d j0 nb) (hd : d < 700) (hj : j0 ≤ m) (hh : hi ≤ 8400) (nv : nvR ((b + j0 : Nat) : Int) lo hi d σ) : ∃ p : PD, (p.1 = 5 ∧ p.2.1 = j0) ∧ dTw S b m σ d p ∧ clsC A S h z0 z1 c p nb := by
  obtain ⟨w1, w2, Lm, Ln, ar, ab, fam, am, ms, ns, a1, a2, a3, a4, a5, a6, a7, a8, a9, a10, a11⟩ := w
  obtain ⟨⟨e1, e2, e3, e4, e5, e6⟩, e12, ⟨e7, e8, e9⟩, ⟨e10, e11⟩, _⟩ := a1
  obtain ⟨abo, b1, b2, b3⟩ := owd_oC (z1 := z1) (by omega) a5
  obtain ⟨fo, c1, c2, c3⟩ := owd_oC (z1 := z1) (by omega) a6
  obtain ⟨js, d1, d2, d3⟩ := mrows_pd (z0 := z0) (z1 := z1) (j0 := j0) a8 (by omega) (Nat.le_refl _) hh (fun i x y => (nv.2 i x y).1)
  refine ⟨(5, j0, abo, fo, js), ⟨rfl, rfl⟩, ⟨⟨hd, hj⟩, a11.1.1, a11.1.2.1, .inl ⟨rfl, ⟨a11.1.2.2.1, a3.2.2.2⟩, ⟨a11.1.2.2.2, a4.2.2.2⟩, ⟨b1, b2⟩, ⟨c1, c2⟩, ns, a9, d1⟩⟩, ⟨a2.1.1, by omega⟩, ⟨e1, e2, e3⟩, ?_, ?_, ?_, ?_, ?_, e12, a3.2.2.2, fun f hf => a11.2 f (by rw [c1, show fo = some f from hf]; rfl), d3, fun x hx => by
    have n6 := nv.1 586 (by simp)
    rw [b1, show abo = some x from hx] at n6
    have n6 : ((b + x : Nat) : Int) = -1 ∨ ((b + j0 : Nat) : Int) ≤ ((b + x : Nat) : Int) := n6
    show j0 ≤ x
    omega⟩
  · rw [e4]; exact ⟨a3.1, by omega, a3.2.2.1⟩
  · rw [e5]; exact b3
  · rw [e6]; exact c3
  · rw [e7, a7.2]; exact ⟨⟨a2.2.1.1, by omega⟩, a7.1, d2⟩
  · rw [e8]; exact ⟨⟨a2.2.2.1.1, by omega⟩, e10, w2, e11, a4.1, by omega, a4.2.2.1⟩
/-- a function and an inst, in the component -/
def funC (A : Nat) (S : List Int) (h : om_H) (z0 z1 f : Nat) (p : PD) (nb : Int) : Prop := (z0 ≤ f ∧ f < z1) ∧ (kd h f = 33 ∧ fI h 1532 f = nb) ∧ wR A S h z0 z1 (fR h 1530 f) p.2.1
def insC (S : List Int) (h : om_H) (z0 z1 f : Nat) (p : PD) (nb : Int) : Prop := (z0 ≤ f ∧ f < z1) ∧ kd h f = 21 ∧ fI h 1276 f = (tokq S p.2.1 : Int) ∧ fI h 1280 f = nb
theorem fun_pd {lo hi f d j0 : Nat} {nb : Int} (w : funR G A S b h σ lo hi z0 z1 f d j0 nb) (hd : d < 700) (hj : j0 ≤ m) : ∃ p : PD, (p.1 = 2 ∧ p.2.1 = j0) ∧ dTw S b m σ d p ∧ funC A S h z0 z1 f p nb := by
  obtain ⟨w, sc', Ls, Lg, wr, ex, j1, m1, m2, am, ag, a1, a2, a3, nT, nX, kk, ws, xs, os, b1, b2, b3, b4, b5, b6, b7, b8, b9⟩ := w
  have gi := grows_in b5.2.2.1
  have wi := WR_in b6
  have xi := XR_in _ _ _ _ _ _ _ b7
  refine ⟨(2, j0, none, none, []), ⟨rfl, rfl⟩, ⟨⟨hd, hj⟩, b9.1, b9.2.1, .inr (.inr ⟨rfl, b9.2.2.1, b3.2.2.2⟩)⟩, ⟨b2.1.1, by omega⟩, ⟨b1.1.1, b1.1.2.2.1⟩, ?_⟩
  rw [b1.1.2.1]
  exact ⟨b3.1, by omega, b3.2.2.1⟩
theorem ins_pd {lo hi f d j0 : Nat} {nb : Int} (w : insR G A S b h σ lo hi z0 z1 f d j0 nb) (hd : d < 700) (hj : j0 ≤ m) : ∃ p : PD, (p.1 = 6 ∧ p.2.1 = j0) ∧ dTw S b m σ d p ∧ insC S h z0 z1 f p nb := by
  obtain ⟨sc', Ls, Lg, Lh, Ll, cn, con, fam, fw, j1, jc, jn, m1, m2, a0, a1, a2, am, first, xs, os, ws, ls, ns, dv, dv', b1, b2, b3, b4, b5, b6, b7, b8, b9, ⟨r1, r2, r3, r4, r5, r6, r7, r8, r9, r10, r11, r12, r13⟩⟩ := w
  have e : dv' 570 = dv 570 ∧ dv' 574 = dv 574 := by
    rcases b6 with z | ⟨jf, kk, p, x1, x2, _, _, _, _, _, _, _, _, z⟩
    · rw [z.2.2.2]; exact ⟨rfl, rfl⟩
    · rw [z]; exact ⟨rfl, rfl⟩
  refine ⟨(6, j0, none, none, []), ⟨rfl, rfl⟩, ⟨⟨hd, hj⟩, ?_, ?_, .inr (.inl rfl)⟩, ⟨r1.1, by omega⟩, b2.1.1, b2.1.2.1, b2.1.2.2.1⟩
  · rw [b8 570 (by simp) (by decide), e.1]; exact b9.1
  · rw [b8 574 (by simp) (by decide), e.2]; exact b9.2.1
end LPD2
