set_option maxRecDepth 100000
/-! EXS THAT ARE KNOWN, AS TREES: what comes of one; names -/
/-- the types of a label are not too big, nor too deep -/
def lbD (lb : XL) : Prop := ∀ p ∈ lb.2.2.2.2.2, tsz p.1 ≤ 2700 ∧ tdp p.1 ≤ 59
/-- what else there is at a node -/
def Fx (σ : tS) (lb : XL) (v : Nat) : Prop := (ga σ 538 v = 11 → ∃ k : Nat, ga σ 542 v = (k : Int) ∧ k < 4100 ∧ ga σ 482 k = (lb.2.1 : Int) ∧ lb.2.1 < 1000000) ∧ ((ga σ 538 v = 14 ∨ ga σ 538 v = 15) → ∃ k : Nat, ga σ 546 v = (k : Int) ∧ k < 4100 ∧ ga σ 482 k = (lb.2.2.2.1 : Int) ∧ lb.2.2.2.1 < 2100) ∧ (ga σ 538 v = 17 → ∃ k : Nat, ga σ 554 v = (k : Int) ∧ k + 1 < 4100 ∧ (ga σ 482 k = (lb.2.2.2.1 : Int) ∧ lb.2.2.2.1 < 2100) ∧ ga σ 482 (k + 1) = (lb.2.2.2.2.1 : Int) ∧ lb.2.2.2.2.1 < 2100) ∧ (ga σ 538 v = 18 → ∃ k : Nat, ga σ 542 v = (k : Int) ∧ k < 4100 ∧ (lb.2.1 : Int) = sgv (ga σ 470 k) ∧ (ga σ 470 k = 17 ∨ ga σ 470 k = 60 ∨ ga σ 470 k = 43 ∨ ga σ 470 k = 45 ∨ ga σ 470 k = 42)) ∧ lbD lb ∧ ((ga σ 538 v = 14 ∨ ga σ 538 v = 15) → ∃ p, lb.2.2.2.2.2 = [p])
/-- how many names have @s -/
def xU : Xt → Nat
  | .leaf => 0
  | .inner t lb _ l r => (if t = 10 ∧ lb.2.2.2.2.2 ≠ [] then 1 else 0) + xU l + xU r
/-- how many nodes below k are names with @s, or lines -/
def ctP (σ : tS) : Nat → Nat
  | 0 => 0
  | k + 1 => ctP σ k + (if (ga σ 538 k = 10 ∧ ga σ 546 k ≠ -1) ∨ ga σ 538 k = 22 then 1 else 0)
theorem ctP_mono {σ : tS} : ∀ {a b : Nat}, a ≤ b → ctP σ a ≤ ctP σ b
  | a, 0, h => by
    have e : a = 0 := by omega
    rw [e]
    exact Nat.le_refl _
  | a, b + 1, h => by
    by_cases q : a = b + 1
    · rw [q]; exact Nat.le_refl _
    · have := ctP_mono (σ := σ) (a := a) (b := b) (by omega)
      show ctP σ a ≤ ctP σ b + _
      omega
theorem lch {α : Type} {P : Nat → α → Prop} : ∀ n : Nat, (∀ i, i < n → ∃ p, P i p) → ∃ l : List α, l.length = n ∧ ∀ i p, l[i]? = some p → P i p
  | 0, _ => ⟨[], rfl, fun i p e => by cases e⟩
  | n + 1, H => by
    obtain ⟨l, l1, l2⟩ := lch n (fun i hi => H i (by omega))
    obtain ⟨p, hp⟩ := H n (by omega)
    refine ⟨l ++ [p], by rw [List.length_append, l1]; rfl, fun i q e => ?_⟩
    by_cases c : i < n
    · rw [List.getElem?_append_left (by omega)] at e
      exact l2 i q e
    · have li := (List.getElem?_eq_some_iff.mp e).1
      rw [List.length_append, List.length_singleton] at li
      have ei : i = n := by omega
      rw [List.getElem?_append_right (by omega), l1, ei, Nat.sub_self] at e
      rw [ei, ← Option.some.inj e]
      exact hp
/-- what there is around: lists from y0 on stand; names and types are well formed -/
def XH (G : om_G) (A : Nat) (S : List Int) (b m : Nat) (N : List (List Int)) (fo : List Nat) (F : FT) (mo : List (List Nat)) (Ms : List FT) (fo' mo' : Nat → Nat) (E : JE) (Sl : Nat → Prop) (y0 z0 : Nat) (h : om_H) (σ : tS) (n : Nat) : Prop := XE A S b m N fo F mo Ms fo' mo' h σ ∧ ((∀ y, y0 ≤ y → y < hz h → kd h y = 42 → ll h y ≠ [] → Sl y) ∧ y0 ≤ z0 ∧ 0 < y0) ∧ (∀ d k i, nmI F Ms d k i → (k = 0 ∧ i < d) ∨ (k = 1 ∧ i < E.1.length) ∨ (k = 2 ∧ ∃ m, E.2.1[i]? = some (some m)) ∨ (k = 3 ∧ i < 7)) ∧ (∀ T t, tyQ 2700 59 T → tyT σ n T t → tyOk E.2.2.2.1 T) ∧ intO G
/-- a name with its label -/
def NmL (N : List (List Int)) (cl : Nat → Nat) (U Sl : Nat → Prop) (fo mo : Nat → Nat) (E : JE) (h : om_H) (σ : tS) (n : Nat) (lb : XL) (d lo hi a v : Nat) : Prop := nmC h N cl U Sl fo mo lb d a ∧ (tkP σ v lb.1 ∧ nmTw σ n lb hi v) ∧ nok E lb d ∧ fR h 1482 a = 0 ∧ tsz (lbT lb) ≤ hi - (lo + 1) ∧ (lb.2.2.2.2.2 ≠ [] → ga σ 546 v ≠ -1) ∧ lbD lb
/-- AN EX AS A TREE, in both -/
def XO (G : om_G) (N : List (List Int)) (cl : Nat → Nat) (U Sl : Nat → Prop) (fo mo : Nat → Nat) (E : JE) (h : om_H) (σ : tS) (n : Nat) (t : Xt) (d k lo hi alo ahi a v : Nat) : Prop := XTg id (Fx σ) σ n t lo hi v ∧ (∀ alo' ahi', alo' ≤ alo → ahi ≤ ahi' → ahi' ≤ hz h → XCg id (Ph0 h) G h N cl U Sl fo mo t d (k + 1) 0 0 a alo' ahi') ∧ xok E t d ∧ (xsz t ≤ 3 * (hi - lo) ∧ xnN t ≤ 2 * (hi - lo)) ∧ (xbd t ≤ 2 * k ∧ xrd t ≤ k) ∧ xU t + ctP σ lo ≤ ctP σ hi
section LXO
variable {G : om_G} {A : Nat} {S : List Int} {b m : Nat} {N : List (List Int)} {cs : List Nat} {rest : List (Nat × List Nat)} {fo : List Nat} {F : FT} {mo : List (List Nat)} {Ms : List FT} {fo' mo' : Nat → Nat} {E : JE} {Sl : Nat → Prop} {y0 z0 : Nat} {h : om_H} {us : List Nat} {σ : tS} {n d k lo hi alo ahi a v : Nat}
theorem atsR_i : ∀ {xs os : List Nat}, atsR S b h σ alo ahi xs os → ∀ (i x o : Nat), xs[i]? = some x → os[i]? = some o → (alo ≤ x ∧ x < ahi) ∧ atIt S b h σ x o
  | [], [], _, i, x, o, e, _ => by cases e
  | [], _ :: _, w, _, _, _, _, _ => w.elim
  | _ :: _, [], w, _, _, _, _, _ => w.elim
  | x0 :: xs, o0 :: os, w, 0, x, o, e1, e2 => by
    obtain ⟨w1, w2, w3, _⟩ := w
    rw [← Option.some.inj e1, ← Option.some.inj e2]
    exact ⟨⟨w1, w2⟩, w3⟩
  | x0 :: xs, o0 :: os, w, i + 1, x, o, e1, e2 => atsR_i w.2.2.2 i x o e1 e2
theorem tyQ_27 {q k : Nat} {T : Ty} (H : tyQ q k T) (hk : k ≤ 59) : tyQ 2700 59 T := ⟨H.1, H.2.2.2, by have := H.2.2.1; omega, H.2.2.2⟩
/-- a plain name -/
theorem nm_plain (X : XH G A S b m N fo F mo Ms fo' mo' E Sl y0 z0 h σ n) (hA : ahi ≤ hz h) (w : X10 A S b h σ (Psi1 S b N cs rest fo F mo Ms z0 h us σ n d) lo hi alo ahi a v) : ∃ lb : XL, lb.2.2.2.2.2 = [] ∧ NmL N (clF cs) (UU us rest) Sl fo' mo' E h σ n lb d lo hi a v ∧ fI h 1372 a = (lb.1 : Int) ∧ fR h 1382 a = 0 := by
  obtain ⟨k28, k10, ⟨ev, eh⟩, f58, g46, j, ej, tk, p72, rw1, W, P⟩ := w
  obtain ⟨P1, P2, P3, _⟩ := P
  obtain ⟨f82', R⟩ := P2 (.inl rfl)
  obtain ⟨kk, i, wn, q1, q2, q3⟩ := nm_lab X.1 R k28 ej tk p72 (by omega) W
  refine ⟨(tokq S j, kk, i, wn, 0, []), rfl, ⟨⟨q2.1, q2.2, .inl ⟨rfl, f58, P3 rfl⟩⟩, ⟨tk_place X.1.1 ej (by omega), q3.1, q3.2, [], g46, rfl, fun i o a e => by cases e⟩, ⟨X.2.2.1 d kk i q1, fun a ha => absurd ha List.not_mem_nil⟩, f82', Nat.zero_le _, fun z => absurd rfl z, fun a ha => absurd ha List.not_mem_nil⟩, p72, P1 (by decide)⟩
/-- a name with @s -/
theorem nm_ats (X : XH G A S b m N fo F mo Ms fo' mo' E Sl y0 z0 h σ n) (hA : ahi ≤ hz h) (hy : y0 ≤ alo) {xs : List Nat} (w : XN A S b h σ (Psi1 S b N cs rest fo F mo Ms z0 h us σ n d) lo hi alo ahi a v xs) : ∃ lb : XL, (lb.2.2.2.2.2 ≠ [] ∧ xs.length = lb.2.2.2.2.2.length) ∧ NmL N (clF cs) (UU us rest) Sl fo' mo' E h σ n lb d lo hi a v ∧ fI h 1372 a = (lb.1 : Int) ∧ fR h 1382 a = 0 ∧ (∀ (i : Nat) (p : Ty × Nat), lb.2.2.2.2.2[i]? = some p → ∃ x, xs[i]? = some x ∧ (x < hz h ∧ kd h x = 31) ∧ fI h 1504 x = (p.2 : Int)) ∧ xs.length ≤ hi := by
  obtain ⟨i1, i2, i3, i4, k28, k10, ev, j, os, a1, a2, ej, tk, p72, rw1, W, ch, one, oin, rL, L0, Lk, Ll, r1, r2, P, aR'⟩ := w
  obtain ⟨P1, P2, _, _, _, P6⟩ := P
  obtain ⟨f82', R⟩ := P2 (.inr rfl)
  obtain ⟨os', ys, c1, c2, c3, c4, c5⟩ := P6 rfl
  have eo : os' = os := chain_det c1 ch
  subst eo
  obtain ⟨kk, i, wn, q1, q2, q3⟩ := nm_lab X.1 R k28 ej tk p72 (by omega) W
  have xl := atsR_len aR'
  obtain ⟨l, l1, l2⟩ := lch (P := fun i (p : Ty × Nat) => ∃ o y x, os'[i]? = some o ∧ ys[i]? = some y ∧ xs[i]? = some x ∧ (tyQ (hi - (lo + 1)) 59 p.1 ∧ tyC h N (clF cs) (UU us rest) p.1 y ∧ tyT σ n p.1 (ga σ 550 o)) ∧ (kd h x = 31 ∧ x < ahi ∧ fI h 1504 x = (p.2 : Int)) ∧ tkP σ o p.2) os'.length (fun i hi' => by
    have e1 : os'[i]? = some os'[i] := List.getElem?_eq_getElem hi'
    have e2 : ys[i]? = some (ys[i]'(by omega)) := List.getElem?_eq_getElem (by omega)
    have e3 : xs[i]? = some (xs[i]'(by omega)) := List.getElem?_eq_getElem (by omega)
    obtain ⟨T, t1, t2, t3⟩ := c5 i _ _ e1 e2
    obtain ⟨⟨x1, x2⟩, x3, x4, x5, jj, x6, x7, x8⟩ := atsR_i aR' i _ _ e3 e1
    exact ⟨(T, tokq S jj), _, _, _, e1, e2, e3, ⟨t1, t2, t3⟩, ⟨x3, x2, x7⟩, tk_place X.1.1 x6 x8⟩)
  have lne : l ≠ [] := fun z => by
    rw [z] at l1
    exact one (List.length_eq_zero_iff.mp l1.symm)
  have nd : ∀ {f : Int} {ns : List Nat}, chain σ f ns → ns.Nodup := by
    have cm : ∀ {f : Int} {p q : List Nat} {x : Nat}, chain σ f (p ++ x :: q) → chain σ (ga σ 562 x) q := by
      intro f p
      induction p generalizing f with
      | nil => exact fun c => c.2
      | cons y p ih => exact fun c => ih c.2
    intro f ns
    induction ns generalizing f with
    | nil => exact fun _ => List.nodup_nil
    | cons x ns ih =>
      intro c
      refine List.nodup_cons.mpr ⟨fun hm => ?_, ih c.2⟩
      obtain ⟨p, q, e⟩ := List.append_of_mem hm
      have c2' := c.2
      rw [e] at c2'
      have := chain_det (cm c2') c2'
      have ll := congrArg List.length this
      rw [List.length_append, List.length_cons] at ll
      omega
  have pig : ∀ (B : Nat) (l : List Nat), l.Nodup → (∀ x ∈ l, x < B) → l.length ≤ B := by
    have fl : ∀ (b : Nat) (l : List Nat), l.Nodup → l.length ≤ (l.filter (fun x => x != b)).length + 1 := by
      intro b l
      induction l with
      | nil => exact fun _ => Nat.zero_le _
      | cons x l ih =>
        intro nd'
        obtain ⟨n1, n2⟩ := List.nodup_cons.mp nd'
        by_cases c : x = b
        · have e : l.filter (fun x => x != b) = l := List.filter_eq_self.mpr (fun y hy => by
            have : y ≠ b := fun z => n1 (by rw [c, ← z]; exact hy)
            simpa using this)
          rw [List.filter_cons, if_neg (by simpa using c), e]
          exact Nat.le_refl _
        · rw [List.filter_cons, if_pos (by simpa using c), List.length_cons, List.length_cons]
          have := ih n2
          omega
    intro B
    induction B with
    | zero =>
      intro l _ hl
      cases l with
      | nil => exact Nat.le_refl _
      | cons x l => exact absurd (hl x List.mem_cons_self) (by omega)
    | succ B ih =>
      intro l nd' hl
      have := fl B l nd'
      have := ih (l.filter (fun x => x != B)) (List.Pairwise.filter _ nd') (fun x hx => by
        obtain ⟨m1, m2⟩ := List.mem_filter.mp hx
        have h1 := hl x m1
        have h2 : x ≠ B := by simpa using m2
        omega)
      omega
  have ol : os'.length ≤ hi := pig hi os' (nd ch) (fun o ho => (oin o ho).2.1)
  have g46 : ga σ 546 v ≠ -1 := fun z => by
    rw [z] at ch
    cases os' with
    | nil => exact one rfl
    | cons o os' =>
      have := ch.1
      omega
  have hlb : tsz (lbT (tokq S j, kk, i, wn, 0, l)) ≤ hi - (lo + 1) := by
    cases l with
    | nil => exact absurd rfl lne
    | cons p l =>
      obtain ⟨o, y, x, _, _, _, t1, _⟩ := l2 0 p rfl
      exact t1.1.2.1
  refine ⟨(tokq S j, kk, i, wn, 0, l), ⟨lne, by dsimp only; omega⟩, ⟨⟨q2.1, q2.2, .inr ⟨lne, ⟨L0, X.2.1.1 _ (by omega) (by omega) Lk (fun z => by rw [z] at Ll; exact one (List.length_eq_zero_iff.mp Ll.symm)), by omega, Lk, by dsimp only; omega⟩, ⟨?_, X.2.1.1 _ (by have := X.2.1.2.1; omega) c3.2.1 c3.2.2.1 (fun z => by rw [c3.2.2.2] at z; rw [z] at c4; exact one (List.length_eq_zero_iff.mp c4.symm)), c3.2.1, c3.2.2.1, by rw [c3.2.2.2]; dsimp only; omega⟩, fun i y p e1 e2 => ?_⟩⟩, ⟨tk_place X.1.1 ej (by omega), q3.1, q3.2, os', ch, l1.symm, fun i o p e1 e2 => ?_⟩, ⟨X.2.2.1 d kk i q1, fun p hp => ?_⟩, f82', hlb, fun _ => g46, fun p hp => ?_⟩, p72, P1 (by decide), fun i p e => ?_, by omega⟩
  · have := X.2.1.2.1
    have := X.2.1.2.2
    omega
  · rw [c3.2.2.2] at e1
    obtain ⟨o, y', x, u1, u2, u3, u4, u5, u6⟩ := l2 i p e2
    rw [u2] at e1
    rw [← Option.some.inj e1]
    exact u4.2.1
  · obtain ⟨o', y', x, u1, u2, u3, u4, u5, u6⟩ := l2 i p e2
    rw [u1] at e1
    rw [← Option.some.inj e1]
    have := oin o' (List.mem_of_getElem? u1)
    exact ⟨⟨by omega, this.2.1⟩, u6, u4.2.2⟩
  · obtain ⟨i', hi', ei⟩ := List.getElem_of_mem hp
    obtain ⟨o', y', x, u1, u2, u3, u4, u5, u6⟩ := l2 i' p (by rw [List.getElem?_eq_getElem hi', ei])
    exact ⟨X.2.2.2.1 _ _ (tyQ_27 u4.1 (Nat.le_refl _)) u4.2.2, u4.1.2.2.2⟩
  · obtain ⟨i', hi', ei⟩ := List.getElem_of_mem hp
    obtain ⟨o', y', x, u1, u2, u3, u4, u5, u6⟩ := l2 i' p (by rw [List.getElem?_eq_getElem hi', ei])
    exact ⟨u4.1.2.2.2, u4.1.2.2.1⟩
  · obtain ⟨o', y', x, u1, u2, u3, u4, u5, u6⟩ := l2 i p e
    exact ⟨x, u3, ⟨by omega, u5.1⟩, u5.2.2⟩
/-- the tree of a name in the twin -/
theorem nm_tw {cl : Nat → Nat} {U : Nat → Prop} {lb : XL} (H : NmL N cl U Sl fo' mo' E h σ n lb d lo hi a v) (i : lo ≤ v ∧ v < hi ∧ hi ≤ 2700) (k10 : ga σ 538 v = 10) (ev : v = lo) : XTg id (Fx σ) σ n (xn 10 lb .leaf .leaf) lo hi v ∧ xok E (xn 10 lb .leaf .leaf) d ∧ (xsz (xn 10 lb .leaf .leaf) ≤ 3 * (hi - lo) ∧ xnN (xn 10 lb .leaf .leaf) ≤ 2 * (hi - lo)) ∧ xU (xn 10 lb .leaf .leaf) + ctP σ lo ≤ ctP σ hi := by
  obtain ⟨h1, h2, h3, h4, h5, h6, h7⟩ := H
  refine ⟨?_, ?_, ⟨?_, ?_⟩, ?_⟩
  · rw [XTg_e]
    unfold XTb
    rw [if_pos rfl]
    exact ⟨by omega, k10, ⟨fun z => by omega, fun z => by omega, fun z => by omega, fun z => by omega, h7, fun z => by omega⟩, ev, h2.1, h2.2⟩
  · rw [xok_e]
    unfold xokB
    rw [if_pos rfl]
    exact h3
  · show 1 + 2 * tsz (lbT lb) + 0 + 0 ≤ _
    omega
  · show 1 + 0 + 0 ≤ _
    omega
  · show (if (10 : Nat) = 10 ∧ lb.2.2.2.2.2 ≠ [] then 1 else 0) + 0 + 0 + _ ≤ _
    by_cases c : lb.2.2.2.2.2 = []
    · rw [if_neg (fun z => z.2 c)]
      have := ctP_mono (σ := σ) (a := lo) (b := hi) (by omega)
      omega
    · rw [if_pos ⟨rfl, c⟩]
      have e : ctP σ (lo + 1) = ctP σ lo + 1 := by
        show ctP σ lo + _ = _
        rw [if_pos (.inl ⟨by rw [← ev]; exact k10, by rw [← ev]; exact h6 c⟩)]
      have := ctP_mono (σ := σ) (a := lo + 1) (b := hi) (by omega)
      omega
/-- the tree of a name in the component: whole -/
theorem nm_co {cl : Nat → Nat} {U : Nat → Prop} {lb : XL} (H : NmL N cl U Sl fo' mo' E h σ n lb d lo hi a v) (e0 : lb.2.2.2.2.2 = []) (f82 : fR h 1382 a = 0) (i : alo ≤ a ∧ a < ahi ∧ ahi ≤ hz h) : XCg id (Ph0 h) G h N cl U Sl fo' mo' (xn 10 lb .leaf .leaf) d (k + 1) 0 0 a alo ahi := by
  have k28 := H.1.1.1
  have eN : aN h a = a := by unfold aN; rw [if_neg (by omega)]
  rw [XCg_e]
  unfold XCb
  rw [aX_0, aH_0, aD_0, if_pos rfl, eN]
  refine ⟨⟨i.1, i.2.1, .inl (.inl rfl), i.2.2, fun z => by omega, fun z => by omega, by omega⟩, by omega, ⟨fun _ => by rw [aX_0]; exact f82, fun _ => by rw [aX_0, eN]; exact H.2.2.2.1⟩, H.1, ⟨i.1, i.2.1⟩, ?_⟩
  unfold atC
  rw [if_neg (by omega)]
  exact ⟨fun z => by omega, .inl ⟨k28, e0⟩⟩
/-- a name, the head of a use -/
theorem nm_cu {cl : Nat → Nat} {U : Nat → Prop} {lb : XL} {u mm : Nat} (H : NmL N cl U Sl fo' mo' E h σ n lb d lo hi a v) (eu : fR h 1490 u = a) (em : mm = lb.2.2.2.2.2.length) (I : itL h Sl lb.2.2.2.2.2 u) (i : alo ≤ a ∧ a < ahi ∧ ahi ≤ hz h ∧ u < ahi) : XCg id (Ph0 h) G h N cl U Sl fo' mo' (xn 10 lb .leaf .leaf) d (k + 2) 1 mm u alo ahi := by
  have k28 := H.1.1.1
  have no : ¬ aO 10 1 mm := by intro z; omega
  have eX : aX h 10 1 mm u = a := by unfold aX; rw [if_neg no, if_pos rfl]; exact eu
  have eH : aH h 10 1 mm u ahi = ahi := by unfold aH; rw [if_pos (.inr ⟨rfl, rfl, by rw [eu]; exact k28⟩)]
  have eD : aD 10 1 mm (k + 2) = k + 1 := by unfold aD; rw [if_neg no]; rfl
  have eN : aN h a = a := by unfold aN; rw [if_neg (by omega)]
  rw [XCg_e]
  unfold XCb
  rw [eX, eH, eD, if_pos rfl, eN]
  refine ⟨⟨i.1, i.2.1, .inr i.2.2.2, i.2.2.1, fun _ => .inl rfl, fun z => by omega, by omega⟩, by omega, ⟨fun z => absurd ⟨rfl, rfl, by rw [eX]; exact k28⟩ z.2, fun _ => by rw [eX, eN]; exact H.2.2.2.1⟩, H.1, ⟨i.1, i.2.1⟩, ?_⟩
  unfold atC
  rw [if_pos ⟨rfl, k28⟩]
  exact ⟨em, I⟩
/-- a use that has but a name's @s -/
theorem nm_cw {cl : Nat → Nat} {U : Nat → Prop} {lb : XL} {u : Nat} (H : NmL N cl U Sl fo' mo' E h σ n lb d lo hi a v) (k30 : kd h u = 30) (eu : fR h 1490 u = a) (p72 : fI h 1372 u = (lb.1 : Int)) (f82 : fR h 1382 u = 0) (ne : lb.2.2.2.2.2 ≠ []) (el : (ll h (fR h 1494 u)).length = lb.2.2.2.2.2.length) (I : itL h Sl lb.2.2.2.2.2 u) (i : alo ≤ a ∧ a < ahi ∧ ahi ≤ hz h ∧ alo ≤ u ∧ u < ahi) : XCg id (Ph0 h) G h N cl U Sl fo' mo' (xn 10 lb .leaf .leaf) d (k + 1) 0 0 u alo ahi := by
  have eN : aN h u = a := by unfold aN; rw [if_pos k30]; exact eu
  rw [XCg_e]
  unfold XCb
  rw [aX_0, aH_0, aD_0, if_pos rfl, eN]
  refine ⟨⟨i.2.2.2.1, i.2.2.2.2, .inl (.inl rfl), i.2.2.1, fun z => by omega, fun z => by omega, by omega⟩, by omega, ⟨fun _ => by rw [aX_0]; exact f82, fun _ => by rw [aX_0, eN]; exact H.2.2.2.1⟩, H.1, ⟨i.1, i.2.1⟩, ?_⟩
  unfold atC
  rw [if_neg (by omega)]
  exact ⟨fun z => by omega, .inr ⟨k30, p72, ne, el, I⟩⟩
end LXO
