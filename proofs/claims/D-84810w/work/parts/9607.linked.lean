set_option maxRecDepth 100000
/-! THE NODES OF EXS ARE LINKED ALIKE: which nodes an ex's nodes name is the same when it is read twice -/
/-- a node of a type, or of an @ that a name has -/
def ndTy (x : Int) : Prop := x = 0 ∨ x = 1 ∨ x = 3 ∨ x = 19
/-- where a node of an ex names nodes of exs -/
def chF (k : Int) : List Nat := if k = 12 then [546, 550] else if k = 13 then [546] else if k = 14 then [554] else if k = 15 then [554, 558] else if k = 16 then [546, 550, 554] else if k = 17 then [546, 550, 558] else if k = 18 then [546, 550] else []
def sN (σ σ' : tS) (i : Nat) : Prop := (ndTy (ga σ 538 i) ∧ ndTy (ga σ' 538 i)) ∨ (ga σ 538 i = ga σ' 538 i ∧ ∀ f ∈ chF (ga σ 538 i), ga σ f i = ga σ' f i)
theorem rows2_all {W : Nat → Nat → Nat → Nat → Nat → Nat → Prop} {Q : Nat → Prop} (hW : ∀ lo hi alo ahi x n, W lo hi alo ahi x n → ∀ i, lo ≤ i → i < hi → Q i) : ∀ {xs ns : List Nat} {lo hi alo ahi : Nat}, rows2 W xs ns lo hi alo ahi → ∀ i, lo ≤ i → i < hi → Q i
  | [], [], _, _, _, _, r, i, h1, h2 => by have := r.1; omega
  | _ :: _, _ :: _, _, _, _, _, ⟨mid, _, w, r⟩, i, h1, h2 => by
    by_cases c : i < mid
    · exact hW _ _ _ _ _ _ w i h1 c
    · exact rows2_all hW r i (by omega) h2
  | [], _ :: _, _, _, _, _, r, _, _, _ => r.elim
  | _ :: _, [], _, _, _, _, r, _, _, _ => r.elim
section LDet4
variable {G G' : om_G} {A A' : Nat} {S S' : List Int} {b b' : Nat} {h : om_H} {σ σ' : tS}
theorem WR_tK : ∀ {k lo hi alo ahi a n : Nat}, WR A S b h σ k lo hi alo ahi a n → ∀ i, lo ≤ i → i < hi → ndTy (ga σ 538 i)
  | 0, _, _, _, _, _, _, w, _, _, _ => w.elim
  | k + 1, lo, hi, alo, ahi, a, n, ⟨w1, w2, w3, w4, w5, w6, w7, w8, w9⟩, i, h1, h2 => by
    rcases w9 with ⟨j, q1, q2, q3, q4, q5, q6, q7, q8, q9, q10⟩ | ⟨j, ns, amid, q1, q2, q3, q4, q5, q6, q7, q8, q9, q10, q11, q12, q13⟩ | ⟨x, y, nx, ny, mid, amid, aend, q1, q2, q3, q4, q5, q6, q7, q8, q9, q10, q11, q12, q13⟩
    · have : i = n := by omega
      rw [this]; exact .inl q1
    · by_cases c : i = n
      · rw [c]; exact .inr (.inl q1)
      · exact rows2_all (W := WR A S b h σ k) (fun _ _ _ _ _ _ w => WR_tK w) q13 i (by omega) h2
    · by_cases c : i = n
      · rw [c]; exact .inr (.inr (.inl q1))
      · by_cases c2 : i < mid
        · exact WR_tK q8 i h1 c2
        · exact WR_tK q9 i (by omega) (by omega)
theorem atW_tK {z : Nat} : ∀ {ws os : List Nat} {lo hi alo ahi : Nat}, (∀ o ∈ os, ga σ 538 o = 19) → atW A S b h σ z ws os lo hi alo ahi → ∀ i, lo ≤ i → i < hi → ndTy (ga σ 538 i)
  | [], [], _, _, _, _, _, r, i, h1, h2 => by have := r.1; omega
  | _ :: _, o :: os, _, _, _, _, k, ⟨_, _, _, _, _, _, w, _, r⟩, i, h1, h2 => by
    by_cases c : i < o
    · exact WR_tK w i h1 c
    · by_cases c2 : i = o
      · rw [c2]; exact .inr (.inr (.inr (k o List.mem_cons_self)))
      · exact atW_tK (fun y hy => k y (List.mem_cons_of_mem _ hy)) r i (by omega) h2
  | [], _ :: _, _, _, _, _, _, r, _, _, _ => r.elim
  | _ :: _, [], _, _, _, _, _, r, _, _, _ => r.elim
theorem chain_same : ∀ {ns ns' : List Nat} {f : Int}, chain σ f ns → chain σ f ns' → ns = ns'
  | [], [], _, _, _ => rfl
  | n :: ns, n' :: ns', f, c, c' => by
    have e : n = n' := by have := c.1; have := c'.1; omega
    subst e
    rw [chain_same c.2 c'.2]
  | [], n' :: _, f, c, c' => by have e : f = -1 := c; have := c'.1; omega
  | n :: _, [], f, c, c' => by have e : f = -1 := c'; have := c.1; omega
/-- what is known by the node's kind: nodes of types -/
def ndTyP (σ : tS) (P : xP) : Prop := (∀ tag lo hi alo ahi a n, tag ∈ [13, 14, 15] → P tag lo hi alo ahi a n → ∀ i, lo ≤ i → i < hi → ndTy (ga σ 538 i)) ∧ ∀ lo hi alo ahi a n os, chain σ (ga σ 546 n) os → (∀ o ∈ os, ga σ 538 o = 19) → P 19 lo hi alo ahi a n → ∀ i, lo ≤ i → i < hi → ndTy (ga σ 538 i)
theorem Psi0_tK : ndTyP σ (Psi0 A S b h σ) := by
  refine ⟨fun tag lo hi alo ahi a n ht p => ?_, fun lo hi alo ahi a n os c k p => ?_⟩
  · obtain ⟨-, -, p⟩ := p
    simp only [List.mem_cons, List.not_mem_nil, or_false] at ht
    rcases ht with rfl | rfl | rfl
    · obtain ⟨_, q, _, w⟩ := p; exact WR_tK w
    · obtain ⟨_, q, _, w⟩ := p; exact WR_tK w
    · obtain ⟨_, q, _, w⟩ := p; exact WR_tK w
  · obtain ⟨-, -, os', c', -, -, w⟩ := p
    have e := chain_same c c'
    subst e
    exact atW_tK k w
/-- the nodes of an ex are linked alike -/
def sW (σ σ' : tS) (W W' : xW) : Prop := ∀ lo hi hi' alo ahi alo' ahi' x n n', W lo hi alo ahi x n → W' lo hi' alo' ahi' x n' → ∀ i, lo ≤ i → i < hi → sN σ σ' i
variable {P P' : xP} {W W' : xW}
theorem spine_sN {α : Type} {I I' : Nat → Nat → Nat → Nat → Nat → α → Nat → Prop} (hI : ∀ lo hi hi' alo ahi alo' ahi' l l' x s s', I lo hi alo ahi l x s → I' lo hi' alo' ahi' l' x s' → hi = hi' ∧ s = s') (hS : ∀ lo hi hi' alo ahi alo' ahi' l x s s', I lo hi alo ahi l x s → I' lo hi' alo' ahi' l x s' → ∀ i, lo ≤ i → i < hi → sN σ σ' i) : ∀ {xs : List α} {l lo hi hi' alo ahi alo' ahi' top top' : Nat}, spineR I xs l lo hi alo ahi top → spineR I' xs l lo hi' alo' ahi' top' → ∀ i, lo ≤ i → i < hi → sN σ σ' i
  | [], _, _, _, _, _, _, _, _, _, _, ⟨_, r2, _⟩, _, i, h1, h2 => by omega
  | _ :: _, _, _, _, _, _, _, _, _, _, _, ⟨mid, _, s, w, r⟩, ⟨mid', _, s', w', r'⟩, i, h1, h2 => by
    by_cases c : i < mid
    · exact hS _ _ _ _ _ _ _ _ _ _ _ w w' i h1 c
    · obtain ⟨e, e2⟩ := hI _ _ _ _ _ _ _ _ _ _ _ _ w w'
      subst e; subst e2
      exact spine_sN hI hS r r' i (by omega) h2
theorem itemR_sN (hP : detP P P') (hT : ndTyP σ P) (hT' : ndTyP σ' P') (hW : detW W W') (hS : sW σ σ' W W') (lo hi hi' alo ahi alo' ahi' l x s s' : Nat) (w : itemR S b h σ P W lo hi alo ahi l x s) (w' : itemR S' b' h σ' P' W' lo hi' alo' ahi' l x s') : ∀ i, lo ≤ i → i < hi → sN σ σ' i := by
  intro i h1 h2
  obtain ⟨e1, e2⟩ := itemR_det hP hW _ _ _ _ _ _ _ _ _ _ _ _ w w'
  subst e1; subst e2
  obtain ⟨-, -, -, -, q5, q6, w⟩ := w
  obtain ⟨-, -, -, -, q5', q6', w'⟩ := w'
  rcases w with ⟨ne, a2, k, c, f, w, -⟩ | ⟨j, a2, k, c, -, -, -, -, w⟩ <;> rcases w' with ⟨ne', a2', k', c', f', w', -⟩ | ⟨j', a2', k', c', -, -, -, -, w'⟩
  · by_cases d : i < s
    · exact hS _ _ _ _ _ _ _ _ _ _ w w' i h1 d
    · have : i = s := by omega
      subst this
      have en := (hW _ _ _ _ _ _ _ _ _ _ w w').2
      refine .inr ⟨k.trans k'.symm, fun g hg => ?_⟩
      rw [k] at hg
      simp only [chF, List.mem_cons, List.not_mem_nil, or_false, if_true] at hg
      rcases hg with rfl | rfl
      · rw [q6, q6']
      · rw [f, f', en]
  · exact absurd c' c
  · exact absurd c c'
  · by_cases d : i < s
    · exact .inl ⟨hT.1 13 _ _ _ _ _ _ (by simp) w i h1 d, hT'.1 13 _ _ _ _ _ _ (by simp) w' i h1 d⟩
    · have : i = s := by omega
      subst this
      refine .inr ⟨k.trans k'.symm, fun g hg => ?_⟩
      rw [k] at hg
      have : g = 546 := by simpa [chF] using hg
      rw [this, q6, q6']
theorem signR_sN (hW : detW W W') (hS : sW σ σ' W W') (lo hi hi' alo ahi alo' ahi' l : Nat) (x : Nat × Nat) (s s' : Nat) (w : signR G S b σ P W lo hi alo ahi l x s) (w' : signR G' S' b' σ' P' W' lo hi' alo' ahi' l x s') : ∀ i, lo ≤ i → i < hi → sN σ σ' i := by
  intro i h1 h2
  obtain ⟨-, q, k, f, j, nx, -, -, -, g, w, -⟩ := w
  obtain ⟨-, q', k', f', j', nx', -, -, -, g', w', -⟩ := w'
  by_cases d : i < s
  · exact hS _ _ _ _ _ _ _ _ _ _ w w' i h1 d
  · have : i = s := by omega
    subst this
    obtain ⟨e, en⟩ := hW _ _ _ _ _ _ _ _ _ _ w w'
    subst e
    refine .inr ⟨k.trans k'.symm, fun y hy => ?_⟩
    rw [k] at hy
    have : y = 546 ∨ y = 550 := by simpa [chF] using hy
    rcases this with rfl | rfl
    · rw [f, f']
    · rw [g, g', en]
theorem X30_sN (hP : detP P P') (hT : ndTyP σ P) (hT' : ndTyP σ' P') (hW : detW W W') (hS : sW σ σ' W W') {lo hi hi' alo ahi alo' ahi' a n n' : Nat} (w : X30 A S b h σ P W lo hi alo ahi a n) (w' : X30 A' S' b' h σ' P' W' lo hi' alo' ahi' a n') : ∀ i, lo ≤ i → i < hi → sN σ σ' i := by
  intro i h1 h2
  obtain ⟨-, -, -, -, nh, mid, a1, a2, a3, a4, xs, ys, e, -, -, -, sp, -, hd, -⟩ := w
  obtain ⟨-, -, -, -, nh', mid', a1', a2', a3', a4', xs', ys', e', -, -, -, sp', -, hd', -⟩ := w'
  have z : ∀ x ∈ xs, fR h 1498 x = 0 ∧ fR h 1502 x = 0 := by
    rcases hd with ⟨rfl, -⟩ | ⟨-, -, -, -, -, -, -, j, os, _, _, -, -, -, -, -, -, -, -, -, -, -, -, -, -, -, r⟩
    · exact fun _ z => absurd z List.not_mem_nil
    · exact (atsR_zero r).2
  have z' : ∀ x ∈ xs', fR h 1498 x = 0 ∧ fR h 1502 x = 0 := by
    rcases hd' with ⟨rfl, -⟩ | ⟨-, -, -, -, -, -, -, j, os, _, _, -, -, -, -, -, -, -, -, -, -, -, -, -, -, -, r⟩
    · exact fun _ z => absurd z List.not_mem_nil
    · exact (atsR_zero r).2
  obtain ⟨rfl, rfl⟩ := split_det (e.symm.trans e') z z' (spine_not sp) (spine_not sp')
  have k : mid = mid' ∧ nh = nh' ∧ (i < mid → sN σ σ' i) := by
    rcases hd with ⟨c, w, -⟩ | ⟨-, -, -, -, -, t, e1, j, os, _, _, -, -, -, -, -, ch, c, kk, -, -, -, -, -, -, p, r⟩ <;> rcases hd' with ⟨c', w', -⟩ | ⟨-, -, -, -, -, t', e1', j', os', _, _, -, -, -, -, -, ch', c', kk', -, -, -, -, -, -, p', r'⟩
    · obtain ⟨r1, r2⟩ := hW _ _ _ _ _ _ _ _ _ _ w w'
      exact ⟨r1, r2, fun d => hS _ _ _ _ _ _ _ _ _ _ w w' i h1 d⟩
    · subst c; have := (atsR_zero r').1; exact absurd (List.length_eq_zero_iff.mp this.symm) c'
    · subst c'; have := (atsR_zero r).1; exact absurd (List.length_eq_zero_iff.mp this.symm) c
    · have em := hP _ _ _ _ _ _ _ _ _ _ _ (by simp) p p'
      refine ⟨em, e1.trans e1'.symm, fun d => ?_⟩
      by_cases d2 : i = lo
      · subst d2
        rw [e1] at t; rw [e1'] at t'
        refine .inr ⟨t.trans t'.symm, fun g hg => ?_⟩
        rw [t] at hg
        exact absurd hg (by simp [chF])
      · exact .inl ⟨hT.2 _ _ _ _ _ _ os ch (fun o ho => (kk o ho).2.2) p i (by omega) d, hT'.2 _ _ _ _ _ _ os' ch' (fun o ho => (kk' o ho).2.2) p' i (by omega) (by omega)⟩
  obtain ⟨rfl, rfl, k⟩ := k
  by_cases d : i < mid
  · exact k d
  · exact spine_sN (itemR_det hP hW) (itemR_sN hP hT hT' hW hS) sp sp' i (by omega) h2
theorem X32_sN (hW : detW W W') (hS : sW σ σ' W W') {lo hi hi' alo ahi alo' ahi' a n n' : Nat} (w : X32 G S b h σ P W lo hi alo ahi a n) (w' : X32 G' S' b' h σ' P' W' lo hi' alo' ahi' a n') : ∀ i, lo ≤ i → i < hi → sN σ σ' i := by
  intro i h1 h2
  obtain ⟨-, -, -, -, -, -, -, j, nh, mid, a1, a2, a3, a4, w, -, -, -, sp, -⟩ := w
  obtain ⟨-, -, -, -, -, -, -, j', nh', mid', a1', a2', a3', a4', w', -, -, -, sp', -⟩ := w'
  obtain ⟨rfl, rfl⟩ := hW _ _ _ _ _ _ _ _ _ _ w w'
  by_cases d : i < mid
  · exact hS _ _ _ _ _ _ _ _ _ _ w w' i h1 d
  · exact spine_sN (signR_det hW) (signR_sN hW hS) sp sp' i (by omega) h2
theorem sN_own {i : Nat} {k : Int} (t : ga σ 538 i = k) (t' : ga σ' 538 i = k) (e : ∀ f ∈ chF k, ga σ f i = ga σ' f i) : sN σ σ' i := .inr ⟨t.trans t'.symm, by rw [t]; exact e⟩
theorem XB_sN (hP : detP P P') (hT : ndTyP σ P) (hT' : ndTyP σ' P') (hW : detW W W') (hS : sW σ σ' W W') : sW σ σ' (XB G A S b h σ P W) (XB G' A' S' b' h σ' P' W') := by
  intro lo hi hi' alo ahi alo' ahi' a n n' w w' i h1 h2
  obtain ⟨-, -, -, -, w⟩ := w
  obtain ⟨-, -, -, -, w'⟩ := w'
  have key : ∀ {m m' : Nat}, kd h a = m → kd h a = m' → m ≠ m' → sN σ σ' i := fun e e' c => absurd (e.symm.trans e') c
  rcases w with w | w | w | w | w | w | w | w <;> rcases w' with w' | w' | w' | w' | w' | w' | w' | w' <;> first
    | exact key w.1 w'.1 (by decide)
    | exact X30_sN hP hT hT' hW hS w w' i h1 h2
    | exact X32_sN hW hS w w' i h1 h2
    | skip
  · have e := w.2.2.1; have e' := w'.2.2.1
    have e1 : i = n := by omega
    have e2 : i = n' := by omega
    exact sN_own (k := 11) (by rw [e1]; exact w.2.1) (by rw [e2]; exact w'.2.1) (fun g hg => absurd hg (by simp [chF]))
  · have e := w.2.2.1; have e' := w'.2.2.1
    have e1 : i = n := by omega
    have e2 : i = n' := by omega
    exact sN_own (k := 10) (by rw [e1]; exact w.2.1) (by rw [e2]; exact w'.2.1) (fun g hg => absurd hg (by simp [chF]))
  · obtain ⟨-, t, q, j, nb, mid, a1, a2, a3, -, -, -, -, -, -, f, -, -, -, -, p, w, -⟩ := w
    obtain ⟨-, t', q', j', nb', mid', a1', a2', a3', -, -, -, -, -, -, f', -, -, -, -, p', w', -⟩ := w'
    have e := hP _ _ _ _ _ _ _ _ _ _ _ (by simp) p p'
    subst e
    obtain ⟨e, e2⟩ := hW _ _ _ _ _ _ _ _ _ _ w w'
    subst e; subst e2
    by_cases d : i < mid
    · exact .inl ⟨hT.1 14 _ _ _ _ _ _ (by simp) p i h1 d, hT'.1 14 _ _ _ _ _ _ (by simp) p' i h1 d⟩
    by_cases d2 : i < n
    · exact hS _ _ _ _ _ _ _ _ _ _ w w' i (by omega) d2
    have : i = n := by omega
    subst this
    refine sN_own t t' (fun g hg => ?_)
    have : g = 554 := by simpa [chF] using hg
    rw [this, f, f']
  · obtain ⟨-, t, q, j, n1, n2, m1, m2, a1, a2, a3, a4, -, -, -, -, -, -, f, f2, -, -, -, -, p, w, v, -⟩ := w
    obtain ⟨-, t', q', j', n1', n2', m1', m2', a1', a2', a3', a4', -, -, -, -, -, -, f', f2', -, -, -, -, p', w', v', -⟩ := w'
    have e := hP _ _ _ _ _ _ _ _ _ _ _ (by simp) p p'
    subst e
    obtain ⟨e, e2⟩ := hW _ _ _ _ _ _ _ _ _ _ w w'
    subst e; subst e2
    obtain ⟨e, e2⟩ := hW _ _ _ _ _ _ _ _ _ _ v v'
    subst e; subst e2
    by_cases d : i < m1
    · exact .inl ⟨hT.1 15 _ _ _ _ _ _ (by simp) p i h1 d, hT'.1 15 _ _ _ _ _ _ (by simp) p' i h1 d⟩
    by_cases d2 : i < m2
    · exact hS _ _ _ _ _ _ _ _ _ _ w w' i (by omega) d2
    by_cases d3 : i < n
    · exact hS _ _ _ _ _ _ _ _ _ _ v v' i (by omega) d3
    have : i = n := by omega
    subst this
    refine sN_own t t' (fun g hg => ?_)
    have : g = 554 ∨ g = 558 := by simpa [chF] using hg
    rcases this with rfl | rfl
    · rw [f, f']
    · rw [f2, f2']
  · obtain ⟨-, t, q, j, n1, n2, n3, m1, m2, a1, a2, a3, a4, -, -, f, f2, f3, -, -, w, v, u, -⟩ := w
    obtain ⟨-, t', q', j', n1', n2', n3', m1', m2', a1', a2', a3', a4', -, -, f', f2', f3', -, -, w', v', u', -⟩ := w'
    obtain ⟨e, e2⟩ := hW _ _ _ _ _ _ _ _ _ _ w w'
    subst e; subst e2
    obtain ⟨e, e2⟩ := hW _ _ _ _ _ _ _ _ _ _ v v'
    subst e; subst e2
    obtain ⟨e, e2⟩ := hW _ _ _ _ _ _ _ _ _ _ u u'
    subst e; subst e2
    by_cases d : i < m1
    · exact hS _ _ _ _ _ _ _ _ _ _ w w' i h1 d
    by_cases d2 : i < m2
    · exact hS _ _ _ _ _ _ _ _ _ _ v v' i (by omega) d2
    by_cases d3 : i < n
    · exact hS _ _ _ _ _ _ _ _ _ _ u u' i (by omega) d3
    have : i = n := by omega
    subst this
    refine sN_own t t' (fun g hg => ?_)
    have : g = 546 ∨ g = 550 ∨ g = 554 := by simpa [chF] using hg
    rcases this with rfl | rfl | rfl
    · rw [f, f']
    · rw [f2, f2']
    · rw [f3, f3']
  · obtain ⟨-, t, q, j, jx, n1, n2, n3, m1, m2, a1, a2, a3, a4, a5, -, -, f, f2, -, f3, -, -, -, -, -, -, -, -, w, v, -, u, -⟩ := w
    obtain ⟨-, t', q', j', jx', n1', n2', n3', m1', m2', a1', a2', a3', a4', a5', -, -, f', f2', -, f3', -, -, -, -, -, -, -, -, w', v', -, u', -⟩ := w'
    obtain ⟨e, e2⟩ := hW _ _ _ _ _ _ _ _ _ _ w w'
    subst e; subst e2
    obtain ⟨e, e2⟩ := hW _ _ _ _ _ _ _ _ _ _ v v'
    subst e; subst e2
    obtain ⟨e, e2⟩ := hW _ _ _ _ _ _ _ _ _ _ u u'
    subst e; subst e2
    by_cases d : i < m1
    · exact hS _ _ _ _ _ _ _ _ _ _ w w' i h1 d
    by_cases d2 : i < m2
    · exact hS _ _ _ _ _ _ _ _ _ _ v v' i (by omega) d2
    by_cases d3 : i < n
    · exact hS _ _ _ _ _ _ _ _ _ _ u u' i (by omega) d3
    have : i = n := by omega
    subst this
    refine sN_own t t' (fun g hg => ?_)
    have : g = 546 ∨ g = 550 ∨ g = 558 := by simpa [chF] using hg
    rcases this with rfl | rfl | rfl
    · rw [f, f']
    · rw [f2, f2']
    · rw [f3, f3']
/-- the nodes of an ex that is read twice are linked alike -/
theorem XR_sN (hP : detP P P') (hT : ndTyP σ P) (hT' : ndTyP σ' P') : ∀ (k k' : Nat), sW σ σ' (XR G A S b h σ P k) (XR G' A' S' b' h σ' P' k')
  | 0, _ => fun _ _ _ _ _ _ _ _ _ _ w _ => w.elim
  | _ + 1, 0 => fun _ _ _ _ _ _ _ _ _ _ _ w => w.elim
  | k + 1, k' + 1 => XB_sN hP hT hT' (XR_det hP k k') (XR_sN hP hT hT' k k')
theorem X0_sN {k k' lo hi hi' alo ahi alo' ahi' a n n' : Nat} (w : X0 G A S b h σ k lo hi alo ahi a n) (w' : X0 G' A' S' b' h σ' k' lo hi' alo' ahi' a n') : hi = hi' ∧ n = n' ∧ ∀ i, lo ≤ i → i < hi → sN σ σ' i := by
  obtain ⟨e, e2⟩ := XR_det Psi0_det _ _ _ _ _ _ _ _ _ _ _ _ w w'
  exact ⟨e, e2, XR_sN Psi0_det Psi0_tK Psi0_tK _ _ _ _ _ _ _ _ _ _ _ _ w w'⟩
end LDet4
