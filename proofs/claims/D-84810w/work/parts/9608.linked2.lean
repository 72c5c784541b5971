set_option maxRecDepth 100000
/-! THE NODES OF A PROGRAM ARE LINKED ALIKE -/
def dN (σ σ' : tS) (i : Nat) : Prop := sN σ σ' i ∨ (ga σ 538 i = ga σ' 538 i ∧ (ga σ 538 i = 20 ∨ ga σ 538 i = 21 ∨ ga σ 538 i = 22) ∧ (ga σ 538 i = 20 ∨ ga σ 538 i = 22 → ga σ 546 i = ga σ' 546 i))
section LDet6
variable {G G' : om_G} {A A' : Nat} {S S' : List Int} {b b' : Nat} {h : om_H} {σ σ' : tS}
theorem WR_dN {k k' lo hi alo ahi alo' ahi' a n n' : Nat} (w : WR A S b h σ k lo hi alo ahi a n) (w' : WR A' S' b' h σ' k' lo hi alo' ahi' a n') (i : Nat) (h1 : lo ≤ i) (h2 : i < hi) : dN σ σ' i := .inl (.inl ⟨WR_tK w i h1 h2, WR_tK w' i h1 h2⟩)
theorem mrows_dN {c c' : Nat} : ∀ {k k' : Nat} {xs os os' : List Nat} {lo hi hi' alo ahi alo' ahi' : Nat}, mrows A S b h σ c k xs os lo hi alo ahi → mrows A' S' b' h σ' c' k' xs os' lo hi' alo' ahi' → ∀ i, lo ≤ i → i < hi → dN σ σ' i
  | _, _, [], [], [], _, _, _, _, _, _, _, r, r', i, h1, h2 => by have := r.1; omega
  | _, _, _ :: _, o :: os, o' :: os', _, _, _, _, _, _, _, ⟨_, _, _, p, _, w1, w2, _, _, r⟩, ⟨_, _, _, p', _, w1', w2', _, _, r'⟩, i, h1, h2 => by
    obtain ⟨e, ep⟩ := WR_det w1 w1'
    subst e
    by_cases d : i < o
    · exact WR_dN w1 w1' i h1 d
    by_cases d2 : i = o
    · subst d2
      exact .inr ⟨w2.1.trans w2'.1.symm, .inl w2.1, fun _ => by rw [w2.2.2.2, w2'.2.2.2, ep]⟩
    · exact mrows_dN r r' i (by omega) h2
  | _, _, [], _ :: _, _, _, _, _, _, _, _, _, r, _, _, _, _ => r.elim
  | _, _, _ :: _, [], _, _, _, _, _, _, _, _, r, _, _, _, _ => r.elim
  | _, _, [], [], _ :: _, _, _, _, _, _, _, _, _, r, _, _, _ => r.elim
  | _, _, _ :: _, _ :: _, [], _, _, _, _, _, _, _, _, r, _, _, _ => r.elim
theorem lrows_dN : ∀ {xs os os' : List Nat} {lo hi hi' alo ahi alo' ahi' : Nat}, lrows G A S b h σ xs os lo hi alo ahi → lrows G' A' S' b' h σ' xs os' lo hi' alo' ahi' → ∀ i, lo ≤ i → i < hi → dN σ σ' i
  | [], [], [], _, _, _, _, _, _, _, r, r', i, h1, h2 => by have := r.1; omega
  | _ :: _, o :: os, o' :: os', _, _, _, _, _, _, _, ⟨_, _, p, _, w1, w2, _, _, r⟩, ⟨_, _, p', _, w1', w2', _, _, r'⟩, i, h1, h2 => by
    obtain ⟨e, ep, es⟩ := X0_sN w1 w1'
    subst e
    by_cases d : i < o
    · exact .inl (es i h1 d)
    by_cases d2 : i = o
    · subst d2
      exact .inr ⟨w2.1.trans w2'.1.symm, .inr (.inr w2.1), fun _ => by rw [w2.2.2.2, w2'.2.2.2, ep]⟩
    · exact lrows_dN r r' i (by omega) h2
  | [], _ :: _, _, _, _, _, _, _, _, _, r, _, _, _, _ => r.elim
  | _ :: _, [], _, _, _, _, _, _, _, _, r, _, _, _, _ => r.elim
  | [], [], _ :: _, _, _, _, _, _, _, _, _, r, _, _, _ => r.elim
  | _ :: _, _ :: _, [], _, _, _, _, _, _, _, _, r, _, _, _ => r.elim
theorem grows_dN : ∀ {xs os os' : List Nat} {lo hi hi' alo ahi alo' ahi' : Nat}, grows A S b h σ xs os lo hi alo ahi → grows A' S' b' h σ' xs os' lo hi' alo' ahi' → ∀ i, lo ≤ i → i < hi → dN σ σ' i
  | [], [], [], _, _, _, _, _, _, _, r, r', i, h1, h2 => by have := r.1; omega
  | _ :: _, o :: os, o' :: os', lo, _, _, _, _, _, _, ⟨_, _, t, _, _, _, w, r⟩, ⟨_, _, t', _, _, _, w', r'⟩, i, h1, h2 => by
    have e : o = o' ∧ (i < o → dN σ σ' i) := by
      rcases w with ⟨c, _, e⟩ | ⟨_, _, _, _, c, _, _, _, w⟩ <;> rcases w' with ⟨c', _, e'⟩ | ⟨_, _, _, _, c', _, _, _, w'⟩
      · exact ⟨by omega, fun z => by omega⟩
      · exact absurd c c'
      · exact absurd c' c
      · have e := (WR_det w w').1
        subst e
        exact ⟨rfl, fun z => WR_dN w w' i h1 z⟩
    obtain ⟨e, k⟩ := e
    subst e
    by_cases d : i < o
    · exact k d
    by_cases d2 : i = o
    · subst d2
      exact .inr ⟨t.1.trans t'.1.symm, .inr (.inl t.1), fun z => by rw [t.1] at z; exact absurd z (by decide)⟩
    · exact grows_dN r r' i (by omega) h2
  | [], _ :: _, _, _, _, _, _, _, _, _, r, _, _, _, _ => r.elim
  | _ :: _, [], _, _, _, _, _, _, _, _, r, _, _, _, _ => r.elim
  | [], [], _ :: _, _, _, _, _, _, _, _, _, r, _, _, _ => r.elim
  | _ :: _, _ :: _, [], _, _, _, _, _, _, _, _, r, _, _, _ => r.elim
variable {lo hi hi' z0 ahi z0' ahi' d d' j0 j0' : Nat} {nb nb' : Int}
theorem clsR_dN {c : Nat} (w : clsR A S b h σ lo hi z0 ahi c d j0 nb) (w' : clsR A' S' b' h σ' lo hi' z0' ahi' c d' j0' nb') : ∀ i, lo ≤ i → i < hi → dN σ σ' i := by
  obtain ⟨w1, w2, Lm, Ln, ar, ab, fam, am, ms, ns, q, -, -, -, -, -, ⟨-, e⟩, m, c, -⟩ := w
  obtain ⟨w1', w2', Lm', Ln', ar', ab', fam', am', ms', ns', q', -, -, -, -, -, ⟨-, e'⟩, m', c', -⟩ := w'
  have f := q.2.2.1.1; have f' := q'.2.2.1.1
  have e2 : ms = ms' := by rw [← e, ← e', ← f, ← f']
  subst e2
  exact mrows_dN m m'
theorem funR_dN {f : Nat} (w : funR G A S b h σ lo hi z0 ahi f d j0 nb) (w' : funR G' A' S' b' h σ' lo hi' z0' ahi' f d' j0' nb') : ∀ i, lo ≤ i → i < hi → dN σ σ' i := by
  intro i h1 h2
  obtain ⟨_, s, Ls, Lg, wr, ex, j1, m1, m2, am, ag, a1, a2, a3, nT, nX, _, ws, xs, os, q, -, -, -, ⟨-, e, g, c, -⟩, t, x, -, v⟩ := w
  obtain ⟨_, s', Ls', Lg', wr', ex', j1', m1', m2', am', ag', a1', a2', a3', nT', nX', _, ws', xs', os', q', -, -, -, ⟨-, e', g', c', -⟩, t', x', -, v'⟩ := w'
  obtain ⟨⟨-, -, -, k1, k2, k3⟩, -, -, -, k4⟩ := q
  obtain ⟨⟨-, -, -, k1', k2', k3'⟩, -, -, -, k4'⟩ := q'
  have es : s = s' := k1.symm.trans k1'
  subst es
  have eL : Lg = Lg' := k4.symm.trans k4'
  subst eL
  have ex1 : xs = xs' := e.symm.trans e'
  subst ex1
  obtain ⟨r1, r2⟩ := grows_det g g'
  subst r1; subst r2
  have ew : wr = wr' := k2.symm.trans k2'
  subst ew
  obtain ⟨r1, r2⟩ := WR_det t t'
  subst r1; subst r2
  have ee : ex = ex' := k3.symm.trans k3'
  subst ee
  by_cases d1 : i < m1
  · exact grows_dN g g' i h1 d1
  by_cases d2 : i < m2
  · exact WR_dN t t' i (by omega) d2
  · exact .inl ((X0_sN x x').2.2 i (by omega) h2)
theorem insR_dN {f : Nat} (w : insR G A S b h σ lo hi z0 ahi f d j0 nb) (w' : insR G' A' S' b' h σ' lo hi' z0' ahi' f d' j0' nb') : ∀ i, lo ≤ i → i < hi → dN σ σ' i := by
  intro i h1 h2
  obtain ⟨s, Ls, Lg, Lh, Ll, cn, con, fam, fw, j1, jc, jn, m1, m2, a0, a1, a2, am, first, xs, os, ws, ls, ns, dv, dv', i1, i2, -, -, -, fm, ⟨-, l1, l2, l3, -⟩, g, dq, -⟩ := w
  obtain ⟨s', Ls', Lg', Lh', Ll', cn', con', fam', fw', j1', jc', jn', m1', m2', a0', a1', a2', am', first', xs', os', ws', ls', ns', dv2, dv2', i1', i2', -, -, -, fm', ⟨-, l1', l2', l3', -⟩, g', dq', -⟩ := w'
  obtain ⟨⟨-, -, -, k1, -, -, k2, k3, -, k4⟩, -⟩ := i2
  obtain ⟨⟨-, -, -, k1', -, -, k2', k3', -, k4'⟩, -⟩ := i2'
  obtain ⟨⟨-, -, o1⟩, -, ⟨-, o2⟩, o3, o4, -⟩ := i1
  obtain ⟨⟨-, -, o1'⟩, -, ⟨-, o2'⟩, o3', o4', -⟩ := i1'
  have es : s = s' := k1.symm.trans k1'
  subst es
  have eL : Lg = Lg' := o1.symm.trans o1'
  subst eL
  have ex1 : xs = xs' := o2.symm.trans o2'
  subst ex1
  obtain ⟨r1, r2⟩ := grows_det o3 o3'
  subst r1; subst r2
  have ea : fam = fam' := k2.symm.trans k2'
  subst ea
  have ew : fw = fw' := k3.symm.trans k3'
  subst ew
  have key : m2 = m2' ∧ (m1 ≤ i → i < m2 → dN σ σ' i) := by
    rcases fm with ⟨c, -, e, e2⟩ | ⟨jf, _, p, _, _, c, -, -, -, -, t, -, -, e2⟩ <;> rcases fm' with ⟨c', -, e', e2'⟩ | ⟨jf', _, p', _, _, c', -, -, -, -, t', -, -, e2'⟩
    · exact ⟨by omega, fun z z' => by omega⟩
    · exact absurd c c'
    · exact absurd c' c
    · obtain ⟨r1, r2⟩ := WR_det t t'
      subst r1
      exact ⟨rfl, fun z z' => WR_dN t t' i z z'⟩
  obtain ⟨e1, k⟩ := key
  subst e1
  have el : Ll = Ll' := k4.symm.trans k4'
  subst el
  have es : ls = ls' := l1.symm.trans l1'
  subst es
  by_cases d1 : i < m1
  · exact grows_dN o3 o3' i h1 d1
  by_cases d2 : i < m2
  · exact k (by omega) d2
  · exact lrows_dN l2 l2' i (by omega) h2
theorem dclR_dN {Lf Lf' : Nat → List Nat} {q q' : dcl} (e1 : q.1 = q'.1) (e2 : q.2.1 = q'.2.1) (w : dclR G A S b h σ lo hi z0 ahi d Lf q) (w' : dclR G' A' S' b' h σ' lo hi' z0' ahi' d Lf' q') : ∀ i, lo ≤ i → i < hi → dN σ σ' i := by
  obtain ⟨k, a, j⟩ := q
  obtain ⟨k', a', j'⟩ := q'
  simp only at e1 e2
  subst e1; subst e2
  rcases w with ⟨c, w⟩ | ⟨c, w⟩ | ⟨c, w⟩ <;> rcases w' with ⟨c', w'⟩ | ⟨c', w'⟩ | ⟨c', w'⟩ <;> simp only at c c' <;> first | (exfalso; omega) | skip
  · exact clsR_dN w w'
  · exact insR_dN w w'
  · exact funR_dN w w'
/-- a program that is read twice: its nodes are linked alike -/
theorem prows_dN : ∀ {qs : List dcl} {d : Nat} {Lf Lf' : Nat → List Nat} {lo hi hi' alo ahi alo' ahi' : Nat}, prows G A S b h σ d qs Lf lo hi alo ahi → prows G' A' S' b' h σ' d qs Lf' lo hi' alo' ahi' → ∀ i, lo ≤ i → i < hi → dN σ σ' i
  | [], _, _, _, _, _, _, _, _, _, _, r, _, i, h1, h2 => by have := r.1; omega
  | q :: qs, d, _, _, _, _, _, _, _, _, _, ⟨mid, _, _, _, _, w, r⟩, ⟨mid', _, _, _, _, w', r'⟩, i, h1, h2 => by
    have e := (dclR_det rfl rfl w w').1
    by_cases c : i < mid
    · exact dclR_dN rfl rfl w w' i h1 c
    · subst e
      exact prows_dN r r' i (by omega) h2
end LDet6
