set_option maxRecDepth 100000
/-! THE NODES OF A PROGRAM COME OUT THE SAME -/
section LDet2
variable {G G' : om_G} {A A' : Nat} {S S' : List Int} {b b' : Nat} {h : om_H} {σ σ' : tS}
theorem chain_head {ns : List Nat} {f f' : Int} (c : chain σ f ns) (c' : chain σ' f' ns) : f = f' := by
  cases ns with
  | nil => exact Eq.trans c (Eq.symm c')
  | cons n ns => exact c.1.trans c'.1.symm
theorem mrows_det {c c' : Nat} : ∀ {k k' : Nat} {xs os os' : List Nat} {lo hi hi' alo ahi alo' ahi' : Nat}, mrows A S b h σ c k xs os lo hi alo ahi → mrows A' S' b' h σ' c' k' xs os' lo hi' alo' ahi' → hi = hi' ∧ os = os' ∧ ∀ o ∈ os, ga σ 546 o = ga σ' 546 o
  | _, _, [], [], [], _, _, _, _, _, _, _, r, r' => ⟨r.1.symm.trans r'.1, rfl, fun _ z => absurd z List.not_mem_nil⟩
  | _, _, _ :: _, o :: os, o' :: os', _, _, _, _, _, _, _, ⟨_, _, _, p, _, w1, w2, _, _, r⟩, ⟨_, _, _, p', _, w1', w2', _, _, r'⟩ => by
    obtain ⟨e, ep⟩ := WR_det w1 w1'
    subst e
    obtain ⟨e, e2, e3⟩ := mrows_det r r'
    refine ⟨e, by rw [e2], fun y hy => ?_⟩
    rcases List.mem_cons.mp hy with rfl | hy
    · rw [w2.2.2.2, w2'.2.2.2, ep]
    · exact e3 y hy
  | _, _, [], _ :: _, _, _, _, _, _, _, _, _, r, _ => r.elim
  | _, _, _ :: _, [], _, _, _, _, _, _, _, _, r, _ => r.elim
  | _, _, [], [], _ :: _, _, _, _, _, _, _, _, _, r => r.elim
  | _, _, _ :: _, _ :: _, [], _, _, _, _, _, _, _, _, r => r.elim
theorem lrows_det : ∀ {xs os os' : List Nat} {lo hi hi' alo ahi alo' ahi' : Nat}, lrows G A S b h σ xs os lo hi alo ahi → lrows G' A' S' b' h σ' xs os' lo hi' alo' ahi' → hi = hi' ∧ os = os' ∧ ∀ o ∈ os, ga σ 546 o = ga σ' 546 o
  | [], [], [], _, _, _, _, _, _, _, r, r' => ⟨r.1.symm.trans r'.1, rfl, fun _ z => absurd z List.not_mem_nil⟩
  | _ :: _, o :: os, o' :: os', _, _, _, _, _, _, _, ⟨_, _, p, _, w1, w2, _, _, r⟩, ⟨_, _, p', _, w1', w2', _, _, r'⟩ => by
    obtain ⟨e, ep⟩ := XR_det Psi0_det _ _ _ _ _ _ _ _ _ _ _ _ w1 w1'
    subst e
    obtain ⟨e, e2, e3⟩ := lrows_det r r'
    refine ⟨e, by rw [e2], fun y hy => ?_⟩
    rcases List.mem_cons.mp hy with rfl | hy
    · rw [w2.2.2.2, w2'.2.2.2, ep]
    · exact e3 y hy
  | [], _ :: _, _, _, _, _, _, _, _, _, r, _ => r.elim
  | _ :: _, [], _, _, _, _, _, _, _, _, r, _ => r.elim
  | [], [], _ :: _, _, _, _, _, _, _, _, _, r => r.elim
  | _ :: _, _ :: _, [], _, _, _, _, _, _, _, _, r => r.elim
theorem grows_det : ∀ {xs os os' : List Nat} {lo hi hi' alo ahi alo' ahi' : Nat}, grows A S b h σ xs os lo hi alo ahi → grows A' S' b' h σ' xs os' lo hi' alo' ahi' → hi = hi' ∧ os = os'
  | [], [], [], _, _, _, _, _, _, _, r, r' => ⟨r.1.symm.trans r'.1, rfl⟩
  | _ :: _, o :: os, o' :: os', lo, _, _, _, _, _, _, ⟨_, _, _, _, _, _, w, r⟩, ⟨_, _, _, _, _, _, w', r'⟩ => by
    have e : o = o' := by
      rcases w with ⟨c, _, e⟩ | ⟨_, _, _, _, c, _, _, _, w⟩ <;> rcases w' with ⟨c', _, e'⟩ | ⟨_, _, _, _, c', _, _, _, w'⟩
      · omega
      · exact absurd c c'
      · exact absurd c' c
      · exact (WR_det w w').1
    subst e
    obtain ⟨e, e2⟩ := grows_det r r'
    exact ⟨e, by rw [e2]⟩
  | [], _ :: _, _, _, _, _, _, _, _, _, r, _ => r.elim
  | _ :: _, [], _, _, _, _, _, _, _, _, r, _ => r.elim
  | [], [], _ :: _, _, _, _, _, _, _, _, _, r => r.elim
  | _ :: _, _ :: _, [], _, _, _, _, _, _, _, _, r => r.elim
variable {lo hi hi' z0 ahi z0' ahi' d d' j0 j0' : Nat} {nb nb' : Int}
theorem clsR_det {c : Nat} (w : clsR A S b h σ lo hi z0 ahi c d j0 nb) (w' : clsR A' S' b' h σ' lo hi' z0' ahi' c d' j0' nb') : hi = hi' ∧ ga σ 602 d = ga σ' 602 d' := by
  obtain ⟨w1, w2, Lm, Ln, ar, ab, fam, am, ms, ns, q, -, -, -, -, -, ⟨-, e⟩, m, c, -⟩ := w
  obtain ⟨w1', w2', Lm', Ln', ar', ab', fam', am', ms', ns', q', -, -, -, -, -, ⟨-, e'⟩, m', c', -⟩ := w'
  have f := q.2.2.1.1; have f' := q'.2.2.1.1
  have e2 : ms = ms' := by rw [← e, ← e', ← f, ← f']
  subst e2
  obtain ⟨r1, r2, _⟩ := mrows_det m m'
  subst r2
  exact ⟨r1, chain_head c c'⟩
theorem funR_det {f : Nat} (w : funR G A S b h σ lo hi z0 ahi f d j0 nb) (w' : funR G' A' S' b' h σ' lo hi' z0' ahi' f d' j0' nb') : hi = hi' ∧ ga σ 606 d = ga σ' 606 d' ∧ ga σ 618 d = ga σ' 618 d' ∧ ga σ 622 d = ga σ' 622 d' := by
  obtain ⟨_, s, Ls, Lg, wr, ex, j1, m1, m2, am, ag, a1, a2, a3, nT, nX, _, ws, xs, os, q, -, -, -, ⟨-, e, g, c, -⟩, t, x, -, v⟩ := w
  obtain ⟨_, s', Ls', Lg', wr', ex', j1', m1', m2', am', ag', a1', a2', a3', nT', nX', _, ws', xs', os', q', -, -, -, ⟨-, e', g', c', -⟩, t', x', -, v'⟩ := w'
  obtain ⟨⟨-, -, -, k1, k2, k3⟩, -, -, -, k4⟩ := q
  obtain ⟨⟨-, -, -, k1', k2', k3'⟩, -, -, -, k4'⟩ := q'
  have es : s = s' := k1.symm.trans k1'
  subst es
  have eL : Lg = Lg' := k4.symm.trans k4'
  subst eL
  have ex1 : xs = xs' := e.symm.trans e'
  subst ex1
  obtain ⟨r1, r2⟩ := grows_det g g'
  subst r1; subst r2
  have ew : wr = wr' := k2.symm.trans k2'
  subst ew
  obtain ⟨r1, r2⟩ := WR_det t t'
  subst r1; subst r2
  have ee : ex = ex' := k3.symm.trans k3'
  subst ee
  obtain ⟨r1, r2⟩ := XR_det Psi0_det _ _ _ _ _ _ _ _ _ _ _ _ x x'
  subst r2
  exact ⟨r1, chain_head c c', v.2.2.2.1.trans v'.2.2.2.1.symm, v.2.2.2.2.trans v'.2.2.2.2.symm⟩
theorem insR_det {f : Nat} (w : insR G A S b h σ lo hi z0 ahi f d j0 nb) (w' : insR G' A' S' b' h σ' lo hi' z0' ahi' f d' j0' nb') : hi = hi' ∧ ga σ 602 d = ga σ' 602 d' ∧ ga σ 606 d = ga σ' 606 d' ∧ ga σ 614 d = ga σ' 614 d' := by
  obtain ⟨s, Ls, Lg, Lh, Ll, cn, con, fam, fw, j1, jc, jn, m1, m2, a0, a1, a2, am, first, xs, os, ws, ls, ns, dv, dv', i1, i2, -, -, -, fm, ⟨-, l1, l2, l3, -⟩, g, dq, -⟩ := w
  obtain ⟨s', Ls', Lg', Lh', Ll', cn', con', fam', fw', j1', jc', jn', m1', m2', a0', a1', a2', am', first', xs', os', ws', ls', ns', dv2, dv2', i1', i2', -, -, -, fm', ⟨-, l1', l2', l3', -⟩, g', dq', -⟩ := w'
  obtain ⟨⟨-, -, -, k1, -, -, k2, k3, -, k4⟩, -⟩ := i2
  obtain ⟨⟨-, -, -, k1', -, -, k2', k3', -, k4'⟩, -⟩ := i2'
  obtain ⟨⟨-, -, o1⟩, -, ⟨-, o2⟩, o3, o4, -⟩ := i1
  obtain ⟨⟨-, -, o1'⟩, -, ⟨-, o2'⟩, o3', o4', -⟩ := i1'
  have es : s = s' := k1.symm.trans k1'
  subst es
  have eL : Lg = Lg' := o1.symm.trans o1'
  subst eL
  have ex1 : xs = xs' := o2.symm.trans o2'
  subst ex1
  obtain ⟨r1, r2⟩ := grows_det o3 o3'
  subst r1; subst r2
  have ef : first = first' := chain_head o4 o4'
  subst ef
  have ea : fam = fam' := k2.symm.trans k2'
  subst ea
  have ew : fw = fw' := k3.symm.trans k3'
  subst ew
  have key : m2 = m2' ∧ dv' 614 = dv2' 614 ∧ dv' 606 = dv2' 606 := by
    rcases fm with ⟨c, -, e, e2⟩ | ⟨jf, _, p, _, _, c, -, -, -, -, t, -, -, e2⟩ <;> rcases fm' with ⟨c', -, e', e2'⟩ | ⟨jf', _, p', _, _, c', -, -, -, -, t', -, -, e2'⟩
    · rw [e2, e2', dq.2.2.2.2.2.2.2.2, dq'.2.2.2.2.2.2.2.2, dq.2.2.2.2.2.2.1, dq'.2.2.2.2.2.2.1]
      exact ⟨by omega, rfl, rfl⟩
    · exact absurd c c'
    · exact absurd c' c
    · obtain ⟨r1, r2⟩ := WR_det t t'
      subst r2
      rw [e2, e2']
      simp only [updD]
      exact ⟨r1, by simp, by simpa using dq.2.2.2.2.2.2.1.trans dq'.2.2.2.2.2.2.1.symm⟩
  obtain ⟨e1, e2, e3⟩ := key
  subst e1
  have el : Ll = Ll' := k4.symm.trans k4'
  subst el
  have es : ls = ls' := l1.symm.trans l1'
  subst es
  obtain ⟨r1, r2, -⟩ := lrows_det l2 l2'
  subst r2
  refine ⟨r1, chain_head l3 l3', ?_, ?_⟩
  · rw [g 606 (by simp) (by decide), g' 606 (by simp) (by decide), e3]
  · rw [g 614 (by simp) (by decide), g' 614 (by simp) (by decide), e2]
/-- the nodes of a declaration are the same -/
def ndE (σ σ' : tS) (k d : Nat) : Prop := (k = 5 → ga σ 602 d = ga σ' 602 d) ∧ (k = 6 → ga σ 602 d = ga σ' 602 d ∧ ga σ 606 d = ga σ' 606 d ∧ ga σ 614 d = ga σ' 614 d) ∧ (k = 2 → ga σ 606 d = ga σ' 606 d ∧ ga σ 618 d = ga σ' 618 d ∧ ga σ 622 d = ga σ' 622 d)
theorem dclR_det {Lf Lf' : Nat → List Nat} {q q' : dcl} (e1 : q.1 = q'.1) (e2 : q.2.1 = q'.2.1) (w : dclR G A S b h σ lo hi z0 ahi d Lf q) (w' : dclR G' A' S' b' h σ' lo hi' z0' ahi' d Lf' q') : hi = hi' ∧ ndE σ σ' q.1 d := by
  obtain ⟨k, a, j⟩ := q
  obtain ⟨k', a', j'⟩ := q'
  simp only at e1 e2
  subst e1; subst e2
  rcases w with ⟨c, w⟩ | ⟨c, w⟩ | ⟨c, w⟩ <;> rcases w' with ⟨c', w'⟩ | ⟨c', w'⟩ | ⟨c', w'⟩ <;> simp only at c c' <;> first | (exfalso; omega) | skip
  · obtain ⟨r1, r2⟩ := clsR_det w w'
    exact ⟨r1, fun _ => r2, fun z => absurd (z.symm.trans c) (by decide), fun z => absurd (z.symm.trans c) (by decide)⟩
  · obtain ⟨r1, r2⟩ := insR_det w w'
    exact ⟨r1, fun z => absurd (z.symm.trans c) (by decide), fun _ => r2, fun z => absurd (z.symm.trans c) (by decide)⟩
  · obtain ⟨r1, r2⟩ := funR_det w w'
    exact ⟨r1, fun z => absurd (z.symm.trans c) (by decide), fun z => absurd (z.symm.trans c) (by decide), fun _ => r2⟩
/-- the nodes of a program are the same -/
theorem prows_det : ∀ {qs qs' : List dcl} {d : Nat} {Lf Lf' : Nat → List Nat} {lo hi hi' alo ahi alo' ahi' : Nat}, qs.map (fun q => (q.1, q.2.1)) = qs'.map (fun q => (q.1, q.2.1)) → prows G A S b h σ d qs Lf lo hi alo ahi → prows G' A' S' b' h σ' d qs' Lf' lo hi' alo' ahi' → hi = hi' ∧ ∀ (i : Nat) (q : dcl), qs[i]? = some q → ndE σ σ' q.1 (d + i)
  | [], [], _, _, _, _, _, _, _, _, _, _, _, r, r' => ⟨r.1.symm.trans r'.1, fun i q z => absurd z (by simp)⟩
  | q :: qs, q' :: qs', d, _, _, _, _, _, _, _, _, _, e, ⟨mid, _, _, _, _, w, r⟩, ⟨mid', _, _, _, _, w', r'⟩ => by
    simp only [List.map_cons, List.cons.injEq, Prod.mk.injEq] at e
    obtain ⟨r1, r2⟩ := dclR_det e.1.1 e.1.2 w w'
    subst r1
    obtain ⟨r3, r4⟩ := prows_det e.2 r r'
    refine ⟨r3, fun i y hy => ?_⟩
    cases i with
    | zero =>
      have : q = y := by simpa using hy
      subst this
      exact r2
    | succ i =>
      have := r4 i y (by simpa using hy)
      rw [show d + (i + 1) = d + 1 + i by omega]
      exact this
  | [], _ :: _, _, _, _, _, _, _, _, _, _, _, e, _, _ => absurd e (by simp)
  | _ :: _, [], _, _, _, _, _, _, _, _, _, _, e, _, _ => absurd e (by simp)
end LDet2
