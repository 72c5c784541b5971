set_option maxRecDepth 100000
/-! THE NODES COME OUT THE SAME: an object of the component and the first free node determine the nodes of the twin -/
/-- rows of pieces that determine their nodes do so -/
theorem rows2_det {W W' : Nat → Nat → Nat → Nat → Nat → Nat → Prop} (hW : ∀ lo hi hi' alo ahi alo' ahi' x n n', W lo hi alo ahi x n → W' lo hi' alo' ahi' x n' → hi = hi' ∧ n = n') : ∀ {xs ns ns' : List Nat} {lo hi hi' alo ahi alo' ahi' : Nat}, rows2 W xs ns lo hi alo ahi → rows2 W' xs ns' lo hi' alo' ahi' → hi = hi' ∧ ns = ns'
  | [], [], [], _, _, _, _, _, _, _, r, r' => ⟨r.1.symm.trans r'.1, rfl⟩
  | x :: xs, n :: ns, n' :: ns', _, _, _, _, _, _, _, ⟨mid, _, w, r⟩, ⟨mid', _, w', r'⟩ => by
    obtain ⟨e, e2⟩ := hW _ _ _ _ _ _ _ _ _ _ w w'
    subst e; subst e2
    obtain ⟨e, e2⟩ := rows2_det hW r r'
    exact ⟨e, by rw [e2]⟩
  | [], _ :: _, _, _, _, _, _, _, _, _, r, _ => r.elim
  | _ :: _, [], _, _, _, _, _, _, _, _, r, _ => r.elim
  | [], [], _ :: _, _, _, _, _, _, _, _, _, r => r.elim
  | _ :: _, _ :: _, [], _, _, _, _, _, _, _, _, r => r.elim
theorem WR_det {A A' b b' : Nat} {S S' : List Int} {h : om_H} {σ σ' : tS} : ∀ {k k' lo hi hi' alo ahi alo' ahi' a n n' : Nat}, WR A S b h σ k lo hi alo ahi a n → WR A' S' b' h σ' k' lo hi' alo' ahi' a n' → hi = hi' ∧ n = n'
  | 0, _, _, _, _, _, _, _, _, _, _, _, w, _ => w.elim
  | _ + 1, 0, _, _, _, _, _, _, _, _, _, _, _, w => w.elim
  | k + 1, k' + 1, lo, hi, hi', alo, ahi, alo', ahi', a, n, n', ⟨w1, w2, w3, w4, w5, w6, w7, w8, w9⟩, ⟨v1, v2, v3, v4, v5, v6, v7, v8, v9⟩ => by
    rcases w9 with ⟨j, q1, q2, q3, q4, q5, q6, q7, q8, q9, q10⟩ | ⟨j, ns, amid, q1, q2, q3, q4, q5, q6, q7, q8, q9, q10, q11, q12, q13⟩ | ⟨x, y, nx, ny, mid, amid, aend, q1, q2, q3, q4, q5, q6, q7, q8, q9, q10, q11, q12, q13⟩ <;>
    rcases v9 with ⟨j', p1, p2, p3, p4, p5, p6, p7, p8, p9, p10⟩ | ⟨j', ns', amid', p1, p2, p3, p4, p5, p6, p7, p8, p9, p10, p11, p12, p13⟩ | ⟨x', y', nx', ny', mid', amid', aend', p1, p2, p3, p4, p5, p6, p7, p8, p9, p10, p11, p12, p13⟩
    · exact ⟨by omega, by omega⟩
    · omega
    · rw [q8] at p4; exact absurd p4 (by simp)
    · omega
    · exact ⟨(rows2_det (W := WR A S b h σ k) (W' := WR A' S' b' h σ' k') (fun _ _ _ _ _ _ _ _ _ _ w w' => WR_det w w') q13 p13).1, by omega⟩
    · omega
    · rw [p8] at q4; exact absurd q4 (by simp)
    · omega
    · rw [q4] at p4
      injection p4 with e1 e2
      injection e2 with e2 _
      subst e1; subst e2
      obtain ⟨e, _⟩ := WR_det q8 p8
      subst e
      obtain ⟨e, _⟩ := WR_det q9 p9
      exact ⟨by omega, e⟩
/-- nodes that an object and the first free node determine -/
def detW (W W' : xW) : Prop := ∀ lo hi hi' alo ahi alo' ahi' x n n', W lo hi alo ahi x n → W' lo hi' alo' ahi' x n' → hi = hi' ∧ n = n'
theorem spineR_det {α : Type} {I I' : Nat → Nat → Nat → Nat → Nat → α → Nat → Prop} (hI : ∀ lo hi hi' alo ahi alo' ahi' l l' x s s', I lo hi alo ahi l x s → I' lo hi' alo' ahi' l' x s' → hi = hi' ∧ s = s') : ∀ {xs : List α} {l lo hi hi' alo ahi alo' ahi' top top' : Nat}, spineR I xs l lo hi alo ahi top → spineR I' xs l lo hi' alo' ahi' top' → hi = hi' ∧ top = top'
  | [], _, _, _, _, _, _, _, _, _, _, ⟨r1, r2, _⟩, ⟨q1, q2, _⟩ => ⟨r2.symm.trans q2, r1.symm.trans q1⟩
  | _ :: _, _, _, _, _, _, _, _, _, _, _, ⟨mid, _, s, w, r⟩, ⟨mid', _, s', w', r'⟩ => by
    obtain ⟨e, e2⟩ := hI _ _ _ _ _ _ _ _ _ _ _ _ w w'
    subst e; subst e2
    exact spineR_det hI r r'
section LDet
variable {G G' : om_G} {A A' : Nat} {S S' : List Int} {b b' : Nat} {h : om_H} {σ σ' : tS}
theorem atW_det {z z' : Nat} : ∀ {ws os os' : List Nat} {lo hi hi' alo ahi alo' ahi' : Nat}, atW A S b h σ z ws os lo hi alo ahi → atW A' S' b' h σ' z' ws os' lo hi' alo' ahi' → hi = hi' ∧ os = os'
  | [], [], [], _, _, _, _, _, _, _, r, r' => ⟨r.1.symm.trans r'.1, rfl⟩
  | w :: ws, o :: os, o' :: os', _, _, _, _, _, _, _, ⟨_, _, _, p, _, _, w1, _, r⟩, ⟨_, _, _, p', _, _, w1', _, r'⟩ => by
    obtain ⟨e, _⟩ := WR_det w1 w1'
    subst e
    obtain ⟨e, e2⟩ := atW_det r r'
    exact ⟨e, by rw [e2]⟩
  | [], _ :: _, _, _, _, _, _, _, _, _, r, _ => r.elim
  | _ :: _, [], _, _, _, _, _, _, _, _, r, _ => r.elim
  | [], [], _ :: _, _, _, _, _, _, _, _, _, r => r.elim
  | _ :: _, _ :: _, [], _, _, _, _, _, _, _, _, r => r.elim
/-- what is known by the node's kind determines where the types' nodes end -/
def detP (P P' : xP) : Prop := ∀ tag lo hi hi' alo ahi alo' ahi' a n n', tag ∈ [13, 14, 15, 19] → P tag lo hi alo ahi a n → P' tag lo hi' alo' ahi' a n' → hi = hi'
theorem Psi0_det : detP (Psi0 A S b h σ) (Psi0 A' S' b' h σ') := by
  intro tag lo hi hi' alo ahi alo' ahi' a n n' ht p p'
  obtain ⟨-, -, p⟩ := p
  obtain ⟨-, -, p'⟩ := p'
  simp only [List.mem_cons, List.not_mem_nil, or_false] at ht
  rcases ht with rfl | rfl | rfl | rfl
  · obtain ⟨_, q, _, w⟩ := p; obtain ⟨_, q', _, w'⟩ := p'; exact (WR_det w w').1
  · obtain ⟨_, q, _, w⟩ := p; obtain ⟨_, q', _, w'⟩ := p'; exact (WR_det w w').1
  · obtain ⟨_, q, _, w⟩ := p; obtain ⟨_, q', _, w'⟩ := p'; exact (WR_det w w').1
  · obtain ⟨_, _, _, _, w⟩ := p; obtain ⟨_, _, _, _, w'⟩ := p'; exact (atW_det w w').1
variable {P P' : xP} {W W' : xW}
theorem itemR_det (hP : detP P P') (hW : detW W W') (lo hi hi' alo ahi alo' ahi' l l' x s s' : Nat) (w : itemR S b h σ P W lo hi alo ahi l x s) (w' : itemR S' b' h σ' P' W' lo hi' alo' ahi' l' x s') : hi = hi' ∧ s = s' := by
  obtain ⟨-, -, -, -, q5, -, w⟩ := w
  obtain ⟨-, -, -, -, q5', -, w'⟩ := w'
  have : s = s' := by
    rcases w with ⟨ne, a2, -, c, -, w, -⟩ | ⟨j, a2, -, c, -, -, -, -, w⟩ <;> rcases w' with ⟨ne', a2', -, c', -, w', -⟩ | ⟨j', a2', -, c', -, -, -, -, w'⟩
    · exact (hW _ _ _ _ _ _ _ _ _ _ w w').1
    · exact absurd c' c
    · exact absurd c c'
    · exact hP _ _ _ _ _ _ _ _ _ _ _ (by simp) w w'
  exact ⟨by omega, this⟩
theorem signR_det (hW : detW W W') (lo hi hi' alo ahi alo' ahi' l l' : Nat) (x : Nat × Nat) (s s' : Nat) (w : signR G S b σ P W lo hi alo ahi l x s) (w' : signR G' S' b' σ' P' W' lo hi' alo' ahi' l' x s') : hi = hi' ∧ s = s' := by
  obtain ⟨-, q, -, -, j, nx, -, -, -, -, w, -⟩ := w
  obtain ⟨-, q', -, -, j', nx', -, -, -, -, w', -⟩ := w'
  have := (hW _ _ _ _ _ _ _ _ _ _ w w').1
  exact ⟨by omega, this⟩
theorem atsR_zero {alo ahi : Nat} : ∀ {xs os : List Nat}, atsR S b h σ alo ahi xs os → xs.length = os.length ∧ ∀ x ∈ xs, fR h 1498 x = 0 ∧ fR h 1502 x = 0
  | [], [], _ => ⟨rfl, fun _ z => absurd z List.not_mem_nil⟩
  | x :: xs, o :: os, ⟨_, _, q, r⟩ => by
    obtain ⟨e, z⟩ := atsR_zero r
    refine ⟨by simp [e], fun y hy => ?_⟩
    rcases List.mem_cons.mp hy with rfl | hy
    · exact ⟨q.2.1, q.2.2.1⟩
    · exact z y hy
  | [], _ :: _, r => r.elim
  | _ :: _, [], r => r.elim
theorem spine_not {ys : List Nat} {l lo hi alo ahi top : Nat} (w : spineR (itemR S b h σ P W) ys l lo hi alo ahi top) : ∀ y ∈ ys.head?, ¬ (fR h 1498 y = 0 ∧ fR h 1502 y = 0) := by
  intro y hy
  cases ys with
  | nil => exact absurd hy (by simp)
  | cons x xs =>
    have e : x = y := by simpa using hy
    subst e
    obtain ⟨_, _, _, w, _⟩ := w
    obtain ⟨-, -, -, -, -, -, w⟩ := w
    rcases w with ⟨ne, a2, -, c, -⟩ | ⟨j, a2, -, -, c, -⟩
    · exact fun z => c z.1
    · exact fun z => c z.2
/-- the items of @s are the first ones that have neither -/
theorem split_det {Q : Nat → Prop} : ∀ {xs xs' ys ys' : List Nat}, xs ++ ys = xs' ++ ys' → (∀ x ∈ xs, Q x) → (∀ x ∈ xs', Q x) → (∀ y ∈ ys.head?, ¬ Q y) → (∀ y ∈ ys'.head?, ¬ Q y) → xs = xs' ∧ ys = ys'
  | [], [], _, _, e, _, _, _, _ => ⟨rfl, e⟩
  | x :: xs, x' :: xs', ys, ys', e, h1, h2, h3, h4 => by
    simp only [List.cons_append, List.cons.injEq] at e
    obtain ⟨e1, e2⟩ := split_det e.2 (fun y hy => h1 y (List.mem_cons_of_mem _ hy)) (fun y hy => h2 y (List.mem_cons_of_mem _ hy)) h3 h4
    exact ⟨by rw [e.1, e1], e2⟩
  | [], x' :: xs', ys, ys', e, h1, h2, h3, h4 => by
    rw [List.nil_append] at e
    exact absurd (h2 x' List.mem_cons_self) (h3 x' (by rw [e]; simp))
  | x :: xs, [], ys, ys', e, h1, h2, h3, h4 => by
    rw [List.nil_append] at e
    exact absurd (h1 x List.mem_cons_self) (h4 x (by rw [← e]; simp))
theorem X30_det (hP : detP P P') (hW : detW W W') {lo hi hi' alo ahi alo' ahi' a n n' : Nat} (w : X30 A S b h σ P W lo hi alo ahi a n) (w' : X30 A' S' b' h σ' P' W' lo hi' alo' ahi' a n') : hi = hi' ∧ n = n' := by
  obtain ⟨-, -, -, -, nh, mid, a1, a2, a3, a4, xs, ys, e, -, -, -, sp, -, hd, -⟩ := w
  obtain ⟨-, -, -, -, nh', mid', a1', a2', a3', a4', xs', ys', e', -, -, -, sp', -, hd', -⟩ := w'
  have z : ∀ x ∈ xs, fR h 1498 x = 0 ∧ fR h 1502 x = 0 := by
    rcases hd with ⟨rfl, -⟩ | ⟨-, -, -, -, -, -, -, j, os, _, _, -, -, -, -, -, -, -, -, -, -, -, -, -, -, -, r⟩
    · exact fun _ z => absurd z List.not_mem_nil
    · exact (atsR_zero r).2
  have z' : ∀ x ∈ xs', fR h 1498 x = 0 ∧ fR h 1502 x = 0 := by
    rcases hd' with ⟨rfl, -⟩ | ⟨-, -, -, -, -, -, -, j, os, _, _, -, -, -, -, -, -, -, -, -, -, -, -, -, -, -, r⟩
    · exact fun _ z => absurd z List.not_mem_nil
    · exact (atsR_zero r).2
  obtain ⟨rfl, rfl⟩ := split_det (e.symm.trans e') z z' (spine_not sp) (spine_not sp')
  have k : mid = mid' ∧ nh = nh' := by
    rcases hd with ⟨c, w, -⟩ | ⟨-, -, -, -, -, -, e1, j, os, _, _, -, -, -, -, -, -, c, -, -, -, -, -, -, -, p, r⟩ <;> rcases hd' with ⟨c', w', -⟩ | ⟨-, -, -, -, -, -, e1', j', os', _, _, -, -, -, -, -, -, c', -, -, -, -, -, -, -, p', r'⟩
    · exact hW _ _ _ _ _ _ _ _ _ _ w w'
    · subst c; have := (atsR_zero r').1; exact absurd (List.length_eq_zero_iff.mp this.symm) c'
    · subst c'; have := (atsR_zero r).1; exact absurd (List.length_eq_zero_iff.mp this.symm) c
    · exact ⟨hP _ _ _ _ _ _ _ _ _ _ _ (by simp) p p', e1.trans e1'.symm⟩
  obtain ⟨rfl, rfl⟩ := k
  exact spineR_det (itemR_det hP hW) sp sp'
theorem X32_det (hW : detW W W') {lo hi hi' alo ahi alo' ahi' a n n' : Nat} (w : X32 G S b h σ P W lo hi alo ahi a n) (w' : X32 G' S' b' h σ' P' W' lo hi' alo' ahi' a n') : hi = hi' ∧ n = n' := by
  obtain ⟨-, -, -, -, -, -, -, j, nh, mid, a1, a2, a3, a4, w, -, -, -, sp, -⟩ := w
  obtain ⟨-, -, -, -, -, -, -, j', nh', mid', a1', a2', a3', a4', w', -, -, -, sp', -⟩ := w'
  obtain ⟨rfl, rfl⟩ := hW _ _ _ _ _ _ _ _ _ _ w w'
  exact spineR_det (signR_det hW) sp sp'
theorem XB_det (hP : detP P P') (hW : detW W W') : detW (XB G A S b h σ P W) (XB G' A' S' b' h σ' P' W') := by
  intro lo hi hi' alo ahi alo' ahi' a n n' w w'
  obtain ⟨-, -, -, -, w⟩ := w
  obtain ⟨-, -, -, -, w'⟩ := w'
  have key : ∀ {m m' : Nat}, kd h a = m → kd h a = m' → m ≠ m' → hi = hi' ∧ n = n' := fun e e' c => absurd (e.symm.trans e') c
  rcases w with w | w | w | w | w | w | w | w <;> rcases w' with w' | w' | w' | w' | w' | w' | w' | w' <;> first
    | exact key w.1 w'.1 (by decide)
    | exact X30_det hP hW w w'
    | exact X32_det hW w w'
    | skip
  · have := w.2.2.1; have := w'.2.2.1; exact ⟨by omega, by omega⟩
  · have := w.2.2.1; have := w'.2.2.1; exact ⟨by omega, by omega⟩
  · obtain ⟨-, -, q, j, nb, mid, a1, a2, a3, -, -, -, -, -, -, -, -, -, -, -, p, w, -⟩ := w
    obtain ⟨-, -, q', j', nb', mid', a1', a2', a3', -, -, -, -, -, -, -, -, -, -, -, p', w', -⟩ := w'
    have e := hP _ _ _ _ _ _ _ _ _ _ _ (by simp) p p'
    subst e
    have e := (hW _ _ _ _ _ _ _ _ _ _ w w').1
    exact ⟨by omega, e⟩
  · obtain ⟨-, -, q, j, n1, n2, m1, m2, a1, a2, a3, a4, -, -, -, -, -, -, -, -, -, -, -, -, p, w, v, -⟩ := w
    obtain ⟨-, -, q', j', n1', n2', m1', m2', a1', a2', a3', a4', -, -, -, -, -, -, -, -, -, -, -, -, p', w', v', -⟩ := w'
    have e := hP _ _ _ _ _ _ _ _ _ _ _ (by simp) p p'
    subst e
    have e := (hW _ _ _ _ _ _ _ _ _ _ w w').1
    subst e
    have e := (hW _ _ _ _ _ _ _ _ _ _ v v').1
    exact ⟨by omega, e⟩
  · obtain ⟨-, -, q, j, n1, n2, n3, m1, m2, a1, a2, a3, a4, -, -, -, -, -, -, -, w, v, u, -⟩ := w
    obtain ⟨-, -, q', j', n1', n2', n3', m1', m2', a1', a2', a3', a4', -, -, -, -, -, -, -, w', v', u', -⟩ := w'
    have e := (hW _ _ _ _ _ _ _ _ _ _ w w').1
    subst e
    have e := (hW _ _ _ _ _ _ _ _ _ _ v v').1
    subst e
    have e := (hW _ _ _ _ _ _ _ _ _ _ u u').1
    exact ⟨by omega, e⟩
  · obtain ⟨-, -, q, j, jx, n1, n2, n3, m1, m2, a1, a2, a3, a4, a5, -, -, -, -, -, -, -, -, -, -, -, -, -, -, w, v, -, u, -⟩ := w
    obtain ⟨-, -, q', j', jx', n1', n2', n3', m1', m2', a1', a2', a3', a4', a5', -, -, -, -, -, -, -, -, -, -, -, -, -, -, w', v', -, u', -⟩ := w'
    have e := (hW _ _ _ _ _ _ _ _ _ _ w w').1
    subst e
    have e := (hW _ _ _ _ _ _ _ _ _ _ v v').1
    subst e
    have e := (hW _ _ _ _ _ _ _ _ _ _ u u').1
    exact ⟨by omega, e⟩
/-- an ex's object and the first free node determine its nodes -/
theorem XR_det (hP : detP P P') : ∀ (k k' : Nat), detW (XR G A S b h σ P k) (XR G' A' S' b' h σ' P' k')
  | 0, _ => fun _ _ _ _ _ _ _ _ _ _ w _ => w.elim
  | _ + 1, 0 => fun _ _ _ _ _ _ _ _ _ _ _ w => w.elim
  | k + 1, k' + 1 => XB_det hP (XR_det hP k k')
end LDet
