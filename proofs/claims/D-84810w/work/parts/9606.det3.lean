set_option maxRecDepth 100000
/-! A PROGRAM THAT IS READ TWICE: the same declarations -/
/-- rows that ascend and have the same members are the same -/
theorem asc_det {α : Type} (K : α → Nat) : ∀ {xs ys : List α}, xs.Pairwise (fun a b => K a < K b) → ys.Pairwise (fun a b => K a < K b) → (∀ x, x ∈ xs → x ∈ ys) → (∀ x, x ∈ ys → x ∈ xs) → xs = ys
  | [], [], _, _, _, _ => rfl
  | [], y :: _, _, _, _, h2 => absurd (h2 y List.mem_cons_self) List.not_mem_nil
  | x :: _, [], _, _, h1, _ => absurd (h1 x List.mem_cons_self) List.not_mem_nil
  | x :: xs, y :: ys, p1, p2, h1, h2 => by
    obtain ⟨a1, a2⟩ := List.pairwise_cons.mp p1
    obtain ⟨b1, b2⟩ := List.pairwise_cons.mp p2
    have e : x = y := by
      rcases List.mem_cons.mp (h1 x List.mem_cons_self) with e | m1
      · exact e
      · rcases List.mem_cons.mp (h2 y List.mem_cons_self) with e | m2
        · exact e.symm
        · have := a1 y m2; have := b1 x m1; omega
    subst e
    rw [asc_det K a2 b2 (fun z hz => ?_) (fun z hz => ?_)]
    · rcases List.mem_cons.mp (h1 z (List.mem_cons_of_mem _ hz)) with e | m
      · have := a1 z hz; rw [e] at this; omega
      · exact m
    · rcases List.mem_cons.mp (h2 z (List.mem_cons_of_mem _ hz)) with e | m
      · have := b1 z hz; rw [e] at this; omega
      · exact m
section LDet3
variable {G G' : om_G} {A A' : Nat} {S : List Int} {b b' : Nat} {h : om_H} {σ σ' : tS}
/-- the place that a declaration's object tells -/
def dclK (h : om_H) (q : dcl) : Int := if q.1 = 5 then fI h 1196 q.2.1 else if q.1 = 6 then fI h 1276 q.2.1 else fI h 1188 (fR h 1530 q.2.1)
theorem dclR_key {lo hi z0 ahi d : Nat} {Lf : Nat → List Nat} {q : dcl} (w : dclR G A S b h σ lo hi z0 ahi d Lf q) : (q.1 = 5 ∨ q.1 = 6 ∨ q.1 = 2) ∧ dclK h q = (tokq S q.2.2 : Int) := by
  rcases w with ⟨c, w⟩ | ⟨c, w⟩ | ⟨c, w⟩
  · refine ⟨.inl c, ?_⟩
    obtain ⟨w1, w2, Lm, Ln, ar, ab, fam, am, ms, ns, k, -⟩ := w
    rw [dclK, if_pos c]; exact k.1.2.1
  · refine ⟨.inr (.inl c), ?_⟩
    obtain ⟨s, Ls, Lg, Lh, Ll, cn, con, fam, fw, j1, jc, jn, m1, m2, a0, a1, a2, am, first, xs, os, ws, ls, ns, dv, dv', -, k, -⟩ := w
    rw [dclK, if_neg (by omega), if_pos c]; exact k.1.2.1
  · refine ⟨.inr (.inr c), ?_⟩
    obtain ⟨w, s, Ls, Lg, wr, ex, j1, m1, m2, am, ag, a1, a2, a3, nT, nX, _, ws, xs, os, k, -, v, -⟩ := w
    rw [dclK, if_neg (by omega), if_neg (by omega), k.1.2.1]; exact v.2.2.1.2.2.1
theorem prows_key : ∀ {qs : List dcl} {d : Nat} {Lf : Nat → List Nat} {lo hi alo ahi : Nat}, prows G A S b h σ d qs Lf lo hi alo ahi → ∀ q ∈ qs, (q.1 = 5 ∨ q.1 = 6 ∨ q.1 = 2) ∧ dclK h q = (tokq S q.2.2 : Int) ∧ tokk S q.2.2 ≠ 0
  | [], _, _, _, _, _, _, _ => fun _ z => absurd z List.not_mem_nil
  | q :: qs, _, _, _, _, _, _, ⟨_, _, _, _, t, w, r⟩ => fun y hy => by
    rcases List.mem_cons.mp hy with rfl | hy
    · obtain ⟨k1, k2⟩ := dclR_key w
      refine ⟨k1, k2, ?_⟩
      rw [t.2.2.2]
      omega
    · exact prows_key r y hy
/-- the program's rows tell its declarations -/
theorem prgL_mem : ∀ {qs : List dcl} {Lf : Nat → List Nat}, (∀ q ∈ qs, q.1 = 5 ∨ q.1 = 6 ∨ q.1 = 2) → (∀ a, a ∈ prgL h qs Lf 82 ↔ a ∈ Lf 82 ∨ ∃ q ∈ qs, q.1 = 5 ∧ q.2.1 = a) ∧ (∀ a, a ∈ prgL h qs Lf 86 ↔ a ∈ Lf 86 ∨ ∃ q ∈ qs, q.1 = 6 ∧ q.2.1 = a) ∧ (∀ a, a ∈ prgL h qs Lf 90 ↔ a ∈ Lf 90 ∨ ∃ q ∈ qs, q.1 = 2 ∧ q.2.1 = a)
  | [], Lf, _ => by simp [prgL]
  | q :: qs, Lf, k => by
    obtain ⟨r1, r2, r3⟩ := prgL_mem (qs := qs) (Lf := dclLf h Lf q) (fun y hy => k y (List.mem_cons_of_mem _ hy))
    have e : prgL h (q :: qs) Lf = prgL h qs (dclLf h Lf q) := rfl
    rw [e]
    have ms : ∀ (P : dcl → Prop), (∃ y ∈ q :: qs, P y) ↔ P q ∨ ∃ y ∈ qs, P y := fun P => by simp
    rcases k q List.mem_cons_self with c | c | c
    · have d1 : dclLf h Lf q 82 = Lf 82 ++ [q.2.1] := by simp [dclLf, c, clsLf]
      have d2 : dclLf h Lf q 86 = Lf 86 := by simp [dclLf, c, clsLf]
      have d3 : dclLf h Lf q 90 = Lf 90 := by simp [dclLf, c, clsLf]
      refine ⟨fun a => ?_, fun a => ?_, fun a => ?_⟩
      · rw [r1 a, d1, ms]; simp [c, or_assoc, eq_comm]
      · rw [r2 a, d2, ms]; simp [c]
      · rw [r3 a, d3, ms]; simp [c]
    · have d1 : dclLf h Lf q 82 = Lf 82 := by simp [dclLf, c, updL]
      have d2 : dclLf h Lf q 86 = Lf 86 ++ [q.2.1] := by simp [dclLf, c, updL]
      have d3 : dclLf h Lf q 90 = Lf 90 := by simp [dclLf, c, updL]
      refine ⟨fun a => ?_, fun a => ?_, fun a => ?_⟩
      · rw [r1 a, d1, ms]; simp [c]
      · rw [r2 a, d2, ms]; simp [c, or_assoc, eq_comm]
      · rw [r3 a, d3, ms]; simp [c]
    · have d1 : dclLf h Lf q 82 = Lf 82 := by simp [dclLf, c, funLf, updL]
      have d2 : dclLf h Lf q 86 = Lf 86 := by simp [dclLf, c, funLf, updL]
      have d3 : dclLf h Lf q 90 = Lf 90 ++ [q.2.1] := by simp [dclLf, c, funLf, updL]
      refine ⟨fun a => ?_, fun a => ?_, fun a => ?_⟩
      · rw [r1 a, d1, ms]; simp [c]
      · rw [r2 a, d2, ms]; simp [c]
      · rw [r3 a, d3, ms]; simp [c, or_assoc, eq_comm]
theorem qs_sub {qs qs' : List dcl} {d d' lo hi alo ahi lo' hi' alo' ahi' : Nat} {Lf Lf' : Nat → List Nat} (e1 : prgL h qs (fun _ => []) 82 = prgL h qs' (fun _ => []) 82) (e2 : prgL h qs (fun _ => []) 86 = prgL h qs' (fun _ => []) 86) (e3 : prgL h qs (fun _ => []) 90 = prgL h qs' (fun _ => []) 90) (r : prows G A S b h σ d qs Lf lo hi alo ahi) (r' : prows G' A' S b' h σ' d' qs' Lf' lo' hi' alo' ahi') : ∀ q ∈ qs, q ∈ qs' := by
  intro q hq
  have k := prows_key r
  have k' := prows_key r'
  obtain ⟨m1, m2, m3⟩ := prgL_mem (h := h) (Lf := fun _ => []) (fun q hq => (k q hq).1)
  obtain ⟨n1, n2, n3⟩ := prgL_mem (h := h) (Lf := fun _ => []) (fun q hq => (k' q hq).1)
  have key : ∃ y ∈ qs', y.1 = q.1 ∧ y.2.1 = q.2.1 := by
    rcases (k q hq).1 with c | c | c
    · have := (m1 q.2.1).mpr (.inr ⟨q, hq, c, rfl⟩)
      rw [e1] at this
      rcases (n1 q.2.1).mp this with z | ⟨y, hy, c1, c2⟩
      · exact absurd z List.not_mem_nil
      · exact ⟨y, hy, c1.trans c.symm, c2⟩
    · have := (m2 q.2.1).mpr (.inr ⟨q, hq, c, rfl⟩)
      rw [e2] at this
      rcases (n2 q.2.1).mp this with z | ⟨y, hy, c1, c2⟩
      · exact absurd z List.not_mem_nil
      · exact ⟨y, hy, c1.trans c.symm, c2⟩
    · have := (m3 q.2.1).mpr (.inr ⟨q, hq, c, rfl⟩)
      rw [e3] at this
      rcases (n3 q.2.1).mp this with z | ⟨y, hy, c1, c2⟩
      · exact absurd z List.not_mem_nil
      · exact ⟨y, hy, c1.trans c.symm, c2⟩
  obtain ⟨y, hy, c1, c2⟩ := key
  have t : dclK h y = dclK h q := by rw [dclK, dclK, c1, c2]
  rw [(k' y hy).2.1, (k q hq).2.1] at t
  have t : tokq S y.2.2 = tokq S q.2.2 := by omega
  have e : y.2.2 = q.2.2 := by
    rcases Nat.lt_trichotomy y.2.2 q.2.2 with z | z | z
    · have := tokq_lt (k' y hy).2.2 z; omega
    · exact z
    · have := tokq_lt (k q hq).2.2 z; omega
  have : y = q := by
    obtain ⟨y1, y2, y3⟩ := y
    obtain ⟨q1, q2, q3⟩ := q
    simp only at c1 c2 e
    rw [c1, c2, e]
  rw [← this]; exact hy
/-- a program that is read twice out of the same heap: the same declarations -/
theorem qs_det {qs qs' : List dcl} {d d' lo hi alo ahi lo' hi' alo' ahi' : Nat} {Lf Lf' : Nat → List Nat} {pr : Nat} (p : PC h pr (prgL h qs (fun _ => []))) (p' : PC h pr (prgL h qs' (fun _ => []))) (s : qs.Pairwise (fun q q' => q.2.2 < q'.2.2)) (s' : qs'.Pairwise (fun q q' => q.2.2 < q'.2.2)) (r : prows G A S b h σ d qs Lf lo hi alo ahi) (r' : prows G' A' S b' h σ' d' qs' Lf' lo' hi' alo' ahi') : qs = qs' := by
  have e : ∀ f ∈ PFs, prgL h qs (fun _ => []) f = prgL h qs' (fun _ => []) f := fun f hf => (p f hf).symm.trans (p' f hf)
  exact asc_det (fun q => q.2.2) s s' (qs_sub (e 82 (by simp)) (e 86 (by simp)) (e 90 (by simp)) r r') (qs_sub (e 82 (by simp)).symm (e 86 (by simp)).symm (e 90 (by simp)).symm r' r)
end LDet3
