set_option maxRecDepth 100000
/-! THE PROGRAM, declaration by declaration -/
/-- what stands ahead of the declaration i -/
def sAt (S : List Int) (ps : List PD) (s : PS) (i : Nat) : PS := (ps.take i).foldl (pst S) s
section LAT
variable {G : om_G} {A : Nat} {S : List Int} {b m : Nat} {N : List (List Int)} {cs : List Nat} {K : KT} {rest : List (Nat × List Nat)} {fo : List Nat} {F : FT} {mo : List (List Nat)} {Ms : List FT} {hr h : om_H} {ul : List Nat} {σ τ : tS} {n Z hi ahi : Nat}
theorem sAt_succ : ∀ {i : Nat} {ps : List PD} {s : PS} {p : PD}, ps[i]? = some p → sAt S ps s (i + 1) = pst S (sAt S ps s i) p
  | _, [], _, _, e => by cases e
  | 0, p' :: ps, s, p, e => by rw [← Option.some.inj e]; rfl
  | i + 1, p' :: ps, s, p, e => sAt_succ (i := i) (ps := ps) (s := pst S s p') e
theorem sAt_all {ps : List PD} {s : PS} : sAt S ps s ps.length = ps.foldl (pst S) s := by
  unfold sAt
  rw [List.take_length]
/-- the lists grow -/
theorem pst_gr {s : PS} {p : PD} : (∃ T, (pst S s p).1 = s.1 ++ T) ∧ (∃ T, (pst S s p).2.1 = s.2.1 ++ T) ∧ (∃ T, (pst S s p).2.2.1 = s.2.2.1 ++ T) ∧ s.2.2.2.2.2 ≤ (pst S s p).2.2.2.2.2 := by
  by_cases h5 : p.1 = 5
  · rw [pst_5 h5]; exact ⟨⟨_, rfl⟩, ⟨[], (List.append_nil _).symm⟩, ⟨_, rfl⟩, Nat.le_refl _⟩
  · by_cases h6 : p.1 = 6
    · rw [pst_6 h6]; exact ⟨⟨[], (List.append_nil _).symm⟩, ⟨[], (List.append_nil _).symm⟩, ⟨[], (List.append_nil _).symm⟩, Nat.le_succ _⟩
    · unfold pst
      rw [if_neg h5, if_neg h6]
      exact ⟨⟨[], (List.append_nil _).symm⟩, ⟨_, rfl⟩, ⟨[], (List.append_nil _).symm⟩, Nat.le_refl _⟩
theorem psf_gr : ∀ (ps : List PD) (s : PS), (∃ T, (ps.foldl (pst S) s).1 = s.1 ++ T) ∧ (∃ T, (ps.foldl (pst S) s).2.1 = s.2.1 ++ T) ∧ (∃ T, (ps.foldl (pst S) s).2.2.1 = s.2.2.1 ++ T) ∧ s.2.2.2.2.2 ≤ (ps.foldl (pst S) s).2.2.2.2.2
  | [], s => ⟨⟨[], (List.append_nil _).symm⟩, ⟨[], (List.append_nil _).symm⟩, ⟨[], (List.append_nil _).symm⟩, Nat.le_refl _⟩
  | p :: ps, s => by
    obtain ⟨⟨T1, a1⟩, ⟨T2, a2⟩, ⟨T3, a3⟩, a4⟩ := psf_gr ps (pst S s p)
    obtain ⟨⟨U1, b1⟩, ⟨U2, b2⟩, ⟨U3, b3⟩, b4⟩ := pst_gr (S := S) (s := s) (p := p)
    exact ⟨⟨U1 ++ T1, by show (ps.foldl (pst S) (pst S s p)).1 = _; rw [a1, b1, List.append_assoc]⟩, ⟨U2 ++ T2, by show (ps.foldl (pst S) (pst S s p)).2.1 = _; rw [a2, b2, List.append_assoc]⟩, ⟨U3 ++ T3, by show (ps.foldl (pst S) (pst S s p)).2.2.1 = _; rw [a3, b3, List.append_assoc]⟩, Nat.le_trans b4 a4⟩
theorem sAt_gr {ps : List PD} {s : PS} (i : Nat) : (∃ T, (ps.foldl (pst S) s).1 = (sAt S ps s i).1 ++ T) ∧ (∃ T, (ps.foldl (pst S) s).2.1 = (sAt S ps s i).2.1 ++ T) ∧ (∃ T, (ps.foldl (pst S) s).2.2.1 = (sAt S ps s i).2.2.1 ++ T) ∧ (sAt S ps s i).2.2.2.2.2 ≤ (ps.foldl (pst S) s).2.2.2.2.2 := by
  have := psf_gr (S := S) (ps.drop i) (sAt S ps s i)
  unfold sAt at this ⊢
  rw [← List.foldl_append, List.take_append_drop] at this
  exact this
/-- which declaration a function, an inst, a class is -/
theorem fn_ix : ∀ {ps : List PD} {s : PS} {f : Nat}, f < (ps.foldl (pst S) s).2.1.length → s.2.1.length ≤ f → ∃ i p, ps[i]? = some p ∧ p.1 ≠ 5 ∧ p.1 ≠ 6 ∧ (sAt S ps s i).2.1.length = f
  | [], s, f, h1, h2 => by
    have h1' : f < s.2.1.length := h1
    omega
  | p :: ps, s, f, h1, h2 => by
    by_cases c : (pst S s p).2.1.length ≤ f
    · obtain ⟨i, p', e1, e2, e3, e4⟩ := fn_ix (ps := ps) (s := pst S s p) (f := f) h1 c
      exact ⟨i + 1, p', e1, e2, e3, e4⟩
    · have h5 : p.1 ≠ 5 := fun z => by rw [pst_5 z] at c; exact c h2
      have h6 : p.1 ≠ 6 := fun z => by rw [pst_6 z] at c; exact c h2
      refine ⟨0, p, rfl, h5, h6, ?_⟩
      show s.2.1.length = f
      unfold pst at c
      rw [if_neg h5, if_neg h6] at c
      simp only [List.length_append, List.length_singleton] at c
      omega
theorem in_ix : ∀ {ps : List PD} {s : PS} {f : Nat}, f < (ps.foldl (pst S) s).2.2.2.2.2 → s.2.2.2.2.2 ≤ f → ∃ i p, ps[i]? = some p ∧ p.1 = 6 ∧ (sAt S ps s i).2.2.2.2.2 = f
  | [], s, f, h1, h2 => by
    have h1' : f < s.2.2.2.2.2 := h1
    omega
  | p :: ps, s, f, h1, h2 => by
    by_cases c : (pst S s p).2.2.2.2.2 ≤ f
    · obtain ⟨i, p', e1, e2, e3⟩ := in_ix (ps := ps) (s := pst S s p) (f := f) h1 c
      exact ⟨i + 1, p', e1, e2, e3⟩
    · have h6 : p.1 = 6 := Classical.byContradiction (fun h6 => by
        by_cases h5 : p.1 = 5
        · rw [pst_5 h5] at c; exact c h2
        · unfold pst at c
          rw [if_neg h5, if_neg h6] at c
          exact c h2)
      refine ⟨0, p, rfl, h6, ?_⟩
      show s.2.2.2.2.2 = f
      rw [pst_6 h6] at c
      simp only at c
      omega
theorem cl_ix : ∀ {ps : List PD} {s : PS} {f : Nat}, f < (ps.foldl (pst S) s).1.length → s.1.length ≤ f → ∃ i p, ps[i]? = some p ∧ p.1 = 5 ∧ (sAt S ps s i).1.length = f
  | [], s, f, h1, h2 => by
    have h1' : f < s.1.length := h1
    omega
  | p :: ps, s, f, h1, h2 => by
    by_cases c : (pst S s p).1.length ≤ f
    · obtain ⟨i, p', e1, e2, e3⟩ := cl_ix (ps := ps) (s := pst S s p) (f := f) h1 c
      exact ⟨i + 1, p', e1, e2, e3⟩
    · have h5 : p.1 = 5 := Classical.byContradiction (fun h5 => by
        by_cases h6 : p.1 = 6
        · rw [pst_6 h6] at c; exact c h2
        · unfold pst at c
          rw [if_neg h5, if_neg h6] at c
          exact c h2)
      refine ⟨0, p, rfl, h5, ?_⟩
      show s.1.length = f
      rw [pst_5 h5] at c
      simp only [List.length_append, List.length_singleton] at c
      omega
theorem psA_at : ∀ {i : Nat} {ps : List PD} {s : PS} {p : PD}, psA S s ps = [] → ps[i]? = some p → psB S (sAt S ps s i) p = []
  | _, [], _, _, _, e => by cases e
  | 0, p' :: ps, s, p, H, e => by
    rw [← Option.some.inj e]
    exact (List.append_eq_nil_iff.mp H).1
  | i + 1, p' :: ps, s, p, H, e => psA_at (i := i) (ps := ps) (s := pst S s p') (List.append_eq_nil_iff.mp H).2 e
theorem rwT_at : ∀ {i d : Nat} {ps : List PD} {s : PS} {p : PD}, rwT S N τ d ps s → ps[i]? = some p → rowT S N τ (d + i) p (sAt S ps s i)
  | _, _, [], _, _, _, e => by cases e
  | 0, d, p' :: ps, s, p, H, e => by
    rw [← Option.some.inj e]
    exact H.1
  | i + 1, d, p' :: ps, s, p, H, e => by
    have := rwT_at (i := i) (ps := ps) (s := pst S s p') H.2 e
    rw [show d + 1 + i = d + (i + 1) by omega] at this
    exact this
theorem clT_at : ∀ {i : Nat} {qs : List dcl} {ps : List PD} {s : PS} {q : dcl} {p : PD}, clT S N cs rest hr h ul τ n qs ps s → qs[i]? = some q → ps[i]? = some p → p.1 = 5 → (sAt S ps s i).1.length < 8 → fR h 1226 q.2.1 = clA cs (p.2.2.1.elim none (fun a => FI Prod.fst (tokw S a) (sAt S ps s i).1)) ∧ (nwG S (sAt S ps s i).2.2.2.1 (p.2.1 + 1) → mthB S (sAt S ps s i).2.2.2.2.1 0 p.2.2.2.2 = [] → ∀ k x : Nat, (ll hr (fR hr 1230 q.2.1))[k]? = some x → ∃ T : Ty, (tyM T ∧ (bp τ = 2147483647 → ∃ w, N[w]? = some (tokw S (p.2.1 + 2)) ∧ nmIn [w] T)) ∧ tyC h N (clF cs) (UU ul rest) T (fR h 1262 x) ∧ tyT τ n T (ga τ 686 (4 * (sAt S ps s i).1.length + k)))
  | _, [], _, _, _, _, _, e, _ => by cases e
  | _, _ :: _, [], _, _, _, _, _, e => by cases e
  | 0, q' :: qs, p' :: ps, s, q, p, H, e1, e2 => by
    rw [← Option.some.inj e1, ← Option.some.inj e2]
    exact H.1
  | i + 1, q' :: qs, p' :: ps, s, q, p, H, e1, e2 => clT_at (i := i) (qs := qs) (ps := ps) (s := pst S s p') H.2 e1 e2
theorem inT_at : ∀ {i d : Nat} {qs : List dcl} {ps : List PD} {rs : List (Nat × Nat × Nat × Nat)} {s : PS} {q : dcl} {p : PD} {r : Nat × Nat × Nat × Nat}, inT G A S b N cs K rest fo F mo Ms hr h ul τ n Z qs ps rs d s → qs[i]? = some q → ps[i]? = some p → rs[i]? = some r → p.1 = 6 → (sAt S ps s i).2.2.2.2.2 < 20 → ∃ (j1 jc jn c0 c1 : Nat) (ns : List Nat), (FI Prod.fst (tokw S jc) K = some c0 ∧ ga τ 694 (sAt S ps s i).2.2.2.2.2 = (c0 : Int)) ∧ (cnI (tokw S jn) = some c1 ∧ ga τ 698 (sAt S ps s i).2.2.2.2.2 = (c1 : Int)) ∧ chain τ (ga τ 602 (d + i)) ns ∧ (∃ y0 y1, wrow A S hr y0 y1 j1 (ll hr (fR hr 162 (fR hr 1286 q.2.1))) ∧ ((List.range' j1 (ll hr (fR hr 162 (fR hr 1286 q.2.1))).length).map (tokw S)).Nodup) ∧ InK G A S b N cs K rest fo F mo Ms h ul τ n q.2.1 (sAt S ps s i).2.2.2.2.2 (d + i) Z r.1 r.2.1 r.2.2.1 r.2.2.2 jc jn ((List.range' j1 (ll hr (fR hr 162 (fR hr 1286 q.2.1))).length).map (tokw S)) (ll hr (fR hr 166 (fR hr 1286 q.2.1))) (ll hr (fR hr 1326 q.2.1)) ns
  | _, _, [], _, _, _, _, _, _, _, e, _, _ => by cases e
  | _, _, _ :: _, [], _, _, _, _, _, _, _, e, _ => by cases e
  | _, _, _ :: _, _ :: _, [], _, _, _, _, _, _, _, e => by cases e
  | 0, d, q' :: qs, p' :: ps, r' :: rs, s, q, p, r, H, e1, e2, e3 => by
    rw [← Option.some.inj e1, ← Option.some.inj e2, ← Option.some.inj e3]
    exact H.1
  | i + 1, d, q' :: qs, p' :: ps, r' :: rs, s, q, p, r, H, e1, e2, e3 => by
    have := inT_at (i := i) (qs := qs) (ps := ps) (rs := rs) (s := pst S s p') H.2 e1 e2 e3
    rw [show d + 1 + i = d + (i + 1) by omega] at this
    exact this
theorem fnT_at : ∀ {i d : Nat} {qs : List dcl} {ps : List PD} {rs : List (Nat × Nat × Nat × Nat)} {s : PS} {q : dcl} {p : PD} {r : Nat × Nat × Nat × Nat}, fnT G A S b N cs K rest fo F mo Ms hr h ul τ n Z qs ps rs d s → qs[i]? = some q → ps[i]? = some p → rs[i]? = some r → p.1 = 2 → nwF S (sAt S ps s i).2.2.2.2.1 (sAt S ps s i).2.1.length p.2.1 → ∃ (m2 a2 a3 nX j1 : Nat), (r.1 ≤ m2 ∧ r.2.2.1 ≤ a2 ∧ a3 ≤ r.2.2.2 ∧ ga τ 622 (d + i) = (nX : Int) ∧ ∃ y0 y1, wrow A S hr y0 y1 j1 (ll hr (fR hr 162 (fR hr 1542 q.2.1)))) ∧ FnK G A S b N cs K rest fo F mo Ms h ul τ n q.2.1 (cntS (sAt S ps s i).2.1 (sAt S ps s i).2.1.length) Z m2 r.2.1 a2 a3 (fR hr 1554 q.2.1) nX ((List.range' j1 (ll hr (fR hr 162 (fR hr 1542 q.2.1))).length).map (tokw S)) (ll hr (fR hr 166 (fR hr 1542 q.2.1)))
  | _, _, [], _, _, _, _, _, _, _, e, _, _ => by cases e
  | _, _, _ :: _, [], _, _, _, _, _, _, _, e, _ => by cases e
  | _, _, _ :: _, _ :: _, [], _, _, _, _, _, _, _, e => by cases e
  | 0, d, q' :: qs, p' :: ps, r' :: rs, s, q, p, r, H, e1, e2, e3 => by
    rw [← Option.some.inj e1, ← Option.some.inj e2, ← Option.some.inj e3]
    exact H.1
  | i + 1, d, q' :: qs, p' :: ps, r' :: rs, s, q, p, r, H, e1, e2, e3 => by
    have := fnT_at (i := i) (qs := qs) (ps := ps) (rs := rs) (s := pst S s p') H.2 e1 e2 e3
    rw [show d + 1 + i = d + (i + 1) by omega] at this
    exact this
theorem prR_len : ∀ {qs : List dcl} {rs : List (Nat × Nat × Nat × Nat)} {d : Nat} {Lf : Nat → List Nat} {lo alo : Nat}, prR G A S b hr σ hi ahi d qs rs Lf lo alo → rs.length = qs.length
  | [], [], _, _, _, _, _ => rfl
  | [], _ :: _, _, _, _, _, w => w.elim
  | _ :: _, [], _, _, _, _, w => w.elim
  | _ :: _, _ :: _, _, _, _, _, w => by rw [List.length_cons, List.length_cons, prR_len w.2.2.2]
theorem prR_at : ∀ {i d lo alo : Nat} {qs : List dcl} {rs : List (Nat × Nat × Nat × Nat)} {Lf : Nat → List Nat} {q : dcl} {r : Nat × Nat × Nat × Nat}, prR G A S b hr σ hi ahi d qs rs Lf lo alo → qs[i]? = some q → rs[i]? = some r → (lo ≤ r.1 ∧ r.1 ≤ r.2.1 ∧ r.2.1 ≤ hi ∧ alo ≤ r.2.2.1 ∧ r.2.2.1 ≤ r.2.2.2 ∧ r.2.2.2 ≤ ahi) ∧ (nvR ((b + q.2.2 : Nat) : Int) r.1 r.2.1 (d + i) σ ∧ (q.1 = 2 → fvR r.1 r.2.1 (d + i) σ)) ∧ dclR G A S b hr σ r.1 r.2.1 r.2.2.1 r.2.2.2 (d + i) (prgL hr (qs.take i) Lf) q
  | _, _, _, _, [], _, _, _, _, _, e, _ => by cases e
  | _, _, _, _, _ :: _, [], _, _, _, _, _, e => by cases e
  | 0, d, lo, alo, q' :: qs, r' :: rs, Lf, q, r, ⟨h1, h2, h3, h4⟩, e1, e2 => by
    rw [← Option.some.inj e1, ← Option.some.inj e2]
    have pin := prR_in h4
    exact ⟨⟨h1.1, h1.2.1, by omega, h1.2.2.1, h1.2.2.2, by omega⟩, h2, h3⟩
  | i + 1, d, lo, alo, q' :: qs, r' :: rs, Lf, q, r, ⟨h1, h2, h3, h4⟩, e1, e2 => by
    have := prR_at (i := i) (qs := qs) (rs := rs) h4 e1 e2
    rw [show d + 1 + i = d + (i + 1) by omega] at this
    exact ⟨⟨by omega, this.1.2.1, this.1.2.2.1, by omega, this.1.2.2.2.2⟩, this.2⟩
/-- two rows of declarations lie apart -/
theorem prR_ap : ∀ {i i' d lo alo : Nat} {qs : List dcl} {rs : List (Nat × Nat × Nat × Nat)} {Lf : Nat → List Nat} {r r' : Nat × Nat × Nat × Nat}, prR G A S b hr σ hi ahi d qs rs Lf lo alo → rs[i]? = some r → rs[i']? = some r' → i < i' → r.2.1 ≤ r'.1 ∧ r.2.2.2 ≤ r'.2.2.1
  | _, _, _, _, _, [], [], _, _, _, _, e, _, _ => by cases e
  | _, _, _, _, _, [], _ :: _, _, _, _, w, _, _, _ => w.elim
  | _, _, _, _, _, _ :: _, [], _, _, _, w, _, _, _ => w.elim
  | 0, 0, _, _, _, _ :: _, _ :: _, _, _, _, _, _, _, h => by omega
  | _ + 1, 0, _, _, _, _ :: _, _ :: _, _, _, _, _, _, _, h => by omega
  | 0, i' + 1, d, lo, alo, q' :: qs, r0 :: rs, Lf, r, r', ⟨h1, h2, h3, h4⟩, e1, e2, _ => by
    rw [← Option.some.inj e1]
    have hl : i' < qs.length := by
      have l1 := (List.getElem?_eq_some_iff.mp e2).1
      have := prR_len h4
      simp only [List.length_cons] at l1
      omega
    have := (prR_at (i := i') (qs := qs) (rs := rs) h4 (List.getElem?_eq_getElem hl) e2).1
    omega
  | i + 1, i' + 1, d, lo, alo, q' :: qs, r0 :: rs, Lf, r, r', ⟨h1, h2, h3, h4⟩, e1, e2, hl => prR_ap (i := i) (i' := i') h4 e1 e2 (by omega)
/-- a declaration as an object, among its like -/
theorem prC_at (X : txC hr A S) (hA : A < hz hr) : ∀ {i alo : Nat} {qs : List dcl} {ps : List PD} {Lf : Nat → List Nat} {s : PS} {q : dcl} {p : PD}, prC A S hr qs ps Lf alo ahi → ahi ≤ hz hr → LSt hr Lf s → qs[i]? = some q → ps[i]? = some p → (q.1 = p.1 ∧ q.2.2 = p.2.1 ∧ tokk S p.2.1 = (p.1 : Int)) ∧ ∃ a0 amid, (alo ≤ a0 ∧ a0 ≤ amid ∧ amid ≤ ahi) ∧ ((p.1 = 5 ∧ clsC A S hr a0 amid q.2.1 p ((sAt S ps s i).1.length : Int) ∧ (prgL hr qs Lf 82)[(sAt S ps s i).1.length]? = some q.2.1) ∨ (p.1 = 6 ∧ insC S hr a0 amid q.2.1 p ((sAt S ps s i).2.2.2.2.2 : Int) ∧ (prgL hr qs Lf 86)[(sAt S ps s i).2.2.2.2.2]? = some q.2.1) ∨ (p.1 = 2 ∧ funC A S hr a0 amid q.2.1 p ((sAt S ps s i).2.1.length : Int) ∧ (prgL hr qs Lf 90)[(sAt S ps s i).2.1.length]? = some q.2.1))
  | _, _, [], _, _, _, _, _, _, _, _, e, _ => by cases e
  | _, _, _ :: _, [], _, _, _, _, _, _, _, _, e => by cases e
  | 0, alo, q' :: qs, p' :: ps, Lf, s, q, p, ⟨a0, amid, r1, r2, D, P⟩, hh, L, e1, e2 => by
    rw [← Option.some.inj e1, ← Option.some.inj e2]
    have pin := prC_le P
    have l82 := L.2.2.1.1
    have l90 := L.2.2.1.2.2.1
    have l86 := L.2.2.1.2.2.2
    have gg : ∀ f, (∃ T, dclLf hr Lf q' f = Lf f ++ [q'.2.1] ++ T) → (prgL hr (q' :: qs) Lf f)[(Lf f).length]? = some q'.2.1 := fun f ⟨T, e⟩ => by
      obtain ⟨T', e'⟩ := prgL_pre (h := hr) f qs (dclLf hr Lf q')
      show (prgL hr qs (dclLf hr Lf q') f)[_]? = _
      rw [e', e, List.append_assoc, List.append_assoc, List.getElem?_append_right (Nat.le_refl _), Nat.sub_self]
      rfl
    refine ⟨r2, a0, amid, ⟨r1.1, r1.2, by omega⟩, ?_⟩
    rcases D with ⟨d, D⟩ | ⟨d, D⟩ | ⟨d, D⟩
    · refine .inl ⟨d, by show clsC A S hr a0 amid q'.2.1 p' (s.1.length : Int); rw [← l82]; exact D, ?_⟩
      show (prgL hr (q' :: qs) Lf 82)[s.1.length]? = _
      rw [← l82]
      exact gg 82 ⟨[], by unfold dclLf; rw [if_pos (by omega), List.append_nil]; rfl⟩
    · refine .inr (.inl ⟨d, by show insC S hr a0 amid q'.2.1 p' (s.2.2.2.2.2 : Int); rw [← l86]; exact D, ?_⟩)
      show (prgL hr (q' :: qs) Lf 86)[s.2.2.2.2.2]? = _
      rw [← l86]
      exact gg 86 ⟨[], by unfold dclLf; rw [if_neg (by omega), if_pos (by omega), List.append_nil]; unfold updL; rw [if_pos rfl]⟩
    · refine .inr (.inr ⟨d, by show funC A S hr a0 amid q'.2.1 p' (s.2.1.length : Int); rw [← l90]; exact D, ?_⟩)
      show (prgL hr (q' :: qs) Lf 90)[s.2.1.length]? = _
      rw [← l90]
      exact gg 90 ⟨[], by unfold dclLf; rw [if_neg (by omega), if_neg (by omega), List.append_nil]; rfl⟩
  | i + 1, alo, q' :: qs, p' :: ps, Lf, s, q, p, ⟨a0, amid, r1, r2, D, P⟩, hh, L, e1, e2 => by
    have pin := prC_le P
    obtain ⟨g1, b0, b1, g2, g3⟩ := prC_at X hA (i := i) (qs := qs) (ps := ps) P hh (LS_step X hA (by omega) r2 D L) e1 e2
    exact ⟨g1, b0, b1, by omega, g3⟩
end LAT
