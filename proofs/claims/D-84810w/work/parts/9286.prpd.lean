set_option maxRecDepth 100000
/-! THE PROGRAM AS DATA, out of what was read: all declarations; rules broken by greats and names, in the component -/
section LPP
variable {G : om_G} {A t : Nat} {N : List (List Int)} {S : List Int} {b m : Nat} {h h' hr : om_H} {σ : tS} {hi ahi pr : Nat} {Z : Nat → Prop} {σ0 : tS} {h0 : om_H} {HZ HU : Nat}
theorem tok_in {j : Nat} (em : tokk S m = 0) (h : tokk S j ≠ 0) : j < m := Decidable.byContradiction (fun z => h (tok_end em j (by omega)))
theorem prows_pd (em : tokk S m = 0) : ∀ (qs : List dcl) (d : Nat) (Lf : Nat → List Nat) (lo alo : Nat), prows G A S b h σ d qs Lf lo hi alo ahi → d + qs.length ≤ 700 → hi ≤ 8400 → ∃ ps : List PD, prC A S h qs ps Lf alo ahi ∧ ps.length = qs.length ∧ ∀ (i : Nat) (p : PD), ps[i]? = some p → dTw S b m σ (d + i) p
  | [], d, Lf, lo, alo, H, _, _ => ⟨[], H.2, rfl, fun i p e => by cases e⟩
  | q :: qs, d, Lf, lo, alo, ⟨mid, a0, amid, r1, ⟨r2, nv, fv, tk⟩, D, P⟩, hd, hh => by
    have pin := prows_in P
    have hd' : d + (qs.length + 1) ≤ 700 := hd
    obtain ⟨ps, p1, p2, p3⟩ := prows_pd em qs (d + 1) (dclLf h Lf q) mid amid P (by omega) hh
    have one : ∃ p : PD, (q.1 = p.1 ∧ q.2.2 = p.2.1 ∧ tokk S p.2.1 = (p.1 : Int)) ∧ dTw S b m σ d p ∧ ((p.1 = 5 ∧ clsC A S h a0 amid q.2.1 p ((Lf 82).length : Int)) ∨ (p.1 = 6 ∧ insC S h a0 amid q.2.1 p ((Lf 86).length : Int)) ∨ (p.1 = 2 ∧ funC A S h a0 amid q.2.1 p ((Lf 90).length : Int))) := by
      rcases D with ⟨k, D⟩ | ⟨k, D⟩ | ⟨k, D⟩
      · obtain ⟨w1, w2, Lm, Ln, ar, ab, fam, am, ms, ns, a1, a2, a3, a4⟩ := id D
        have lt := tok_in em (j := q.2.2 + 1) (by rw [a3.2.2.2]; decide)
        obtain ⟨p, ⟨e1, e2⟩, e3, e4⟩ := cls_pd (m := m) D (by omega) (by omega) (by omega) nv
        exact ⟨p, ⟨by rw [k, e1], e2.symm, by rw [e1, e2, tk, k]⟩, e3, .inl ⟨e1, e4⟩⟩
      · obtain ⟨sc', Ls, Lg, Lh, Ll, cn, con, fam, fw, j1, jc, jn, m1, m2, x0, x1, x2, am, first, xs, os, ws, ls, ns, dv, dv', b1, b2, b3, b4, b5, b6, b7, b8, b9, b10⟩ := id D
        have e : dv' 578 = dv 578 := by
          rcases b6 with z | ⟨jf, kk, p, x1, x2, _, _, _, _, _, _, _, _, z⟩
          · rw [z.2.2.2]
          · rw [z]; rfl
        have lt := tok_in em (j := jc) (by rw [b3.2.2.2]; decide)
        have nv8 := nv.1 578 (by simp)
        rw [b8 578 (by simp) (by decide), e, b9.2.2.1] at nv8
        obtain ⟨p, ⟨e1, e2⟩, e3, e4⟩ := ins_pd (m := m) D (by omega) (by omega)
        exact ⟨p, ⟨by rw [k, e1], e2.symm, by rw [e1, e2, tk, k]⟩, e3, .inr (.inl ⟨e1, e4⟩)⟩
      · obtain ⟨w, sc', Ls, Lg, wr, ex, j1, m1, m2, am, ag, a1, a2, a3, nT, nX, kk, ws, xs, os, b1, b2, b3, b4⟩ := id D
        have lt := tok_in em (j := q.2.2) (by rw [b3.2.2.2]; decide)
        obtain ⟨p, ⟨e1, e2⟩, e3, e4⟩ := fun_pd (m := m) D (by omega) (by omega)
        exact ⟨p, ⟨by rw [k, e1], e2.symm, by rw [e1, e2, tk, k]⟩, e3, .inr (.inr ⟨e1, e4⟩)⟩
    obtain ⟨p, o1, o2, o3⟩ := one
    refine ⟨p :: ps, ⟨a0, amid, r1, o1, o3, p1⟩, by rw [List.length_cons, List.length_cons, p2], fun i x e => ?_⟩
    cases i with
    | zero => rw [← Option.some.inj e]; exact o2
    | succ i => have := p3 i x e; rwa [show d + 1 + i = d + (i + 1) by omega] at this
/-- the program behind reading, as data -/
theorem CB_of {i M : Nat} {qs : List dcl} (hm : m ≤ 1300) (H : At G A t N S b m i 0 M σ h) (B : PB G A t S b m Z pr σ0 h0 HZ HU i M σ h qs) (hA : A < hz h) (h00 : 0 < hz h0) : ∃ ps : List PD, ps.length = qs.length ∧ qs.length ≤ 650 ∧ (∀ (i : Nat) (p : PD), ps[i]? = some p → dTw S b m σ i p) ∧ prC A S h qs ps (fun _ => []) (hz h0) (hz h) ∧ CBs A S h pr (prgL h qs (fun _ => [])) (pss S ps).2.2.2.1 (pss S ps).2.2.2.2.1 := by
  obtain ⟨B1, B2, B3, B4, B5, B6, B7, B8, B9⟩ := B
  obtain ⟨T1, C1, C2⟩ := H
  have im := T1.2.2.1
  have em := T1.1.2.2.1
  have hM : M ≤ 8400 := by have := B4.2.2; omega
  obtain ⟨ps, p1, p2, p3⟩ := prows_pd (m := m) em qs 0 (fun _ => []) 0 (hz h0) B7 (by omega) hM
  have X : txC h A S := by rw [← C2]; exact C1.1.1.2.1
  have LL := LS_fold X hA (Nat.le_refl _) qs ps (fun _ => []) (hz h0) ([], [], [], [], [], 0) p1 LS_nil
  refine ⟨ps, p2, by omega, fun i p e => (by have := p3 i p e; rwa [Nat.zero_add] at this), p1, ⟨X, hA⟩, ⟨B3.1.1, B3.1.2.1⟩, fun f hf => ⟨(B3.2.1 f hf).1.1, (B3.2.1 f hf).1.2.1, B8 f hf, by rw [← B8 f hf]; have := B9 f hf; omega⟩, LL.1, LL.2.1⟩
end LPP
