set_option maxRecDepth 100000
/-! what is read stays as it is while more is read -/
section LDK
variable {G : om_G} {A : Nat} {S : List Int} {b : Nat} {h h' : om_H} {σ τ : tS} {lo hi z0 ahi d j0 : Nat} {nb : Int}
theorem hk_of {alo ahi : Nat} (s : ∀ a, alo ≤ a → a < ahi → sameA a h h') : hk alo ahi h h' := fun a q r => by obtain ⟨u1, u2, u3, u4, u5, u6, u7⟩ := s a q r; exact ⟨u1, u2, u3, u6, u7⟩
theorem owd_keep {am w : Nat} {x : Int} (s : ∀ a, z0 ≤ a → a < am → sameA a h h') (o : owd A S b h z0 am w x) : owd A S b h' z0 am w x := by
  rcases o with o | ⟨j, o1, o2, o3, o4, o5, o6⟩
  · exact .inl o
  · exact .inr ⟨j, o1, o2, o3, o4, o5, wd_same o6 (s w o4 o5)⟩
theorem clsR_keep {c : Nat} (w : clsR A S b h σ lo hi z0 ahi c d j0 nb) (s : ∀ a, z0 ≤ a → a < ahi → sameA a h h') (n : ∀ f ∈ PA, ∀ x, lo ≤ x → x < hi → ga τ f x = ga σ f x) (e : ∀ f ∈ DA, ga τ f d = ga σ f d) : clsR A S b h' τ lo hi z0 ahi c d j0 nb := by
  obtain ⟨w1, w2, Lm, Ln, ar, ab, fam, am, ms, ns, a1, a2, a3, a4, a5, a6, a7, a8, a9, a10, a11⟩ := w
  have mi := mrows_in a8
  have s' : ∀ a, z0 ≤ a → a < am → sameA a h h' := fun a q r => s a q (by omega)
  have sL := s' Lm a2.2.1.1 a2.2.1.2
  refine ⟨w1, w2, Lm, Ln, ar, ab, fam, am, ms, ns, clsO_keep a1 (s' c a2.1.1 a2.1.2) (s' Ln a2.2.2.1.1 a2.2.2.1.2) (s' ar a2.2.2.2.1.1 a2.2.2.2.1.2), a2, ⟨a3.1, a3.2.1, wd_same a3.2.2.1 (s' w1 a3.1 a3.2.1), a3.2.2.2⟩, ⟨a4.1, a4.2.1, wd_same a4.2.2.1 (s' w2 a4.1 a4.2.1), a4.2.2.2⟩, ?_, ?_, ⟨by rw [sL.1]; exact a7.1, by rw [sL.2.2.2.2.2.1]; exact a7.2⟩, ?_, ?_, fun x hx => ?_, ?_, fun k ek => a11.2 k (by rw [← e 610 (by simp)]; exact ek)⟩
  · rw [e 586 (by simp)]; exact owd_keep s' a5
  · rw [e 610 (by simp)]; exact owd_keep s' a6
  · exact mrows_keep a8 (hk_of (fun a q r => s a (by omega) r)) (fun f hf _ x q r => n f hf x q r) (fun x q r _ => n 562 (by simp) x q r)
  · rw [e 602 (by simp)]; exact chain_keep a9 (fun o ho => n 562 (by simp) o (mi.2.2.1 o ho).1 (mi.2.2.1 o ho).2)
  · have := mi.2.2.2.1 x hx
    have sx := s x (by omega) (by omega)
    rw [sx.2.1, sx.2.2.1]; exact a10 x hx
  · rw [e 570 (by simp), e 574 (by simp), e 578 (by simp), e 582 (by simp)]; exact a11.1
theorem funR_keep {f : Nat} (w : funR G A S b h σ lo hi z0 ahi f d j0 nb) (s : ∀ a, z0 ≤ a → a < ahi → sameA a h h') (n : ∀ f ∈ PA, ∀ x, lo ≤ x → x < hi → ga τ f x = ga σ f x) (e : ∀ f ∈ DA, ga τ f d = ga σ f d) : funR G A S b h' τ lo hi z0 ahi f d j0 nb := by
  obtain ⟨w, sc', Ls, Lg, wr, ex, j1, m1, m2, am, ag, a1, a2, a3, nT, nX, kk, ws, xs, os, b1, b2, b3, b4, b5, b6, b7, b8, b9⟩ := w
  have gi := grows_in b5.2.2.1
  have wi := WR_in b6
  have xi := XR_in _ _ _ _ _ _ _ b7
  have s' : ∀ a, z0 ≤ a → a < am → sameA a h h' := fun a q r => s a q (by omega)
  have sLs := s' Ls b2.2.2.1.1 b2.2.2.1.2
  have sLg := s' Lg b2.2.2.2.1.1 b2.2.2.2.1.2
  refine ⟨w, sc', Ls, Lg, wr, ex, j1, m1, m2, am, ag, a1, a2, a3, nT, nX, kk, ws, xs, os, funO_keep b1 (s' f b2.1.1 b2.1.2) (s' sc' b2.2.1.1 b2.2.1.2), b2, ⟨b3.1, b3.2.1, wd_same b3.2.2.1 (s' w b3.1 b3.2.1), b3.2.2.2⟩, ⟨by rw [sLs.1]; exact b4.1, by rw [sLs.2.2.2.2.2.1]; exact b4.2.1, wrow_keep (fun a q r _ => s' a q r) (Nat.le_refl _) b4.2.2.1, ?_, ?_⟩, ⟨by rw [sLg.1]; exact b5.1, by rw [sLg.2.2.2.2.2.1]; exact b5.2.1, ?_, ?_, fun x hx => ?_⟩, ?_, ?_, b8, ?_⟩
  · rw [e 594 (by simp)]; exact b4.2.2.2.1
  · rw [e 598 (by simp)]; exact b4.2.2.2.2
  · exact grows_keep b5.2.2.1 (hk_of (fun a q r => s a (by omega) (by omega))) (fun f hf _ x q r => n f hf x q (by omega)) (fun x q r _ => n 562 (by simp) x q (by omega))
  · rw [e 606 (by simp)]; exact chain_keep b5.2.2.2.1 (fun o ho => n 562 (by simp) o (gi.2.2.1 o ho).1 (by have := (gi.2.2.1 o ho).2; omega))
  · have := gi.2.2.2.1 x hx
    have sx := s x (by omega) (by omega)
    rw [sx.2.2.1, sx.2.2.1, sx.2.2.1, sx.2.2.1]; exact b5.2.2.2.2 x hx
  · exact WR_keep b6 (hk_of (fun a q r => s a (by omega) (by omega))) ⟨fun f hf _ x q r => n f hf x (by omega) (by omega), fun x q r _ => n 562 (by simp) x (by omega) (by omega)⟩
  · exact X0_keep b7 (hk_of (fun a q r => s a (by omega) (by omega))) (fun f hf x q r => n f hf x (by omega) r)
  · rw [e 570 (by simp), e 574 (by simp), e 578 (by simp), e 618 (by simp), e 622 (by simp)]; exact b9
theorem famR_keep {am lo' hi' fam fw : Nat} {dv dv' : Nat → Int} (w : famR A S b z0 am lo' hi' fam fw dv dv' σ h) (s : ∀ a, z0 ≤ a → a < am → sameA a h h') (n : ∀ f ∈ PA, ∀ x, lo' ≤ x → x < hi' → ga τ f x = ga σ f x) : famR A S b z0 am lo' hi' fam fw dv dv' τ h' := by
  rcases w with w | ⟨jf, kk, p, a1, a2, w1, w2, w3, w4, w5, w6, w7, w8, w9⟩
  · exact .inl w
  · exact .inr ⟨jf, kk, p, a1, a2, w1, w2, w3, wd_same w4 (s fam w3.1 w3.2), w5, WR_keep w6 (hk_of (fun a q r => s a (by omega) (by omega))) ⟨fun f hf _ x q r => n f hf x q r, fun x q r _ => n 562 (by simp) x q r⟩, w7, w8, w9⟩
theorem insR_keep {f : Nat} (w : insR G A S b h σ lo hi z0 ahi f d j0 nb) (s : ∀ a, z0 ≤ a → a < ahi → sameA a h h') (n : ∀ f ∈ PA, ∀ x, lo ≤ x → x < hi → ga τ f x = ga σ f x) (e : ∀ f ∈ DA, ga τ f d = ga σ f d) : insR G A S b h' τ lo hi z0 ahi f d j0 nb := by
  obtain ⟨sc', Ls, Lg, Lh, Ll, cn, con, fam, fw, j1, jc, jn, m1, m2, a0, a1, a2, am, first, xs, os, ws, ls, ns, dv, dv', b1, b2, b3, b4, b5, b6, b7, b8, b9, ⟨r1, r2, r3, r4, r5, r6, r7, r8, r9, r10, r11, r12, r13⟩⟩ := w
  have gi := grows_in b1.2.2.2.1
  have li := lrows_in b7.2.2.1
  have s' : ∀ a, z0 ≤ a → a < am → sameA a h h' := fun a q r => s a q (by omega)
  have sLs := s' Ls r3.1 r3.2
  have sLg := s' Lg r4.1 r4.2
  have sLh := s' Lh r5.1 r5.2.1
  have sLl := s' Ll r6.1 r6.2
  refine ⟨sc', Ls, Lg, Lh, Ll, cn, con, fam, fw, j1, jc, jn, m1, m2, a0, a1, a2, am, first, xs, os, ws, ls, ns, dv, dv', ⟨scpO_keep b1.1 (s' sc' r2.1 r2.2), by rw [sLh.1, sLh.2.2.2.2.2.1, sLh.2.2.2.2.2.2]; exact b1.2.1, by rw [sLg.1, sLg.2.2.2.2.2.1]; exact b1.2.2.1, ?_, ?_, fun x hx => ?_⟩, insO_keep b2 (s' f r1.1 r1.2), ⟨b3.1, b3.2.1, wd_same b3.2.2.1 (s' cn b3.1 b3.2.1), b3.2.2.2⟩, ⟨b4.1, b4.2.1, wd_same b4.2.2.1 (s' con b4.1 b4.2.1), b4.2.2.2⟩, ⟨by rw [sLs.1]; exact b5.1, by rw [sLs.2.2.2.2.2.1]; exact b5.2.1, wrow_keep (fun a q r _ => s' a q (by omega)) (Nat.le_refl _) b5.2.2⟩, famR_keep b6 s' (fun f hf x q r => n f hf x (by omega) (by omega)), ⟨by rw [sLl.1]; exact b7.1, by rw [sLl.2.2.2.2.2.1]; exact b7.2.1, ?_, ?_, fun x hx => ?_⟩, fun g hg c => by rw [e g hg]; exact b8 g hg c, b9, ⟨r1, r2, r3, r4, r5, r6, r7, r8, r9, r10, r11, r12, r13⟩⟩
  · exact grows_keep b1.2.2.2.1 (hk_of (fun a q r => s a (by omega) (by omega))) (fun f hf _ x q r => n f hf x q (by omega)) (fun x q r _ => n 562 (by simp) x q (by omega))
  · exact chain_keep b1.2.2.2.2.1 (fun o ho => n 562 (by simp) o (gi.2.2.1 o ho).1 (by have := (gi.2.2.1 o ho).2; omega))
  · have := gi.2.2.2.1 x hx
    have sx := s x (by omega) (by omega)
    rw [sx.2.2.1, sx.2.2.1, sx.2.2.1, sx.2.2.1]; exact b1.2.2.2.2.2 x hx
  · exact lrows_keep b7.2.2.1 (hk_of (fun a q r => s a (by omega) (by omega))) (fun f hf _ x q r => n f hf x (by omega) r) (fun x q r _ => n 562 (by simp) x (by omega) r)
  · rw [e 602 (by simp)]; exact chain_keep b7.2.2.2.1 (fun o ho => n 562 (by simp) o (by have := (li.2.2.1 o ho).1; omega) (li.2.2.1 o ho).2)
  · have := li.2.2.2.1 x hx
    have sx := s x (by omega) (by omega)
    rw [sx.2.2.1]; exact b7.2.2.2.2 x hx
end LDK
/-! THE PROGRAM as it is read: its declarations in their order, as kind, object, first token -/
abbrev dcl : Type := Nat × Nat × Nat
def dclR (G : om_G) (A : Nat) (S : List Int) (b : Nat) (h : om_H) (σ : tS) (lo hi z0 ahi d : Nat) (Lf : Nat → List Nat) (q : dcl) : Prop := (q.1 = 5 ∧ clsR A S b h σ lo hi z0 ahi q.2.1 d q.2.2 ((Lf 82).length : Int)) ∨ (q.1 = 6 ∧ insR G A S b h σ lo hi z0 ahi q.2.1 d q.2.2 ((Lf 86).length : Int)) ∨ (q.1 = 2 ∧ funR G A S b h σ lo hi z0 ahi q.2.1 d q.2.2 ((Lf 90).length : Int))
def dclLf (h : om_H) (Lf : Nat → List Nat) (q : dcl) : Nat → List Nat := if q.1 = 5 then clsLf Lf h q.2.1 else if q.1 = 6 then updL Lf 86 q.2.1 else funLf Lf h q.2.1
def prgL (h : om_H) : List dcl → (Nat → List Nat) → Nat → List Nat
  | [], Lf => Lf
  | q :: qs, Lf => prgL h qs (dclLf h Lf q)
/-- its tokens lie from q on -/
def nvR (q : Int) (lo hi dd : Nat) (σ : tS) : Prop := (∀ f ∈ [578, 582, 586, 594, 610], ga σ f dd = -1 ∨ q ≤ ga σ f dd) ∧ ∀ i : Nat, lo ≤ i → i < hi → q ≤ ga σ 542 i ∧ (ga σ 538 i = 17 → q ≤ ga σ 554 i)
theorem nvR_keep {q : Int} {lo hi dd : Nat} {σ τ : tS} (w : nvR q lo hi dd σ) (n : ∀ f ∈ PA, ∀ x, lo ≤ x → x < hi → ga τ f x = ga σ f x) (e : ∀ f ∈ DA, ga τ f dd = ga σ f dd) : nvR q lo hi dd τ := by
  refine ⟨fun f hf => ?_, fun i c d => ?_⟩
  · rw [e f (by simp only [List.mem_cons, List.not_mem_nil, or_false] at hf; rcases hf with rfl | rfl | rfl | rfl | rfl <;> simp)]
    exact w.1 f hf
  · rw [n 542 (by simp) i c d, n 538 (by simp) i c d, n 554 (by simp) i c d]
    exact w.2 i c d
theorem fvR_keep {lo hi dd : Nat} {σ τ : tS} (w : fvR lo hi dd σ) (n : ∀ f ∈ PA, ∀ x, lo ≤ x → x < hi → ga τ f x = ga σ f x) (e : ∀ f ∈ DA, ga τ f dd = ga σ f dd) : fvR lo hi dd τ := by
  intro i c d
  rw [n 542 (by simp) i c d, n 538 (by simp) i c d, n 554 (by simp) i c d, e 594 (by simp), e 598 (by simp)]
  exact w i c d
def prows (G : om_G) (A : Nat) (S : List Int) (b : Nat) (h : om_H) (σ : tS) : Nat → List dcl → (Nat → List Nat) → Nat → Nat → Nat → Nat → Prop
  | _, [], _, lo, hi, alo, ahi => lo = hi ∧ alo ≤ ahi
  | d, q :: qs, Lf, lo, hi, alo, ahi => ∃ mid a0 amid : Nat, (alo ≤ a0 ∧ a0 ≤ amid) ∧ (lo ≤ mid ∧ nvR ((b + q.2.2 : Nat) : Int) lo mid d σ ∧ (q.1 = 2 → fvR lo mid d σ) ∧ tokk S q.2.2 = (q.1 : Int)) ∧ dclR G A S b h σ lo mid a0 amid d Lf q ∧ prows G A S b h σ (d + 1) qs (dclLf h Lf q) mid hi amid ahi
section LPR
variable {G : om_G} {A : Nat} {S : List Int} {b : Nat} {h h' : om_H} {σ τ : tS}
theorem dclR_keep {lo hi z0 ahi d : Nat} {Lf : Nat → List Nat} {q : dcl} (w : dclR G A S b h σ lo hi z0 ahi d Lf q) (s : ∀ a, z0 ≤ a → a < ahi → sameA a h h') (n : ∀ f ∈ PA, ∀ x, lo ≤ x → x < hi → ga τ f x = ga σ f x) (e : ∀ f ∈ DA, ga τ f d = ga σ f d) : dclR G A S b h' τ lo hi z0 ahi d Lf q := by
  rcases w with ⟨c, w⟩ | ⟨c, w⟩ | ⟨c, w⟩
  · exact .inl ⟨c, clsR_keep w s n e⟩
  · exact .inr (.inl ⟨c, insR_keep w s n e⟩)
  · exact .inr (.inr ⟨c, funR_keep w s n e⟩)
/-- the lists that a declaration tells stay the same -/
theorem dclLf_keep {lo hi z0 ahi d : Nat} {Lf : Nat → List Nat} {q : dcl} (w : dclR G A S b h σ lo hi z0 ahi d Lf q) (s : ∀ a, z0 ≤ a → a < ahi → sameA a h h') : dclLf h' Lf q = dclLf h Lf q := by
  unfold dclLf
  rcases w with ⟨c, w⟩ | ⟨c, w⟩ | ⟨c, w⟩
  · rw [if_pos c, if_pos c]
    obtain ⟨w1, w2, Lm, Ln, ar, ab, fam, am, ms, ns, a1, a2, a3, a4, a5, a6, a7, a8, a9, a10, a11⟩ := w
    have mi := mrows_in a8
    have sc' := s q.2.1 a2.1.1 (by have := a2.1.2; omega)
    have sL := s Lm a2.2.1.1 (by have := a2.2.1.2; omega)
    have eL : fR h 1230 q.2.1 = Lm := a1.2.2.1.1
    have em : (ms.map fun x => fR h' 1242 x) = ms.map fun x => fR h 1242 x := List.map_congr_left (fun x hx => by
      have := mi.2.2.2.1 x hx
      exact (s x (by omega) (by omega)).2.2.1 _)
    funext f
    unfold clsLf clsG
    rw [sc'.2.2.1, sc'.2.2.1, sc'.2.2.1, eL, sL.2.2.2.2.2.1, a7.2, em]
  · rw [if_neg (by omega), if_pos c, if_neg (by omega), if_pos c]
  · rw [if_neg (by omega), if_neg (by omega), if_neg (by omega), if_neg (by omega)]
    obtain ⟨w, sc', Ls, Lg, wr, ex, j1, m1, m2, am, ag, a1, a2, a3, nT, nX, kk, ws, xs, os, b1, b2, b3, b4, b5, b6, b7, b8, b9⟩ := w
    have gi := grows_in b5.2.2.1
    have wi := WR_in b6
    have xi := XR_in _ _ _ _ _ _ _ b7
    unfold funLf
    rw [(s q.2.1 b2.1.1 (by omega)).2.2.1]
theorem prows_in : ∀ {d : Nat} {qs : List dcl} {Lf : Nat → List Nat} {lo hi alo ahi : Nat}, prows G A S b h σ d qs Lf lo hi alo ahi → lo ≤ hi ∧ alo ≤ ahi
  | _, [], _, _, _, _, _, r => ⟨Nat.le_of_eq r.1, r.2⟩
  | d, q :: qs, Lf, lo, hi, alo, ahi, ⟨mid, a0, amid, q1, q2, q3, q4⟩ => by
    have := prows_in q4
    omega
theorem prows_keep : ∀ {d : Nat} {qs : List dcl} {Lf : Nat → List Nat} {lo hi alo ahi : Nat}, prows G A S b h σ d qs Lf lo hi alo ahi → (∀ a, alo ≤ a → a < ahi → sameA a h h') → (∀ f ∈ PA, ∀ x, x < hi → ga τ f x = ga σ f x) → (∀ f ∈ DA, ∀ x, x < d + qs.length → ga τ f x = ga σ f x) → prows G A S b h' τ d qs Lf lo hi alo ahi ∧ prgL h' qs Lf = prgL h qs Lf
  | _, [], _, _, _, _, _, r, _, _, _ => ⟨r, rfl⟩
  | d, q :: qs, Lf, lo, hi, alo, ahi, ⟨mid, a0, amid, q1, q2, q3, q4⟩, s, n, e => by
    have pi := prows_in q4
    have s1 : ∀ a, a0 ≤ a → a < amid → sameA a h h' := fun a x y => s a (by omega) (by omega)
    have eL := dclLf_keep q3 s1
    obtain ⟨r1, r2⟩ := prows_keep q4 (fun a x y => s a (by omega) y) n (fun f hf x hx => e f hf x (by simp; omega))
    refine ⟨⟨mid, a0, amid, q1, ⟨q2.1, nvR_keep q2.2.1 (fun f hf x _ y => n f hf x (by omega)) (fun f hf => e f hf d (by simp)), fun z => fvR_keep (q2.2.2.1 z) (fun f hf x _ y => n f hf x (by omega)) (fun f hf => e f hf d (by simp)), q2.2.2.2⟩, dclR_keep q3 s1 (fun f hf x _ y => n f hf x (by omega)) (fun f hf => e f hf d (by simp)), by rw [eL]; exact r1⟩, ?_⟩
    show prgL h' qs (dclLf h' Lf q) = prgL h qs (dclLf h Lf q)
    rw [eL]; exact r2
theorem prows_app : ∀ {d : Nat} {qs : List dcl} {Lf : Nat → List Nat} {lo mid hi alo amid ahi : Nat} {q : dcl}, prows G A S b h σ d qs Lf lo mid alo amid → amid ≤ ahi → (mid ≤ hi ∧ nvR ((b + q.2.2 : Nat) : Int) mid hi (d + qs.length) σ ∧ (q.1 = 2 → fvR mid hi (d + qs.length) σ) ∧ tokk S q.2.2 = (q.1 : Int)) → dclR G A S b h σ mid hi amid ahi (d + qs.length) (prgL h qs Lf) q → prows G A S b h σ d (qs ++ [q]) Lf lo hi alo ahi
  | d, [], Lf, lo, mid, hi, alo, amid, ahi, q, r, h1, h2, w => ⟨hi, amid, ahi, ⟨r.2, h1⟩, by rw [r.1]; exact h2, by rw [r.1]; exact w, rfl, Nat.le_refl _⟩
  | d, p :: qs, Lf, lo, mid, hi, alo, amid, ahi, q, ⟨m', a0', a', q1, q2, q3, q4⟩, h1, h2, w => ⟨m', a0', a', q1, q2, q3, prows_app q4 h1 (by rw [show d + 1 + qs.length = d + (p :: qs).length by simp; omega]; exact h2) (by rw [show d + 1 + qs.length = d + (p :: qs).length by simp; omega]; exact w)⟩
end LPR
