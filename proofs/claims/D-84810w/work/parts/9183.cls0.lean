set_option maxRecDepth 100000
/-! CLASSES as they are read -/
section LK
variable {A : Nat} {S : List Int} {b : Nat} {h h' : om_H} {σ τ : tS}
theorem chain_first {nT : Nat} (hnx : ga τ 562 nT = -1) : chain τ (nT : Int) [nT] := ⟨rfl, hnx⟩
/-- a row of nodes gets one more -/
theorem chain_more {nT l : Nat} {f : Int} {ns : List Nat} (hc : chain σ f (ns ++ [l])) (hp : (ns ++ [l]).Pairwise (· < ·)) (hlt : ∀ x ∈ ns ++ [l], x < nT) (hk : ∀ x ∈ ns, ga τ 562 x = ga σ 562 x) (hnx : ga τ 562 nT = -1) : chain (ua τ 562 l (nT : Int)) f (ns ++ [l] ++ [nT]) := by
  have hl := hlt l (by simp)
  refine chain_app ?_ hc (fun x hx => ?_) ?_
  · rw [ga_ua, if_neg (by omega)]; exact hnx
  · have : x < l := (List.pairwise_append.mp hp).2.2 x hx l (by simp)
    rw [ga_ua, if_neg (by omega)]
    exact hk x hx
  · rw [ga_ua, if_pos ⟨rfl, rfl⟩]
/-- methods, in their order: k the first one's number, xs the objects, os their nodes -/
def mrows (A : Nat) (S : List Int) (b : Nat) (h : om_H) (σ : tS) (c : Nat) : Nat → List Nat → List Nat → Nat → Nat → Nat → Nat → Prop
  | _, [], [], lo, hi, alo, ahi => lo = hi ∧ alo ≤ ahi
  | k, x :: xs, o :: os, lo, hi, alo, ahi => ∃ kk a1 a2 p j : Nat, WR A S b h σ 59 lo o a1 a2 (fR h 1246 x) p ∧ (ga σ 538 o = 20 ∧ ga σ 542 o = ((b + j : Nat) : Int) ∧ tokk S j = 2 ∧ ga σ 546 o = (p : Int)) ∧ (alo ≤ fR h 1242 x ∧ fR h 1242 x < a1 ∧ alo ≤ x ∧ x < a1) ∧ (kd h x = 19 ∧ wd h A S (fR h 1242 x) j ∧ fR h 1250 x = c ∧ fI h 1252 x = (k : Int)) ∧ mrows A S b h σ c (k + 1) xs os (o + 1) hi a2 ahi
  | _, _, _, _, _, _, _ => False
theorem mrows_in {c : Nat} : ∀ {k : Nat} {xs os : List Nat} {lo hi alo ahi : Nat}, mrows A S b h σ c k xs os lo hi alo ahi → lo ≤ hi ∧ alo ≤ ahi ∧ (∀ o ∈ os, lo ≤ o ∧ o < hi) ∧ (∀ x ∈ xs, alo ≤ x ∧ x < ahi) ∧ xs.length = os.length
  | _, [], [], _, _, _, _, r => ⟨Nat.le_of_eq r.1, r.2, fun _ h => absurd h List.not_mem_nil, fun _ h => absurd h List.not_mem_nil, rfl⟩
  | k, x :: xs, o :: os, lo, hi, alo, ahi, ⟨kk, a1, a2, p, j, q1, q2, q3, q4, q5⟩ => by
    obtain ⟨c1, c2, c3, c4, c5⟩ := mrows_in q5
    have i := WR_in q1
    refine ⟨by omega, by omega, fun o' ho => ?_, fun x' hx => ?_, by simp [c5]⟩
    · rcases List.mem_cons.mp ho with rfl | ho
      · omega
      · have := c3 o' ho; omega
    · rcases List.mem_cons.mp hx with rfl | hx
      · omega
      · have := c4 x' hx; omega
  | _, [], _ :: _, _, _, _, _, r => r.elim
  | _, _ :: _, [], _, _, _, _, r => r.elim
theorem mrows_pw {c : Nat} : ∀ {k : Nat} {xs os : List Nat} {lo hi alo ahi : Nat}, mrows A S b h σ c k xs os lo hi alo ahi → os.Pairwise (· < ·)
  | _, [], [], _, _, _, _, _ => List.Pairwise.nil
  | k, x :: xs, o :: os, lo, hi, alo, ahi, ⟨kk, a1, a2, p, j, q1, q2, q3, q4, q5⟩ => List.Pairwise.cons (fun y hy => by have := (mrows_in q5).2.2.1 y hy; omega) (mrows_pw q5)
  | _, [], _ :: _, _, _, _, _, r => r.elim
  | _, _ :: _, [], _, _, _, _, r => r.elim
theorem mrows_keep {c : Nat} : ∀ {k : Nat} {xs os : List Nat} {lo hi alo ahi : Nat}, mrows A S b h σ c k xs os lo hi alo ahi → hk alo ahi h h' → (∀ f ∈ PA, f ≠ 562 → ∀ i, lo ≤ i → i < hi → ga τ f i = ga σ f i) → (∀ i, lo ≤ i → i < hi → i ∉ os → ga τ 562 i = ga σ 562 i) → mrows A S b h' τ c k xs os lo hi alo ahi
  | _, [], [], _, _, _, _, r, _, _, _ => r
  | k, x :: xs, o :: os, lo, hi, alo, ahi, ⟨kk, a1, a2, p, j, q1, q2, q3, q4, q5⟩, K, L, L2 => by
    obtain ⟨c1, c2, c3, c4, c5⟩ := mrows_in q5
    have i := WR_in q1
    obtain ⟨k1, k2, k3, k4, k5⟩ := K x (by omega) (by omega)
    have w := wd_hk (A := A) (S := S) K q3.1 (by omega) q4.2.1
    refine ⟨kk, a1, a2, p, j, ?_, ?_, ?_, ?_, mrows_keep q5 (fun a d e => K a (by omega) (by omega)) (fun f hf c x d e => L f hf c x (by omega) e) (fun x d e c => L2 x (by omega) e ?_)⟩
    · rw [k3]
      refine WR_keep q1 (fun a d e => K a (by omega) (by omega)) ⟨fun f hf c x d e => L f hf c x (by omega) (by omega), fun x d e _ => L2 x (by omega) (by omega) ?_⟩
      intro q
      rcases List.mem_cons.mp q with q | q
      · omega
      · have := c3 x q; omega
    · rw [L 538 (by simp) (by decide) o (by omega) (by omega), L 542 (by simp) (by decide) o (by omega) (by omega), L 546 (by simp) (by decide) o (by omega) (by omega)]; exact q2
    · rw [k3]; exact q3
    · rw [k1, k3, k3, k2]; exact ⟨q4.1, w, q4.2.2⟩
    · intro q
      rcases List.mem_cons.mp q with q | q
      · omega
      · exact c q
  | _, [], _ :: _, _, _, _, _, r, _, _, _ => r.elim
  | _, _ :: _, [], _, _, _, _, r, _, _, _ => r.elim
theorem mrows_app {c : Nat} : ∀ {k : Nat} {xs os : List Nat} {lo mid alo amid ahi a1 a2 x o p j : Nat}, mrows A S b h σ c k xs os lo mid alo amid → WR A S b h σ 59 mid o a1 a2 (fR h 1246 x) p → (ga σ 538 o = 20 ∧ ga σ 542 o = ((b + j : Nat) : Int) ∧ tokk S j = 2 ∧ ga σ 546 o = (p : Int)) → (amid ≤ fR h 1242 x ∧ fR h 1242 x < a1 ∧ amid ≤ x ∧ x < a1) → (kd h x = 19 ∧ wd h A S (fR h 1242 x) j ∧ fR h 1250 x = c ∧ fI h 1252 x = ((k + xs.length : Nat) : Int)) → a2 ≤ ahi → mrows A S b h σ c k (xs ++ [x]) (os ++ [o]) lo (o + 1) alo ahi
  | k, [], [], lo, mid, alo, amid, ahi, a1, a2, x, o, p, j, r, r1, r2, r3, r4, h3 => ⟨0, a1, a2, p, j, by rw [r.1]; exact r1, r2, by have := r.2; omega, r4, rfl, h3⟩
  | k, y :: xs, o' :: os, lo, mid, alo, amid, ahi, a1, a2, x, o, p, j, ⟨kk', a1', a2', p', j', s1, s2, s3, s4, s5⟩, r1, r2, r3, r4, h3 => ⟨kk', a1', a2', p', j', s1, s2, s3, s4, mrows_app s5 r1 r2 r3 (by rw [show k + 1 + xs.length = k + (y :: xs).length by simp; omega]; exact r4) h3⟩
  | _, [], _ :: _, _, _, _, _, _, _, _, _, _, _, _, r, _, _, _, _, _ => r.elim
  | _, _ :: _, [], _, _, _, _, _, _, _, _, _, _, _, r, _, _, _, _, _ => r.elim
end LK
