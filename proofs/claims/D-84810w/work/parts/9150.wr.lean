set_option maxRecDepth 100000
/-! TYPES AS THEY ARE READ: an object of the component and a node of the twin, with the ranges of addresses and of nodes that they lie in -/
/-- a row of nodes, linked -/
def chain (σ : tS) : Int → List Nat → Prop
  | f, [] => f = -1
  | f, n :: ns => f = (n : Int) ∧ chain σ (ga σ 562 n) ns
/-- two rows, one behind the other in the ranges -/
def rows2 (W : Nat → Nat → Nat → Nat → Nat → Nat → Prop) : List Nat → List Nat → Nat → Nat → Nat → Nat → Prop
  | [], [], lo, hi, alo, ahi => lo = hi ∧ alo ≤ ahi
  | x :: xs, n :: ns, lo, hi, alo, ahi => ∃ mid amid, W lo mid alo amid x n ∧ rows2 W xs ns mid hi amid ahi
  | _, _, _, _, _, _ => False
/-- a Written and its node -/
def WR (A : Nat) (S : List Int) (b : Nat) (h : om_H) (σ : tS) : Nat → Nat → Nat → Nat → Nat → Nat → Nat → Prop
  | 0, _, _, _, _, _, _ => False
  | k + 1, lo, hi, alo, ahi, a, n => lo ≤ n ∧ n < hi ∧ alo ≤ a ∧ a < ahi ∧ kd h a = 20 ∧ alo ≤ fR h 1274 a ∧ fR h 1274 a < ahi ∧ kd h (fR h 1274 a) = 42 ∧
    ((∃ j, ga σ 538 n = 0 ∧ ga σ 542 n = ((b + j : Nat) : Int) ∧ tokk S j = 2 ∧ alo ≤ fR h 1266 a ∧ fR h 1266 a < ahi ∧ wd h A S (fR h 1266 a) j ∧ fI h 1271 a = 0 ∧ ll h (fR h 1274 a) = [] ∧ n = lo ∧ lo + 1 = hi) ∨
     (∃ j ns amid, ga σ 538 n = 1 ∧ ga σ 542 n = ((b + j : Nat) : Int) ∧ tokk S j = 3 ∧ alo ≤ fR h 1266 a ∧ fR h 1266 a < amid ∧ wd h A S (fR h 1266 a) j ∧ fI h 1271 a = 1 ∧ n = lo ∧ a < amid ∧ fR h 1274 a < amid ∧ alo ≤ amid ∧ chain σ (ga σ 546 n) ns ∧ rows2 (WR A S b h σ k) (ll h (fR h 1274 a)) ns (lo + 1) hi amid ahi) ∨
     (∃ (x y nx ny mid amid aend : Nat), ga σ 538 n = 3 ∧ fR h 1266 a = 0 ∧ fI h 1271 a = 0 ∧ ll h (fR h 1274 a) = [x, y] ∧ ga σ 546 n = (nx : Int) ∧ ga σ 550 n = (ny : Int) ∧ n + 1 = hi ∧ WR A S b h σ k lo mid alo amid x nx ∧ WR A S b h σ k mid n aend ahi y ny ∧ amid ≤ a ∧ a < aend ∧ amid ≤ fR h 1274 a ∧ fR h 1274 a < aend))
/-- the same at these addresses -/
def hk (alo ahi : Nat) (h h' : om_H) : Prop := ∀ a, alo ≤ a → a < ahi → kd h' a = kd h a ∧ (∀ f, fI h' f a = fI h f a) ∧ (∀ f, fR h' f a = fR h f a) ∧ ll h' a = ll h a ∧ lc h' a = lc h a
/-- the same at these nodes, but for the link of one -/
def nk (lo hi n : Nat) (σ τ : tS) : Prop := (∀ f ∈ PA, f ≠ 562 → ∀ i, lo ≤ i → i < hi → ga τ f i = ga σ f i) ∧ ∀ i, lo ≤ i → i < hi → i ≠ n → ga τ 562 i = ga σ 562 i
theorem hk_sub {alo ahi blo bhi : Nat} {h h' : om_H} (K : hk alo ahi h h') (h1 : alo ≤ blo) (h2 : bhi ≤ ahi) : hk blo bhi h h' := fun a c d => K a (by omega) (by omega)
theorem nk_sub {lo hi lo' hi' n n' : Nat} {σ τ : tS} (K : nk lo hi n σ τ) (h1 : lo ≤ lo') (h2 : hi' ≤ hi) (h3 : n < lo' ∨ hi' ≤ n) : nk lo' hi' n' σ τ := ⟨fun f hf c i d e => K.1 f hf c i (by omega) (by omega), fun i d e _ => K.2 i (by omega) (by omega) (by omega)⟩
theorem wd_hk {A : Nat} {S : List Int} {a j alo ahi : Nat} {h h' : om_H} (K : hk alo ahi h h') (h1 : alo ≤ a) (h2 : a < ahi) (w : wd h A S a j) : wd h' A S a j := by
  obtain ⟨k1, k2, k3, k4, k5⟩ := K a h1 h2
  exact ⟨by rw [k1]; exact w.1, by rw [k3]; exact w.2.1, by rw [k2]; exact w.2.2.1, by rw [k2]; exact w.2.2.2⟩
theorem rows2_len {W : Nat → Nat → Nat → Nat → Nat → Nat → Prop} : ∀ {xs ns : List Nat} {lo hi alo ahi : Nat}, rows2 W xs ns lo hi alo ahi → xs.length = ns.length
  | [], [], _, _, _, _, _ => rfl
  | x :: xs, n :: ns, _, _, _, _, ⟨_, _, _, r⟩ => by simp [rows2_len r]
  | [], _ :: _, _, _, _, _, r => r.elim
  | _ :: _, [], _, _, _, _, r => r.elim
theorem rows2_mono {W W' : Nat → Nat → Nat → Nat → Nat → Nat → Prop} (hW : ∀ lo hi alo ahi x n, W lo hi alo ahi x n → W' lo hi alo ahi x n) : ∀ {xs ns : List Nat} {lo hi alo ahi : Nat}, rows2 W xs ns lo hi alo ahi → rows2 W' xs ns lo hi alo ahi
  | [], [], _, _, _, _, r => r
  | x :: xs, n :: ns, _, _, _, _, ⟨mid, amid, w, r⟩ => ⟨mid, amid, hW _ _ _ _ _ _ w, rows2_mono hW r⟩
  | [], _ :: _, _, _, _, _, r => r.elim
  | _ :: _, [], _, _, _, _, r => r.elim
/-- where each of the row lies -/
theorem rows2_in {W : Nat → Nat → Nat → Nat → Nat → Nat → Prop} (hW : ∀ {lo hi alo ahi x n}, W lo hi alo ahi x n → lo ≤ n ∧ n < hi ∧ alo ≤ x ∧ x < ahi) : ∀ {xs ns : List Nat} {lo hi alo ahi : Nat}, rows2 W xs ns lo hi alo ahi → lo ≤ hi ∧ alo ≤ ahi ∧ (∀ n ∈ ns, lo ≤ n ∧ n < hi) ∧ (∀ x ∈ xs, alo ≤ x ∧ x < ahi) ∧ ns.Pairwise (· < ·)
  | [], [], _, _, _, _, r => ⟨Nat.le_of_eq r.1, r.2, fun _ h => absurd h List.not_mem_nil, fun _ h => absurd h List.not_mem_nil, List.Pairwise.nil⟩
  | x :: xs, n :: ns, lo, hi, alo, ahi, ⟨mid, amid, w, r⟩ => by
    obtain ⟨w1, w2, w3, w4⟩ := hW w
    obtain ⟨r1, r2, r3, r4, r5⟩ := rows2_in hW r
    refine ⟨by omega, by omega, fun k hk => ?_, fun y hy => ?_, List.pairwise_cons.mpr ⟨fun k hk => ?_, r5⟩⟩
    · rcases List.mem_cons.mp hk with rfl | hk
      · omega
      · have := r3 k hk; omega
    · rcases List.mem_cons.mp hy with rfl | hy
      · omega
      · have := r4 y hy; omega
    · have := r3 k hk; omega
  | [], _ :: _, _, _, _, _, r => r.elim
  | _ :: _, [], _, _, _, _, r => r.elim
theorem rows2_app {W : Nat → Nat → Nat → Nat → Nat → Nat → Prop} : ∀ {xs ns : List Nat} {lo mid hi alo amid ahi x n : Nat}, rows2 W xs ns lo mid alo amid → (∀ alo', alo' ≤ amid → W mid hi alo' ahi x n) → rows2 W (xs ++ [x]) (ns ++ [n]) lo hi alo ahi
  | [], [], lo, mid, hi, alo, amid, ahi, x, n, r, w => ⟨hi, ahi, by rw [r.1]; exact w alo r.2, rfl, Nat.le_refl _⟩
  | y :: ys, k :: ks, lo, mid, hi, alo, amid, ahi, x, n, ⟨m1, a1, w1, r⟩, w => ⟨m1, a1, w1, rows2_app r w⟩
  | [], _ :: _, _, _, _, _, _, _, _, _, r, _ => r.elim
  | _ :: _, [], _, _, _, _, _, _, _, _, r, _ => r.elim
theorem rows2_end {W : Nat → Nat → Nat → Nat → Nat → Nat → Prop} : ∀ {xs ns : List Nat} {lo hi alo ahi ahi' : Nat}, rows2 W xs ns lo hi alo ahi → ahi ≤ ahi' → rows2 W xs ns lo hi alo ahi'
  | [], [], _, _, _, _, _, r, h => ⟨r.1, Nat.le_trans r.2 h⟩
  | x :: xs, n :: ns, _, _, _, _, _, ⟨mid, amid, w, r⟩, h => ⟨mid, amid, w, rows2_end r h⟩
  | [], _ :: _, _, _, _, _, _, r, _ => r.elim
  | _ :: _, [], _, _, _, _, _, r, _ => r.elim
theorem chain_keep {σ τ : tS} : ∀ {f : Int} {ns : List Nat}, chain σ f ns → (∀ n ∈ ns, ga τ 562 n = ga σ 562 n) → chain τ f ns
  | _, [], h, _ => h
  | _, n :: ns, ⟨h1, h2⟩, k => ⟨h1, by rw [k n List.mem_cons_self]; exact chain_keep h2 (fun m hm => k m (List.mem_cons_of_mem _ hm))⟩
theorem chain_app {σ τ : tS} {p : Nat} (hp : ga τ 562 p = -1) : ∀ {f : Int} {ns : List Nat} {l : Nat}, chain σ f (ns ++ [l]) → (∀ n ∈ ns, ga τ 562 n = ga σ 562 n) → ga τ 562 l = (p : Int) → chain τ f (ns ++ [l] ++ [p])
  | f, [], l, ⟨h1, h2⟩, k, hl => ⟨h1, by rw [hl]; exact ⟨rfl, hp⟩⟩
  | f, n :: ns, l, ⟨h1, h2⟩, k, hl => ⟨h1, by rw [k n List.mem_cons_self]; exact chain_app hp h2 (fun m hm => k m (List.mem_cons_of_mem _ hm)) hl⟩
section LW
variable {A : Nat} {S : List Int} {b : Nat} {h h' : om_H} {σ τ : tS}
theorem WR_in : ∀ {k lo hi alo ahi a n : Nat}, WR A S b h σ k lo hi alo ahi a n → lo ≤ n ∧ n < hi ∧ alo ≤ a ∧ a < ahi
  | 0, _, _, _, _, _, _, w => w.elim
  | _ + 1, _, _, _, _, _, _, w => ⟨w.1, w.2.1, w.2.2.1, w.2.2.2.1⟩
/-- more fuel -/
theorem WR_more : ∀ {k lo hi alo ahi a n : Nat}, WR A S b h σ k lo hi alo ahi a n → WR A S b h σ (k + 1) lo hi alo ahi a n
  | 0, _, _, _, _, _, _, w => w.elim
  | k + 1, lo, hi, alo, ahi, a, n, ⟨w1, w2, w3, w4, w5, w6, w7, w8, w9⟩ => by
    refine ⟨w1, w2, w3, w4, w5, w6, w7, w8, ?_⟩
    rcases w9 with w9 | ⟨j, ns, amid, q1, q2, q3, q4, q5, q6, q7, q8, q9, q10, q11, q12, q13⟩ | ⟨x, y, nx, ny, mid, amid, aend, q1, q2, q3, q4, q5, q6, q7, q8, q9, q10⟩
    · exact .inl w9
    · exact .inr (.inl ⟨j, ns, amid, q1, q2, q3, q4, q5, q6, q7, q8, q9, q10, q11, q12, rows2_mono (fun _ _ _ _ _ _ w => WR_more w) q13⟩)
    · exact .inr (.inr ⟨x, y, nx, ny, mid, amid, aend, q1, q2, q3, q4, q5, q6, q7, WR_more q8, WR_more q9, q10⟩)
theorem WR_le {k k' : Nat} (hk : k ≤ k') {lo hi alo ahi a n : Nat} (w : WR A S b h σ k lo hi alo ahi a n) : WR A S b h σ k' lo hi alo ahi a n := by
  induction hk with
  | refl => exact w
  | step _ ih => exact WR_more ih
/-- what else changes doesn't matter -/
theorem WR_keep : ∀ {k lo hi alo ahi a n : Nat}, WR A S b h σ k lo hi alo ahi a n → hk alo ahi h h' → nk lo hi n σ τ → WR A S b h' τ k lo hi alo ahi a n
  | 0, _, _, _, _, _, _, w, _, _ => w.elim
  | k + 1, lo, hi, alo, ahi, a, n, ⟨w1, w2, w3, w4, w5, w6, w7, w8, w9⟩, H, K => by
    obtain ⟨a1, a2, a3, a4, a5⟩ := H a w3 w4
    obtain ⟨b1, b2, b3, b4, b5⟩ := H (fR h 1274 a) w6 w7
    have n1 : ∀ f ∈ PA, f ≠ 562 → ga τ f n = ga σ f n := fun f hf c => K.1 f hf c n w1 w2
    refine ⟨w1, w2, w3, w4, by rw [a1]; exact w5, by rw [a3]; exact w6, by rw [a3]; exact w7, by rw [a3, b1]; exact w8, ?_⟩
    rw [a3, a3, a2, b4, n1 538 (by simp) (by decide), n1 542 (by simp) (by decide), n1 546 (by simp) (by decide), n1 550 (by simp) (by decide)]
    rcases w9 with ⟨j, q1, q2, q3, q4, q5, q6, q7, q8⟩ | ⟨j, ns, amid, q1, q2, q3, q4, q5, q6, q7, q8, q9, q10, q11, q12, q13⟩ | ⟨x, y, nx, ny, mid, amid, aend, q1, q2, q3, q4, q5, q6, q7, q8, q9, q10, q11, q12, q13⟩
    · exact .inl ⟨j, q1, q2, q3, q4, q5, wd_hk H q4 q5 q6, q7, q8⟩
    · obtain ⟨r1, r2, r3, r4, r5⟩ := rows2_in (fun w => WR_in w) q13
      refine .inr (.inl ⟨j, ns, amid, q1, q2, q3, q4, q5, wd_hk H q4 (by omega) q6, q7, q8, q9, q10, q11, chain_keep q12 (fun m hm => K.2 m (by have := r3 m hm; omega) (by have := r3 m hm; omega) (by have := r3 m hm; omega)), ?_⟩)
      have key : ∀ (xs ns : List Nat) (lo' alo' : Nat), lo < lo' → alo ≤ alo' → rows2 (WR A S b h σ k) xs ns lo' hi alo' ahi → rows2 (WR A S b h' τ k) xs ns lo' hi alo' ahi := by
        intro xs
        induction xs with
        | nil =>
          intro ns lo' alo' _ _ r
          cases ns with
          | nil => exact r
          | cons => exact r.elim
        | cons x xs ih =>
          intro ns lo' alo' c d r
          cases ns with
          | nil => exact r.elim
          | cons m ns =>
            obtain ⟨mid, amid', w, r⟩ := r
            have wi := WR_in w
            have ri := rows2_in (fun w => WR_in w) r
            refine ⟨mid, amid', WR_keep w (hk_sub H d (by omega)) (nk_sub K (by omega) (by omega) (by omega)), ih ns mid amid' (by omega) (by omega) r⟩
      exact key _ ns (lo + 1) amid (by omega) q11 q13
    · have i1 := WR_in q8
      have i2 := WR_in q9
      exact .inr (.inr ⟨x, y, nx, ny, mid, amid, aend, q1, q2, q3, q4, q5, q6, q7, WR_keep q8 (hk_sub H (Nat.le_refl _) (by omega)) (nk_sub K (Nat.le_refl _) (by omega) (by omega)), WR_keep q9 (hk_sub H (by omega) (Nat.le_refl _)) (nk_sub K (by omega) (by omega) (by omega)), q10, q11, q12, q13⟩)
/-- a wider range of addresses -/
theorem WR_wide : ∀ {k lo hi alo ahi alo' ahi' a n : Nat}, WR A S b h σ k lo hi alo ahi a n → alo' ≤ alo → ahi ≤ ahi' → WR A S b h σ k lo hi alo' ahi' a n
  | 0, _, _, _, _, _, _, _, _, w, _, _ => w.elim
  | k + 1, lo, hi, alo, ahi, alo', ahi', a, n, ⟨w1, w2, w3, w4, w5, w6, w7, w8, w9⟩, h1, h2 => by
    refine ⟨w1, w2, by omega, by omega, w5, by omega, by omega, w8, ?_⟩
    rcases w9 with ⟨j, q1, q2, q3, q4, q5, q6, q7, q8⟩ | ⟨j, ns, amid, q1, q2, q3, q4, q5, q6, q7, q8, q9, q10, q11, q12, q13⟩ | ⟨x, y, nx, ny, mid, amid, aend, q1, q2, q3, q4, q5, q6, q7, q8, q9, q10, q11, q12, q13⟩
    · exact .inl ⟨j, q1, q2, q3, by omega, by omega, q6, q7, q8⟩
    · exact .inr (.inl ⟨j, ns, amid, q1, q2, q3, by omega, q5, q6, q7, q8, q9, q10, by omega, q12, rows2_end q13 h2⟩)
    · exact .inr (.inr ⟨x, y, nx, ny, mid, amid, aend, q1, q2, q3, q4, q5, q6, q7, WR_wide q8 h1 (Nat.le_refl _), WR_wide q9 (Nat.le_refl _) h2, q10, q11, q12, q13⟩)
/-- a row with other things changed, links of its own nodes too -/
theorem rows2_keep {Z : Nat → Prop} {k : Nat} : ∀ {xs ns : List Nat} {lo hi alo ahi : Nat}, rows2 (WR A S b h σ k) xs ns lo hi alo ahi → hk alo ahi h h' → (∀ f ∈ PA, f ≠ 562 → ∀ i, lo ≤ i → i < hi → ga τ f i = ga σ f i) → (∀ i, lo ≤ i → i < hi → ¬ Z i → ga τ 562 i = ga σ 562 i) → (∀ z, Z z → lo ≤ z → z < hi → z ∈ ns) → rows2 (WR A S b h' τ k) xs ns lo hi alo ahi
  | [], [], _, _, _, _, r, _, _, _, _ => r
  | x :: xs, n :: ns, lo, hi, alo, ahi, ⟨mid, amid, w, r⟩, H, K1, K2, hZ => by
    have wi := WR_in w
    have ri := rows2_in (fun w => WR_in w) r
    refine ⟨mid, amid, WR_keep w (hk_sub H (Nat.le_refl _) (by omega)) ⟨fun f hf c i d e => K1 f hf c i d (by omega), fun i d e c => K2 i d (by omega) (fun z => ?_)⟩, rows2_keep r (hk_sub H (by omega) (Nat.le_refl _)) (fun f hf c i d e => K1 f hf c i (by omega) e) (fun i d e c => K2 i (by omega) e c) (fun z hz d e => ?_)⟩
    · rcases List.mem_cons.mp (hZ i z d (by omega)) with q | q
      · exact c q
      · have := ri.2.2.1 i q; omega
    · rcases List.mem_cons.mp (hZ z hz (by omega) e) with q | q
      · omega
      · exact q
  | [], _ :: _, _, _, _, _, r, _, _, _, _ => r.elim
  | _ :: _, [], _, _, _, _, r, _, _, _, _ => r.elim
end LW
