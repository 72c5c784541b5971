set_option maxRecDepth 100000
section LKp
variable {G : om_G} {A t : Nat} {N : List (List Int)} {S : List Int} {b m i : Nat} {n : Int} {M : Nat} {σ τ : tS} {h h' h1 h2 : om_H} {c pr : Nat} {Z Z' : Nat → Prop}
variable {σ0 : tS} {M0 d0 : Nat} {h0 : om_H} {HZ HU : Nat} {z0 am : Nat} {X : List Nat}
theorem Kp_and {Φ Ψ : tS → om_H → Prop} (h1 : Kp z0 am X M Φ) (h2 : Kp z0 am X M Ψ) : Kp z0 am X M (fun σ h => Φ σ h ∧ Ψ σ h) := fun σ τ h h' s d w => ⟨h1 σ τ h h' s d w.1, h2 σ τ h h' s d w.2⟩
theorem Kp_mono {Φ : tS → om_H → Prop} {am' M' : Nat} {X' : List Nat} (k : Kp z0 am X M Φ) (h1 : am ≤ am') (h2 : ∀ x ∈ X', x ∈ X) (h3 : M ≤ M') : Kp z0 am' X' M' Φ := fun σ τ h h' s d w => k σ τ h h' (fun a q r u => s a q (by omega) (fun z => u (h2 a z))) (fun f hf x hx => d f hf x (by omega)) w
theorem Kp_wd {w j : Nat} (h1 : z0 ≤ w ∧ w < am) (h2 : w ∉ X) : Kp z0 am X M (fun _ h => wd h A S w j) := fun σ τ h h' s _ W => wd_same W (s w h1.1 h1.2 h2)
theorem Kp_grows {xs os : List Nat} {lo hi alo ahi : Nat} (h1 : z0 ≤ alo ∧ ahi ≤ am) (h2 : ∀ x ∈ X, x < alo ∨ ahi ≤ x) (h3 : hi ≤ M) : Kp z0 am X M (fun σ h => grows A S b h σ xs os lo hi alo ahi) := fun σ τ h h' s d W => grows_keep W (fun a q r => by
  obtain ⟨u1, u2, u3, u4, u5, u6, u7⟩ := s a (by omega) (by omega) (fun z => by have := h2 a z; omega)
  exact ⟨u1, u2, u3, u6, u7⟩) (fun f hf _ x _ e => d f hf x (by omega)) (fun x _ e _ => d 562 (by simp) x (by omega))
theorem Kp_chain {f : Int} {os : List Nat} (h1 : ∀ o ∈ os, o < M) : Kp z0 am X M (fun σ _ => chain σ f os) := fun σ τ h h' _ d W => chain_keep W (fun o ho => d 562 (by simp) o (h1 o ho))
theorem Kp_wrow {alo ahi j : Nat} {ws : List Nat} (h1 : z0 ≤ alo ∧ ahi ≤ am) (h2 : ∀ w ∈ ws, w ∉ X) : Kp z0 am X M (fun _ h => wrow A S h alo ahi j ws) := by
  intro σ τ h h' s _
  have key : ∀ {j : Nat} {us : List Nat}, (∀ u ∈ us, u ∉ X) → wrow A S h alo ahi j us → wrow A S h' alo ahi j us := by
    intro j us
    induction us generalizing j with
    | nil => intro _ r; exact r
    | cons u us ih =>
      intro hu r
      exact ⟨r.1, r.2.1, wd_same r.2.2.1 (s u (by have := r.1; omega) (by have := r.2.1; omega) (hu u List.mem_cons_self)), r.2.2.2.1, ih (fun v hv => hu v (List.mem_cons_of_mem _ hv)) r.2.2.2.2⟩
  exact key h2
theorem Kp_WR {lo hi alo ahi a n : Nat} (h1 : z0 ≤ alo ∧ ahi ≤ am) (h2 : ∀ x ∈ X, x < alo ∨ ahi ≤ x) (h3 : hi ≤ M) : Kp z0 am X M (fun σ h => WR A S b h σ 59 lo hi alo ahi a n) := fun σ τ h h' s d W => WR_keep W (fun a q r => by
  obtain ⟨u1, u2, u3, u4, u5, u6, u7⟩ := s a (by omega) (by omega) (fun z => by have := h2 a z; omega)
  exact ⟨u1, u2, u3, u6, u7⟩) ⟨fun f hf _ x _ e => d f hf x (by omega), fun x _ e _ => d 562 (by simp) x (by omega)⟩
theorem Kp_list {L : Nat} {l : List Nat} (h1 : z0 ≤ L ∧ L < am) (h2 : L ∉ X) : Kp z0 am X M (fun _ h => kd h L = 42 ∧ ll h L = l) := fun σ τ h h' s _ W => by
  have u := s L h1.1 h1.2 h2
  exact ⟨by rw [u.1]; exact W.1, by rw [u.2.2.2.2.2.1]; exact W.2⟩
theorem Kp_nil {L : Nat} (h1 : z0 ≤ L ∧ L < am) (h2 : L ∉ X) : Kp z0 am X M (fun _ h => kd h L = 42 ∧ ll h L = [] ∧ lc h L ≤ 10) := fun σ τ h h' s _ W => by
  have u := s L h1.1 h1.2 h2
  exact ⟨by rw [u.1]; exact W.1, by rw [u.2.2.2.2.2.1]; exact W.2.1, by rw [u.2.2.2.2.2.2]; exact W.2.2⟩
theorem Kp_init {xs : List Nat} (h1 : ∀ x ∈ xs, z0 ≤ x ∧ x < am ∧ x ∉ X) : Kp z0 am X M (fun _ h => ∀ x ∈ xs, fR h 1350 x = 0 ∧ fR h 1354 x = 0 ∧ fR h 1358 x = 0 ∧ (True → fR h 1346 x = 0)) := fun σ τ h h' s _ W x hx => by
  obtain ⟨q1, q2, q3⟩ := h1 x hx
  have u := s x q1 q2 q3
  rw [u.2.2.1, u.2.2.1, u.2.2.1, u.2.2.1]; exact W x hx
/-- from one state to the next: nothing but the Tokens object is written -/
theorem Kp_hx {Φ : tS → om_H → Prop} (k : Kp z0 am X M Φ) (ht : t < z0) (h1 : am ≤ hz h) (Y : hx t h h') (D : nd σ τ M) (w : Φ σ h) : Φ τ h' := k σ τ h h' (fun a q r _ => hx_same Y (by omega) (by omega)) (fun f hf x hx => D.2 f hf x hx) w
/-- an object of X is written -/
theorem Kp_sR {Φ : tS → om_H → Prop} (k : Kp z0 am X M Φ) {f a x : Nat} (ha : a ∈ X) (w : Φ σ h) : Φ σ (sR h f a x) := k σ σ h (sR h f a x) (fun b _ _ u => ⟨rfl, fun _ => rfl, fun g => by rw [fR_na (fun (z : b = a) => u (by rw [z]; exact ha))], rfl, fun _ => rfl, rfl, rfl⟩) (fun _ _ _ _ => rfl) w
theorem Kp_ua {Φ : tS → om_H → Prop} (k : Kp z0 am X M Φ) {f j : Nat} {x : Int} (hf : f ∈ DA) (w : Φ σ h) : Φ (ua σ f j x) h := k σ _ h h (fun b _ _ _ => ⟨rfl, fun _ => rfl, fun _ => rfl, rfl, fun _ => rfl, rfl, rfl⟩) (fun g hg y _ => by rw [ga_ua, if_neg (fun (z : g = f ∧ y = j) => PA_DA hf (z.1 ▸ hg))]) w
theorem PC_hx {Lf : Nat → List Nat} (C : PC h pr Lf) (P : PL G h pr t Z) (Y : hx t h h') : PC h' pr Lf := fun g hg => by rw [(hx_same Y P.1.2.1 P.1.2.2).2.2.1, Y.2.2.2.2.2.2.2.2.1 _ (P.2.1 g hg).1.1]; exact C g hg
theorem PC_sR {Lf : Nat → List Nat} {f a x : Nat} (C : PC h pr Lf) (ha : a ≠ pr) : PC (sR h f a x) pr Lf := fun g hg => by rw [fR_na (Ne.symm ha)]; exact C g hg
/-- LINES of an instance, in their order -/
def lrows (G : om_G) (A : Nat) (S : List Int) (b : Nat) (h : om_H) (σ : tS) : List Nat → List Nat → Nat → Nat → Nat → Nat → Prop
  | [], [], lo, hi, alo, ahi => lo = hi ∧ alo ≤ ahi
  | x :: xs, o :: os, lo, hi, alo, ahi => ∃ a1 a2 p j : Nat, X0 G A S b h σ 100 lo o a1 a2 (fR h 1366 x) p ∧ (ga σ 538 o = 22 ∧ ga σ 542 o = ((b + j : Nat) : Int) ∧ tokk S j = 2 ∧ ga σ 546 o = (p : Int)) ∧ (alo ≤ fR h 1362 x ∧ fR h 1362 x < a1 ∧ alo ≤ x ∧ x < a1) ∧ (kd h x = 23 ∧ wd h A S (fR h 1362 x) j) ∧ lrows G A S b h σ xs os (o + 1) hi a2 ahi
  | _, _, _, _, _, _ => False
theorem lrows_in : ∀ {xs os : List Nat} {lo hi alo ahi : Nat}, lrows G A S b h σ xs os lo hi alo ahi → lo ≤ hi ∧ alo ≤ ahi ∧ (∀ o ∈ os, lo ≤ o ∧ o < hi) ∧ (∀ x ∈ xs, alo ≤ x ∧ x < ahi) ∧ xs.length = os.length
  | [], [], _, _, _, _, r => ⟨Nat.le_of_eq r.1, r.2, fun _ h => absurd h List.not_mem_nil, fun _ h => absurd h List.not_mem_nil, rfl⟩
  | x :: xs, o :: os, lo, hi, alo, ahi, ⟨a1, a2, p, j, q1, q2, q3, q4, q5⟩ => by
    obtain ⟨c1, c2, c3, c4, c5⟩ := lrows_in q5
    have i := XR_in _ _ _ _ _ _ _ q1
    refine ⟨by omega, by omega, fun o' ho => ?_, fun x' hx => ?_, by simp [c5]⟩
    · rcases List.mem_cons.mp ho with rfl | ho
      · omega
      · have := c3 o' ho; omega
    · rcases List.mem_cons.mp hx with rfl | hx
      · omega
      · have := c4 x' hx; omega
  | [], _ :: _, _, _, _, _, r => r.elim
  | _ :: _, [], _, _, _, _, r => r.elim
theorem lrows_pw : ∀ {xs os : List Nat} {lo hi alo ahi : Nat}, lrows G A S b h σ xs os lo hi alo ahi → os.Pairwise (· < ·)
  | [], [], _, _, _, _, _ => List.Pairwise.nil
  | x :: xs, o :: os, lo, hi, alo, ahi, ⟨a1, a2, p, j, q1, q2, q3, q4, q5⟩ => List.Pairwise.cons (fun y hy => by have := (lrows_in q5).2.2.1 y hy; omega) (lrows_pw q5)
  | [], _ :: _, _, _, _, _, r => r.elim
  | _ :: _, [], _, _, _, _, r => r.elim
theorem lrows_keep : ∀ {xs os : List Nat} {lo hi alo ahi : Nat}, lrows G A S b h σ xs os lo hi alo ahi → hk alo ahi h h' → (∀ f ∈ PA, f ≠ 562 → ∀ i, lo ≤ i → i < hi → ga τ f i = ga σ f i) → (∀ i, lo ≤ i → i < hi → i ∉ os → ga τ 562 i = ga σ 562 i) → lrows G A S b h' τ xs os lo hi alo ahi
  | [], [], _, _, _, _, r, _, _, _ => r
  | x :: xs, o :: os, lo, hi, alo, ahi, ⟨a1, a2, p, j, q1, q2, q3, q4, q5⟩, K, L, L2 => by
    obtain ⟨c1, c2, c3, c4, c5⟩ := lrows_in q5
    have i := XR_in _ _ _ _ _ _ _ q1
    obtain ⟨k1, k2, k3, k4, k5⟩ := K x (by omega) (by omega)
    have w := wd_hk (A := A) (S := S) K q3.1 (by omega) q4.2
    refine ⟨a1, a2, p, j, ?_, ?_, ?_, ?_, lrows_keep q5 (fun a d e => K a (by omega) (by omega)) (fun f hf c x d e => L f hf c x (by omega) e) (fun x d e c => L2 x (by omega) e ?_)⟩
    · rw [k3]
      refine X0_keep q1 (fun a d e => K a (by omega) (by omega)) (fun f hf x d e => ?_)
      by_cases c : f = 562
      · rw [c]
        refine L2 x (by omega) (by omega) (fun q => ?_)
        rcases List.mem_cons.mp q with q | q
        · omega
        · have := c3 x q; omega
      · exact L f hf c x (by omega) (by omega)
    · rw [L 538 (by simp) (by decide) o (by omega) (by omega), L 542 (by simp) (by decide) o (by omega) (by omega), L 546 (by simp) (by decide) o (by omega) (by omega)]; exact q2
    · rw [k3]; exact q3
    · rw [k1, k3]; exact ⟨q4.1, w⟩
    · intro q
      rcases List.mem_cons.mp q with q | q
      · omega
      · exact c q
  | [], _ :: _, _, _, _, _, r, _, _, _ => r.elim
  | _ :: _, [], _, _, _, _, r, _, _, _ => r.elim
theorem lrows_app : ∀ {xs os : List Nat} {lo mid alo amid ahi a1 a2 x o p j : Nat}, lrows G A S b h σ xs os lo mid alo amid → X0 G A S b h σ 100 mid o a1 a2 (fR h 1366 x) p → (ga σ 538 o = 22 ∧ ga σ 542 o = ((b + j : Nat) : Int) ∧ tokk S j = 2 ∧ ga σ 546 o = (p : Int)) → (amid ≤ fR h 1362 x ∧ fR h 1362 x < a1 ∧ amid ≤ x ∧ x < a1) → (kd h x = 23 ∧ wd h A S (fR h 1362 x) j) → a2 ≤ ahi → lrows G A S b h σ (xs ++ [x]) (os ++ [o]) lo (o + 1) alo ahi
  | [], [], lo, mid, alo, amid, ahi, a1, a2, x, o, p, j, r, r1, r2, r3, r4, h3 => ⟨a1, a2, p, j, by rw [r.1]; exact r1, r2, by have := r.2; omega, r4, rfl, h3⟩
  | y :: xs, o' :: os, lo, mid, alo, amid, ahi, a1, a2, x, o, p, j, ⟨a1', a2', p', j', s1, s2, s3, s4, s5⟩, r1, r2, r3, r4, h3 => ⟨a1', a2', p', j', s1, s2, s3, s4, lrows_app s5 r1 r2 r3 r4 h3⟩
  | [], _ :: _, _, _, _, _, _, _, _, _, _, _, _, r, _, _, _, _, _ => r.elim
  | _ :: _, [], _, _, _, _, _, _, _, _, _, _, _, r, _, _, _, _, _ => r.elim
end LKp
