set_option maxRecDepth 100000
/-! GIVENS AND CONDITIONS, in a row -/
def grows (A : Nat) (S : List Int) (b : Nat) (h : om_H) (σ : tS) : List Nat → List Nat → Nat → Nat → Nat → Nat → Prop
  | [], [], lo, hi, alo, ahi => lo = hi ∧ alo ≤ ahi
  | x :: xs, o :: os, lo, hi, alo, ahi => ∃ j a2 : Nat, (ga σ 538 o = 21 ∧ ga σ 542 o = ((b + j : Nat) : Int) ∧ tokk S j = 3 ∧ ga σ 546 o = ((b + (j + 1) : Nat) : Int) ∧ tokk S (j + 1) = 2 ∧ (∀ i, lo ≤ i → i < o → ga σ 542 o ≤ ga σ 542 i) ∧ ∀ o' ∈ os, ga σ 542 o < ga σ 542 o') ∧ (kd h x = 22 ∧ alo ≤ x ∧ x < a2) ∧ (alo ≤ fR h 1338 x ∧ fR h 1338 x < a2 ∧ wd h A S (fR h 1338 x) j) ∧ (alo ≤ fR h 1342 x ∧ fR h 1342 x < a2 ∧ wd h A S (fR h 1342 x) (j + 1)) ∧ ((fR h 1346 x = 0 ∧ ga σ 550 o = -1 ∧ o = lo) ∨ ∃ kk p a1 a3 : Nat, fR h 1346 x ≠ 0 ∧ ga σ 550 o = (p : Int) ∧ alo ≤ a1 ∧ a3 ≤ a2 ∧ WR A S b h σ 59 lo o a1 a3 (fR h 1346 x) p) ∧ grows A S b h σ xs os (o + 1) hi a2 ahi
  | _, _, _, _, _, _ => False
section LG1
variable {A : Nat} {S : List Int} {b : Nat} {h h' : om_H} {σ τ : tS}
theorem grows_in : ∀ {xs os : List Nat} {lo hi alo ahi : Nat}, grows A S b h σ xs os lo hi alo ahi → lo ≤ hi ∧ alo ≤ ahi ∧ (∀ o ∈ os, lo ≤ o ∧ o < hi) ∧ (∀ x ∈ xs, alo ≤ x ∧ x < ahi) ∧ xs.length = os.length
  | [], [], _, _, _, _, r => ⟨Nat.le_of_eq r.1, r.2, fun _ h => absurd h List.not_mem_nil, fun _ h => absurd h List.not_mem_nil, rfl⟩
  | x :: xs, o :: os, lo, hi, alo, ahi, ⟨j, a2, q1, q2, q3, q4, q5, q6⟩ => by
    obtain ⟨c1, c2, c3, c4, c5⟩ := grows_in q6
    have ho : lo ≤ o := by
      rcases q5 with q | ⟨kk, p, a1, a3, q⟩
      · omega
      · have := WR_in q.2.2.2.2; omega
    refine ⟨by omega, by omega, fun o' ho => ?_, fun x' hx => ?_, by simp [c5]⟩
    · rcases List.mem_cons.mp ho with rfl | ho
      · omega
      · have := c3 o' ho; omega
    · rcases List.mem_cons.mp hx with rfl | hx
      · omega
      · have := c4 x' hx; omega
  | [], _ :: _, _, _, _, _, r => r.elim
  | _ :: _, [], _, _, _, _, r => r.elim
theorem grows_pw : ∀ {xs os : List Nat} {lo hi alo ahi : Nat}, grows A S b h σ xs os lo hi alo ahi → os.Pairwise (· < ·)
  | [], [], _, _, _, _, _ => List.Pairwise.nil
  | x :: xs, o :: os, lo, hi, alo, ahi, ⟨j, a2, q1, q2, q3, q4, q5, q6⟩ => List.Pairwise.cons (fun y hy => by have := (grows_in q6).2.2.1 y hy; omega) (grows_pw q6)
  | [], _ :: _, _, _, _, _, r => r.elim
  | _ :: _, [], _, _, _, _, r => r.elim
theorem grows_keep : ∀ {xs os : List Nat} {lo hi alo ahi : Nat}, grows A S b h σ xs os lo hi alo ahi → hk alo ahi h h' → (∀ f ∈ PA, f ≠ 562 → ∀ i, lo ≤ i → i < hi → ga τ f i = ga σ f i) → (∀ i, lo ≤ i → i < hi → i ∉ os → ga τ 562 i = ga σ 562 i) → grows A S b h' τ xs os lo hi alo ahi
  | [], [], _, _, _, _, r, _, _, _ => r
  | x :: xs, o :: os, lo, hi, alo, ahi, ⟨j, a2, q1, q2, q3, q4, q5, q6⟩, K, L, L2 => by
    obtain ⟨c1, c2, c3, c4, c5⟩ := grows_in q6
    have ho : lo ≤ o := by
      rcases q5 with q | ⟨kk, p, a1, a3, q⟩
      · omega
      · have := WR_in q.2.2.2.2; omega
    obtain ⟨k1, k2, k3, k4, k5⟩ := K x (by omega) (by omega)
    have w1 := wd_hk (A := A) (S := S) K q3.1 (by omega) q3.2.2
    have w2 := wd_hk (A := A) (S := S) K q4.1 (by omega) q4.2.2
    refine ⟨j, a2, ?_, by rw [k1]; exact q2, by rw [k3]; exact ⟨q3.1, q3.2.1, w1⟩, by rw [k3]; exact ⟨q4.1, q4.2.1, w2⟩, ?_, grows_keep q6 (fun a d e => K a (by omega) (by omega)) (fun f hf c x d e => L f hf c x (by omega) e) (fun x d e c => L2 x (by omega) e ?_)⟩
    · rw [L 538 (by simp) (by decide) o (by omega) (by omega), L 542 (by simp) (by decide) o (by omega) (by omega), L 546 (by simp) (by decide) o (by omega) (by omega)]
      exact ⟨q1.1, q1.2.1, q1.2.2.1, q1.2.2.2.1, q1.2.2.2.2.1, fun y d e => by rw [L 542 (by simp) (by decide) y (by omega) (by omega)]; exact q1.2.2.2.2.2.1 y d e, fun o' ho' => by have := c3 o' ho'; rw [L 542 (by simp) (by decide) o' (by omega) (by omega)]; exact q1.2.2.2.2.2.2 o' ho'⟩
    · rw [k3, L 550 (by simp) (by decide) o (by omega) (by omega)]
      rcases q5 with q | ⟨kk, p, a1, a3, q, r1, r2, r3, r4⟩
      · exact .inl q
      · have i := WR_in r4
        refine .inr ⟨kk, p, a1, a3, q, r1, r2, r3, WR_keep r4 (fun a d e => K a (by omega) (by omega)) ⟨fun f hf c x d e => L f hf c x (by omega) (by omega), fun x d e _ => L2 x (by omega) (by omega) ?_⟩⟩
        intro z
        rcases List.mem_cons.mp z with z | z
        · omega
        · have := c3 x z; omega
    · intro q
      rcases List.mem_cons.mp q with q | q
      · omega
      · exact c q
  | [], _ :: _, _, _, _, _, r, _, _, _ => r.elim
  | _ :: _, [], _, _, _, _, r, _, _, _ => r.elim
theorem grows_app {x o j a2 mid amid ahi : Nat} (r1 : ga σ 538 o = 21 ∧ ga σ 542 o = ((b + j : Nat) : Int) ∧ tokk S j = 3 ∧ ga σ 546 o = ((b + (j + 1) : Nat) : Int) ∧ tokk S (j + 1) = 2 ∧ ∀ i, mid ≤ i → i < o → ga σ 542 o ≤ ga σ 542 i) (r2 : kd h x = 22 ∧ amid ≤ x ∧ x < a2) (r3 : amid ≤ fR h 1338 x ∧ fR h 1338 x < a2 ∧ wd h A S (fR h 1338 x) j) (r4 : amid ≤ fR h 1342 x ∧ fR h 1342 x < a2 ∧ wd h A S (fR h 1342 x) (j + 1)) (r5 : (fR h 1346 x = 0 ∧ ga σ 550 o = -1 ∧ o = mid) ∨ ∃ kk p a1 a3 : Nat, fR h 1346 x ≠ 0 ∧ ga σ 550 o = (p : Int) ∧ amid ≤ a1 ∧ a3 ≤ a2 ∧ WR A S b h σ 59 mid o a1 a3 (fR h 1346 x) p) (h3 : a2 ≤ ahi) : ∀ {xs os : List Nat} {lo alo : Nat}, grows A S b h σ xs os lo mid alo amid → (∀ o' ∈ os, ga σ 542 o' < ga σ 542 o) → grows A S b h σ (xs ++ [x]) (os ++ [o]) lo (o + 1) alo ahi
  | [], [], lo, alo, r, _ => ⟨j, a2, ⟨r1.1, r1.2.1, r1.2.2.1, r1.2.2.2.1, r1.2.2.2.2.1, by rw [r.1]; exact r1.2.2.2.2.2, fun _ z => absurd z List.not_mem_nil⟩, by have := r.2; omega, ⟨by have := r.2; omega, r3.2⟩, ⟨by have := r.2; omega, r4.2⟩, by
    rcases r5 with q | ⟨kk, p, a1, a3, q1, q2, q3, q4, q5⟩
    · exact .inl ⟨q.1, q.2.1, by rw [q.2.2, r.1]⟩
    · exact .inr ⟨kk, p, a1, a3, q1, q2, by have := r.2; omega, q4, by rw [r.1]; exact q5⟩, rfl, h3⟩
  | y :: xs, o' :: os, lo, alo, ⟨j', a2', s1, s2, s3, s4, s5, s6⟩, r6 => ⟨j', a2', ⟨s1.1, s1.2.1, s1.2.2.1, s1.2.2.2.1, s1.2.2.2.2.1, s1.2.2.2.2.2.1, fun z hz => by
    rcases List.mem_append.mp hz with hz | hz
    · exact s1.2.2.2.2.2.2 z hz
    · rw [List.mem_singleton.mp hz]; exact r6 o' (by simp)⟩, s2, s3, s4, s5, grows_app r1 r2 r3 r4 r5 h3 s6 (fun z hz => r6 z (List.mem_cons_of_mem _ hz))⟩
  | [], _ :: _, _, _, r, _ => r.elim
  | _ :: _, [], _, _, r, _ => r.elim
end LG1
section LG2x
variable {G : om_G} {A t : Nat} {N : List (List Int)} {S : List Int} {b m i : Nat} {n : Int} {M : Nat} {σ τ : tS} {h h' h1 h2 : om_H} {c pr : Nat} {Z Z' : Nat → Prop}
variable {σ0 : tS} {M0 d0 : Nat} {h0 : om_H} {HZ HU : Nat}
/-- givens are being read into the list L -/
def GB (G : om_G) (A : Nat) (S : List Int) (b z0 Mb am d L pr : Nat) (Lf : Nat → List Nat) (dv : Nat → Int) (Φ : om_H → Prop) (pl : Prop) (M ag : Nat) (σ : tS) (h : om_H) (first : Int) (os xs : List Nat) : Prop :=
  (z0 ≤ L ∧ L < am ∧ am ≤ ag ∧ ag ≤ hz h ∧ Mb ≤ M ∧ ∀ o ∈ os, ga σ 542 o < gs σ 432) ∧ okV G h L ∧ ll h L = xs ∧ grows A S b h σ xs os Mb M am ag ∧ chain σ first os ∧ (∀ x ∈ xs, fR h 1350 x = 0 ∧ fR h 1354 x = 0 ∧ fR h 1358 x = 0 ∧ (pl → fR h 1346 x = 0)) ∧ (∀ f ∈ DA, ga σ f d = dv f) ∧ PC h pr Lf ∧ Φ h
theorem GB_hx {z0 Mb am ag d L : Nat} {Lf : Nat → List Nat} {dv : Nat → Int} {Φ : om_H → Prop} {pl : Prop} {first : Int} {os xs : List Nat} (ht : t < z0) (hΦ : ∀ h h', (∀ a, z0 ≤ a → a < am → a ≠ L → sameA a h h') → Φ h → Φ h') (P : PL G h pr t Z) (B : GB G A S b z0 Mb am d L pr Lf dv Φ pl M ag σ h first os xs) (X : hx t h h') (D : nd σ τ M) (hm : gs σ 432 ≤ gs τ 432) : GB G A S b z0 Mb am d L pr Lf dv Φ pl M ag τ h' first os xs := by
  obtain ⟨B1, B2, B3, B4, B5, B6, B7, B8, B9⟩ := B
  have s : ∀ a, a < hz h → a ≠ t → sameA a h h' := fun a q r => hx_same X q r
  have sp := s pr P.1.2.1 P.1.2.2
  have X0 := X.1
  have Bi := grows_in B4
  refine ⟨⟨B1.1, B1.2.1, B1.2.2.1, by omega, B1.2.2.2.2.1, fun o ho => by rw [D.2 542 (by simp) o (Bi.2.2.1 o ho).2]; have := B1.2.2.2.2.2 o ho; omega⟩, okV_hx B2 X, by rw [(s L (by omega) (by omega)).2.2.2.2.2.1]; exact B3, grows_keep B4 (hx_hk X (by omega) (by omega)) (fun f hf _ x _ e => D.2 f hf x e) (fun x _ e _ => D.2 562 (by simp) x e), chain_keep B5 (fun x hx => D.2 562 (by simp) x (Bi.2.2.1 x hx).2), fun x hx => ?_, fun f hf => by rw [D.1.2 f (PA_DA hf)]; exact B7 f hf, fun f hf => by rw [sp.2.2.1, X.2.2.2.2.2.2.2.2.1 _ (P.2.1 f hf).1.1]; exact B8 f hf, hΦ h h' (fun a q r _ => s a (by omega) (by omega)) B9⟩
  have := Bi.2.2.2.1 x hx
  have sx := s x (by omega) (by omega)
  rw [sx.2.2.1, sx.2.2.1, sx.2.2.1, sx.2.2.1]; exact B6 x hx
/-- the twin's loop over givens, and what stands behind it -/
noncomputable def TGF (l1 : Int) (F : Int × tS → Option tS) (x : Int × Int × Int × tS) : Option tS := (om_loop (T_conditions_7s l1) x).bind fun y1 => (T_need 125 y1.2).bind fun p2 => F (y1.1, p2)
noncomputable def TG54 (l1 : Int) (F : Int × tS → Option tS) (first last q1 q2 tw : Int) (σ : tS) : Option tS := ((T_conditions_54 l1 first last 21 q1 q2 tw σ).bind (Sum.elim (om_loop (T_conditions_7s l1)) some)).bind fun y1 => (T_need 125 y1.2).bind fun p2 => F (y1.1, p2)
theorem TG54_eq (l1 : Int) (F : Int × tS → Option tS) (first last q1 q2 tw : Int) (σ : tS) : TG54 l1 F first last q1 q2 tw σ = (T_node 21 q1 q2 tw (-1) (-1) σ).bind fun p1 => (if last ≠ (-1) then if 0 ≤ last ∧ last < 8400 then some (ua p1.2 562 last.toNat p1.1) else none else some p1.2).bind fun s => (T_takes 44 s).bind fun p => TGF l1 F (if last ≠ (-1) then first else p1.1, p1.1, p.1, p.2) := by
  unfold TG54 TGF T_conditions_54 T_conditions_80
  simp only [Option.bind_assoc]
  congr 1; funext p1
  by_cases q : last ≠ -1
  · rw [if_pos q, if_pos q]
    simp only [if_pos q]
    by_cases q2 : 0 ≤ last ∧ last < 8400
    · rw [if_pos q2, if_pos q2]
      simp only [Option.bind_assoc, Option.bind_some, Sum.elim_inl]
    · rw [if_neg q2, if_neg q2]; rfl
  · rw [if_neg q, if_neg q]
    simp only [if_neg q, Option.bind_assoc, Option.bind_some, Sum.elim_inl]
theorem TGF_end (l1 : Int) (F : Int × tS → Option tS) (first last : Int) (σ : tS) : TGF l1 F (first, last, 0, σ) = (T_need 125 σ).bind fun p2 => F (first, p2) := by
  unfold TGF
  rw [om_loop_eq]
  unfold T_conditions_7s
  simp only
  rw [if_pos trivial]
  rfl
theorem TG54_F {p : Int} (H : Tfl σ N S b m p n M) (D : ndD σ0 σ M0 d0) (h1 : M0 ≤ M) (h2 : M + 2 ≤ 8400) {first last : Int} {os : List Nat} (hl : lastOf os last first) (ho : ∀ y ∈ os, M0 ≤ y ∧ y < 8400) (l1 q1 q2 tw : Int) {F : Int × tS → Option tS} (R : ∀ (x : Int) (τ : tS), Tfl τ N S b m p n (M + 1) → ndD σ0 τ M0 d0 → TFv N S b m n σ0 M0 d0 p (F (x, τ))) : TFv N S b m n σ0 M0 d0 p (TG54 l1 F first last q1 q2 tw σ) := by
  rw [TG54_eq]
  refine Fd_node H D h1 (by omega) (fun τ T D => ?_)
  rcases hl with ⟨p1, p2, p3⟩ | ⟨ns', l, p1, p2⟩
  · rw [if_neg (by rw [p2]; simp)]
    simp only [Option.bind_some]
    refine Fd_takes T ?_
    rw [TGF_end]
    exact Fd_need T (R _ _ T D)
  · have hl := ho l (by rw [p1]; simp)
    rw [if_pos (by omega), if_pos ⟨by omega, by omega⟩, p2, show ((l : Int)).toNat = l by omega]
    simp only [Option.bind_some]
    have u3 : fr PF PA τ (ua τ 562 l (M : Int)) := fr_ua (fr_refl _ _ _) (by simp)
    have D1 : nd τ (ua τ 562 l (M : Int)) M0 := ⟨u3, fun g _ z hz => by rw [ga_ua, if_neg (by omega)]⟩
    have T1 : Tfl (ua τ 562 l (M : Int)) N S b m p n (M + 1) := ⟨TT_fr u3 T.1, T.2⟩
    refine Fd_takes T1 ?_
    rw [TGF_end]
    exact Fd_need T1 (R _ _ T1 (ndD_nd D D1 (Nat.le_refl _)))
end LG2x
