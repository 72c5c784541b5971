set_option maxRecDepth 100000
section LU
variable {G : om_G} {A t : Nat} {N : List (List Int)} {S : List Int} {b m K : Nat} {nc : Int} {h h' : om_H} {σ τ : tS}
/-- the same at these addresses, but at two -/
def hkx (u L alo ahi : Nat) (h h' : om_H) : Prop := ∀ a, alo ≤ a → a < ahi → a ≠ u → a ≠ L → kd h' a = kd h a ∧ (∀ f, fI h' f a = fI h f a) ∧ (∀ f, fR h' f a = fR h f a) ∧ ll h' a = ll h a ∧ lc h' a = lc h a
theorem hkx_hx {u L alo ahi : Nat} (X : hx t h h') (h1 : ahi ≤ hz h) (h2 : t < alo) : hkx u L alo ahi h h' := fun a c d _ _ => hx_hk X h1 h2 a c d
theorem hkx_hxL {u L alo ahi : Nat} (X : hxL L h h') (h1 : ahi ≤ hz h) : hkx u L alo ahi h h' := by
  obtain ⟨c0, c1, c2, c3, c4, c5, c6, c7, c8, c9⟩ := X
  exact fun a _ e _ f => ⟨c2 a (by omega), fun g => c3 g a (by omega), fun g => c4 g a (by omega), c8 a (by omega) f, c9 a (by omega) f⟩
/-- a name with the @s that it has so far, os their nodes; xs the items in the use's list L -/
def NA (A : Nat) (S : List Int) (b : Nat) (h : om_H) (σ : tS) (lo mid alo ahi u L hd : Nat) (os xs : List Nat) : Prop := ∃ (j w c : Nat), nameO h A S hd w j ∧ tokk S j = 2 ∧ (alo ≤ hd ∧ hd < ahi) ∧ (alo ≤ w ∧ w < ahi) ∧ ga σ 538 lo = 10 ∧ ga σ 542 lo = ((b + j : Nat) : Int) ∧ chain σ (ga σ 546 lo) os ∧ (∀ o ∈ os, lo < o ∧ o < mid ∧ ga σ 538 o = 19) ∧ atsR S b h σ alo ahi xs os ∧ (u < c ∧ L < c) ∧ (alo ≤ c ∧ c ≤ ahi) ∧
  ((os = [] ∧ fR h 1458 hd = 0 ∧ mid = lo + 1) ∨ (os ≠ [] ∧ c ≤ fR h 1458 hd ∧ fR h 1458 hd < ahi ∧ kd h (fR h 1458 hd) = 42 ∧ atW A S b h σ (fR h 1458 hd) (ll h (fR h 1458 hd)) os (lo + 1) mid c ahi))
theorem atsR_keepx {alo ahi lo hi u L : Nat} (hu : kd h u = 30) (hL : kd h L = 42) (K : hkx u L alo ahi h h') (Q : nall lo hi σ τ) : ∀ {xs os : List Nat}, (∀ o ∈ os, lo < o ∧ o < hi ∧ ga σ 538 o = 19) → atsR S b h σ alo ahi xs os → atsR S b h' τ alo ahi xs os
  | [], [], _, r => r
  | x :: xs, o :: os, q, ⟨c1, c2, ⟨d1, d2, d3, j, d4, d5⟩, r⟩ => by
    obtain ⟨e1, e2, e3, e4, _⟩ := K x c1 c2 (fun z => by rw [z] at d1; omega) (fun z => by rw [z] at d1; omega)
    have q1 := q o List.mem_cons_self
    exact ⟨c1, c2, ⟨by rw [e1]; exact d1, by rw [e3]; exact d2, by rw [e3]; exact d3, j, by rw [Q 542 (by simp) o (by omega) q1.2.1]; exact d4, by rw [e2]; exact d5⟩, atsR_keepx hu hL K Q (fun o ho => q o (List.mem_cons_of_mem _ ho)) r⟩
  | [], _ :: _, _, r => r.elim
  | _ :: _, [], _, r => r.elim
theorem nameO_keep {a w j : Nat} (o : nameO h A S a w j) (K : ∀ x, x = a ∨ x = w → kd h' x = kd h x ∧ (∀ f, fI h' f x = fI h f x) ∧ (∀ f, fR h' f x = fR h f x)) : nameO h' A S a w j := by
  obtain ⟨o1, o2, o3, o4, o5, o6, o7, o8, o9, o10, o11⟩ := o
  obtain ⟨k1, k2, k3⟩ := K a (.inl rfl)
  obtain ⟨e1, e2, e3⟩ := K w (.inr rfl)
  exact ⟨by rw [k1]; exact o1, by rw [k2]; exact o2, by rw [k3]; exact o3, ⟨by rw [e1]; exact o4.1, by rw [e3]; exact o4.2.1, by rw [e2]; exact o4.2.2.1, by rw [e2]; exact o4.2.2.2⟩, by rw [k3]; exact o5, by rw [k2]; exact o6, by rw [k2]; exact o7, by rw [k3]; exact o8, by rw [k3]; exact o9, by rw [k3]; exact o10, by rw [k3]; exact o11⟩
theorem NA_keep {lo mid alo ahi u L hd : Nat} {os xs : List Nat} (hlm : lo < mid) (hu : kd h u = 30) (hL : kd h L = 42) (w : NA A S b h σ lo mid alo ahi u L hd os xs) (X : hkx u L alo ahi h h') (Q : nall lo mid σ τ) : NA A S b h' τ lo mid alo ahi u L hd os xs := by
  obtain ⟨j, w, c, w1, w2, w3, w4, w5, w6, w7, w8, w9, w10, w11, w12⟩ := w
  have k1 := X hd w3.1 w3.2 (fun z => by rw [← z, w1.1] at hu; omega) (fun z => by rw [← z, w1.1] at hL; omega)
  have k2 := X w w4.1 w4.2 (fun z => by have := w1.2.2.2.1.1; rw [z] at this; omega) (fun z => by have := w1.2.2.2.1.1; rw [z] at this; omega)
  refine ⟨j, w, c, nameO_keep w1 (fun x e => ?_), w2, w3, w4, by rw [Q _ (by simp) lo (Nat.le_refl _) hlm]; exact w5, by rw [Q _ (by simp) lo (Nat.le_refl _) hlm]; exact w6, ?_, fun o ho => ?_, atsR_keepx hu hL X Q w8 w9, w10, w11, ?_⟩
  · rcases e with rfl | rfl
    · exact ⟨k1.1, k1.2.1, k1.2.2.1⟩
    · exact ⟨k2.1, k2.2.1, k2.2.2.1⟩
  · rw [Q 546 (by simp) lo (Nat.le_refl _) hlm]
    exact chain_keep w7 (fun o ho => Q 562 (by simp) o (by have := w8 o ho; omega) (w8 o ho).2.1)
  · have q := w8 o ho
    exact ⟨q.1, q.2.1, by rw [Q 538 (by simp) o (by omega) q.2.1]; exact q.2.2⟩
  · rw [k1.2.2.1]
    rcases w12 with w12 | ⟨v1, v2, v3, v4, v5⟩
    · exact .inl w12
    · have k3 := X _ (by omega) v3 (by omega) (by omega)
      refine .inr ⟨v1, v2, v3, by rw [k3.1]; exact v4, ?_⟩
      rw [k3.2.2.2.1]
      exact atW_keep v5 (fun a d e f => X a (by omega) e (by omega) (by omega)) (fun f hf i d e => Q f hf i (by omega) e)
theorem NA_XN {lo mid alo ahi u L hd : Nat} {os xs : List Nat} (hlm : lo < mid) (ho : os ≠ []) (w : NA A S b h σ lo mid alo ahi u L hd os xs) (hz0 : 0 < alo) : XN A S b h σ (Psi0 A S b h σ) lo mid alo ahi hd lo xs := by
  obtain ⟨j, w, c, w1, w2, w3, w4, w5, w6, w7, w8, w9, w10, w11, w12⟩ := w
  obtain ⟨o1, o2, o3, o4, o5, o6, o7, o8, o9, o10, o11⟩ := w1
  rcases w12 with w12 | ⟨v1, v2, v3, v4, v5⟩
  · exact absurd w12.1 ho
  · have q := atW_in v5
    refine ⟨Nat.le_refl _, hlm, w3.1, w3.2, o1, w5, rfl, j, os, c, ahi, w6, w2, o2, by rw [o3]; exact w4, by rw [o3]; exact o4, w7, ho, w8, ⟨by omega, v3⟩, by omega, v4, q.2.2.2, w11.1, Nat.le_refl _, ⟨fun _ => o5, fun _ => ⟨o6, o7, o8, o9, o10, o11⟩, ?_⟩, w9⟩
    rw [if_pos rfl]
    exact ⟨os, w7, v3, v2, v5⟩
/-- the first one of a use -/
def HD (G : om_G) (A : Nat) (S : List Int) (b K : Nat) (h : om_H) (σ : tS) (lo mid alo a3 u L hd nh : Nat) (xs : List Nat) : Prop := (xs = [] ∧ ∃ ah, X0 G A S b h σ K lo mid alo ah hd nh ∧ ah ≤ u ∧ ah ≤ L) ∨ (nh = lo ∧ lo < mid ∧ ∃ os, os ≠ [] ∧ NA A S b h σ lo mid alo a3 u L hd os xs)
theorem HD_keep {lo mid alo a3 u L hd nh : Nat} {xs : List Nat} (hu : kd h u = 30) (hL : kd h L = 42) (h3 : u < a3) (w : HD G A S b K h σ lo mid alo a3 u L hd nh xs) (X : hkx u L alo a3 h h') (Q : nall lo mid σ τ) : HD G A S b K h' τ lo mid alo a3 u L hd nh xs := by
  rcases w with ⟨w1, ah, w2, w3, w4⟩ | ⟨w1, w2, os, w3, w4⟩
  · exact .inl ⟨w1, ah, X0_keep w2 (fun a c d => X a c (by omega) (by omega) (by omega)) Q, w3, w4⟩
  · exact .inr ⟨w1, w2, os, w3, NA_keep w2 hu hL w4 X Q⟩
theorem HD_in {lo mid alo a3 u L hd nh : Nat} {xs : List Nat} (h3 : u < a3) (w : HD G A S b K h σ lo mid alo a3 u L hd nh xs) : lo ≤ nh ∧ nh < mid ∧ alo ≤ hd ∧ hd < a3 ∧ ∃ k ∈ om_exk, kd h hd = k + 1 := by
  rcases w with ⟨w1, ah, w2, w3, w4⟩ | ⟨w1, w2, os, w3, j, w, c, w5, w6, w7, w8⟩
  · have := XR_in K _ _ _ _ _ _ w2
    exact ⟨by omega, by omega, by omega, by omega, XR_exk w2⟩
  · exact ⟨by omega, by omega, w7.1, w7.2, 27, by decide, w5.1⟩
theorem spine_keep {ys : List Nat} {l lo hi alo ahi top : Nat} (w : spineR (itemR S b h σ (Psi0 A S b h σ) (X0 G A S b h σ K)) ys l lo hi alo ahi top) (X : hk alo ahi h h') (Q : nall lo hi σ τ) : spineR (itemR S b h' τ (Psi0 A S b h' τ) (X0 G A S b h' τ K)) ys l lo hi alo ahi top :=
  spineR_mono (itemR_in (XR_in K)) (fun lo' hi' alo' ahi' l x s c1 c2 c3 c4 _ q => itemR_keep (kp_sub (kp0 X Q) c1 c2 c3 c4) (XR_in K) (fun l1 l2 l3 l4 x n q1 q2 q3 q4 q5 => XR_keep q5 (kp_sub (kp0 X Q) (by omega) (by omega) (by omega) (by omega))) q) w
/-- a use whose items are being read -/
def UC (G : om_G) (A : Nat) (S : List Int) (b K z0 Mb u L hd nh mh a3 top M ahi : Nat) (σ : tS) (h : om_H) (xs ys : List Nat) : Prop :=
  (z0 ≤ u ∧ u < a3 ∧ z0 ≤ L ∧ L < a3 ∧ a3 ≤ ahi ∧ ahi ≤ hz h) ∧ (kd h u = 30 ∧ fR h 1490 u = hd ∧ fR h 1494 u = L ∧ fR h 1382 u = 0) ∧ okV G h L ∧ ll h L = xs ++ ys ∧ HD G A S b K h σ Mb mh z0 a3 u L hd nh xs ∧ spineR (itemR S b h σ (Psi0 A S b h σ) (X0 G A S b h σ K)) ys nh mh M a3 ahi top
variable {z0 Mb u L hd nh mh a3 top M ahi : Nat} {xs ys : List Nat}
theorem UC_hx (w : UC G A S b K z0 Mb u L hd nh mh a3 top M ahi σ h xs ys) (ht : t < z0) (X : hx t h h') (D : nd σ τ M) : UC G A S b K z0 Mb u L hd nh mh a3 top M ahi τ h' xs ys := by
  obtain ⟨w1, w2, w3, w4, w5, w6⟩ := w
  have X0 := X.1
  have ku : kd h' u = kd h u := X.2.2.1 u (by omega)
  have ru : ∀ f, fR h' f u = fR h f u := fun f => X.2.2.2.2.1 f u (by omega) (by omega)
  have i6 := spineR_in (itemR_in (XR_in K)) w6
  refine ⟨by omega, by rw [ku, ru, ru, ru]; exact w2, okV_hx w3 X, ?_, HD_keep w2.1 w3.2.1 w1.2.1 w5 (hkx_hx X (by omega) ht) (nd_nall D i6.1), spine_keep w6 (hx_hk X (by omega) (by omega)) (nd_nall D (Nat.le_refl _))⟩
  have : ll h' L = ll h L := X.2.2.2.2.2.2.2.2.1 L w3.1
  rw [this]; exact w4
theorem UC_hxL {x : Nat} (w : UC G A S b K z0 Mb u L hd nh mh a3 top M ahi σ h xs ys) (X : hxL L h h') (O : okV G h' L) (D : nd σ τ M) (hl : ll h' L = ll h L ++ [x]) {M' ahi' s : Nat} (h2 : ahi' ≤ hz h') (I : ∀ alo', alo' ≤ ahi → itemR S b h' τ (Psi0 A S b h' τ) (X0 G A S b h' τ K) M M' alo' ahi' top x s) : UC G A S b K z0 Mb u L hd nh mh a3 s M' ahi' τ h' xs (ys ++ [x]) := by
  obtain ⟨w1, w2, w3, w4, w5, w6⟩ := w
  have ku : kd h' u = kd h u := X.2.2.1 u (by omega)
  have ru : ∀ f, fR h' f u = fR h f u := fun f => X.2.2.2.2.1 f u (by omega)
  have i6 := spineR_in (itemR_in (XR_in K)) w6
  have i7 := I ahi (Nat.le_refl _)
  refine ⟨by have := i7.1; have := i7.2.1; omega, by rw [ku, ru, ru, ru]; exact w2, O, by rw [hl, w4, List.append_assoc], HD_keep w2.1 w3.2.1 w1.2.1 w5 (hkx_hxL X (by omega)) (nd_nall D i6.1), ?_⟩
  exact spineR_app (spine_keep w6 (hxL_hk X (by omega) (by omega)) (nd_nall D (Nat.le_refl _))) I
/-- the end: the use's place is told -/
theorem UC_end (w : UC G A S b K z0 Mb u L hd nh mh a3 top M ahi σ h xs ys) (hne : ll h L ≠ []) (hz0 : 0 < z0) : X0 G A S b (sI h 1372 u (fI h 1372 hd)) σ (K + 1) Mb M z0 ahi u top := by
  obtain ⟨w1, w2, w3, w4, w5, w6⟩ := w
  have i6 := spineR_in (itemR_in (XR_in K)) w6
  have i5 := HD_in w1.2.1 w5
  have hud : hd ≠ u := fun z => by obtain ⟨k, k1, k2⟩ := i5.2.2.2.2; rw [z, w2.1] at k2; have : k = 29 := by omega
                                   subst this; rcases w5 with ⟨q1, ah, q2, q3, q4⟩ | ⟨q1, q2, os, q3, j, w, c, q5, q6⟩
                                   · have := XR_in K _ _ _ _ _ _ q2; omega
                                   · have := q5.1; rw [z] at this; omega
  have htop : Mb ≤ top ∧ top < M := by
    by_cases c : ys = []
    · have := i6.2.2.2 c; omega
    · have := i6.2.2.1 c; omega
  have w5' : HD G A S b K (sI h 1372 u (fI h 1372 hd)) σ Mb mh z0 a3 u L hd nh xs := HD_keep w2.1 w3.2.1 w1.2.1 w5 (fun a _ _ c _ => ⟨rfl, fun g => by rw [fI_na c], fun _ => rfl, rfl, rfl⟩) (fun _ _ _ _ _ => rfl)
  have w6' := spine_keep (τ := σ) w6 (hk_sI (f := 1372) (x := fI h 1372 hd) (.inl w1.2.1) h) (fun _ _ _ _ _ => rfl)
  have hq : ∃ a2, a2 ≤ a3 ∧ ((xs = [] ∧ X0 G A S b (sI h 1372 u (fI h 1372 hd)) σ K Mb mh z0 a2 hd nh ∧ a2 ≤ u) ∨ XN A S b (sI h 1372 u (fI h 1372 hd)) σ (Psi0 A S b (sI h 1372 u (fI h 1372 hd)) σ) Mb mh z0 a2 hd nh xs) := by
    rcases w5' with ⟨q1, ah, q2, q3, q4⟩ | ⟨q1, q2, os, q3, q4⟩
    · exact ⟨ah, by omega, .inl ⟨q1, q2, q3⟩⟩
    · exact ⟨a3, Nat.le_refl _, by rw [q1]; exact .inr (NA_XN q2 q3 q4 hz0)⟩
  obtain ⟨a2, q1, q2⟩ := hq
  refine ⟨htop.1, htop.2, w1.1, by omega, .inr (.inr (.inr (.inr (.inr (.inr (.inl ⟨w2.1, ?_, ⟨?_, ?_⟩, ?_, nh, mh, z0, a2, a3, ahi, xs, ys, ?_, Nat.le_refl _, w1.2.1, q1, w6', Nat.le_refl _, ?_, ?_⟩))))))⟩
  · rw [fR_sI, w2.2.2.1]; omega
  · rw [fR_sI, w2.2.2.1]; exact w3.2.1
  · rw [fR_sI, w2.2.2.1]; exact hne
  · rw [fR_sI, w2.2.1, fI_eq, fI_na hud]
  · rw [fR_sI, w2.2.2.1]; exact w4
  · rw [fR_sI, w2.2.1]; exact q2
  · exact Psi0_z w2.2.2.2 (by decide)
end LU
