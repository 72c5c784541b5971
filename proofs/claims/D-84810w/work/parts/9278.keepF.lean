set_option maxRecDepth 100000
/-! WHAT IS READ STAYS while the declarations' own fields are written -/
abbrev FLi : List Nat := [1219, 1223, 1259, 1304, 1539]
abbrev FLr : List Nat := [1226, 1262, 1302, 1314, 1318, 1330, 1350, 1354, 1370, 1550]
def hkF (alo ahi : Nat) (h h' : om_H) : Prop := ∀ y, alo ≤ y → y < ahi → kd h' y = kd h y ∧ (∀ f, f ∉ FLi → fI h' f y = fI h f y) ∧ (∀ f, f ∉ FLr → fR h' f y = fR h f y) ∧ ll h' y = ll h y ∧ lc h' y = lc h y
theorem hkF_sub {alo ahi blo bhi : Nat} {h h' : om_H} (K : hkF alo ahi h h') (h1 : alo ≤ blo) (h2 : bhi ≤ ahi) : hkF blo bhi h h' := fun a c d => K a (by omega) (by omega)
theorem wd_hkF {A : Nat} {S : List Int} {a j alo ahi : Nat} {h h' : om_H} (K : hkF alo ahi h h') (h1 : alo ≤ a) (h2 : a < ahi) (w : wd h A S a j) : wd h' A S a j := by
  obtain ⟨k1, k2, k3, k4, k5⟩ := K a h1 h2
  exact ⟨by rw [k1]; exact w.1, by rw [k3 1186 (by decide)]; exact w.2.1, by rw [k2 1188 (by decide)]; exact w.2.2.1, by rw [k2 1192 (by decide)]; exact w.2.2.2⟩
section LWF
variable {A : Nat} {S : List Int} {b : Nat} {h h' : om_H} {σ τ : tS}
theorem WR_keepF : ∀ {k lo hi alo ahi a n : Nat}, WR A S b h σ k lo hi alo ahi a n → hkF alo ahi h h' → nk lo hi n σ τ → WR A S b h' τ k lo hi alo ahi a n
  | 0, _, _, _, _, _, _, w, _, _ => w.elim
  | k + 1, lo, hi, alo, ahi, a, n, ⟨w1, w2, w3, w4, w5, w6, w7, w8, w9⟩, H, K => by
    obtain ⟨a1, a2, a3, a4, a5⟩ := H a w3 w4
    obtain ⟨b1, b2, b3, b4, b5⟩ := H (fR h 1274 a) w6 w7
    have n1 : ∀ f ∈ PA, f ≠ 562 → ga τ f n = ga σ f n := fun f hf c => K.1 f hf c n w1 w2
    refine ⟨w1, w2, w3, w4, by rw [a1]; exact w5, by rw [a3 1274 (by decide)]; exact w6, by rw [a3 1274 (by decide)]; exact w7, by rw [a3 1274 (by decide), b1]; exact w8, ?_⟩
    rw [a3 1266 (by decide), a3 1274 (by decide), a2 1271 (by decide), b4, n1 538 (by simp) (by decide), n1 542 (by simp) (by decide), n1 546 (by simp) (by decide), n1 550 (by simp) (by decide)]
    rcases w9 with ⟨j, q1, q2, q3, q4, q5, q6, q7, q8⟩ | ⟨j, ns, amid, q1, q2, q3, q4, q5, q6, q7, q8, q9, q10, q11, q12, q13⟩ | ⟨x, y, nx, ny, mid, amid, aend, q1, q2, q3, q4, q5, q6, q7, q8, q9, q10, q11, q12, q13⟩
    · exact .inl ⟨j, q1, q2, q3, q4, q5, wd_hkF H q4 q5 q6, q7, q8⟩
    · obtain ⟨r1, r2, r3, r4, r5⟩ := rows2_in (fun w => WR_in w) q13
      refine .inr (.inl ⟨j, ns, amid, q1, q2, q3, q4, q5, wd_hkF H q4 (by omega) q6, q7, q8, q9, q10, q11, chain_keep q12 (fun m hm => K.2 m (by have := r3 m hm; omega) (by have := r3 m hm; omega) (by have := r3 m hm; omega)), ?_⟩)
      have key : ∀ (xs ns : List Nat) (lo' alo' : Nat), lo < lo' → alo ≤ alo' → rows2 (WR A S b h σ k) xs ns lo' hi alo' ahi → rows2 (WR A S b h' τ k) xs ns lo' hi alo' ahi := by
        intro xs
        induction xs with
        | nil =>
          intro ns lo' alo' _ _ r
          cases ns with
          | nil => exact r
          | cons => exact r.elim
        | cons x xs ih =>
          intro ns lo' alo' c d r
          cases ns with
          | nil => exact r.elim
          | cons m ns =>
            obtain ⟨mid, amid', w, r⟩ := r
            have wi := WR_in w
            have ri := rows2_in (fun w => WR_in w) r
            refine ⟨mid, amid', WR_keepF w (hkF_sub H d (by omega)) (nk_sub K (by omega) (by omega) (by omega)), ih ns mid amid' (by omega) (by omega) r⟩
      exact key _ ns (lo + 1) amid (by omega) q11 q13
    · have i1 := WR_in q8
      have i2 := WR_in q9
      exact .inr (.inr ⟨x, y, nx, ny, mid, amid, aend, q1, q2, q3, q4, q5, q6, q7, WR_keepF q8 (hkF_sub H (Nat.le_refl _) (by omega)) (nk_sub K (Nat.le_refl _) (by omega) (by omega)), WR_keepF q9 (hkF_sub H (by omega) (Nat.le_refl _)) (nk_sub K (by omega) (by omega) (by omega)), q10, q11, q12, q13⟩)
theorem atW_keepF {z : Nat} : ∀ {ws os : List Nat} {lo hi alo ahi : Nat}, atW A S b h σ z ws os lo hi alo ahi → hkF alo ahi h h' → nall lo hi σ τ → atW A S b h' τ z ws os lo hi alo ahi
  | [], [], _, _, _, _, r, _, _ => r
  | w :: ws, o :: os, lo, hi, alo, ahi, ⟨kk, a1, a2, p, q1, q3, r1, r2, r3⟩, K, L => by
    obtain ⟨c1, c2, c3, c4⟩ := atW_in r3
    have i := WR_in r1
    exact ⟨kk, a1, a2, p, q1, q3, WR_keepF r1 (hkF_sub K (by omega) (by omega)) (nall_nk L (Nat.le_refl _) (by omega)), by rw [L 546 (by simp) o (by omega) (by omega)]; exact r2, atW_keepF r3 (hkF_sub K (by omega) (Nat.le_refl _)) (fun f hf x d e => L f hf x (by omega) e)⟩
  | [], _ :: _, _, _, _, _, r, _, _ => r.elim
  | _ :: _, [], _, _, _, _, r, _, _ => r.elim
end LWF
section LPF0
variable {G : om_G} {A : Nat} {S : List Int} {b : Nat} {h h' : om_H} {σ τ : tS}
theorem Psi0_keepF {lo hi alo ahi : Nat} (K : hkF alo ahi h h') (L : nall lo hi σ τ) : psi lo hi alo ahi (Psi0 A S b h σ) (Psi0 A S b h' τ) := by
  intro tag lo' hi' alo' ahi' a n q i3 i4 i1 i2 w
  obtain ⟨k1, k2, k3, k4, k5⟩ := K a i3 i4
  have v1 := w.1
  have v2 := w.2.1
  replace w := w.2.2
  refine ⟨fun z => by rw [k3 1382 (by decide)]; exact v1 z, fun z => by rw [k2 1464 (by decide), k2 1476 (by decide), k3 1462 (by decide), k3 1470 (by decide), k3 1474 (by decide), k3 1482 (by decide)]; exact v2 z, ?_⟩
  by_cases c10 : tag = 19
  · rw [if_pos c10] at w ⊢
    obtain ⟨q1, q2, q3, q4⟩ := q (by rw [c10]; decide)
    obtain ⟨os, w1, w2, w3, w6⟩ := w
    rw [L 546 (by simp) n i1 i2, k3 1458 (by decide)]
    obtain ⟨c1, c2, c3, c4⟩ := atW_in w6
    refine ⟨os, chain_keep w1 (fun o ho => L 562 (by simp) o (by have := c3 o ho; omega) (by have := c3 o ho; omega)), w2, w3, ?_⟩
    rw [(K _ (by omega) (by omega)).2.2.2.1]
    exact atW_keepF w6 (fun x d e => K x (by omega) (by omega)) (fun f hf x d e => L f hf x (by omega) (by omega))
  · rw [if_neg c10] at w ⊢
    by_cases c14 : tag = 14
    · rw [if_pos c14] at w ⊢
      obtain ⟨q1, q2, q3, q4⟩ := q (by rw [c14]; decide)
      obtain ⟨kk, p, w1, w2⟩ := w
      exact ⟨kk, p, by rw [L 550 (by simp) n i1 i2]; exact w1, by rw [k3 1390 (by decide)]; exact WR_keepF w2 (hkF_sub K q3 q4) (nall_nk L q1 q2)⟩
    · rw [if_neg c14] at w ⊢
      by_cases c15 : tag = 15
      · rw [if_pos c15] at w ⊢
        obtain ⟨q1, q2, q3, q4⟩ := q (by rw [c15]; decide)
        obtain ⟨kk, p, w1, w2⟩ := w
        exact ⟨kk, p, by rw [L 550 (by simp) n i1 i2]; exact w1, by rw [k3 1406 (by decide)]; exact WR_keepF w2 (hkF_sub K q3 q4) (nall_nk L q1 q2)⟩
      · rw [if_neg c15] at w ⊢
        by_cases c13 : tag = 13
        · rw [if_pos c13] at w ⊢
          obtain ⟨q1, q2, q3, q4⟩ := q (by rw [c13]; decide)
          obtain ⟨kk, p, w1, w2⟩ := w
          exact ⟨kk, p, by rw [L 550 (by simp) n i1 i2]; exact w1, by rw [k3 1502 (by decide)]; exact WR_keepF w2 (hkF_sub K q3 q4) (nall_nk L q1 q2)⟩
        · rw [if_neg c13] at w ⊢
          trivial
theorem X0_keepF {k lo hi alo ahi a n : Nat} (w : X0 G A S b h σ k lo hi alo ahi a n) (K : hkF alo ahi h h') (L : nall lo hi σ τ) : X0 G A S b h' τ k lo hi alo ahi a n := XR_keep w ⟨fun a c d => ⟨(K a c d).1, fun f hf => (K a c d).2.1 f (fun z => hf (by simp only [List.mem_cons, List.not_mem_nil, or_false] at z ⊢; omega)), fun f hf => (K a c d).2.2.1 f (fun z => hf (by simp only [List.mem_cons, List.not_mem_nil, or_false] at z ⊢; omega)), (K a c d).2.2.2.1⟩, fun i c d => ⟨fun f hf => L f (by simp only [List.mem_cons, List.not_mem_nil, or_false] at hf ⊢; omega) i c d, fun _ => L 562 (by simp) i c d, fun _ => L 550 (by simp) i c d⟩, Psi0_keepF K L⟩
end LPF0
