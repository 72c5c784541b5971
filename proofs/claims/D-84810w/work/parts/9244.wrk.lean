set_option maxRecDepth 100000
/-! TYPES AS READ: only words, types as read and lists matter -/
def hkK (alo ahi : Nat) (h h' : om_H) : Prop := ∀ y, alo ≤ y → y < ahi → (kd h y = 17 ∨ kd h y = 20 ∨ kd h y = 42) → kd h' y = kd h y ∧ (∀ f, fI h' f y = fI h f y) ∧ (∀ f, fR h' f y = fR h f y) ∧ ll h' y = ll h y ∧ lc h' y = lc h y
theorem hkK_sub {alo ahi blo bhi : Nat} {h h' : om_H} (K : hkK alo ahi h h') (h1 : alo ≤ blo) (h2 : bhi ≤ ahi) : hkK blo bhi h h' := fun a c d => K a (by omega) (by omega)
theorem wd_hkK {A : Nat} {S : List Int} {a j alo ahi : Nat} {h h' : om_H} (K : hkK alo ahi h h') (h1 : alo ≤ a) (h2 : a < ahi) (w : wd h A S a j) : wd h' A S a j := by
  obtain ⟨k1, k2, k3, k4, k5⟩ := K a h1 h2 (.inl w.1)
  exact ⟨by rw [k1]; exact w.1, by rw [k3]; exact w.2.1, by rw [k2]; exact w.2.2.1, by rw [k2]; exact w.2.2.2⟩
section LWK
variable {A : Nat} {S : List Int} {b : Nat} {h h' : om_H} {σ τ : tS}
theorem WR_keepK : ∀ {k lo hi alo ahi a n : Nat}, WR A S b h σ k lo hi alo ahi a n → hkK alo ahi h h' → nk lo hi n σ τ → WR A S b h' τ k lo hi alo ahi a n
  | 0, _, _, _, _, _, _, w, _, _ => w.elim
  | k + 1, lo, hi, alo, ahi, a, n, ⟨w1, w2, w3, w4, w5, w6, w7, w8, w9⟩, H, K => by
    obtain ⟨a1, a2, a3, a4, a5⟩ := H a w3 w4 (.inr (.inl w5))
    obtain ⟨b1, b2, b3, b4, b5⟩ := H (fR h 1274 a) w6 w7 (.inr (.inr w8))
    have n1 : ∀ f ∈ PA, f ≠ 562 → ga τ f n = ga σ f n := fun f hf c => K.1 f hf c n w1 w2
    refine ⟨w1, w2, w3, w4, by rw [a1]; exact w5, by rw [a3]; exact w6, by rw [a3]; exact w7, by rw [a3, b1]; exact w8, ?_⟩
    rw [a3, a3, a2, b4, n1 538 (by simp) (by decide), n1 542 (by simp) (by decide), n1 546 (by simp) (by decide), n1 550 (by simp) (by decide)]
    rcases w9 with ⟨j, q1, q2, q3, q4, q5, q6, q7, q8⟩ | ⟨j, ns, amid, q1, q2, q3, q4, q5, q6, q7, q8, q9, q10, q11, q12, q13⟩ | ⟨x, y, nx, ny, mid, amid, aend, q1, q2, q3, q4, q5, q6, q7, q8, q9, q10, q11, q12, q13⟩
    · exact .inl ⟨j, q1, q2, q3, q4, q5, wd_hkK H q4 q5 q6, q7, q8⟩
    · obtain ⟨r1, r2, r3, r4, r5⟩ := rows2_in (fun w => WR_in w) q13
      refine .inr (.inl ⟨j, ns, amid, q1, q2, q3, q4, q5, wd_hkK H q4 (by omega) q6, q7, q8, q9, q10, q11, chain_keep q12 (fun m hm => K.2 m (by have := r3 m hm; omega) (by have := r3 m hm; omega) (by have := r3 m hm; omega)), ?_⟩)
      have key : ∀ (xs ns : List Nat) (lo' alo' : Nat), lo < lo' → alo ≤ alo' → rows2 (WR A S b h σ k) xs ns lo' hi alo' ahi → rows2 (WR A S b h' τ k) xs ns lo' hi alo' ahi := by
        intro xs
        induction xs with
        | nil =>
          intro ns lo' alo' _ _ r
          cases ns with
          | nil => exact r
          | cons => exact r.elim
        | cons x xs ih =>
          intro ns lo' alo' c d r
          cases ns with
          | nil => exact r.elim
          | cons m ns =>
            obtain ⟨mid, amid', w, r⟩ := r
            have wi := WR_in w
            have ri := rows2_in (fun w => WR_in w) r
            refine ⟨mid, amid', WR_keepK w (hkK_sub H d (by omega)) (nk_sub K (by omega) (by omega) (by omega)), ih ns mid amid' (by omega) (by omega) r⟩
      exact key _ ns (lo + 1) amid (by omega) q11 q13
    · have i1 := WR_in q8
      have i2 := WR_in q9
      exact .inr (.inr ⟨x, y, nx, ny, mid, amid, aend, q1, q2, q3, q4, q5, q6, q7, WR_keepK q8 (hkK_sub H (Nat.le_refl _) (by omega)) (nk_sub K (Nat.le_refl _) (by omega) (by omega)), WR_keepK q9 (hkK_sub H (by omega) (Nat.le_refl _)) (nk_sub K (by omega) (by omega) (by omega)), q10, q11, q12, q13⟩)
theorem atW_keepK {z : Nat} : ∀ {ws os : List Nat} {lo hi alo ahi : Nat}, atW A S b h σ z ws os lo hi alo ahi → hkK alo ahi h h' → nall lo hi σ τ → atW A S b h' τ z ws os lo hi alo ahi
  | [], [], _, _, _, _, r, _, _ => r
  | w :: ws, o :: os, lo, hi, alo, ahi, ⟨kk, a1, a2, p, q1, q3, r1, r2, r3⟩, K, L => by
    obtain ⟨c1, c2, c3, c4⟩ := atW_in r3
    have i := WR_in r1
    exact ⟨kk, a1, a2, p, q1, q3, WR_keepK r1 (hkK_sub K (by omega) (by omega)) (nall_nk L (Nat.le_refl _) (by omega)), by rw [L 546 (by simp) o (by omega) (by omega)]; exact r2, atW_keepK r3 (hkK_sub K (by omega) (Nat.le_refl _)) (fun f hf x d e => L f hf x (by omega) e)⟩
  | [], _ :: _, _, _, _, _, r, _, _ => r.elim
  | _ :: _, [], _, _, _, _, r, _, _ => r.elim
end LWK
