set_option maxRecDepth 100000
/-! EXS WITH HOW MANY NAMES ARE BOUND AROUND THEM -/
section LXS
variable (G : om_G) (A : Nat) (S : List Int) (b : Nat) (h : om_H) (σ : tS)
section LXS0
variable (Ψ : xP)
def X15d (W W1 : xW) (lo hi alo ahi a n : Nat) : Prop := kd h a = 25 ∧ ga σ 538 n = 15 ∧ n + 1 = hi ∧ ∃ (j n1 n2 m1 m2 a1 a2 a3 a4 : Nat), ga σ 542 n = ((b + j : Nat) : Int) ∧ tokk S (j + 1) = 2 ∧ fI h 1372 a = (tokq S j : Int) ∧ ga σ 546 n = ((b + (j + 1) : Nat) : Int) ∧ (alo ≤ fR h 1402 a ∧ fR h 1402 a < ahi) ∧ wd h A S (fR h 1402 a) (j + 1) ∧ ga σ 554 n = (n1 : Int) ∧ ga σ 558 n = (n2 : Int) ∧
  alo ≤ a1 ∧ a < a1 ∧ a1 ≤ a2 ∧ lo ≤ m1 ∧ Ψ 15 lo m1 a1 a2 a n ∧ W m1 m2 a2 a3 (fR h 1414 a) n1 ∧ W1 m2 n a3 a4 (fR h 1418 a) n2 ∧ a4 ≤ ahi
def X17d (W W2 : xW) (lo hi alo ahi a n : Nat) : Prop := kd h a = 27 ∧ ga σ 538 n = 17 ∧ n + 1 = hi ∧ ∃ (j jx n1 n2 n3 m1 m2 a1 a2 a3 a4 a5 : Nat), ga σ 542 n = ((b + j : Nat) : Int) ∧ (fI h 1372 a = (tokq S j : Int) ∧ tokk S j ≠ 0) ∧ ga σ 546 n = (n1 : Int) ∧ ga σ 550 n = (n2 : Int) ∧ ga σ 554 n = ((b + jx : Nat) : Int) ∧ ga σ 558 n = (n3 : Int) ∧ tokk S jx = 2 ∧ tokk S (jx + 1) = 2 ∧
  (alo ≤ fR h 1446 a ∧ fR h 1446 a < ahi) ∧ wd h A S (fR h 1446 a) jx ∧ (alo ≤ fR h 1450 a ∧ fR h 1450 a < ahi) ∧ wd h A S (fR h 1450 a) (jx + 1) ∧
  alo ≤ a1 ∧ a < a1 ∧ W lo m1 a1 a2 (fR h 1434 a) n1 ∧ W m1 m2 a2 a3 (fR h 1438 a) n2 ∧ a3 ≤ a4 ∧ W2 m2 n a4 a5 (fR h 1442 a) n3 ∧ a5 ≤ ahi ∧ Ψ 17 0 0 0 0 a n
def XBd (W W1 W2 : xW) (lo hi alo ahi a n : Nat) : Prop := lo ≤ n ∧ n < hi ∧ alo ≤ a ∧ a < ahi ∧
    (X11 S b h σ Ψ lo hi a n ∨ X10 A S b h σ Ψ lo hi alo ahi a n ∨ X14 A S b h σ Ψ W1 lo hi alo ahi a n ∨ X15d A S b h σ Ψ W W1 lo hi alo ahi a n ∨ X16 S b h σ Ψ W lo hi alo ahi a n ∨ X17d A S b h σ Ψ W W2 lo hi alo ahi a n ∨ X30 A S b h σ Ψ W lo hi alo ahi a n ∨ X32 G S b h σ Ψ W lo hi alo ahi a n)
end LXS0
variable (Ψ : Nat → xP)
/-- d: so many names are bound around -/
def XS : Nat → Nat → Nat → Nat → Nat → Nat → Nat → Nat → Prop
  | 0, _, _, _, _, _, _, _ => False
  | k + 1, d, lo, hi, alo, ahi, a, n => XBd G A S b h σ (Ψ d) (XS k d) (XS k (d + 1)) (XS k (d + 2)) lo hi alo ahi a n
end LXS
section LXS2
variable {G : om_G} {A : Nat} {S : List Int} {b : Nat} {h h' : om_H} {σ τ : tS} {Ψ Ψ' : xP}
theorem XBd_keep {W W' W1 W1' W2 W2' : xW} {lo hi alo ahi a n : Nat} (K : kp lo hi alo ahi h h' σ τ Ψ Ψ') (hW : inW W) (mw : mW lo hi alo ahi W W') (hW1 : inW W1) (mw1 : mW lo hi alo ahi W1 W1') (hW2 : inW W2) (mw2 : mW lo hi alo ahi W2 W2') (w : XBd G A S b h σ Ψ W W1 W2 lo hi alo ahi a n) : XBd G A S b h' τ Ψ' W' W1' W2' lo hi alo ahi a n := by
  obtain ⟨i1, i2, i3, i4, w⟩ := w
  obtain ⟨k1, k2, k3, k4⟩ := K.1 a i3 i4
  obtain ⟨n1, n2, n3⟩ := K.2.1 n i1 i2
  refine ⟨i1, i2, i3, i4, ?_⟩
  rcases w with w | w | w | w | w | w | w | w
  · obtain ⟨w1, w2, w3, j, w4, w5, w6, w7, w8⟩ := w
    exact .inl ⟨by rw [k1]; exact w1, by rw [n1 _ (by simp)]; exact w2, w3, j, by rw [n1 _ (by simp)]; exact w4, w5, by rw [k2 _ (by decide)]; exact w6, by rw [k2 _ (by decide)]; exact w7, K.2.2 11 _ _ _ _ _ _ (fun z => absurd z (by decide)) i3 i4 i1 i2 w8⟩
  · exact .inr (.inl (X10_keep K i1 i2 i3 i4 w))
  · obtain ⟨w1, w2, w3, j, nb, mid, a1, a2, a3, w4, w5, w6, w7, w8, w9, w10, w11, w12, w13, w14, w15, w16, w17⟩ := w
    have ib := hW1 _ _ _ _ _ _ w16
    refine .inr (.inr (.inl ⟨by rw [k1]; exact w1, by rw [n1 _ (by simp)]; exact w2, w3, j, nb, mid, a1, a2, a3, by rw [n1 _ (by simp)]; exact w4, w5, by rw [k2 _ (by decide)]; exact w6, by rw [n1 _ (by simp)]; exact w7, by rw [k3 _ (by decide)]; exact w8, by rw [k3 _ (by decide)]; exact wd_hs K.1 w8.1 w8.2 w9, by rw [n1 _ (by simp)]; exact w10, w11, w12, w13, w14, K.2.2 14 _ _ _ _ _ _ (fun _ => ⟨Nat.le_refl _, by omega, w11, by omega⟩) i3 i4 i1 i2 w15, ?_, w17⟩))
    rw [k3 _ (by decide)]
    exact mw1 _ _ _ _ _ _ (by omega) (by omega) (by omega) w17 w16
  · obtain ⟨w1, w2, w3, j, n1', n2', m1, m2, a1, a2, a3, a4, w4, w5, w6, w7, w8, w9, w10, w10', w11, w12, w13, w14, w15, w16, w16', w17⟩ := w
    have ib := hW _ _ _ _ _ _ w16
    have ib' := hW1 _ _ _ _ _ _ w16'
    refine .inr (.inr (.inr (.inl ⟨by rw [k1]; exact w1, by rw [n1 _ (by simp)]; exact w2, w3, j, n1', n2', m1, m2, a1, a2, a3, a4, by rw [n1 _ (by simp)]; exact w4, w5, by rw [k2 _ (by decide)]; exact w6, by rw [n1 _ (by simp)]; exact w7, by rw [k3 _ (by decide)]; exact w8, by rw [k3 _ (by decide)]; exact wd_hs K.1 w8.1 w8.2 w9, by rw [n1 _ (by simp)]; exact w10, by rw [n1 _ (by simp)]; exact w10', w11, w12, w13, w14, K.2.2 15 _ _ _ _ _ _ (fun _ => ⟨Nat.le_refl _, by omega, w11, by omega⟩) i3 i4 i1 i2 w15, ?_, ?_, w17⟩)))
    · rw [k3 _ (by decide)]
      exact mw _ _ _ _ _ _ (by omega) (by omega) (by omega) (by omega) w16
    · rw [k3 _ (by decide)]
      exact mw1 _ _ _ _ _ _ (by omega) (by omega) (by omega) (by omega) w16'
  · obtain ⟨w1, w2, w3, j, p1, p2, p3, m1, m2, a1, a2, a3, a4, w4, w5, w6, w7, w8, w9, w10, w11, w12, w13, w14, w15⟩ := w
    have j1 := hW _ _ _ _ _ _ w11
    have j2 := hW _ _ _ _ _ _ w12
    have j3 := hW _ _ _ _ _ _ w13
    refine .inr (.inr (.inr (.inr (.inl ⟨by rw [k1]; exact w1, by rw [n1 _ (by simp)]; exact w2, w3, j, p1, p2, p3, m1, m2, a1, a2, a3, a4, by rw [n1 _ (by simp)]; exact w4, by rw [k2 _ (by decide)]; exact w5, by rw [n1 _ (by simp)]; exact w6, by rw [n3 (by rw [w2]; decide)]; exact w7, by rw [n1 _ (by simp)]; exact w8, w9, w10, ?_, ?_, ?_, w14, K.2.2 16 _ _ _ _ _ _ (fun z => absurd z (by decide)) i3 i4 i1 i2 w15⟩))))
    · rw [k3 _ (by decide)]
      exact mw _ _ _ _ _ _ (by omega) (by omega) (by omega) (by omega) w11
    · rw [k3 _ (by decide)]
      exact mw _ _ _ _ _ _ (by omega) (by omega) (by omega) (by omega) w12
    · rw [k3 _ (by decide)]
      exact mw _ _ _ _ _ _ (by omega) (by omega) (by omega) (by omega) w13
  · obtain ⟨w1, w2, w3, j, jx, p1, p2, p3, m1, m2, a1, a2, a3, a4, a5, w4, w5, w6, w7, w8, w8', v1, v2, v3, v4, v5, v6, w9, w10, w11, w12, w12', w13, w14, w15⟩ := w
    have j1 := hW _ _ _ _ _ _ w11
    have j2 := hW _ _ _ _ _ _ w12
    have j3 := hW2 _ _ _ _ _ _ w13
    refine .inr (.inr (.inr (.inr (.inr (.inl ⟨by rw [k1]; exact w1, by rw [n1 _ (by simp)]; exact w2, w3, j, jx, p1, p2, p3, m1, m2, a1, a2, a3, a4, a5, by rw [n1 _ (by simp)]; exact w4, by rw [k2 _ (by decide)]; exact w5, by rw [n1 _ (by simp)]; exact w6, by rw [n3 (by rw [w2]; decide)]; exact w7, by rw [n1 _ (by simp)]; exact w8, by rw [n1 _ (by simp)]; exact w8', v1, v2, by rw [k3 _ (by decide)]; exact v3, by rw [k3 _ (by decide)]; exact wd_hs K.1 v3.1 v3.2 v4, by rw [k3 _ (by decide)]; exact v5, by rw [k3 _ (by decide)]; exact wd_hs K.1 v5.1 v5.2 v6, w9, w10, ?_, ?_, w12', ?_, w14, K.2.2 17 _ _ _ _ _ _ (fun z => absurd z (by decide)) i3 i4 i1 i2 w15⟩)))))
    · rw [k3 _ (by decide)]
      exact mw _ _ _ _ _ _ (by omega) (by omega) (by omega) (by omega) w11
    · rw [k3 _ (by decide)]
      exact mw _ _ _ _ _ _ (by omega) (by omega) (by omega) (by omega) w12
    · rw [k3 _ (by decide)]
      exact mw2 _ _ _ _ _ _ (by omega) (by omega) (by omega) (by omega) w13
  · exact .inr (.inr (.inr (.inr (.inr (.inr (.inl (X30_keep K hW mw i1 i2 i3 i4 w)))))))
  · exact .inr (.inr (.inr (.inr (.inr (.inr (.inr (X32_keep K hW mw i1 i2 i3 i4 w)))))))

end LXS2
section LXS3
variable {G : om_G} {A : Nat} {S : List Int} {b : Nat} {h h' : om_H} {σ τ : tS} {Ψ Ψ' : Nat → xP}
theorem XS_in : ∀ k d, inW (XS G A S b h σ Ψ k d)
  | 0, _, _, _, _, _, _, _, w => w.elim
  | _ + 1, _, _, _, _, _, _, _, w => ⟨w.1, w.2.1, w.2.2.1, w.2.2.2.1⟩
theorem XS_keep : ∀ {k d lo hi alo ahi a n : Nat}, XS G A S b h σ Ψ k d lo hi alo ahi a n → (∀ e, kp lo hi alo ahi h h' σ τ (Ψ e) (Ψ' e)) → XS G A S b h' τ Ψ' k d lo hi alo ahi a n
  | 0, _, _, _, _, _, _, _, w, _ => w.elim
  | k + 1, d, lo, hi, alo, ahi, a, n, w, K => XBd_keep (K d) (XS_in k d) (fun l1 l2 l3 l4 x y q1 q2 q3 q4 q5 => XS_keep q5 (fun e => kp_sub (K e) q1 q2 q3 q4)) (XS_in k (d + 1)) (fun l1 l2 l3 l4 x y q1 q2 q3 q4 q5 => XS_keep q5 (fun e => kp_sub (K e) q1 q2 q3 q4)) (XS_in k (d + 2)) (fun l1 l2 l3 l4 x y q1 q2 q3 q4 q5 => XS_keep q5 (fun e => kp_sub (K e) q1 q2 q3 q4)) w
theorem XS_more : ∀ {k d lo hi alo ahi a n : Nat}, XS G A S b h σ Ψ k d lo hi alo ahi a n → XS G A S b h σ Ψ (k + 1) d lo hi alo ahi a n
  | 0, _, _, _, _, _, _, _, w => w.elim
  | k + 1, d, lo, hi, alo, ahi, a, n, w => XBd_keep kp_refl (XS_in k d) (fun l1 l2 l3 l4 x y q1 q2 q3 q4 q5 => XS_more q5) (XS_in k (d + 1)) (fun l1 l2 l3 l4 x y q1 q2 q3 q4 q5 => XS_more q5) (XS_in k (d + 2)) (fun l1 l2 l3 l4 x y q1 q2 q3 q4 q5 => XS_more q5) w
end LXS3
