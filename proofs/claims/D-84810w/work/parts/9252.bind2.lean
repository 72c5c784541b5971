set_option maxRecDepth 100000
/-! TWO NAMES ARE BOUND AT ONCE -/
theorem us_us {σ : tS} {f : Nat} {x y : Int} : us (us σ f x) f y = us σ f y := by
  refine Prod.ext ?_ rfl
  funext g
  show (if g = f then y else if g = f then x else gs σ g) = if g = f then y else gs σ g
  by_cases c : g = f
  · rw [if_pos c, if_pos c]
  · rw [if_neg c, if_neg c, if_neg c]
/-- a step, with a little more room -/
def SEe (e : Nat) (G : om_G) (A : Nat) (S : List Int) (N : List (List Int)) (cs : List Nat) (K : KT) (pr Ln : Nat) (Ls : List (List Int)) (tb : Nat) (rest : List (Nat × List Nat)) (fo : List Nat) (F : FT) (mo : List (List Nat)) (Ms : List FT) (rs so Lb : Nat) (bLs : List (List Int)) (alo ahi : Nat) (h : om_H) (us fs : List Nat) (h' : om_H) (us' fs' : List Nat) (q : Nat) (X : Int) : Prop :=
  EC G A S N cs K pr Ln Ls tb rest fo F mo Ms rs so Lb h' us' fs' bLs ∧ CS (EP h pr Lb alo ahi) N (clF cs) tb rest h us fs h' us' fs' q (6 * q + e) (20 * q + 4 * (lc h' Lb - lc h Lb)) ∧ (lc h Lb ≤ lc h' Lb ∧ lc h' Lb ≤ max (lc h Lb) (2 * (bLs.length + 2 * q + e) + 10) ∧ ll h' Lb = ll h Lb) ∧ hs alo ahi h h' ∧ ((∀ f, f ≠ 112 → fI h' f pr = fI h f pr) ∧ ∀ f, fR h' f pr = fR h f pr) ∧ fI h' 112 pr = min (fI h 112 pr) X
section LB2
variable {G : om_G} {A : Nat} {S : List Int} {b m : Nat} {N : List (List Int)} {cs : List Nat} {K : KT} {pr Ln : Nat} {Ls : List (List Int)} {sc : List Nat} {tb : Nat} {rest : List (Nat × List Nat)} {fo : List Nat} {F : FT} {mo : List (List Nat)} {Ms : List FT} {rs so Lb : Nat} {bLs : List (List Int)} {bd : List Nat} {z0 d : Nat}
variable {h h' h1 h2 : om_H} {us fs us' fs' us2 fs2 : List Nat} {σ τ : tS} {n n' q q2 lo hi alo ahi sp a v w j : Nat} {X X2 : Int} {L : List Int}
theorem SEe_0 (C : SE G A S N cs K pr Ln Ls tb rest fo F mo Ms rs so Lb bLs alo ahi h us fs h' us' fs' q X) : SEe 0 G A S N cs K pr Ln Ls tb rest fo F mo Ms rs so Lb bLs alo ahi h us fs h' us' fs' q X := C
theorem SEe_2 (C : SEe 2 G A S N cs K pr Ln Ls tb rest fo F mo Ms rs so Lb bLs alo ahi h us fs h' us' fs' q X) : SE G A S N cs K pr Ln Ls tb rest fo F mo Ms rs so Lb bLs alo ahi h us fs h' us' fs' (q + 1) X := by
  obtain ⟨c1, c2, c3, c4⟩ := C
  exact ⟨c1, CS_le c2 (by omega) (by omega) (by omega), ⟨c3.1, by omega, c3.2.2⟩, c4⟩
/-- and is bound no more: the whole step -/
theorem c_popE {e : Nat} (H : EC G A S N cs K pr Ln Ls tb rest fo F mo Ms rs so Lb h us fs bLs) (D : djE h tb fs pr Lb alo ahi) (hA : ahi ≤ hz h) (Y : hT (fun y => y = Lb) h h1) (e1 : ll h1 Lb = ll h Lb ++ [w]) (z1 : hz h1 ≤ hz h + 1) (z2 : hu h1 + 4 * lc h Lb ≤ hu h + 4 * lc h1 Lb) (z3 : lc h Lb ≤ lc h1 Lb) (z4 : lc h1 Lb ≤ lc h Lb ∨ lc h1 Lb ≤ 2 * (bLs.length + 1) + 10) (C : SEe e G A S N cs K pr Ln Ls tb rest fo F mo Ms rs so Lb (bLs ++ [L]) alo ahi h1 us fs h2 us2 fs2 q X) : ∃ h3, (gd (kd h2 rs = 35 ∧ kd h2 (fR h2 1610 rs) = 42) ((P_J2_size G (fR h2 1610 rs) h2).bind fun p3 => gd (kd h2 (fR h2 1610 rs) = 42) ((P_J2_remove G (fR h2 1610 rs) (w32 (p3 - 1)) h2).bind fun p4 => some p4.2))) = some h3 ∧ SEe (e + 1) G A S N cs K pr Ln Ls tb rest fo F mo Ms rs so Lb bLs alo ahi h us fs h3 us2 fs2 q X ∧ hT (fun y => y = Lb) h2 h3 := by
  obtain ⟨c1, c2, c3, c4, c5, c6⟩ := C
  obtain ⟨hK, _, ⟨r1, r2, r3, r4, r5, r6⟩, _, ⟨l1, l2, l3, l4⟩, _⟩ := id c1
  have len0 := WL_len H.2.2.2.2.1.2.1
  have e2 : ll h2 Lb = ll h Lb ++ [w] := c3.2.2.trans e1
  have len2 : (ll h2 Lb).length = bLs.length + 1 := by rw [e2]; simp; omega
  have erm : P_J2_remove G Lb (w32 (((bLs.length + 1 : Nat) : Int) - 1)) h2 = some (w, sL h2 Lb (ll h Lb)) := by
    unfold P_J2_remove
    have l3' : bLs.length + 1 ≤ 600 := by simpa using l3
    rw [w32_s (by omega) (by omega), gd_pos ⟨l1.2.1, by rw [len2]; omega⟩, e2, List.getLast?_append]
    simp
  have Y2 : hT (fun y => y = Lb) h2 (sL h2 Lb (ll h Lb)) := hT_sL
  have dd2 := (EC_Lb c1 Y2).2
  have lw : WL (sL h2 Lb (ll h Lb)) (ll (sL h2 Lb (ll h Lb)) Lb) bLs := by
    rw [ll_sL, if_pos rfl]
    rw [e2] at l2
    exact WL_hT Y2 dd2 (WL_pop l2 len0)
  have O3 : okW G (sL h2 Lb (ll h Lb)) Lb := ⟨l1.1, l1.2.1, by rw [ll_sL, if_pos rfl, lc_sL]; have := l1.2.2.1; omega, l1.2.2.2.1, fun y hy => by
    rw [ll_sL, if_pos rfl] at hy
    exact objY_mono (h := h2) (Nat.le_refl _) (fun _ _ => rfl) (l1.2.2.2.2 y (by rw [e2]; exact List.mem_append_left _ hy))⟩
  have l3' : bLs.length + 1 ≤ 600 := by simpa using l3
  have E3 := EC_list c1 Y2 O3 lw (by omega) l4
  have hz2 := c2.1.1
  have npr : pr ≠ Lb := fun z => by have := H.1.2.2.1.1.1.1; rw [z, H.2.2.2.2.1.1.2.1] at this; omega
  have epr1 := Y.2.2.2 pr H.1.2.2.1.1.1.2 npr
  have ep2 : pr < hz h2 := by have := H.1.2.2.1.1.1.2; have := Y.1; omega
  have epr3 := Y2.2.2.2 pr ep2 npr
  have LbD : Lb < alo ∨ ahi ≤ Lb := D Lb (.inr (.inr rfl))
  have kYd := EC_Lb H Y
  have W1 := CS_write (N := N) (cl := clF cs) (P := fun y => y = Lb) (z := 1) (u := 4 * (lc h1 Lb - lc h Lb)) H.1.1.1 Y kYd.1 kYd.2 (by omega) (by omega)
  have kY3 := EC_Lb c1 Y2
  have W3 := CS_write (N := N) (cl := clF cs) (P := fun y => y = Lb) (z := 0) (u := 0) c1.1.1.1 Y2 kY3.1 kY3.2 (Nat.le_refl _) (Nat.le_refl _)
  have W12 := CS_trans (CS_mono W1 (P' := EP h pr Lb alo ahi) (fun y _ z => .inr (.inl z))) c2 (fun y hy z => by
    rcases z with z | z | ⟨y1, y2, y3⟩
    · exact .inl z
    · exact .inr (.inl z)
    · exact .inr (.inr ⟨y1, y2, by rw [Y.2.2.1 y hy] at y3; exact y3⟩))
  have W123 := CS_trans W12 W3 (fun y _ z => .inr (.inl z))
  have lc3 : lc (sL h2 Lb (ll h Lb)) Lb = lc h2 Lb := rfl
  have len1 : (bLs ++ [L]).length = bLs.length + 1 := by simp
  rw [len1] at c3
  refine ⟨sL h2 Lb (ll h Lb), ?_, ⟨E3, CS_le W123 (by omega) (by omega) (by rw [lc3]; omega), ⟨by rw [lc3]; omega, by rw [lc3]; omega, by rw [ll_sL, if_pos rfl]⟩, fun y d1 d2 => ?_, ⟨fun f hf => ?_, fun f => ?_⟩, ?_⟩, Y2⟩
  · rw [r6, gd_pos ⟨r1, l1.2.1⟩, show P_J2_size G Lb h2 = some (((bLs.length + 1 : Nat)) : Int) by unfold P_J2_size; rw [gd_pos l1.2.1, len2], Option.bind_some, gd_pos l1.2.1, erm, Option.bind_some]
  · have a1 := Y.2.2.2 y (by omega) (show y ≠ Lb by omega)
    have a2 := c4 y d1 d2
    exact ⟨a2.1.trans a1.1, fun f hf => (a2.2.1 f hf).trans (a1.2.1 f), fun f hf => (a2.2.2.1 f hf).trans (a1.2.2.1 f), by rw [ll_sL, if_neg (by omega), a2.2.2.2]; exact a1.2.2.2.2.2.2.1⟩
  · exact (c5.1 f hf).trans (epr1.2.1 f)
  · exact (c5.2 f).trans (epr1.2.2.1 f)
  · show fI h2 112 pr = _
    rw [c6, epr1.2.1]
end LB2
