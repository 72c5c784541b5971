set_option maxRecDepth 100000
section LN
variable {G : om_G} {A t : Nat} {N : List (List Int)} {S : List Int} {b m K : Nat} {nc p : Int} {i M : Nat} {h h' : om_H} {σ τ : tS} {rT : tS → Option (Int × tS)} {rC : Nat → om_H → Option ((Nat ⊕ Nat) × om_H)}
theorem atW_pw {z : Nat} : ∀ {ws os : List Nat} {lo hi alo ahi : Nat}, atW A S b h σ z ws os lo hi alo ahi → os.Pairwise (· < ·)
  | [], [], _, _, _, _, _ => List.Pairwise.nil
  | w :: ws, o :: os, lo, hi, alo, ahi, ⟨kk, a1, a2, p, q1, q3, r1, r2, r3⟩ => List.Pairwise.cons (fun x hx => by have := (atW_in r3).2.2.1 x hx; omega) (atW_pw r3)
  | [], _ :: _, _, _, _, _, r => r.elim
  | _ :: _, [], _, _, _, _, r => r.elim
/-- the same when the row of nodes gets longer -/
theorem atW_keepT {z : Nat} : ∀ {ws os : List Nat} {lo hi alo ahi : Nat}, atW A S b h σ z ws os lo hi alo ahi → hkz z alo ahi h h' → (∀ f ∈ PA, f ≠ 562 → ∀ i, lo ≤ i → i < hi → ga τ f i = ga σ f i) → (∀ i, lo ≤ i → i < hi → i ∉ os → ga τ 562 i = ga σ 562 i) → atW A S b h' τ z ws os lo hi alo ahi
  | [], [], _, _, _, _, r, _, _, _ => r
  | w :: ws, o :: os, lo, hi, alo, ahi, ⟨kk, a1, a2, p, q1, q3, r1, r2, r3⟩, K, L, L2 => by
    obtain ⟨c1, c2, c3, c4⟩ := atW_in r3
    have i := WR_in r1
    refine ⟨kk, a1, a2, p, q1, q3, WR_keep r1 (fun x d e => K x (by omega) (by omega) (by omega)) ⟨fun f hf c x d e => L f hf c x (by omega) (by omega), fun x d e _ => L2 x (by omega) (by omega) ?_⟩, by rw [L 546 (by simp) (by decide) o (by omega) (by omega)]; exact r2, atW_keepT r3 (fun x d e f => K x (by omega) (by omega) f) (fun f hf c x d e => L f hf c x (by omega) e) (fun x d e c => L2 x (by omega) e ?_)⟩
    · intro q
      rcases List.mem_cons.mp q with q | q
      · omega
      · have := c3 x q; omega
    · intro q
      rcases List.mem_cons.mp q with q | q
      · omega
      · exact c q
  | [], _ :: _, _, _, _, _, r, _, _, _ => r.elim
  | _ :: _, [], _, _, _, _, r, _, _, _ => r.elim
/-- the twin's link to one more @ -/
theorem link_use {n0 M M' nT : Nat} {last : Int} {ns : List Nat} (D : nd σ τ M) (hn0 : n0 < M) (hM : M ≤ nT ∧ nT < M') (h84 : M' ≤ 8400) (hnx : ga τ 562 nT = -1) (hin : ∀ x ∈ ns, n0 < x ∧ x < M) (hp : ns.Pairwise (· < ·)) (hc : chain σ (ga σ 546 n0) ns) (hl : lastOf ns last (ga σ 546 n0)) :
    ∃ υ, (if last ≠ (-1) then if 0 ≤ last ∧ last < 8400 then some (ua τ 562 last.toNat (nT : Int)) else none else if 0 ≤ (n0 : Int) ∧ (n0 : Int) < 8400 then some (ua τ 546 ((n0 : Int)).toNat (nT : Int)) else none) = some υ ∧
      chain υ (ga υ 546 n0) (ns ++ [nT]) ∧ (∀ f, gs υ f = gs τ f) ∧ (∀ f ∈ PA, f ≠ 546 → f ≠ 562 → ∀ i, ga υ f i = ga τ f i) ∧ (∀ i, i ≠ n0 → ga υ 546 i = ga τ 546 i) ∧ (∀ i, i ∉ ns → ga υ 562 i = ga τ 562 i) ∧ fr [] [546, 562] τ υ := by
  obtain ⟨υ, e, r⟩ := link_step D hn0 hM h84 hnx hin hp hc hl
  refine ⟨υ, ?_, r⟩
  by_cases q1 : last ≠ -1
  · rw [if_pos q1] at e ⊢
    by_cases q2 : 0 ≤ last ∧ last < 8400
    · rw [if_pos q2] at e ⊢
      injection e with e; injection e with e; injection e with e1 e2
      rw [e2]
    · rw [if_neg q2] at e; cases e
  · rw [if_neg q1] at e ⊢
    by_cases q2 : 0 ≤ (n0 : Int) ∧ (n0 : Int) < 8400
    · rw [if_pos q2] at e ⊢
      injection e with e; injection e with e; injection e with e1 e2
      rw [e2]
    · rw [if_neg q2] at e; cases e
/-- the same behind a fault -/
theorem link_useF {n0 : Nat} {last x : Int} {ns : List Nat} (hl : lastOf ns last (ga σ 546 n0)) (hin : ∀ y ∈ ns, n0 < y ∧ y < 8400) (hn0 : n0 < 8400) (H : Tfl τ N S b m p nc M) : ∃ υ, (if last ≠ (-1) then if 0 ≤ last ∧ last < 8400 then some (ua τ 562 last.toNat x) else none else if 0 ≤ (n0 : Int) ∧ (n0 : Int) < 8400 then some (ua τ 546 ((n0 : Int)).toNat x) else none) = some υ ∧ Tfl υ N S b m p nc M ∧ nd τ υ n0 := by
  have key : ∀ f j, n0 ≤ j → (f = 546 ∨ f = 562) → Tfl (ua τ f j x) N S b m p nc M ∧ nd τ (ua τ f j x) n0 := by
    intro f j hj hf
    have u3 : fr PF PA τ (ua τ f j x) := fr_ua (fr_refl _ _ _) (by rcases hf with rfl | rfl <;> simp)
    obtain ⟨a1, a2, a4, a5, a6, a7⟩ := H
    exact ⟨⟨TT_fr u3 a1, a2, a4, a5, a6, a7⟩, u3, fun g _ z hz => by rw [ga_ua, if_neg (by omega)]⟩
  rcases hl with ⟨p1, p2, p3⟩ | ⟨ns', l, p1, p2⟩
  · exact ⟨ua τ 546 n0 x, by rw [if_neg (by rw [p2]; simp), if_pos ⟨by omega, by omega⟩, show ((n0 : Int)).toNat = n0 by omega], key 546 n0 (Nat.le_refl _) (.inl rfl)⟩
  · have := hin l (by rw [p1]; simp)
    exact ⟨ua τ 562 l x, by rw [p2, if_pos (by omega), if_pos ⟨by omega, by omega⟩, show ((l : Int)).toNat = l by omega], key 562 l (by omega) (.inr rfl)⟩
/-- a name gets one more @: what is as it was -/
def hxN (hd LA : Nat) (h h' : om_H) : Prop := hz h ≤ hz h' ∧ hu h ≤ hu h' ∧ (∀ a, a < hz h → kd h' a = kd h a) ∧ (∀ f a, a < hz h → fI h' f a = fI h f a) ∧ (∀ f a, a < hz h → ¬ (f = 1458 ∧ a = hd) → fR h' f a = fR h f a) ∧ (∀ a, a < hz h → an h' a = an h a) ∧ (∀ a i, a < hz h → aI h' a i = aI h a i) ∧ (∀ a i, a < hz h → aR h' a i = aR h a i) ∧ (∀ a, a < hz h → a ≠ LA → ll h' a = ll h a) ∧ (∀ a, a < hz h → a ≠ LA → lc h' a = lc h a)
theorem name_more {hd w : Nat} (hk : kd h hd = 28) (hh : hd < hz h) (ho : objY G h w) (O : fR h 1458 hd ≠ 0 → okV G h (fR h 1458 hd) ∧ (ll h (fR h 1458 hd)).length ≤ 100000) :
    ∃ h', C_28_at G hd w h = some h' ∧ hxN hd (fR h' 1458 hd) h h' ∧ okV G h' (fR h' 1458 hd) ∧ hz h' ≤ hz h + 3 ∧
      ((fR h 1458 hd = 0 ∧ fR h' 1458 hd = hz h ∧ ll h' (hz h) = [w] ∧ hu h' ≤ hu h + 4 * lc h' (fR h' 1458 hd)) ∨ (fR h 1458 hd ≠ 0 ∧ fR h' 1458 hd = fR h 1458 hd ∧ ll h' (fR h 1458 hd) = ll h (fR h 1458 hd) ++ [w] ∧ hu h' + 4 * lc h (fR h 1458 hd) ≤ hu h + 4 * lc h' (fR h 1458 hd))) := by
  by_cases c : fR h 1458 hd = 0
  · have kA : kd (nO h 41 3) (hz h) = 41 := by rw [kd_nO, if_pos rfl]
    have fA : fI (nO h 41 3) 1728 (hz h) = 0 := by rw [fI_nO, if_pos rfl]
    have k1 : kd (gL (nO h 41 3) (hz h) [] 2 1 2) hd = 28 := by rw [kd_gL, if_neg (by omega), kd_nO, if_neg (by omega)]; exact hk
    have r1 : fR (sR (gL (nO h 41 3) (hz h) [] 2 1 2) 1458 hd (hz h)) 1458 hd = hz h := fR_eq
    have k2 : kd (sR (gL (nO h 41 3) (hz h) [] 2 1 2) 1458 hd (hz h)) hd = 28 := k1
    have k3 : kd (sR (gL (nO h 41 3) (hz h) [] 2 1 2) 1458 hd (hz h)) (hz h) = 42 := by show kd (gL (nO h 41 3) (hz h) [] 2 1 2) (hz h) = 42; rw [kd_gL, if_pos rfl]
    have l1 : ll (sR (gL (nO h 41 3) (hz h) [] 2 1 2) 1458 hd (hz h)) (hz h) = [] := by show ll (gL (nO h 41 3) (hz h) [] 2 1 2) (hz h) = []; rw [ll_gL, if_pos rfl]
    have c1 : lc (sR (gL (nO h 41 3) (hz h) [] 2 1 2) 1458 hd (hz h)) (hz h) = 2 := by show lc (gL (nO h 41 3) (hz h) [] 2 1 2) (hz h) = 2; rw [lc_gL, if_pos rfl]
    have z1 : hz (sR (gL (nO h 41 3) (hz h) [] 2 1 2) 1458 hd (hz h)) = hz h + 2 := rfl
    have y1 : hu (sR (gL (nO h 41 3) (hz h) [] 2 1 2) 1458 hd (hz h)) = hu h + 5 := rfl
    have X1 : hxN hd (hz h) h (sR (gL (nO h 41 3) (hz h) [] 2 1 2) 1458 hd (hz h)) := by
      refine ⟨by omega, by omega, fun a q => ?_, fun f a q => ?_, fun f a q r => ?_, fun _ _ => rfl, fun _ _ _ => rfl, fun _ _ _ => rfl, fun a q r => ?_, fun a q r => ?_⟩
      · show kd (gL (nO h 41 3) (hz h) [] 2 1 2) a = _; rw [kd_gL, if_neg (by omega), kd_nO, if_neg (by omega)]
      · show fI (nO h 41 3) f a = _; rw [fI_nO, if_neg (by omega)]
      · rw [fR_sR, if_neg r]; show fR (nO h 41 3) f a = _; rw [fR_nO, if_neg (by omega)]
      · show ll (gL (nO h 41 3) (hz h) [] 2 1 2) a = _; rw [ll_gL, if_neg (by omega)]; rfl
      · show lc (gL (nO h 41 3) (hz h) [] 2 1 2) a = _; rw [lc_gL, if_neg (by omega)]; rfl
    have hC : C_28_at G hd w h = (P_J2_add G (hz h) w (sR (gL (nO h 41 3) (hz h) [] 2 1 2) 1458 hd (hz h))).bind fun p1 => some p1.2 := by
      unfold C_28_at C_28_at_19 P_J2_init_2
      rw [gd_pos hk, if_neg (fun z => z c), gd_pos kA, gd_pos ⟨kA, fA, by omega, by omega⟩]
      simp only [Option.bind_some]
      rw [show Int.toNat 2 = 2 from rfl, gd_pos k1, r1, gd_pos ⟨k2, k3⟩]
    generalize sR (gL (nO h 41 3) (hz h) [] 2 1 2) 1458 hd (hz h) = h1 at *
    have O1 : okV G h1 (hz h) := ⟨by omega, k3, by rw [l1]; simp, by rw [l1, c1]; simp, fun y hy => by rw [l1] at hy; simp at hy⟩
    obtain ⟨a1, a2, a3, a4, a5, a6⟩ := v_add (x := w) O1 (objY_mono (by omega) X1.2.2.1 ho) (by rw [l1]; simp)
    have r2 : fR (addL h1 (hz h) w) 1458 hd = hz h := by rw [addL_fR]; exact r1
    refine ⟨addL h1 (hz h) w, by rw [hC, a1]; rfl, ?_, by rw [r2]; exact a3, by omega, .inl ⟨c, r2, by rw [a4, l1]; rfl, by rw [r2]; omega⟩⟩
    rw [r2]
    obtain ⟨c0, c1, c2, c3, c4, c5, c6, c7, c8, c9⟩ := X1
    obtain ⟨d0, d1, d2, d3, d4, d5, d6, d7, d8, d9⟩ := a2
    exact ⟨by omega, by omega, fun a q => by rw [d2 a (by omega)]; exact c2 a q, fun f a q => by rw [d3 f a (by omega)]; exact c3 f a q, fun f a q r => by rw [d4 f a (by omega)]; exact c4 f a q r, fun a q => by rw [d5 a (by omega)]; exact c5 a q, fun a i q => by rw [d6 a i (by omega)]; exact c6 a i q, fun a i q => by rw [d7 a i (by omega)]; exact c7 a i q, fun a q r => by rw [d8 a (by omega) r]; exact c8 a q r, fun a q r => by rw [d9 a (by omega) r]; exact c9 a q r⟩
  · obtain ⟨O1, O2⟩ := O c
    obtain ⟨a1, a2, a3, a4, a5, a6⟩ := v_add (x := w) O1 ho O2
    have r2 : fR (addL h (fR h 1458 hd) w) 1458 hd = fR h 1458 hd := by rw [addL_fR]
    have hC : C_28_at G hd w h = some (addL h (fR h 1458 hd) w) := by
      unfold C_28_at C_28_at_19
      rw [gd_pos hk, if_pos c, gd_pos ⟨hk, O1.2.1⟩, a1]
      rfl
    refine ⟨_, hC, ?_, by rw [r2]; exact a3, by omega, .inr ⟨c, r2, a4, a6⟩⟩
    rw [r2]
    obtain ⟨d0, d1, d2, d3, d4, d5, d6, d7, d8, d9⟩ := a2
    exact ⟨d0, d1, d2, d3, fun f a q _ => d4 f a q, d5, d6, d7, d8, d9⟩
end LN
