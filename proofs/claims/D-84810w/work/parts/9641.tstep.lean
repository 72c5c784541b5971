set_option maxRecDepth 100000
/-! THE TWIN'S MACHINE: one step, as pstp says -/
section LTU
variable {M : MPg} {B : MBd} {rg : Nat → Nat × Nat} {σ0 σ τ Z : tS} {n : Nat}
/-- a number -/
theorem cd_11 {o : Nat} {e : Et} {v : Nat} (H : cdN σ0 n M rg o e (v : Int)) (h : eTg e = 11) : ∃ k : Nat, ga σ0 542 v = (k : Int) ∧ k < 4100 ∧ ga σ0 482 k = ((eLb e).2.1 : Int) ∧ (eLb e).2.1 < 1000000 := by
  obtain ⟨v', lo, hi, e1, e2, e3, e4, eA, rl, rh, ow⟩ := H
  have ev : v' = v := by omega
  subst ev
  cases e with
  | leaf => exact (XTg_l e2).elim
  | inner t a u l r =>
    unfold XTf at e2
    rw [XTg_e] at e2
    unfold XTb at e2
    obtain ⟨_, h2, h3, _⟩ := e2
    have ht : t = 11 := h
    exact h3.2.1 (by rw [h2, ht]; rfl)
set_option maxHeartbeats 1000000 in
/-- ONE STEP -/
theorem t_stepM (S : MtS σ0 n M rg B) {s : MS} (H : mTw σ0 n M rg σ s) (T : sTy M s) (C : chM σ0 n M rg σ) : mRs σ0 n M rg σ (T_step (gs σ 1020) σ) (pstp M B s) := by
  have H0 := H
  have T0 := T
  obtain ⟨e, en, ow, fs, c, m⟩ := s
  obtain ⟨⟨ok, γ, hen, hw⟩, hfs, hl, hc⟩ := T
  obtain ⟨Hm, Hcd, He, Ho, Hr⟩ := H
  simp only at ok hen hw hfs hl hc Hm Hcd He Ho Hr
  have F := Hm.1
  obtain ⟨v, ev, v42, ek⟩ := cd_node Hcd F
  have vN : ((v : Int)).toNat = v := by omega
  have tags : eTg e = 10 ∨ eTg e = 11 ∨ eTg e = 14 ∨ (eTg e = 12 ∨ eTg e = 18 ∨ eTg e = 15 ∨ eTg e = 16 ∨ eTg e = 17) := by
    cases e with
    | leaf => rw [wS] at hw; exact hw.elim
    | inner t a u l r =>
      show t = 10 ∨ t = 11 ∨ t = 14 ∨ (t = 12 ∨ t = 18 ∨ t = 15 ∨ t = 16 ∨ t = 17)
      rw [wS_e] at hw
      unfold wSB at hw
      refine Classical.byContradiction (fun z => ?_)
      rw [if_neg (fun y => z (.inl y)), if_neg (fun y => z (.inr (.inl y))), if_neg (fun y => z (.inr (.inr (.inr (.inl y))))), if_neg (fun y => z (.inr (.inr (.inl y)))), if_neg (fun y => z (.inr (.inr (.inr (.inr (.inr (.inl y))))))), if_neg (fun y => z (.inr (.inr (.inr (.inr (.inl y))))))] at hw
      cases r with
      | leaf => exact hw
      | inner t' a' u' r1 r2 =>
        simp only at hw
        rw [if_neg (fun y => z (.inr (.inr (.inr (.inr (.inr (.inr (.inl y)))))))), if_neg (fun y => z (.inr (.inr (.inr (.inr (.inr (.inr (.inr y))))))))] at hw
        exact hw
  rcases tags with h | h | h | h
  · have := t_nameM S H0 T0 C h
    unfold pstp
    simp only
    rw [if_pos h]
    simp only at this
    have un : T_step (gs σ 1020) σ = T_wantedName (gs σ 1020) σ := by
      rw [ev]
      unfold T_step
      rw [if_pos (by omega), vN, ek, h, if_pos (by decide)]
      exact bind_sm _
    rw [un]
    exact this
  · unfold pstp
    simp only
    rw [if_neg (by omega), if_pos h]
    obtain ⟨k, q1, q2, q3, q4⟩ := cd_11 (by rw [ev] at Hcd; exact Hcd) h
    have hT : sem M.2.2.2 ow.2 (eTy e) = tInt := by
      cases e with
      | leaf => cases h
      | inner t a u l r =>
        have ht : t = 11 := h
        rw [wS_e] at hw
        unfold wSB at hw
        rw [if_neg (by omega), if_pos ht] at hw
        exact hw
    have un : T_step (gs σ 1020) σ = T_comes (8 * ((eLb e).2.1 : Int) + 0) σ := by
      rw [ev]
      unfold T_step T_nameAt
      rw [if_pos (by omega), vN, ek, h, if_neg (by decide), if_pos (by decide), if_pos (by omega), F.2 542 (by decide), q1, if_pos (by omega), Option.bind_some, show ((k : Int)).toNat = k by omega, F.2 482 (by decide), q3, t_thing (by decide) (by decide) (by omega) (by omega), Option.bind_some]
      exact bind_sm _
    rw [un]
    have ew : w32 ((eLb e).2.1 : Int) = ((eLb e).2.1 : Int) := w32_s (by omega) (by omega)
    refine mRs_of (fr_refl _ _ _) C (t_comes fs _ _ tInt σ c Hm (.inl ⟨rfl, ?_⟩) (by rw [← hT]; exact hfs) (.inl ⟨rfl, rfl, w32_in _⟩))
    show 8 * ((eLb e).2.1 : Int) + 0 = 8 * w32 ((eLb e).2.1 : Int)
    rw [ew]
    omega
  · unfold pstp
    simp only
    rw [if_neg (by omega), if_neg (by omega), if_pos h]
    have un : T_step (gs σ 1020) σ = (T_function (v : Int) σ).bind fun p5 => if (gs p5.2 1000) ≠ 1 then some p5.2 else (T_comes p5.1 p5.2).bind fun p6 => some p6 := by
      rw [ev]
      unfold T_step
      rw [if_pos (by omega), vN, ek, h, if_neg (by decide), if_neg (by decide), if_neg (by decide), if_neg (by decide), if_pos (by decide)]
    rw [un]
    by_cases q : c < 4000
    · rw [if_pos q]
      obtain ⟨y, σ', s1, s3, s4, s5, s6⟩ := t_funM (o := ow) (e := e) (x := (v : Int)) Hm.2.1 q (by rw [ev] at Hcd; exact Hcd) He Ho Hr
      have s2 := md_grow Hm s3 (by decide) (by decide) (by decide) (by decide) s4 s5
      have C' := chM_fr s3 (by decide) (by decide) (tx_M (fr_sub s3 (by decide) (by decide))) C
      rw [s1, Option.bind_some]
      simp only
      rw [if_neg (fun z => z s2.2.2.2.2.1), bind_sm]
      exact mRs_of (fr_sub s3 (by decide) (by decide)) C' (t_comes fs _ y _ σ' (c + 1) s2 s6 hfs (.inr (.inr (.inr (.inr (.inr (.inr ⟨rfl, ok, ⟨γ, hen, hw⟩, h, rfl⟩)))))))
    · rw [if_neg q, t_funF Hm.2.1 q, Option.bind_some]
      refine .inr ⟨show (4 : Nat) ≠ 2 by decide, us σ 1000 4, ?_, full_md Hm q, fr_us (fr_refl _ _ _) (by decide)⟩
      show (if gs (us σ 1000 4) 1000 ≠ 1 then some (us σ 1000 4) else _) = _
      rw [if_pos (by show (4 : Int) ≠ 1; decide)]
  · unfold pstp
    simp only
    rw [if_neg (by omega), if_neg (by omega), if_neg (by omega)]
    have Hcd' := Hcd
    rw [ev] at Hcd'
    -- the left side's node
    obtain ⟨ln, l1, l2⟩ : ∃ ln : Int, cdN σ0 n M rg ow.1 (eLf e) ln ∧ ∀ τ : tS, fr WMS WMA σ0 τ → (T_step (gs σ 1020) σ = (T_frame (eTg e : Int) (v : Int) 0 σ).bind (fun p1 => if p1.1 = 0 then some p1.2 else some (us p1.2 1020 (if eTg e = 15 then ga p1.2 554 v else ga p1.2 546 v)))) ∧ (if eTg e = 15 then ga τ 554 v else ga τ 546 v) = ln := by
      have v84 : 0 ≤ (v : Int) ∧ (v : Int) < 8400 := by omega
      by_cases h15 : eTg e = 15
      · refine ⟨_, (cd_15 Hcd' h15).1, fun τ Fτ => ⟨?_, ?_⟩⟩
        · rw [ev]
          unfold T_step
          rw [if_pos (by omega), vN, ek, h15, if_neg (by decide), if_neg (by decide), if_neg (by decide), if_neg (by decide), if_neg (by decide), if_pos (by decide)]
          simp only [if_pos v84, vN, if_true]
          rfl
        · rw [if_pos h15, Fτ.2 554 (by decide)]
      · have cdl : cdN σ0 n M rg ow.1 (eLf e) (ga σ0 546 v) := by
          rcases h with q | q | q | q | q
          · exact (cd_12 Hcd' (.inl q)).1
          · exact (cd_12 Hcd' (.inr q)).1
          · exact absurd q h15
          · exact (cd_16 Hcd' (.inl q)).1
          · exact (cd_16 Hcd' (.inr q)).1
        refine ⟨_, cdl, fun τ Fτ => ⟨?_, ?_⟩⟩
        · rw [ev]
          have u20 : T_step_120 (v : Int) σ = (T_frame (eTg e : Int) (v : Int) 0 σ).bind fun p1 => if p1.1 = 0 then some p1.2 else some (us p1.2 1020 (if eTg e = 15 then ga p1.2 554 v else ga p1.2 546 v)) := by
            unfold T_step_120
            rw [if_pos v84, vN, ek]
            simp only [if_pos v84, vN, if_neg h15]
          rw [← u20]
          unfold T_step
          rw [if_pos (by omega), vN, ek]
          rcases h with q | q | q | q | q
          · rw [q, if_neg (by decide), if_neg (by decide), if_pos (by decide)]
          · rw [q, if_neg (by decide), if_neg (by decide), if_neg (by decide), if_neg (by decide), if_neg (by decide), if_neg (by decide)]
          · exact absurd q h15
          · rw [q, if_neg (by decide), if_neg (by decide), if_neg (by decide), if_neg (by decide), if_neg (by decide), if_neg (by decide)]
          · rw [q, if_neg (by decide), if_neg (by decide), if_neg (by decide), if_neg (by decide), if_neg (by decide), if_neg (by decide)]
        · rw [if_neg h15, Fτ.2 546 (by decide)]
    by_cases q : fs.length < 300
    · rw [if_pos q]
      obtain ⟨σ', s1, s2, s3, s4⟩ := t_frM (f := (eTg e, e, en, ow, .leaf)) (v := (v : Int)) (x := 0) Hm q Hcd' He Ho Hr (fun z => by
        have z' : 100 ≤ eTg e := z
        omega)
      obtain ⟨m1, m2⟩ := l2 σ' s2.1
      obtain ⟨p1, p2⟩ := md_1020 (x := ln) s2
      have F1 : fr [1020] [] σ' (us σ' 1020 ln) := fr_one
      refine ⟨us σ' 1020 ln, ?_, ⟨p1, l1, ?_, ?_, ?_⟩, ?_, fr_us (fr_sub s3 (by decide) (by decide)) (by decide)⟩
      · have s1' : T_frame (eTg e : Int) (v : Int) 0 σ = some (1, σ') := s1
        rw [m1, s1', Option.bind_some, if_neg (show ¬ (1 : Int) = 0 by decide)]
        show some (us σ' 1020 (if eTg e = 15 then ga σ' 554 v else ga σ' 546 v)) = _
        rw [m2]
      · show vTw M (cdN σ0 n M rg) (us σ' 1020 ln) en false (gs σ' 1024)
        rw [s3.1 1024 (by decide)]
        exact vTw_gr p2 (vTw_gr s4 He)
      · show gs σ' 1028 = owT ow.1
        rw [s3.1 1028 (by decide)]; exact Ho
      · show rTw M.2.2.2 (us σ' 1020 ln) (gvW M ow.1) ow.2 (gs σ' 1037)
        rw [s3.1 1037 (by decide)]
        exact rTw_gr p2 (rTw_gr s4 Hr)
      · exact chM_fr F1 (by decide) (by simp) (tx_M (fr_sub F1 (by decide) (by simp))) (chM_fr s3 (by decide) (by decide) (tx_M (fr_sub s3 (by decide) (by decide))) C)
    · rw [if_neg q]
      have F1 : fr [1000] [] σ (us σ 1000 3) := fr_one
      refine .inr ⟨show (3 : Nat) ≠ 2 by decide, us σ 1000 3, ?_, ⟨fr_trans F (fr_sub F1 (by decide) (by simp)), rfl, Hm.2.1.2.2.1, Hm.2.2.2.1⟩, fr_us (fr_refl _ _ _) (by decide)⟩
      rw [(l2 σ F).1, t_frF Hm q, Option.bind_some, if_pos rfl]
end LTU
