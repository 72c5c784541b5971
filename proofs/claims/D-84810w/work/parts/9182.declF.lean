set_option maxRecDepth 100000
/-! declarations: the twin behind a fault -/
section LDF
variable {N : List (List Int)} {S : List Int} {b m : Nat} {n p : Int} {σ0 σ : tS} {M0 d0 M d : Nat}
abbrev TFv (N : List (List Int)) (S : List Int) (b m : Nat) (n : Int) (σ0 : tS) (M0 d0 : Nat) (p : Int) (X : Option tS) : Prop := TFd N S b m n σ0 M0 d0 p (fun τ : tS => τ) X
theorem Fv_end (H : Tfl σ N S b m p n M) (D : ndD σ0 σ M0 d0) : TFv N S b m n σ0 M0 d0 p (some σ) := ⟨σ, M, rfl, H, D⟩
theorem aClass_74F (H : Tfl σ N S b m p n M) (D : ndD σ0 σ M0 d0) (l1 : Int) : TFv N S b m n σ0 M0 d0 p (T_aClass_74 l1 σ) := by
  unfold T_aClass_74
  rw [om_loop_eq]
  unfold T_aClass_76s
  rw [if_pos (show gs σ 452 ≠ 0 by rw [H.2.2.2.1]; decide)]
  show TFv N S b m n σ0 M0 d0 p (T_aClass_164 σ)
  unfold T_aClass_164
  exact Fd_need H (Fv_end H D)
theorem aClass_42F (H : Tfl σ N S b m p n M) (D : ndD σ0 σ M0 d0) (l1 : Int) : TFv N S b m n σ0 M0 d0 p (T_aClass_42 l1 σ) := by
  unfold T_aClass_42
  refine Fd_need H (Fd_takes H ?_)
  rw [if_pos rfl]
  exact aClass_74F H D l1
theorem ua_in {l1 : Int} {d : Nat} (h : l1 = (d : Int)) (hd : d < 700) : (0 ≤ l1 ∧ l1 < 700) ∧ l1.toNat = d := by omega
/-- conditions -/
theorem conditionsF (H : Tfl σ N S b m p n M) (D : ndD σ0 σ M0 d0) (h1 : M0 ≤ M) (h2 : M + 2 ≤ 8400) (hn : 0 ≤ n ∧ n ≤ 20) (l1 : Int) {ρ : Type} {st : ρ → tS} {F : Int × tS → Option ρ} (R : ∀ (x : Int) (τ : tS) (M1 : Nat), Tfl τ N S b m p n M1 → ndD σ0 τ M0 d0 → M ≤ M1 → M1 ≤ M + 2 → TFd N S b m n σ0 M0 d0 p st (F (x, τ))) : TFd N S b m n σ0 M0 d0 p st ((T_conditions l1 σ).bind F) := by
  obtain ⟨τ, e1, e2, e3⟩ := t_nodeF H (by omega) 21 (gs σ 432) (gs σ 432) (-1) (-1) (-1)
  have key : T_conditions l1 σ = some ((M : Int), τ) := by
    have k1 : T_conditions_54 l1 (-1) (-1) 21 (gs σ 432) (gs σ 432) (-1) σ = some (.inl ((M : Int), (M : Int), 0, τ)) := by
      unfold T_conditions_54 T_conditions_80
      rw [e1]
      simp only [Option.bind_some]
      rw [if_neg (by decide), t_takesF e2]
      rfl
    have s1 : T_conditions_7s l1 (-1, -1, 1, σ) = some (.inl ((M : Int), (M : Int), 0, τ)) := by
      unfold T_conditions_7s
      simp only
      rw [if_neg (by decide), t_neededF H]
      simp only [Option.bind_some]
      rw [t_neededF H]
      simp only [Option.bind_some]
      by_cases c : l1 = 0
      · rw [if_pos c]; exact k1
      · rw [if_neg c, t_takesF H]
        simp only [Option.bind_some]
        rw [if_pos trivial]; exact k1
    have s2 : T_conditions_7s l1 ((M : Int), (M : Int), 0, τ) = some (.inr ((M : Int), τ)) := by
      unfold T_conditions_7s
      simp only
      rw [if_pos trivial]
    unfold T_conditions
    rw [om_loop_in s1, om_loop_out s2]
    simp only [Option.bind_some]
    rw [t_needF e2]
    rfl
  rw [key]
  exact R _ τ (M + 1) e2 (ndD_nd D e3 h1) (by omega) (by omega)
theorem aFunction_95F (H : Tfl σ N S b m p n M) (D : ndD σ0 σ M0 d0) (h1 : M0 ≤ M) (h2 : M + 4 ≤ 8400) (hn : 0 ≤ n ∧ n ≤ 20) (hd : d < 700) (h0 : d0 ≤ d) : TFv N S b m n σ0 M0 d0 p (T_aFunction_95 (d : Int) σ) := by
  unfold T_aFunction_95
  refine Fd_rec (typeF30 hn) H D h1 (by omega) (fun x τ M1 T1 D1 q1 q2 => ?_)
  rw [if_pos (by omega)]
  refine Fd_need (Tfl_ua T1 (by simp)) (Fd_rec (exF (by omega) 29) (Tfl_ua T1 (by simp)) (ndD_ua D1 (by simp) (by omega)) (by omega) (by omega) (fun x τ M2 T2 D2 q3 q4 => ?_))
  rw [if_pos (by omega)]
  exact Fv_end (Tfl_ua T2 (by simp)) (ndD_ua D2 (by simp) (by omega))
theorem aFunction_75F (H : Tfl σ N S b m p n M) (D : ndD σ0 σ M0 d0) (h1 : M0 ≤ M) (h2 : M + 4 ≤ 8400) (hn : 0 ≤ n ∧ n ≤ 20) (hd : d < 700) (h0 : d0 ≤ d) : TFv N S b m n σ0 M0 d0 p (T_aFunction_75 (d : Int) σ) := by
  unfold T_aFunction_75
  refine Fd_takes H ?_
  rw [if_pos rfl]
  exact aFunction_95F H D h1 h2 hn hd h0
theorem anInstance_150F (H : Tfl σ N S b m p n M) (D : ndD σ0 σ M0 d0) (l1 : Int) : TFv N S b m n σ0 M0 d0 p (T_anInstance_150 l1 σ) := by
  unfold T_anInstance_150
  rw [om_loop_eq]
  unfold T_anInstance_152s
  rw [if_pos (show gs σ 452 ≠ 0 by rw [H.2.2.2.1]; decide)]
  show TFv N S b m n σ0 M0 d0 p (T_anInstance_240 σ)
  unfold T_anInstance_240
  exact Fd_need H (Fv_end H D)
theorem anInstance_102F (H : Tfl σ N S b m p n M) (D : ndD σ0 σ M0 d0) (l1 : Int) : TFv N S b m n σ0 M0 d0 p (T_anInstance_102 l1 σ) := by
  unfold T_anInstance_102
  refine Fd_need H (Fd_takes H ?_)
  rw [if_pos rfl]
  exact anInstance_150F H D l1
theorem anInstance_20F (H : Tfl σ N S b m p n M) (D : ndD σ0 σ M0 d0) (hd : d < 700) (h0 : d0 ≤ d) : TFv N S b m n σ0 M0 d0 p (T_anInstance_20 (d : Int) σ) := by
  unfold T_anInstance_20
  refine Fd_needed H ?_
  rw [if_pos (by omega)]
  refine Fd_takes (Tfl_ua H (by simp)) ?_
  rw [if_pos rfl]
  refine Fd_needed (Tfl_ua H (by simp)) ?_
  rw [if_pos (by omega)]
  exact anInstance_102F (Tfl_ua (Tfl_ua H (by simp)) (by simp)) (ndD_ua (ndD_ua D (by simp) (by omega)) (by simp) (by omega)) _
theorem decl_165F (H : Tfl σ N S b m p n M) (D : ndD σ0 σ M0 d0) : TFv N S b m n σ0 M0 d0 p (T_decl_165 σ) := by
  unfold T_decl_165
  exact Fd_need H (Fv_end H D)
/-- a declaration's twin, then what stands behind it -/
theorem Fv_bind {X : Option tS} {F : tS → Option tS} (T : TFv N S b m n σ0 M0 d0 p X) (R : ∀ (τ : tS) (M' : Nat), Tfl τ N S b m p n M' → ndD σ0 τ M0 d0 → TFv N S b m n σ0 M0 d0 p (F τ)) : TFv N S b m n σ0 M0 d0 p (X.bind F) := by
  obtain ⟨r, M', e1, e2, e3⟩ := T
  rw [e1]
  exact R r M' e2 e3
end LDF
