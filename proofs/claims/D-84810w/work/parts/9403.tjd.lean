set_option maxRecDepth 100000
/-! THE TWIN JUDGES -/
section LJZ
variable {E : JE} {B : Nat}
theorem judgeB_KK {r : Int → tS → Option (Int × tS)} {l1 : Int} {σ : tS} : T_judgeB r l1 σ = (jKK r l1 (gs σ 856) (l1, σ)).bind fun y3 => if 0 ≤ l1 ∧ l1 < 8400 then some (ga y3 842 l1.toNat, y3) else none := by
  unfold T_judgeB jKK
  cases om_loop (T_judge_7s r l1 (gs σ 856)) (l1, σ) with
  | none => rfl
  | some y1 =>
    rw [Option.bind_some, Option.bind_some]
    by_cases c : 0 ≤ y1.1 ∧ y1.1 < 8400
    · rw [if_pos c, if_pos c]
      cases T_judgeOne r y1.1 (ua y1.2 846 y1.1.toNat (-1)) with
      | none => rfl
      | some p2 =>
        rw [Option.bind_some, Option.bind_some, if_pos c, if_pos c]
    · rw [if_neg c, if_neg c]
      rfl
/-- AN EX IS JUDGED in the twin -/
theorem t_jd (J : JOk E B) (hg : ∀ g ∈ E.2.2.2.2, g.1 < 100 → g.1 < E.2.2.1.length) : ∀ (f : Nat) (t : Xt), xrd t < f → JR E (T_judgeD f) t
  | 0, _, h => by omega
  | f + 1, t, h => by
    have IH := t_jd J hg f
    have SP : ∀ t : Xt, xrd t ≤ f → JSp E (T_judgeD f) t := by
      refine tr_ind (fun _ Γ s z σ n lo hi v sp b fm l1 H _ => (XTg_l H.2.2.1).elim) (fun t lb u l r ihl ihr ihp hx => ?_)
      by_cases t12 : t = 12
      · subst t12
        have hx' : max (xrd l) (1 + xrd r) ≤ f := hx
        exact sp_use J (ihl (by omega)) (IH r (by omega))
      by_cases t13 : t = 13
      · subst t13
        have hx' : max (xrd l) (1 + xrd r) ≤ f := hx
        exact sp_at (ihl (by omega))
      by_cases t18 : t = 18
      · subst t18
        have hx' : max (xrd l) (1 + xrd r) ≤ f := hx
        exact sp_sign J (ihl (by omega)) (IH r (by omega))
      refine sp_head ⟨t12, t13, t18⟩ ?_
      by_cases t0 : t = 0
      · intro Γ s z σ n lo hi v sp b H
        have ok := H.2.2.2.1
        rw [xok_e] at ok
        unfold xokB at ok
        rw [if_neg (by omega), if_neg (by omega), if_neg (by omega), if_neg (by omega), if_neg (by omega), if_neg (by omega), if_neg (by omega)] at ok
        cases r with
        | leaf => exact ok.elim
        | inner t' lb' u' r1 r2 =>
          simp only at ok
          rw [if_neg (by omega), if_neg (by omega)] at ok
          exact ok.elim
      have hx' : 1 + max (xrd l) (xrd r) ≤ f := by
        have e : xrd (.inner t lb u l r) = 1 + max (xrd l) (xrd r) := by
          show (if t = 12 ∨ t = 13 ∨ t = 18 then _ else _) = _
          rw [if_neg (by omega), if_neg t0]
        omega
      by_cases t10 : t = 10
      · subst t10; exact jh_name J hg _
      by_cases t11 : t = 11
      · subst t11; exact jh_num _
      by_cases t14 : t = 14
      · subst t14; exact jh_fun J (IH l (by omega))
      by_cases t15 : t = 15
      · subst t15; exact jh_let J (IH l (by omega)) (IH r (by omega))
      cases r with
      | leaf =>
        intro Γ s z σ n lo hi v sp b H
        have ok := H.2.2.2.1
        rw [xok_e] at ok
        unfold xokB at ok
        rw [if_neg t10, if_neg t11, if_neg t12, if_neg t13, if_neg t14, if_neg t15, if_neg t18] at ok
        exact ok.elim
      | inner t' lb' u' r1 r2 =>
        have h12 : xrd r1 ≤ xrd (.inner t' lb' u' r1 r2) ∧ xrd r2 ≤ xrd (.inner t' lb' u' r1 r2) := by
          have e : xrd (.inner t' lb' u' r1 r2) = (if t' = 12 ∨ t' = 13 ∨ t' = 18 then max (xrd r1) (1 + xrd r2) else if t' = 0 then max (xrd r1) (xrd r2) else 1 + max (xrd r1) (xrd r2)) := rfl
          rw [e]
          split
          · omega
          · split <;> omega
        by_cases t16 : t = 16
        · subst t16; exact jh_if J (IH l (by omega)) (IH r1 (by omega)) (IH r2 (by omega))
        by_cases t17 : t = 17
        · subst t17; exact jh_case J (IH l (by omega)) (IH r1 (by omega)) (IH r2 (by omega))
        intro Γ s z σ n lo hi v sp b H
        have ok := H.2.2.2.1
        rw [xok_e] at ok
        unfold xokB at ok
        rw [if_neg t10, if_neg t11, if_neg t12, if_neg t13, if_neg t14, if_neg t15, if_neg t18] at ok
        simp only at ok
        rw [if_neg t16, if_neg t17] at ok
        exact ok.elim
    intro Γ s z σ n lo hi v sp b H
    obtain ⟨σ', n', k1, P⟩ := SP t (by omega) Γ s z σ n lo hi v sp b sp (v : Int) H (Nat.le_refl _)
    have e856 := H.2.1.2.2.2.2.1
    have i84 := XTg_in H.2.2.1
    have x856 : gs σ' 856 = (sp : Int) := by rw [P.2.1.2.1]; exact e856
    refine ⟨ga σ' 842 v, σ', n', ?_, P⟩
    show T_judgeB (T_judgeD f) (v : Int) σ = _
    have st : om_loop (T_judge_63s (T_judgeD f) (v : Int) (sp : Int)) σ' = some σ' := by
      refine om_loop_out ?_
      unfold T_judge_63s
      rw [if_pos (by omega)]
    rw [judgeB_KK, e856, k1, st, Option.bind_some, if_pos (by omega), show ((v : Int)).toNat = v by omega]
end LJZ
