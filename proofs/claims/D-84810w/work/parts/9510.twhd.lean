set_option maxRecDepth 100000
/-! THE TWIN SAYS why a type is what it is worked out to: how the pieces stand together -/
section LWD
variable {r : Int → tS → Option tS} {l1 l2 l5 l6 : Int} {σ σ0 : tS} {t n : Nat} {nm con fam : Nat → List Int} {W A : List Int}
theorem fr_symm {fs as : List Nat} {σ τ : tS} (F : fr fs as σ τ) : fr fs as τ σ := ⟨fun f h => (F.1 f h).symm, fun f h i => (F.2 f h i).symm⟩
/-- no parts: it goes, and perhaps on -/
theorem t_159q (hn : n ≤ 126000) {b m : Nat} {v : Ty} (F : fr WYS WYA σ0 σ) (S : SkT σ t) (h6 : l6 = 0 ∨ l6 = 1) (R : l6 ≠ 0 → RW σ0 r l5 W) (hb : b < 200) (hm : m < n) (tv : tyT σ0 n (tL v) (ga σ0 510 m)) (hv : tL v ≠ .leaf) (hd : tdp (tL v) < 70) (wf : wfT (tL v)) (O : tOn nm con fam σ0 (tL v)) (ht : t + (whF none (some (goB nm con fam b v)) (if l6 = 0 then none else some W)).length < 1000000000) : ∃ σ', T_sayWhy_159 r l1 (m : Int) 0 (b : Int) l5 l6 1 l6 σ = some σ' ∧ SyW σ (whF none (some (goB nm con fam b v)) (if l6 = 0 then none else some W)) σ' := by
  rw [t_159e]
  rcases h6 with h6 | h6
  · have lp : om_loop (T_sayWhy_165s r l1 (m : Int) 0 (b : Int) l5 l6 (w32 (1 + l6))) (1, σ) = some σ := by
      rw [h6, show w32 (1 + 0) = ((1 + 0 : Nat) : Int) from (w32_s (by omega) (by omega)).trans (by omega)]
      exact t_165 0 1 σ t S (by omega) (by omega)
    rw [if_pos h6] at ht ⊢
    rw [lp, Option.bind_some, if_pos rfl]
    have ht' : t + (goB nm con fam b v).length < 1000000000 := ht
    obtain ⟨σ', k1, k2⟩ := t_298 (l8 := 0) hn F S R hb hm tv hv hd wf O (by rw [if_pos (Int.le_refl _), if_pos h6]; omega)
    refine ⟨σ', k1, ?_⟩
    rw [if_pos (Int.le_refl _), if_pos (Int.le_refl _), if_pos h6, List.nil_append, List.append_nil, List.append_nil] at k2
    exact k2
  · have hx : t + 3 < 1000000000 := by
      rw [if_neg (show ¬ l6 = 0 by omega)] at ht
      have : (whF none (some (goB nm con fam b v)) (some W)).length = (goB nm con fam b v).length + W.length + 3 := by
        simp only [whF, List.length_append, List.length_cons, List.length_nil]
        omega
      omega
    have lp : om_loop (T_sayWhy_165s r l1 (m : Int) 0 (b : Int) l5 l6 (w32 (1 + l6))) (1, σ) = some (sayL [40] σ) := by
      rw [h6, show w32 (1 + 1) = ((1 + 1 : Nat) : Int) from (w32_s (by omega) (by omega)).trans (by omega)]
      exact t_165 1 1 σ t S (by omega) (by omega)
    have n6 : ¬ l6 = 0 := by omega
    rw [if_neg n6] at ht ⊢
    rw [lp, Option.bind_some, if_pos rfl]
    have ew : whF none (some (goB nm con fam b v)) (some W) = [40] ++ (goB nm con fam b v ++ ([59] ++ W ++ [41])) := by
      show [40] ++ goB nm con fam b v ++ [59] ++ W ++ [41] = _
      simp only [List.append_assoc]
    rw [ew] at ht ⊢
    simp only [List.length_append, List.length_cons, List.length_nil] at ht
    have A := SyW_of (SyO_L (L := [40]) S (by simp; omega))
    have S1 : SkT (sayL [40] σ) (t + 1) := sayL_t (L := [40]) S (by simp; omega)
    obtain ⟨σ', k1, k2⟩ := t_298 (l8 := 0) hn (fr_trans F A.2.2.2) S1 R hb hm tv hv hd wf O (by rw [if_pos (Int.le_refl _), if_neg n6]; omega)
    refine ⟨σ', k1, ?_⟩
    rw [if_pos (Int.le_refl _), if_pos (Int.le_refl _), if_neg n6, List.nil_append, List.append_nil] at k2
    exact SyW_trans A k2
/-- the parts are said -/
def WPs (σ0 : tS) (r : Int → tS → Option tS) (l1 : Int) (A : List Int) : Prop := ∀ (K : tS → Option tS) (σ : tS) (t : Nat), fr WYS WYA σ0 σ → SkT σ t → t + A.length < 999999999 → ∃ σ', wpT r l1 K σ = K σ' ∧ SyW σ A σ'
/-- parts alone -/
theorem t_159n (HW : WPs σ0 r l1 A) (F : fr WYS WYA σ0 σ) (S : SkT σ t) (ht : t + (A ++ [41]).length < 1000000000) : ∃ σ', T_sayWhy_159 r l1 l2 1 (-1) l5 0 1 0 σ = some σ' ∧ SyW σ (A ++ [41]) σ' := by
  simp only [List.length_append, List.length_cons, List.length_nil] at ht
  rw [t_159e]
  have lp : om_loop (T_sayWhy_165s r l1 l2 1 (-1) l5 0 (w32 (1 + 0))) (1, σ) = some σ := by
    rw [show w32 (1 + 0) = ((1 + 0 : Nat) : Int) from (w32_s (by omega) (by omega)).trans (by omega)]
    exact t_165 0 1 σ t S (by omega) (by omega)
  rw [lp, Option.bind_some, if_neg (by omega)]
  obtain ⟨σ1, a1, a2⟩ := HW (fun y => T_sayWhy_289 r l2 (-1) l5 0 0 y) σ t F S (by omega)
  obtain ⟨t1, S1, t1a, t1b⟩ := SyW_t S a2
  obtain ⟨p1, p2, p3⟩ := sw_b S1 (by omega) 41
  refine ⟨_, ?_, SyW_trans a2 p2⟩
  rw [a1]
  unfold T_sayWhy_289
  rw [p1, Option.bind_some]
  unfold T_sayWhy_298
  rw [if_pos rfl]
  unfold T_sayWhy_373
  rw [if_pos rfl]
/-- parts, then it goes, and perhaps on -/
theorem t_159b (hn : n ≤ 126000) {b m : Nat} {v : Ty} (HW : WPs σ0 r l1 A) (F : fr WYS WYA σ0 σ) (S : SkT σ t) (h6 : l6 = 0 ∨ l6 = 1) (R : l6 ≠ 0 → RW σ0 r l5 W) (hb : b < 200) (hm : m < n) (tv : tyT σ0 n (tL v) (ga σ0 510 m)) (hv : tL v ≠ .leaf) (hd : tdp (tL v) < 70) (wf : wfT (tL v)) (O : tOn nm con fam σ0 (tL v)) (ht : t + (whF (some (A ++ [41])) (some (goB nm con fam b v)) (if l6 = 0 then none else some W)).length < 1000000000) : ∃ σ', T_sayWhy_159 r l1 (m : Int) 1 (b : Int) l5 l6 2 l6 σ = some σ' ∧ SyW σ (whF (some (A ++ [41])) (some (goB nm con fam b v)) (if l6 = 0 then none else some W)) σ' := by
  have ew : whF (some (A ++ [41])) (some (goB nm con fam b v)) (if l6 = 0 then none else some W) = (if l6 = 0 then [40] else [40, 40]) ++ A ++ [41] ++ ([59] ++ goB nm con fam b v ++ [41] ++ (if l6 = 0 then [] else [59] ++ W ++ [41])) := by
    by_cases c : l6 = 0
    · rw [if_pos c, if_pos c, if_pos c]
      simp [whF]
    · rw [if_neg c, if_neg c, if_neg c]
      simp [whF]
  rw [ew] at ht ⊢
  have hx : t + 3 < 1000000000 := by
    simp only [List.length_append, List.length_cons, List.length_nil] at ht
    omega
  rw [t_159e]
  obtain ⟨P, lp, eP, lP⟩ : ∃ P : List Int, om_loop (T_sayWhy_165s r l1 (m : Int) 1 (b : Int) l5 l6 (w32 (2 + l6))) (1, σ) = some (sayL P σ) ∧ (if l6 = 0 then [40] else [40, 40]) = P ∧ P.length ≤ 2 := by
    rcases h6 with h6 | h6
    · refine ⟨[40], ?_, by rw [if_pos h6], by simp⟩
      rw [h6, show w32 (2 + 0) = ((1 + 1 : Nat) : Int) from (w32_s (by omega) (by omega)).trans (by omega)]
      exact t_165 1 1 σ t S (by omega) (by omega)
    · refine ⟨[40, 40], ?_, by rw [if_neg (by omega)], by simp⟩
      rw [h6, show w32 (2 + 1) = ((1 + 2 : Nat) : Int) from (w32_s (by omega) (by omega)).trans (by omega)]
      exact t_165 2 1 σ t S (by omega) (by omega)
  rw [eP] at ht ⊢
  have e4 : ([59] ++ goB nm con fam b v ++ [41] ++ (if l6 = 0 then [] else [59] ++ W ++ [41])).length = 2 + (goB nm con fam b v).length + (if l6 = 0 then 0 else W.length + 2) := by
    by_cases c : l6 = 0
    · rw [if_pos c, if_pos c]
      simp only [List.length_append, List.length_cons, List.length_nil]
      omega
    · rw [if_neg c, if_neg c]
      simp only [List.length_append, List.length_cons, List.length_nil]
      omega
  rw [List.length_append, e4] at ht
  simp only [List.length_append, List.length_cons, List.length_nil] at ht
  rw [lp, Option.bind_some, if_neg (by omega)]
  have A0 := SyW_of (SyO_L (L := P) S (by omega))
  have S0 := sayL_t (L := P) S (by omega)
  obtain ⟨σ1, a1, a2⟩ := HW (fun y => T_sayWhy_289 r (m : Int) (b : Int) l5 l6 0 y) _ _ (fr_trans F A0.2.2.2) S0 (by omega)
  obtain ⟨t1, S1, t1a, t1b⟩ := SyW_t S0 a2
  obtain ⟨p1, p2, p3⟩ := sw_b S1 (by omega) 41
  have F2 := fr_trans F (fr_trans A0.2.2.2 (fr_trans a2.2.2.2 p2.2.2.2))
  obtain ⟨σ', k1, k2⟩ := t_298 (l8 := 1) hn F2 p3 R hb hm tv hv hd wf O (by rw [if_neg (show ¬ (1 : Int) ≤ 0 by decide)]; omega)
  rw [if_neg (show ¬ (1 : Int) ≤ 0 by decide), if_neg (show ¬ (1 : Int) ≤ 0 by decide)] at k2
  refine ⟨σ', ?_, SyW_trans (SyW_trans (SyW_trans A0 a2) p2) k2⟩
  rw [a1]
  show T_sayWhy_289 r (m : Int) (b : Int) l5 l6 0 σ1 = some σ'
  unfold T_sayWhy_289
  rw [p1, Option.bind_some, show w32 (0 + 1) = 1 from (w32_s (by omega) (by omega)).trans (by omega)]
  exact k1
/-- how many pieces there are -/
theorem t_126n : T_sayWhy_126 r l1 l2 1 (-1) l5 0 σ = T_sayWhy_159 r l1 l2 1 (-1) l5 0 1 0 σ := by
  unfold T_sayWhy_126
  rw [if_neg (show ¬ (1 : Int) = 0 by decide)]
  unfold T_sayWhy_137
  rw [if_pos rfl]
  unfold T_sayWhy_148
  rw [if_pos rfl, show w32 (1 + 0) = 1 from (w32_s (by omega) (by omega)).trans (by omega)]
theorem t_126q {b : Nat} (h6 : l6 = 0 ∨ l6 = 1) : T_sayWhy_126 r l1 l2 0 (b : Int) l5 l6 σ = T_sayWhy_159 r l1 l2 0 (b : Int) l5 l6 1 l6 σ := by
  unfold T_sayWhy_126
  rw [if_pos rfl]
  unfold T_sayWhy_137
  rw [if_neg (show ¬ (b : Int) = -1 by omega)]
  unfold T_sayWhy_148
  rw [show w32 (0 + 1) = 1 from (w32_s (by omega) (by omega)).trans (by omega)]
  rcases h6 with h6 | h6
  · rw [if_pos h6, h6]
  · rw [if_neg (show ¬ l6 = 0 by omega), h6]
theorem t_126b {b : Nat} (h6 : l6 = 0 ∨ l6 = 1) : T_sayWhy_126 r l1 l2 1 (b : Int) l5 l6 σ = T_sayWhy_159 r l1 l2 1 (b : Int) l5 l6 2 l6 σ := by
  unfold T_sayWhy_126
  rw [if_neg (show ¬ (1 : Int) = 0 by decide)]
  unfold T_sayWhy_137
  rw [if_neg (show ¬ (b : Int) = -1 by omega)]
  unfold T_sayWhy_148
  rw [show w32 (1 + 1) = 2 from (w32_s (by omega) (by omega)).trans (by omega)]
  rcases h6 with h6 | h6
  · rw [if_pos h6, h6]
  · rw [if_neg (show ¬ l6 = 0 by omega), h6]
/-- whether it goes -/
theorem t_sw47 {ab : List (Option Nat)} {ins : List INs} {gv : List GVs} (H : KW σ n ab ins gv) {l3 : Int} {v : Ty} {m : Nat} (hv : v ≠ .leaf) (ok : okF ins v) (c0 : tyT σ n v (m : Int)) : T_sayWhy_47 r l1 (m : Int) l3 σ = T_sayWhy_78 r l1 (m : Int) l3 (oI (gby ins gv v)) σ := by
  obtain ⟨S, P, V⟩ := H
  have wf := tyT_wf S c0
  rcases v with ⟨k, w, u, l, rr⟩ | _
  rotate_left
  · exact absurd rfl hv
  obtain ⟨m', c1, c2, c3, c4, c5, c6⟩ := id c0
  have em : m' = m := by omega
  subst em
  have n126 := S.1.2.1
  have gm : 0 ≤ ((m' : Nat) : Int) ∧ ((m' : Nat) : Int) < 126000 := by omega
  have tm : ((m' : Nat) : Int).toNat = m' := by omega
  unfold T_sayWhy_47
  rw [if_pos gm, tm, c3]
  by_cases k2 : k = 2
  · subst k2
    have hl : l ≠ .leaf := by
      have := wf.1
      unfold shT at this
      rcases this with s | s | s | s
      · omega
      · omega
      · exact s.2.1
      · omega
    rw [if_neg (by decide), if_pos gm, c4, t_goesBy (u := u) (r := rr) P V (ok.1 rfl).1 hl n126 c5, Option.bind_some]
  · rw [if_pos (by omega)]
    have : gby ins gv (.inner k w u l rr) = none := by
      rcases l with ⟨k', w', u', l', r'⟩ | _
      · show (if k = 2 then _ else none) = _
        rw [if_neg k2]
      · rfl
    rw [this]
    rfl
end LWD
