set_option maxRecDepth 100000
/-! THE TWIN SAYS TYPES -/
section LST
variable {σ σ1 σ2 τ : tS} {t n : Nat} {nm con fam : Nat → List Int}
theorem sy_b (S : SkT σ t) (ht : t < 1999999999) (c : Int) : T_say c σ = some (say1 σ c) ∧ SyO σ [c] (say1 σ c) ∧ SkT (say1 σ c) (t + 1) := ⟨t_say S c, SyO_L (L := [c]) S (by simp; omega), SkT_next S (by omega)⟩
theorem tyT_not {T : Ty} {x : Int} (H : tyT σ n T x) : (T = .leaf ↔ x = -1) := by
  cases T with
  | leaf => exact ⟨fun _ => H, fun _ => rfl⟩
  | inner k w u l r =>
    obtain ⟨m, e, _⟩ := H
    exact ⟨fun z => (by cases z), fun z => by omega⟩
theorem lfB_t {T : Ty} : lfB T = true ↔ T = .leaf := by
  cases T with
  | leaf => exact ⟨fun _ => rfl, fun _ => rfl⟩
  | inner k w u l r => exact ⟨fun z => (by cases z), fun z => (by cases z)⟩
theorem shT_f {k w : Nat} {l r : Ty} (H : shT k w l r) : k ≤ 3 ∧ (k = 0 → l = .leaf) ∧ (k = 3 → l ≠ .leaf ∧ r ≠ .leaf) := by
  rcases H with h | h | h | h
  · exact ⟨by omega, fun _ => h.2.1, fun z => by omega⟩
  · exact ⟨by omega, fun z => by omega, fun z => by omega⟩
  · exact ⟨by omega, fun z => by omega, fun z => by omega⟩
  · exact ⟨by omega, fun z => by omega, fun _ => ⟨h.2.2.1, h.2.2.2⟩⟩
/-- A TYPE IS SAID -/
theorem t_sayTypeD (hn : n ≤ 126000) : ∀ (f : Nat) (T : Ty) (x : Int) (σ : tS) (t : Nat), T ≠ .leaf → tyT σ n T x → tdp T < f → wfT T → tOn nm con fam σ T → SkT σ t → t + (tyB nm con fam T).length < 1900000000 → ∃ σ', T_sayTypeD f x σ = some σ' ∧ SyO σ (tyB nm con fam T) σ'
  | 0, _, _, _, _, _, _, h, _, _, _, _ => by omega
  | f + 1, .leaf, _, _, _, h, _, _, _, _, _, _ => absurd rfl h
  | f + 1, .inner k w u l r, x, σ, t, _, H, hd, wf, O, S, ht => by
    obtain ⟨m, ex, hm, e1, e2, tl', tr'⟩ := H
    obtain ⟨ho, ol, or⟩ := O
    obtain ⟨k3, o0, o3⟩ := shT_f wf.1
    have hdl : tdp l < f ∧ tdp r < f := by
      have : tdp (.inner k w u l r) = 1 + max (tdp l) (tdp r) := rfl
      omega
    subst ex
    rw [tyB_inner] at ht ⊢
    have mN : ((m : Int)).toNat = m := by omega
    have rg : (0 : Int) ≤ (m : Int) ∧ (m : Int) < 126000 := by omega
    show ∃ σ', T_sayTypeB (T_sayTypeD f) (m : Int) σ = some σ' ∧ _
    obtain ⟨σ', g1, g2⟩ : ∃ σ', T_sayType_19 (T_sayTypeD f) (m : Int) σ = some σ' ∧ SyO σ (if k = 3 then 40 :: tyB nm con fam l ++ [45, 62] ++ tyB nm con fam r ++ [41] else hdB nm con fam k w ++ (if lfB l = true then [] else 40 :: tyB nm con fam l ++ (if lfB r = true then [] else 44 :: tyB nm con fam r) ++ [41])) σ' := by
      unfold T_sayType_19
      rw [if_pos rg, mN, e1]
      by_cases k0 : k = 0
      · rw [if_neg (by omega), if_pos rg, e2]
        rw [if_neg (show ¬ k = 3 by omega), if_pos (lfB_t.mpr (o0 k0)), List.append_nil] at ht ⊢
        obtain ⟨h1, h2⟩ := ho.1 k0
        have eh : hdB nm con fam k w = nm w := by unfold hdB; rw [if_pos k0]
        rw [eh] at ht ⊢
        exact ⟨_, by rw [t_sayName h2 h1 S (by omega), Option.bind_some], SyO_L S (by omega)⟩
      · rw [if_pos (by omega), if_pos rg]
        by_cases c3 : k = 3
        · rw [if_neg (by omega)]
          rw [if_pos c3] at ht ⊢
          simp only [List.length_append, List.length_cons, List.length_nil] at ht
          obtain ⟨ln, rn⟩ := o3 c3
          obtain ⟨a1, a2, a3⟩ := sy_b S (by omega) 40
          have Fa := a2.2.2.2
          rw [a1, Option.bind_some, if_pos rg, Fa.2 510 (by decide)]
          obtain ⟨σ3, b1, b2⟩ := t_sayTypeD hn f l _ (say1 σ 40) (t + 1) ln (tyT_fr Fa tl') hdl.1 wf.2.1 (tOn_fr Fa ol) a3 (by omega)
          rw [b1, Option.bind_some]
          obtain ⟨t3, S3, t3a, t3b⟩ := SyO_t a3 b2
          obtain ⟨c1, c2, c3'⟩ := sy_b S3 (by omega) 45
          rw [c1, Option.bind_some]
          obtain ⟨d1, d2, d3⟩ := sy_b c3' (by omega) 62
          have Fd := fr_trans Fa (fr_trans b2.2.2.2 (fr_trans c2.2.2.2 d2.2.2.2))
          rw [d1, Option.bind_some, if_pos rg, Fd.2 514 (by decide)]
          obtain ⟨σ5, f1, f2⟩ := t_sayTypeD hn f r _ _ (t3 + 1 + 1) rn (tyT_fr Fd tr') hdl.2 wf.2.2 (tOn_fr Fd or) d3 (by omega)
          rw [f1, Option.bind_some]
          obtain ⟨t5, S5, t5a, t5b⟩ := SyO_t d3 f2
          obtain ⟨p1, p2, _⟩ := sy_b S5 (by omega) 41
          refine ⟨_, by rw [p1, Option.bind_some], ?_⟩
          have := SyO_trans (SyO_trans (SyO_trans (SyO_trans (SyO_trans a2 b2) c2) d2) f2) p2
          rw [show 40 :: tyB nm con fam l ++ [45, 62] ++ tyB nm con fam r ++ [41] = [40] ++ tyB nm con fam l ++ [45] ++ [62] ++ tyB nm con fam r ++ [41] by simp]
          exact this
        · rw [if_pos (by omega)]
          rw [if_neg c3] at ht ⊢
          simp only [List.length_append] at ht
          have gr := t_sayGreat (nm := nm) (con := con) (fam := fam) (m := m) (by omega) e1 e2 ho (by omega) S (by omega)
          have A := SyO_L (L := hdB nm con fam k w) S (by omega)
          have Fa := A.2.2.2
          rw [gr, Option.bind_some, if_pos rg, Fa.2 510 (by decide)]
          by_cases lf : l = .leaf
          · rw [if_neg (fun z => z ((tyT_not tl').mp lf)), if_pos (lfB_t.mpr lf), List.append_nil]
            exact ⟨_, rfl, A⟩
          · have lf' : ¬ lfB l = true := fun z => lf (lfB_t.mp z)
            rw [if_pos (fun z => lf ((tyT_not tl').mpr z))]
            rw [if_neg lf'] at ht ⊢
            simp only [List.length_append, List.length_cons, List.length_nil] at ht
            obtain ⟨t1, S1, t1a, t1b⟩ := SyO_t S A
            obtain ⟨a1, a2, a3⟩ := sy_b S1 (by omega) 40
            have Fb := fr_trans Fa a2.2.2.2
            rw [a1, Option.bind_some, if_pos rg, Fb.2 510 (by decide)]
            obtain ⟨σ3, b1, b2⟩ := t_sayTypeD hn f l _ _ (t1 + 1) lf (tyT_fr Fb tl') hdl.1 wf.2.1 (tOn_fr Fb ol) a3 (by omega)
            obtain ⟨t3, S3, t3a, t3b⟩ := SyO_t a3 b2
            have Fc := fr_trans Fb b2.2.2.2
            rw [b1, Option.bind_some, if_pos rg, Fc.2 514 (by decide)]
            have B := SyO_trans (SyO_trans A a2) b2
            by_cases rf : r = .leaf
            · rw [if_pos ((tyT_not tr').mp rf)]
              rw [if_pos (lfB_t.mpr rf)] at ht ⊢
              unfold T_sayType_156
              obtain ⟨p1, p2, _⟩ := sy_b S3 (by omega) 41
              refine ⟨_, by rw [p1, Option.bind_some], ?_⟩
              have := SyO_trans B p2
              rw [show hdB nm con fam k w ++ (40 :: tyB nm con fam l ++ [] ++ [41]) = hdB nm con fam k w ++ [40] ++ tyB nm con fam l ++ [41] by simp]
              exact this
            · have rf' : ¬ lfB r = true := fun z => rf (lfB_t.mp z)
              rw [if_neg (fun z => rf ((tyT_not tr').mpr z))]
              rw [if_neg rf'] at ht ⊢
              simp only [List.length_cons] at ht
              obtain ⟨c1, c2, c3'⟩ := sy_b S3 (by omega) 44
              have Fd := fr_trans Fc c2.2.2.2
              rw [c1, Option.bind_some, if_pos rg, Fd.2 514 (by decide)]
              obtain ⟨σ5, f1, f2⟩ := t_sayTypeD hn f r _ _ (t3 + 1) rf (tyT_fr Fd tr') hdl.2 wf.2.2 (tOn_fr Fd or) c3' (by omega)
              obtain ⟨t5, S5, t5a, t5b⟩ := SyO_t c3' f2
              rw [f1, Option.bind_some]
              unfold T_sayType_156
              obtain ⟨p1, p2, _⟩ := sy_b S5 (by omega) 41
              refine ⟨_, by rw [p1, Option.bind_some], ?_⟩
              have := SyO_trans (SyO_trans (SyO_trans B c2) f2) p2
              rw [show hdB nm con fam k w ++ (40 :: tyB nm con fam l ++ 44 :: tyB nm con fam r ++ [41]) = hdB nm con fam k w ++ [40] ++ tyB nm con fam l ++ [44] ++ tyB nm con fam r ++ [41] by simp]
              exact this
    unfold T_sayTypeB
    by_cases a : gs σ 1111 ≠ 0
    · rw [if_pos a]
      exact ⟨σ', g1, g2⟩
    · rw [if_neg a]
      by_cases b : gs σ 904 ≤ gs σ 908
      · rw [if_pos b]
        exact ⟨σ', g1, g2⟩
      · rw [if_neg b]
        exact ⟨σ, rfl, fun w => by omega, fun w => by omega, ⟨Int.le_refl _, by omega⟩, fr_refl _ _ _⟩
end LST
