set_option maxRecDepth 100000
/-! THE TWIN SAYS why a type is what it is worked out to: the pieces -/
theorem rem32_100 {a : Nat} (ha : a ≤ 2147483647) : rem32 (a : Int) 100 = ((a % 100 : Nat) : Int) := by
  unfold rem32
  have e1 : (Int32.ofInt (a : Int)).toInt = (a : Int) := w32_s (by omega) (by omega)
  have e2 : (Int32.ofInt 100).toInt = 100 := by decide
  have e3 : (Int32.ofInt (a : Int) / Int32.ofInt 100).toInt = (a : Int) / 100 := by
    rw [Int32.toInt_div, e1, e2, Int.tdiv_eq_ediv_of_nonneg (by omega)]
    exact bmod32 (by omega) (by omega)
  rw [Int32.toInt_sub, Int32.toInt_mul, e1, e2, e3, bmod32 (x := (a : Int) / 100 * 100) (by omega) (by omega), bmod32 (by omega) (by omega)]
  omega
/-- what is said of parts, of going, of what comes then -/
def whF (p q w : Option (List Int)) : List Int := (match p, q, w with
  | some a, some b, some c => [40, 40] ++ a ++ [59] ++ b ++ [41] ++ [59] ++ c ++ [41]
  | some a, some b, none => [40] ++ a ++ [59] ++ b ++ [41]
  | none, some b, some c => [40] ++ b ++ [59] ++ c ++ [41]
  | none, some b, none => b
  | some a, none, _ => a
  | none, none, _ => [])
theorem whF_thn {p q w : Option (List Int)} (h1 : p ≠ none ∨ q ≠ none) (h2 : w ≠ none → q ≠ none) : thnB (thnB p q) w = some (whF p q w) := by
  cases p with
  | none =>
    cases q with
    | none => exact absurd rfl (h1.resolve_left (fun z => z rfl))
    | some b =>
      cases w with
      | none => rfl
      | some c => simp [thnB, whF]
  | some a =>
    cases q with
    | none =>
      cases w with
      | none => rfl
      | some c => exact absurd rfl (h2 (fun z => by cases z))
    | some b =>
      cases w with
      | none => simp [thnB, whF]
      | some c => simp [thnB, whF]
section LTW
variable {σ σ0 σ1 : tS} {t n : Nat} {nm con fam : Nat → List Int}
/-- the parts of a type, in brackets -/
theorem t_sayParts (hn : n ≤ 126000) {T : Ty} {x : Int} (H : tyT σ n T x) (hT : T ≠ .leaf) (hd : tdp T < 70) (wf : wfT T) (O : tOn nm con fam σ T) (S : SkT σ t) (ht : t + (prtB nm con fam T).length < 1000000000) : ∃ σ', T_sayParts x σ = some σ' ∧ SyO σ (prtB nm con fam T) σ' := by
  cases T with
  | leaf => exact absurd rfl hT
  | inner k w u l r =>
    obtain ⟨m, ex, hm, e1, e2, tl', tr'⟩ := H
    obtain ⟨_, ol, or⟩ := O
    have hdl : tdp l < 70 ∧ tdp r < 70 := by
      have : tdp (.inner k w u l r) = 1 + max (tdp l) (tdp r) := rfl
      omega
    subst ex
    have mN : ((m : Int)).toNat = m := by omega
    have rg : (0 : Int) ≤ (m : Int) ∧ (m : Int) < 126000 := by omega
    have ep : prtB nm con fam (.inner k w u l r) = if lfB l = true then [] else 91 :: tyB nm con fam l ++ (if lfB r = true then [] else 44 :: tyB nm con fam r) ++ [93] := rfl
    rw [ep] at ht ⊢
    unfold T_sayParts
    rw [if_pos rg, mN]
    by_cases lf : l = .leaf
    · rw [if_neg (fun z => z ((tyT_not tl').mp lf)), if_pos (lfB_t.mpr lf)]
      exact ⟨σ, rfl, SyO_nil⟩
    · have lf' : ¬ lfB l = true := fun z => lf (lfB_t.mp z)
      rw [if_pos (fun z => lf ((tyT_not tl').mpr z))]
      rw [if_neg lf'] at ht ⊢
      simp only [List.length_append, List.length_cons, List.length_nil] at ht
      obtain ⟨a1, a2, a3⟩ := sy_b S (by omega) 91
      have Fa := a2.2.2.2
      rw [a1, Option.bind_some, if_pos rg, Fa.2 510 (by decide)]
      unfold T_sayType
      obtain ⟨σ3, b1, b2⟩ := t_sayTypeD hn 70 l _ _ (t + 1) lf (tyT_fr Fa tl') hdl.1 wf.2.1 (tOn_fr Fa ol) a3 (by omega)
      obtain ⟨t3, S3, t3a, t3b⟩ := SyO_t a3 b2
      have Fc := fr_trans Fa b2.2.2.2
      rw [b1, Option.bind_some, if_pos rg, Fc.2 514 (by decide)]
      have B := SyO_trans a2 b2
      unfold T_sayParts_53
      by_cases rf : r = .leaf
      · rw [if_pos ((tyT_not tr').mp rf)]
        rw [if_pos (lfB_t.mpr rf)] at ht ⊢
        obtain ⟨p1, p2, _⟩ := sy_b S3 (by omega) 93
        refine ⟨_, by rw [p1, Option.bind_some], ?_⟩
        have := SyO_trans B p2
        rw [show 91 :: tyB nm con fam l ++ [] ++ [93] = [91] ++ tyB nm con fam l ++ [93] by simp]
        exact this
      · have rf' : ¬ lfB r = true := fun z => rf (lfB_t.mp z)
        rw [if_neg (fun z => rf ((tyT_not tr').mpr z))]
        rw [if_neg rf'] at ht ⊢
        simp only [List.length_cons] at ht
        obtain ⟨c1, c2, c3'⟩ := sy_b S3 (by omega) 44
        have Fd := fr_trans Fc c2.2.2.2
        rw [c1, Option.bind_some, if_pos rg, Fd.2 514 (by decide)]
        obtain ⟨σ5, f1, f2⟩ := t_sayTypeD hn 70 r _ _ (t3 + 1) rf (tyT_fr Fd tr') hdl.2 wf.2.2 (tOn_fr Fd or) c3' (by omega)
        obtain ⟨t5, S5, t5a, t5b⟩ := SyO_t c3' f2
        rw [f1, Option.bind_some]
        obtain ⟨p1, p2, _⟩ := sy_b S5 (by omega) 93
        refine ⟨_, by rw [p1, Option.bind_some], ?_⟩
        have := SyO_trans (SyO_trans (SyO_trans B c2) f2) p2
        rw [show 91 :: tyB nm con fam l ++ 44 :: tyB nm con fam r ++ [93] = [91] ++ tyB nm con fam l ++ [44] ++ tyB nm con fam r ++ [93] by simp]
        exact this
/-- alike -/
theorem t_sayAlike (hn : n ≤ 126000) {T : Ty} {x : Int} (H : tyT σ n T x) (hT : T ≠ .leaf) (hd : tdp T < 70) (wf : wfT T) (O : tOn nm con fam σ T) (S : SkT σ t) (ht : t + (altB nm con fam T).length < 1000000000) : ∃ σ', T_sayAlike x σ = some σ' ∧ SyO σ (altB nm con fam T) σ' := by
  unfold altB at ht ⊢
  simp only [List.length_append, List.length_cons, List.length_nil] at ht
  unfold T_sayAlike T_sayType
  obtain ⟨a1, a2, a3⟩ := sy_b S (by omega) 60
  have Fa := a2.2.2.2
  rw [a1, Option.bind_some]
  obtain ⟨σ3, b1, b2⟩ := t_sayTypeD hn 70 T x _ (t + 1) hT (tyT_fr Fa H) hd wf (tOn_fr Fa O) a3 (by omega)
  obtain ⟨t3, S3, t3a, t3b⟩ := SyO_t a3 b2
  rw [b1, Option.bind_some]
  obtain ⟨p1, p2, _⟩ := sy_b S3 (by omega) 62
  refine ⟨_, by rw [p1, Option.bind_some], ?_⟩
  have := SyO_trans (SyO_trans a2 b2) p2
  rw [show 60 :: tyB nm con fam T ++ [62] = [60] ++ tyB nm con fam T ++ [62] by simp]
  exact this
/-- a saying that goes on from any state of the like -/
def RW (σ0 : tS) (r : Int → tS → Option tS) (x : Int) (L : List Int) : Prop := ∀ (σ : tS) (t : Nat), fr WYS WYA σ0 σ → SkT σ t → t + L.length < 1000000000 → ∃ σ', r x σ = some σ' ∧ SyW σ L σ'
variable {r : Int → tS → Option tS} {l2 l4 l5 l6 l8 : Int} {W : List Int}
theorem sw_b (S : SkT σ t) (ht : t < 1999999999) (c : Int) : T_say c σ = some (say1 σ c) ∧ SyW σ [c] (say1 σ c) ∧ SkT (say1 σ c) (t + 1) := ⟨(sy_b S ht c).1, SyW_of (sy_b S ht c).2.1, (sy_b S ht c).2.2⟩
/-- what comes then -/
theorem t_373 (F : fr WYS WYA σ0 σ) (S : SkT σ t) (ht : t + (if l6 = 0 then 0 else W.length + 2) < 1000000000) (R : l6 ≠ 0 → RW σ0 r l5 W) : ∃ σ', T_sayWhy_373 r l5 l6 σ = some σ' ∧ SyW σ (if l6 = 0 then [] else [59] ++ W ++ [41]) σ' := by
  unfold T_sayWhy_373
  by_cases c : l6 = 0
  · rw [if_pos c, if_pos c]
    exact ⟨σ, rfl, SyW_of SyO_nil⟩
  · rw [if_neg c] at ht
    rw [if_neg c, if_neg c]
    obtain ⟨a1, a2, a3⟩ := sw_b S (by omega) 59
    rw [a1, Option.bind_some]
    obtain ⟨σ2, b1, b2⟩ := R c _ (t + 1) (fr_trans F a2.2.2.2) a3 (by omega)
    obtain ⟨t2, S2, t2a, t2b⟩ := SyW_t a3 b2
    rw [b1, Option.bind_some]
    obtain ⟨p1, p2, _⟩ := sw_b S2 (by omega) 41
    exact ⟨_, by rw [p1, Option.bind_some], SyW_trans (SyW_trans a2 b2) p2⟩
theorem t_359 (F : fr WYS WYA σ0 σ) (S : SkT σ t) (ht : t + (if l8 ≤ 0 then 0 else 1) + (if l6 = 0 then 0 else W.length + 2) < 1000000000) (R : l6 ≠ 0 → RW σ0 r l5 W) : ∃ σ', T_sayWhy_359 r l5 l6 l8 σ = some σ' ∧ SyW σ ((if l8 ≤ 0 then [] else [41]) ++ (if l6 = 0 then [] else [59] ++ W ++ [41])) σ' := by
  unfold T_sayWhy_359
  by_cases c : l8 ≤ 0
  · rw [if_pos c] at ht
    rw [if_pos c, if_pos c, List.nil_append]
    exact t_373 F S ht R
  · rw [if_neg c] at ht
    rw [if_neg c, if_neg c]
    obtain ⟨a1, a2, a3⟩ := sw_b S (by omega) 41
    rw [a1, Option.bind_some]
    obtain ⟨σ2, b1, b2⟩ := t_373 (fr_trans F a2.2.2.2) a3 ht R
    exact ⟨σ2, b1, SyW_trans a2 b2⟩
theorem tyT_W {T : Ty} {x : Int} (F : fr WYS WYA σ σ1) (H : tyT σ n T x) : tyT σ1 n T x := tyT_mono (tx_same (fun g hg i => F.2 g ((by decide : ∀ g ∈ TYA, g ∉ WYA) g hg) i)) H
theorem nmT_W {k : Nat} {w : List Int} (F : fr WYS WYA σ σ1) (H : nmT σ k w) : nmT σ1 k w := ⟨by rw [F.2 494 (by decide)]; exact H.1, H.2.1, fun i x e => by rw [F.2 490 (by decide)]; exact H.2.2 i x e⟩
theorem hdO_W {k w : Nat} (F : fr WYS WYA σ σ1) (H : hdO nm con fam σ k w) : hdO nm con fam σ1 k w := by
  refine ⟨fun e => ⟨(H.1 e).1, nmT_W F (H.1 e).2⟩, fun e => ⟨(H.2.1 e).1, nmT_W F (H.2.1 e).2⟩, fun e => ?_⟩
  obtain ⟨h1, v, h2, h3, h4⟩ := H.2.2 e
  exact ⟨h1, v, by rw [F.2 674 (by decide)]; exact h2, h3, nmT_W F h4⟩
theorem tOn_W (F : fr WYS WYA σ σ1) : ∀ {T : Ty}, tOn nm con fam σ T → tOn nm con fam σ1 T
  | .leaf, _ => trivial
  | .inner _ _ _ _ _, ⟨a, d, e⟩ => ⟨hdO_W F a, tOn_W F d, tOn_W F e⟩
/-- how a family goes -/
theorem t_298 (hn : n ≤ 126000) {b m : Nat} {v : Ty} (F : fr WYS WYA σ0 σ) (S : SkT σ t) (R : l6 ≠ 0 → RW σ0 r l5 W) (hb : b < 200) (hm : m < n) (tv : tyT σ0 n (tL v) (ga σ0 510 m)) (hv : tL v ≠ .leaf) (hd : tdp (tL v) < 70) (wf : wfT (tL v)) (O : tOn nm con fam σ0 (tL v)) (ht : t + (if l8 ≤ 0 then 0 else 1) + (goB nm con fam b v).length + (if l8 ≤ 0 then 0 else 1) + (if l6 = 0 then 0 else W.length + 2) < 1000000000) : ∃ σ', T_sayWhy_298 r (m : Int) (b : Int) l5 l6 l8 σ = some σ' ∧ SyW σ ((if l8 ≤ 0 then [] else [59]) ++ goB nm con fam b v ++ (if l8 ≤ 0 then [] else [41]) ++ (if l6 = 0 then [] else [59] ++ W ++ [41])) σ' := by
  have go : ∀ (σ : tS) (t : Nat), fr WYS WYA σ0 σ → SkT σ t → t + (goB nm con fam b v).length + (if l8 ≤ 0 then 0 else 1) + (if l6 = 0 then 0 else W.length + 2) < 1000000000 → ∃ σ', T_sayWhy_315 r (m : Int) (b : Int) l5 l6 l8 σ = some σ' ∧ SyW σ (goB nm con fam b v ++ ((if l8 ≤ 0 then [] else [41]) ++ (if l6 = 0 then [] else [59] ++ W ++ [41]))) σ' := by
    intro σ t F S ht
    have rn := numBD_len (f := 12) (v := b % 100)
    have go2 : ∀ c : Int, ∃ σ2 t2, (T_say c σ).bind (fun p1 => T_sayNumber (rem32 (b : Int) 100) p1) = some σ2 ∧ SyW σ ([c] ++ numB (b % 100)) σ2 ∧ SkT σ2 t2 ∧ t2 = t + 1 + (numB (b % 100)).length := by
      intro c
      obtain ⟨a1, a2, a3⟩ := sw_b S (by omega) c
      have S2 := sayL_t (L := numB (b % 100)) a3 (by unfold numB; omega)
      exact ⟨_, t + 1 + (numB (b % 100)).length, by rw [a1, Option.bind_some, rem32_100 (by omega), t_sayNum (by omega) a3 (by omega)], SyW_trans a2 (SyW_of (SyO_L a3 (by unfold numB; omega))), S2, rfl⟩
    unfold T_sayWhy_315
    by_cases c : b < 100
    · have eg : goB nm con fam b v = [120] ++ numB b ++ prtB nm con fam (tL v) := by
        unfold goB
        rw [if_pos c]
        simp
      rw [eg] at ht ⊢
      rw [if_pos (by omega)]
      unfold T_sayWhy_330
      obtain ⟨σ2, t2, g1, g2, g3, g4⟩ := go2 120
      rw [show b % 100 = b by omega] at g2 g4
      simp only [List.length_append, List.length_cons, List.length_nil] at ht
      have F2 := fr_trans F g2.2.2.2
      obtain ⟨a1, a2, a3⟩ := sw_b S (by omega) 120
      rw [a1, Option.bind_some] at g1 ⊢
      rw [g1, Option.bind_some, if_neg (by omega), if_pos (by omega), show ((m : Int)).toNat = m by omega, F2.2 510 (by decide)]
      obtain ⟨σ3, h1, h2⟩ := t_sayParts hn (tyT_W F2 tv) hv hd wf (tOn_W F2 O) g3 (by omega)
      obtain ⟨t3, S3, t3a, t3b⟩ := SyO_t g3 h2
      rw [h1, Option.bind_some]
      obtain ⟨σ4, k1, k2⟩ := t_359 (l8 := l8) (fr_trans F2 (SyW_of h2).2.2.2) S3 (by omega) R
      exact ⟨σ4, k1, SyW_trans (SyW_trans g2 (SyW_of h2)) k2⟩
    · have eg : goB nm con fam b v = [99] ++ numB (b - 100) := by
        unfold goB
        rw [if_neg c]
        rfl
      rw [eg] at ht ⊢
      rw [if_neg (by omega)]
      unfold T_sayWhy_330
      obtain ⟨σ2, t2, g1, g2, g3, g4⟩ := go2 99
      rw [show b % 100 = b - 100 by omega] at g2 g4
      simp only [List.length_append, List.length_cons, List.length_nil] at ht
      have F2 := fr_trans F g2.2.2.2
      obtain ⟨a1, a2, a3⟩ := sw_b S (by omega) 99
      rw [a1, Option.bind_some] at g1 ⊢
      rw [g1, Option.bind_some, if_pos (by omega)]
      obtain ⟨σ4, k1, k2⟩ := t_359 (l8 := l8) F2 g3 (by omega) R
      exact ⟨σ4, k1, SyW_trans g2 k2⟩
  unfold T_sayWhy_298
  rw [if_neg (by omega)]
  by_cases c : l8 ≤ 0
  · rw [if_pos c] at ht
    rw [if_pos c, if_pos c]
    obtain ⟨σ', k1, k2⟩ := go σ t F S (by rw [if_pos c]; omega)
    rw [if_pos c] at k2
    exact ⟨σ', k1, by rw [if_pos c, List.nil_append, List.append_assoc]; exact k2⟩
  · rw [if_neg c] at ht
    rw [if_neg c, if_neg c]
    obtain ⟨a1, a2, a3⟩ := sw_b S (by omega) 59
    rw [a1, Option.bind_some]
    obtain ⟨σ', k1, k2⟩ := go _ (t + 1) (fr_trans F a2.2.2.2) a3 (by rw [if_neg c]; omega)
    refine ⟨σ', k1, ?_⟩
    rw [if_neg c] at k2 ⊢
    have := SyW_trans a2 k2
    rw [show [59] ++ goB nm con fam b v ++ [41] ++ (if l6 = 0 then [] else [59] ++ W ++ [41]) = [59] ++ (goB nm con fam b v ++ ([41] ++ (if l6 = 0 then [] else [59] ++ W ++ [41]))) by simp only [List.append_assoc]]
    exact this
end LTW
