set_option maxRecDepth 100000
/-- where the token of a number is looked for -/
def tokp (U : List Int) : Nat → Nat
  | 0 => 0
  | k + 1 => tn U (tokp U k)
theorem tokp_le (U : List Int) : ∀ k, tokp U k ≤ U.length
  | 0 => Nat.zero_le _
  | k + 1 => tn_le (tokp_le U k)
/-- the word of the token with a number, as signed bytes -/
def tokw (S : List Int) (k : Nat) : List Int := (S.drop (tq (S.map u8) (tokp (S.map u8) k))).take (tK (S.map u8) (tokp (S.map u8) k)).2
def tokk (S : List Int) (k : Nat) : Int := (tK (S.map u8) (tokp (S.map u8) k)).1
def tokq (S : List Int) (k : Nat) : Nat := tq (S.map u8) (tokp (S.map u8) k)
def tokn (S : List Int) (k : Nat) : Nat := (tK (S.map u8) (tokp (S.map u8) k)).2
/-- a token as it lies in the twin -/
def TKi (σ : tS) (N : List (List Int)) (S : List Int) (b i : Nat) : Prop := ga σ 470 (b + i) = tokk S i ∧ ga σ 474 (b + i) = (tokq S i : Int) ∧ ga σ 478 (b + i) = (tokn S i : Int) ∧ ga σ 482 (b + i) = tVal N (tokk S i) (tokw S i) ∧ (tokk S i = 2 ∨ tokk S i = 3 → tokw S i ∈ N)
theorem idxOf_pre {w : List Int} {M M' : List (List Int)} (h : w ∈ M) (p : M <+: M') : M'.idxOf w = M.idxOf w := by
  obtain ⟨R, rfl⟩ := p
  rw [List.idxOf_append, if_pos h]
theorem addN_pre (N : List (List Int)) (w : List Int) : N <+: addN N w := by
  unfold addN
  split
  · exact List.prefix_refl _
  · exact List.prefix_append _ _
theorem addN_mem (N : List (List Int)) (w : List Int) : w ∈ addN N w := by
  unfold addN
  split
  · assumption
  · simp
theorem addN_idx (N : List (List Int)) (w : List Int) : (addN N w).idxOf w = N.idxOf w := by
  unfold addN
  split
  · rfl
  · rename_i h
    rw [List.idxOf_append, if_neg h]
    simp [List.idxOf_eq_length h]
theorem addN_len (N : List (List Int)) (w : List Int) : (addN N w).length ≤ N.length + 1 := by
  unfold addN
  split <;> simp
theorem tVal_pre {N N' : List (List Int)} {k : Int} {w : List Int} (p : N <+: N') (h : k = 2 ∨ k = 3 → w ∈ N) : tVal N' k w = tVal N k w := by
  unfold tVal
  split
  · rename_i c
    rw [idxOf_pre (h c) p]
  · rfl
theorem TKi_pre {σ : tS} {N N' : List (List Int)} {S : List Int} {b i : Nat} (p : N <+: N') (T : TKi σ N S b i) : TKi σ N' S b i := ⟨T.1, T.2.1, T.2.2.1, by rw [tVal_pre p T.2.2.2.2]; exact T.2.2.2.1, fun c => p.subset (T.2.2.2.2 c)⟩
theorem TKi_eq {σ τ : tS} {N : List (List Int)} {S : List Int} {b i : Nat} (h : ∀ f ∈ [470, 474, 478, 482], ga τ f (b + i) = ga σ f (b + i)) (T : TKi σ N S b i) : TKi τ N S b i := ⟨by rw [h 470 (by simp)]; exact T.1, by rw [h 474 (by simp)]; exact T.2.1, by rw [h 478 (by simp)]; exact T.2.2.1, by rw [h 482 (by simp)]; exact T.2.2.2.1, T.2.2.2.2⟩
theorem tq_sp {U : List Int} {p : Nat} {c : Int} {r : List Int} (e : U.drop p = c :: r) (h : cSp c = true) : tq U (p + 1) = tq U p := by
  obtain ⟨e1, e2, e3⟩ := drop_cons e
  unfold tq
  rw [e, e2, List.takeWhile_cons_of_pos h, List.length_cons]
  omega
theorem tq_ns {U : List Int} {p : Nat} {c : Int} {r : List Int} (e : U.drop p = c :: r) (h : cSp c = false) : tq U p = p := by
  unfold tq
  rw [e, List.takeWhile_cons_of_neg (by simp [h])]
  simp
theorem tq_nil {U : List Int} {p : Nat} (e : U.drop p = []) : tq U p = p := by
  unfold tq
  rw [e]
  simp
theorem u8_lt {x : Int} (h0 : -128 ≤ x) (h1 : x ≤ 127) (h : u8 x ≤ 127) : u8 x = x := by unfold u8 at *; omega
section LT5
variable {S : List Int}
theorem t_scanL {b : Nat} (n : Nat) : ∀ (p k : Nat) (σ : tS) (N : List (List Int)), S.length - p ≤ n → p ≤ S.length → txT σ S → NT σ N → gs σ 484 = ((b + k : Nat) : Int) → tq (S.map u8) p = tokq S k → N.length + (S.length - p) < 2100 → b + k + (S.length - p) < 4100 → (∀ i, i < k → TKi σ N S b i ∧ tokk S i ≠ 0) →
    ∃ (m : Nat) (τ : tS) (N' : List (List Int)), om_loop T_scan_2s ((p : Int), σ) = some τ ∧ NT τ N' ∧ (N <+: N' ∧ ∀ L ∈ N', L ∈ N ∨ ∃ j, L = tokw S j ∧ (tokk S j = 2 ∨ tokk S j = 3)) ∧ N'.length ≤ N.length + (S.length - p) ∧ gs τ 484 = ((b + m : Nat) : Int) ∧ m ≤ k + (S.length - p) ∧ tokk S m = 0 ∧ tokq S m = S.length ∧ (∀ i, i < m → TKi τ N' S b i ∧ tokk S i ≠ 0) ∧ fr [484, 496] [470, 474, 478, 482, 490, 494] σ τ ∧ (∀ f ∈ [470, 474, 478, 482], ∀ i, i < b → ga τ f i = ga σ f i) := by
  induction n with
  | zero =>
    intro p k σ N hn hp T hN hb hq hl h4 hi
    have hpe : p = S.length := by omega
    have e : (S.map u8).drop p = [] := by rw [hpe]; simp
    refine ⟨k, σ, N, om_loop_out ?_, hN, ⟨List.prefix_refl _, fun L hL => .inl hL⟩, by omega, hb, by omega, ?_, ?_, hi, fr_refl _ _ _, fun _ _ _ _ => rfl⟩
    · unfold T_scan_2s
      simp only
      rw [T.1, if_pos (by omega)]
    · show (tk ((S.map u8).drop (tokq S k))).1 = 0
      rw [← hq, tq_nil e, e]
      rfl
    · rw [← hq, tq_nil e, hpe]
  | succ n ih =>
    intro p k σ N hn hp T hN hb hq hl h4 hi
    cases e : (S.map u8).drop p with
    | nil =>
      have e1 := (drop_nil e).2
      simp only [List.length_map] at e1
      exact ih p k σ N (by omega) hp T hN hb hq hl h4 hi
    | cons c r =>
      obtain ⟨e1, e2, e3⟩ := drop_cons e
      simp only [List.length_map] at e3
      have hS := T.2.1
      cases hc : cSp c
      · -- a token
        have hqp : tokq S k = p := by rw [← hq, tq_ns e hc]
        have hkk : tokk S k = (tk (c :: r)).1 := by
          show (tk ((S.map u8).drop (tokq S k))).1 = _
          rw [hqp, e]
        have hkn : tokn S k = (tk (c :: r)).2 := by
          show (tk ((S.map u8).drop (tokq S k))).2 = _
          rw [hqp, e]
        have hle := tk_le (c :: r)
        have hlen : (c :: r).length = S.length - p := by rw [← e]; simp
        obtain ⟨f1, f2, f3, f4⟩ := tk_facts c r
        have hw : (S.drop p).take (tk (c :: r)).2 = tokw S k := by
          show _ = (S.drop (tokq S k)).take (tokn S k)
          rw [hqp, hkn]
        have h4' : (tk (c :: r)).1 = 4 → (tk (c :: r)).2 ≤ 6 ∧ ∀ x ∈ tokw S k, 48 ≤ x ∧ x ≤ 57 := by
          intro z
          refine ⟨(f4 z).1, fun x hx => ?_⟩
          have hxS : x ∈ S := by
            rw [← hw] at hx
            exact List.mem_of_mem_drop (List.mem_of_mem_take hx)
          have hr := T.2.2.2 x hxS
          have hu : u8 x ∈ (c :: r).take (tk (c :: r)).2 := by
            rw [← hw] at hx
            have := List.mem_map_of_mem (f := u8) hx
            rw [List.map_take, List.map_drop, e] at this
            exact this
          have := (f4 z).2 _ hu
          rw [u8_lt hr.1 hr.2 (by omega)] at this
          exact this
        obtain ⟨τ, g1, g2, g3, g4, g5, g6, g7, g8, g9⟩ := t_token (k := (tk (c :: r)).1) T hN hb (by omega) (by omega) hw (fun z => ⟨f3 z, by omega⟩) h4'
        have hst : T_scan_2s ((p : Int), σ) = some (.inl (((p + (tk (c :: r)).2 : Nat) : Int), τ)) := by
          rw [scan_tok T e hc, g1]
          rfl
        have hpre : N <+: (if (tk (c :: r)).1 = 2 ∨ (tk (c :: r)).1 = 3 then addN N (tokw S k) else N) := by
          split
          · exact addN_pre _ _
          · exact List.prefix_refl _
        have hlen2 : (if (tk (c :: r)).1 = 2 ∨ (tk (c :: r)).1 = 3 then addN N (tokw S k) else N).length ≤ N.length + 1 := by
          split
          · exact addN_len _ _
          · omega
        have hnew : TKi τ (if (tk (c :: r)).1 = 2 ∨ (tk (c :: r)).1 = 3 then addN N (tokw S k) else N) S b k := by
          refine ⟨by rw [hkk]; exact g6, by rw [hqp]; exact g7, by rw [hkn]; exact g8, ?_, ?_⟩
          · rw [hkk, g9]
            unfold tVal
            split
            · rw [addN_idx]
            · rfl
          · intro z
            rw [hkk] at z
            rw [if_pos z]
            exact addN_mem _ _
        have hsub : ∀ L ∈ (if (tk (c :: r)).1 = 2 ∨ (tk (c :: r)).1 = 3 then addN N (tokw S k) else N), L ∈ N ∨ ∃ j, L = tokw S j ∧ (tokk S j = 2 ∨ tokk S j = 3) := by
          intro L hL
          by_cases z : (tk (c :: r)).1 = 2 ∨ (tk (c :: r)).1 = 3
          · rw [if_pos z] at hL
            unfold addN at hL
            by_cases z2 : tokw S k ∈ N
            · rw [if_pos z2] at hL
              exact .inl hL
            · rw [if_neg z2] at hL
              rcases List.mem_append.mp hL with w | w
              · exact .inl w
              · exact .inr ⟨k, List.mem_singleton.mp w, by rw [hkk]; exact z⟩
          · rw [if_neg z] at hL
            exact .inl hL
        generalize (if (tk (c :: r)).1 = 2 ∨ (tk (c :: r)).1 = 3 then addN N (tokw S k) else N) = N1 at g3 hpre hlen2 hnew hsub
        have hq2 : tq (S.map u8) (p + (tk (c :: r)).2) = tokq S (k + 1) := by
          show _ = tq (S.map u8) (tokq S k + tokn S k)
          rw [hqp, hkn]
        obtain ⟨m, υ, N', w1, w2, w3, w4, w5, w6, w7, w8, w9, w10, w11⟩ := ih (p + (tk (c :: r)).2) (k + 1) τ N1 (by omega) (by omega) (txT_fr g4 (by simp) (by simp) T) g3 (by rw [g2]; rfl) hq2 (by omega) (by omega) (by
          intro i hik
          by_cases ck : i = k
          · subst ck
            exact ⟨hnew, by rw [hkk]; exact f2⟩
          · obtain ⟨t1, t2⟩ := hi i (by omega)
            exact ⟨TKi_eq (fun f hf => g5 f hf (b + i) (by omega)) (TKi_pre hpre t1), t2⟩)
        refine ⟨m, υ, N', by rw [om_loop_in hst]; exact w1, w2, ⟨hpre.trans w3.1, fun L hL => (w3.2 L hL).elim (fun w => hsub L w) .inr⟩, by omega, w5, by omega, w7, w8, w9, fr_trans g4 w10, fun f hf i hib => ?_⟩
        rw [w11 f hf i hib, g5 f hf i (by omega)]
      · -- a space
        have hst : T_scan_2s ((p : Int), σ) = some (.inl (((p + 1 : Nat) : Int), σ)) := by
          unfold T_scan_2s
          simp only
          rw [T.1, if_neg (by omega), t_b T, e1]
          simp only [Option.getD_some, Option.bind_some]
          rw [w32_s (by omega) (by omega)]
          simp only [cSp, Bool.or_eq_true, beq_iff_eq] at hc
          by_cases c32 : c = 32
          · rw [if_pos c32]; rfl
          · rw [if_neg c32, if_neg (by omega)]; rfl
        obtain ⟨m, υ, N', w1, w2, w3, w4, w5, w6, w7, w8, w9, w10, w11⟩ := ih (p + 1) k σ N (by omega) (by omega) T hN hb (by rw [tq_sp e hc]; exact hq) (by omega) (by omega) hi
        exact ⟨m, υ, N', by rw [om_loop_in hst]; exact w1, w2, w3, by omega, w5, by omega, w7, w8, w9, w10, w11⟩
/-- THE TWIN's SCAN: all tokens of a text, the end's behind them -/
theorem t_scan {σ : tS} {N : List (List Int)} {b : Nat} (T : txT σ S) (hN : NT σ N) (hb : gs σ 484 = (b : Int)) (hl : N.length + S.length < 2100) (h4 : b + S.length < 4099) :
    ∃ (m : Nat) (τ : tS) (N' : List (List Int)), T_scan σ = some τ ∧ NT τ N' ∧ (N <+: N' ∧ ∀ L ∈ N', L ∈ N ∨ ∃ j, L = tokw S j ∧ (tokk S j = 2 ∨ tokk S j = 3)) ∧ N'.length ≤ N.length + S.length ∧ gs τ 484 = ((b + m + 1 : Nat) : Int) ∧ m ≤ S.length ∧ tokk S m = 0 ∧ (∀ i, i < m → tokk S i ≠ 0) ∧ (∀ i, i ≤ m → TKi τ N' S b i) ∧ fr [484, 496] [470, 474, 478, 482, 490, 494] σ τ ∧ (∀ f ∈ [470, 474, 478, 482], ∀ i, i < b → ga τ f i = ga σ f i) := by
  obtain ⟨m, τ, N', w1, w2, w3, w4, w5, w6, w7, w8, w9, w10, w11⟩ := t_scanL (S := S) (b := b) S.length 0 0 σ N (by omega) (by omega) T hN (by simpa using hb) rfl (by omega) (by omega) (fun i hi => by omega)
  have T' : txT τ S := txT_fr w10 (by simp) (by simp) T
  have hn0 : tokn S m = 0 := by
    show (tk ((S.map u8).drop (tokq S m))).2 = 0
    rw [w8, List.drop_eq_nil_of_le (by simp)]
    rfl
  obtain ⟨υ, g1, g2, g3, g4, g5, g6, g7, g8, g9⟩ := t_token (k := 0) (q := S.length) (n := 0) (w := []) T' w2 w5 (by omega) (by omega) (by simp) (fun z => by omega) (fun z => by omega)
  refine ⟨m, υ, N', ?_, ?_, w3, by omega, by rw [g2], by omega, w7, fun i hi => (w9 i hi).2, fun i hi => ?_, fr_trans w10 g4, fun f hf i hib => ?_⟩
  · unfold T_scan
    rw [show ((0 : Int), σ) = (((0 : Nat) : Int), σ) from rfl, w1]
    simp only [Option.bind_some]
    rw [T'.1]
    rw [show T_token 0 (S.length : Int) 0 τ = some υ from g1]
    rfl
  · simpa using g3
  · by_cases c : i = m
    · subst c
      refine ⟨by rw [w7]; exact g6, by rw [w8]; exact g7, by rw [hn0]; exact g8, ?_, by rw [w7]; omega⟩
      rw [g9, w7]
      simp [tVal]
    · exact TKi_eq (fun f hf => g5 f hf (b + i) (by omega)) (w9 i (by omega)).1
  · rw [g5 f hf i (by omega), w11 f hf i hib]
end LT5
