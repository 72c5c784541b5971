set_option maxRecDepth 100000
/-! THE TWIN's TOKENS, one by one -/
def addN (N : List (List Int)) (w : List Int) : List (List Int) := if w ∈ N then N else N ++ [w]
/-- what a token's last cell holds -/
def tVal (N : List (List Int)) (k : Int) (w : List Int) : Int := if k = 2 ∨ k = 3 then (N.idxOf w : Int) else if k = 4 then numV 0 w else 0
section LT3
variable {σ : tS} {S : List Int} {N : List (List Int)}
theorem numV_lt : ∀ (w : List Int) (v : Int), (∀ x ∈ w, 48 ≤ x ∧ x ≤ 57) → 0 ≤ v → 0 ≤ numV v w ∧ numV v w < (v + 1) * 10 ^ w.length
  | [], v, h, v0 => by simp [numV]; omega
  | c :: r, v, h, v0 => by
    have hc := h c List.mem_cons_self
    have ih := numV_lt r (10 * v + (c - 48)) (fun x hx => h x (List.mem_cons_of_mem _ hx)) (by omega)
    have e : numV v (c :: r) = numV (10 * v + (c - 48)) r := rfl
    rw [e]
    refine ⟨ih.1, Int.lt_of_lt_of_le ih.2 ?_⟩
    have hp : (0 : Int) ≤ 10 ^ r.length := Int.le_of_lt (Int.pow_pos (by omega))
    rw [List.length_cons, Int.pow_succ]
    have hq : (v + 1) * (10 ^ r.length * 10) = (10 * v + 10) * 10 ^ r.length := by rw [Int.mul_comm (10 ^ r.length) 10, ← Int.mul_assoc, Int.mul_comm (v + 1) 10, Int.mul_add, Int.mul_one]
    rw [hq]
    exact Int.mul_le_mul_of_nonneg_right (by omega) hp
theorem t_tokv4 (T : txT σ S) {q n : Nat} (hqn : q + n ≤ S.length) (hn : n ≤ 6) (hd : ∀ x ∈ (S.drop q).take n, 48 ≤ x ∧ x ≤ 57) : ∀ (L : List Int) (i : Nat) (v : Int), (S.drop (q + i)).take (n - i) = L → i ≤ n → 0 ≤ v → (v + 1) * 10 ^ L.length ≤ 10000000 → om_loop (T_token_36s 4 (q : Int) (n : Int) σ) (v, (i : Int)) = some (numV v L)
  | [], i, v, e, hi, v0, hv => by
    have hl := congrArg List.length e
    simp only [List.length_take, List.length_drop, List.length_nil] at hl
    refine om_loop_out ?_
    unfold T_token_36s
    simp only
    rw [if_pos (by omega)]
    rfl
  | c :: r, i, v, e, hi, v0, hv => by
    have hl := congrArg List.length e
    simp only [List.length_take, List.length_drop, List.length_cons] at hl
    have hS := T.2.1
    have hlt : q + i < S.length := by omega
    have e0 : S.drop (q + i) = S[q + i] :: S.drop (q + (i + 1)) := by rw [List.drop_eq_getElem_cons hlt]; simp [Nat.add_assoc]
    have hmem : S[q + i] ∈ (S.drop q).take n := by
      refine List.mem_of_getElem? (i := i) ?_
      rw [List.getElem?_take, if_pos (by omega), List.getElem?_drop]
      exact List.getElem?_eq_getElem hlt
    have hc := hd _ hmem
    rw [e0, show n - i = (n - (i + 1)) + 1 by omega, List.take_succ_cons] at e
    injection e with e1 e2
    rw [e1] at hc
    have hp : (1 : Int) ≤ 10 ^ r.length := Int.pow_pos (by omega)
    simp only [List.length_cons] at hv
    have hq : (v + 1) * 10 ^ (r.length + 1) = (10 * v + 10) * 10 ^ r.length := by rw [Int.pow_succ, Int.mul_comm (10 ^ r.length) 10, ← Int.mul_assoc, Int.mul_comm (v + 1) 10, Int.mul_add, Int.mul_one]
    have hm : (10 * v + (c - 48) + 1) * 10 ^ r.length ≤ (10 * v + 10) * 10 ^ r.length := Int.mul_le_mul_of_nonneg_right (by omega) (by omega)
    have hv2 : (10 * v + 10) * 1 ≤ (10 * v + 10) * 10 ^ r.length := Int.mul_le_mul_of_nonneg_left hp (by omega)
    have ec : ga σ 406 (w32 ((q : Int) + (i : Int))).toNat = c := by
      rw [w32_s (by omega) (by omega), show ((q : Int) + (i : Int)).toNat = q + i by omega, ← e1]
      exact T.2.2.1 _ _ (List.getElem?_eq_getElem hlt)
    have hst : T_token_36s 4 (q : Int) (n : Int) σ (v, (i : Int)) = some (.inl (10 * v + (c - 48), ((i + 1 : Nat) : Int))) := by
      unfold T_token_36s
      simp only
      rw [if_neg (by omega), if_neg (by simp), if_pos ⟨by rw [w32_s (by omega) (by omega)]; omega, by rw [w32_s (by omega) (by omega)]; omega⟩, ec, w32_s (x := 10 * v) (by omega) (by omega), w32_s (x := 10 * v + c) (by omega) (by omega), w32_s (by omega) (by omega), w32_s (by omega) (by omega), show 10 * v + c - 48 = 10 * v + (c - 48) by omega]
      rfl
    rw [om_loop_in hst, t_tokv4 T hqn hn hd r (i + 1) (10 * v + (c - 48)) e2 (by omega) (by omega) (by omega)]
    rfl
/-- a token is laid -/
theorem t_token (T : txT σ S) (hN : NT σ N) {b q n : Nat} {k : Int} {w : List Int} (hb : gs σ 484 = (b : Int)) (hb4 : b < 4100) (hqn : q + n ≤ S.length) (hw : (S.drop q).take n = w) (h23 : k = 2 ∨ k = 3 → n ≤ 10 ∧ N.length < 2100) (h4 : k = 4 → n ≤ 6 ∧ ∀ x ∈ w, 48 ≤ x ∧ x ≤ 57) :
    ∃ τ, T_token k (q : Int) (n : Int) σ = some τ ∧ gs τ 484 = ((b + 1 : Nat) : Int) ∧ NT τ (if k = 2 ∨ k = 3 then addN N w else N) ∧ fr [484, 496] [470, 474, 478, 482, 490, 494] σ τ ∧
      (∀ f ∈ [470, 474, 478, 482], ∀ i, i ≠ b → ga τ f i = ga σ f i) ∧ ga τ 470 b = k ∧ ga τ 474 b = (q : Int) ∧ ga τ 478 b = (n : Int) ∧ ga τ 482 b = tVal N k w := by
  unfold T_token
  rw [hb, if_pos ⟨by omega, by omega⟩, show ((b : Int)).toNat = b by omega]
  have A : fr [484, 496] [470, 474, 478, 482, 490, 494] σ (ua (ua (ua σ 470 b k) 474 b (q : Int)) 478 b (n : Int)) := fr_ua (fr_ua (fr_ua (fr_refl _ _ σ) (by simp)) (by simp)) (by simp)
  have B0 : ∀ f ∈ [470, 474, 478, 482], ∀ i, i ≠ b → ga (ua (ua (ua σ 470 b k) 474 b (q : Int)) 478 b (n : Int)) f i = ga σ f i := by
    intro f _ i hi
    rw [ga_ua, if_neg (fun z => hi z.2), ga_ua, if_neg (fun z => hi z.2), ga_ua, if_neg (fun z => hi z.2)]
  have B1 : ga (ua (ua (ua σ 470 b k) 474 b (q : Int)) 478 b (n : Int)) 470 b = k := by rw [ga_ua, if_neg (by simp), ga_ua, if_neg (by simp), ga_ua, if_pos ⟨rfl, rfl⟩]
  have B2 : ga (ua (ua (ua σ 470 b k) 474 b (q : Int)) 478 b (n : Int)) 474 b = (q : Int) := by rw [ga_ua, if_neg (by simp), ga_ua, if_pos ⟨rfl, rfl⟩]
  have B3 : ga (ua (ua (ua σ 470 b k) 474 b (q : Int)) 478 b (n : Int)) 478 b = (n : Int) := by rw [ga_ua, if_pos ⟨rfl, rfl⟩]
  have Nu : NT (ua (ua (ua σ 470 b k) 474 b (q : Int)) 478 b (n : Int)) N := NT_fr (fs := []) (as := [470, 474, 478]) (fr_ua (fr_ua (fr_ua (fr_refl _ _ σ) (by simp)) (by simp)) (by simp)) (by simp) (by simp) (by simp) hN
  have Tu : txT (ua (ua (ua σ 470 b k) 474 b (q : Int)) 478 b (n : Int)) S := txT_fr A (by simp) (by simp) T
  have hb' : gs (ua (ua (ua σ 470 b k) 474 b (q : Int)) 478 b (n : Int)) 484 = (b : Int) := hb
  generalize ua (ua (ua σ 470 b k) 474 b (q : Int)) 478 b (n : Int) = υ at A B0 B1 B2 B3 Nu Tu hb' ⊢
  have hend : ∀ (υ' : tS) (x : Int) (N' : List (List Int)), NT υ' N' → fr [496] [490, 494] υ υ' → ∃ τ, T_token_102 (b : Int) x υ' = some τ ∧ gs τ 484 = ((b + 1 : Nat) : Int) ∧ NT τ N' ∧ fr [484, 496] [470, 474, 478, 482, 490, 494] σ τ ∧
      (∀ f ∈ [470, 474, 478, 482], ∀ i, i ≠ b → ga τ f i = ga σ f i) ∧ ga τ 470 b = k ∧ ga τ 474 b = (q : Int) ∧ ga τ 478 b = (n : Int) ∧ ga τ 482 b = x := by
    intro υ' x N' hN' F
    unfold T_token_102
    rw [if_pos ⟨by omega, by omega⟩, F.1 484 (by simp), hb', show ((b : Int)).toNat = b by omega, w32_s (by omega) (by omega)]
    refine ⟨_, rfl, by rw [gs_us, if_pos rfl]; rfl, ?_, ?_, ?_, ?_, ?_, ?_, ?_⟩
    · exact NT_fr (fs := [484]) (as := [482]) (fr_us (fr_ua (fr_refl _ _ υ') (by simp)) (by simp)) (by simp) (by simp) (by simp) hN'
    · exact fr_us (fr_ua (fr_trans A (fr_mono F (by simp) (by simp))) (by simp)) (by simp)
    · intro f hf i hi
      rw [ga_us, ga_ua, if_neg (fun z => hi z.2), F.2 f (by simp only [List.mem_cons, List.not_mem_nil, or_false] at hf ⊢; omega)]
      exact B0 f hf i hi
    · rw [ga_us, ga_ua, if_neg (by simp), F.2 470 (by simp)]; exact B1
    · rw [ga_us, ga_ua, if_neg (by simp), F.2 474 (by simp)]; exact B2
    · rw [ga_us, ga_ua, if_neg (by simp), F.2 478 (by simp)]; exact B3
    · rw [ga_us, ga_ua, if_pos ⟨rfl, rfl⟩]
  by_cases c4 : k = 4
  · obtain ⟨n6, hd⟩ := h4 c4
    have hlen : w.length = n := by rw [← hw]; simp; omega
    have hl := t_tokv4 Tu hqn n6 (by rw [hw]; exact hd) w 0 0 (by simpa using hw) (by omega) (by omega) (by
      have h6 : (10 : Int) ^ w.length ≤ 10 ^ 6 := by
        have := Nat.pow_le_pow_right (n := 10) (by omega) (show w.length ≤ 6 by omega)
        exact_mod_cast this
      have e6 : (10 : Int) ^ 6 = 1000000 := by decide
      omega)
    rw [c4, show ((0 : Int), (0 : Int)) = ((0 : Int), ((0 : Nat) : Int)) from rfl, hl]
    simp only [Option.bind_some]
    unfold T_token_73
    rw [if_neg (by decide), if_pos (by decide), hb']
    have := hend υ (numV 0 w) N Nu (fr_refl _ _ υ)
    simpa [tVal, c4] using this
  · have hl : om_loop (T_token_36s k (q : Int) (n : Int) υ) (0, 0) = some 0 := by
      refine om_loop_out ?_
      unfold T_token_36s
      simp only
      by_cases z : (n : Int) ≤ 0
      · rw [if_pos z]
      · rw [if_neg z, if_pos c4]
    rw [hl]
    simp only [Option.bind_some]
    unfold T_token_73
    by_cases c : k = 2 ∨ k = 3
    · obtain ⟨n10, hm⟩ := h23 c
      obtain ⟨τ1, e1, e2, e3⟩ := t_name Tu Nu hqn hw n10 hm
      have hgo : T_token_91 (q : Int) (n : Int) (b : Int) υ = T_token_102 (b : Int) (N.idxOf w : Int) τ1 := by unfold T_token_91; rw [e1]; rfl
      have := hend τ1 (N.idxOf w : Int) (addN N w) e2 e3
      rw [hb', hgo, if_pos c]
      have hx : tVal N k w = (N.idxOf w : Int) := if_pos c
      rw [hx]
      rcases c with c | c
      · rw [if_pos c]; exact this
      · rw [if_neg (by omega), if_neg (by omega)]; exact this
    · rw [if_neg (fun z => c (.inl z)), if_pos (fun z => c (.inr z)), hb', if_neg c]
      have := hend υ 0 N Nu (fr_refl _ _ υ)
      have hx : tVal N k w = 0 := by unfold tVal; rw [if_neg c, if_neg c4]
      rw [hx]
      exact this
end LT3
