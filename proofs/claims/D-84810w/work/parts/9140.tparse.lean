set_option maxRecDepth 100000
/-! THE TWIN READS: tokens by their numbers -/
abbrev PF : List Nat := [432, 436, 452, 456, 564]
abbrev PA : List Nat := [538, 542, 546, 550, 554, 558, 562]
/-- the tokens of a text lie from b on, the end's is the m-th -/
def TT (σ : tS) (N : List (List Int)) (S : List Int) (b m : Nat) : Prop := (∀ j, j ≤ m → TKi σ N S b j) ∧ b + m < 4100 ∧ tokk S m = 0 ∧ ∀ j, j < m → tokk S j ≠ 0
/-- the twin stands at a token; so many things are begun, so many nodes there -/
def Tst (σ : tS) (N : List (List Int)) (S : List Int) (b m i : Nat) (n : Int) (M : Nat) : Prop := TT σ N S b m ∧ gs σ 432 = ((b + i : Nat) : Int) ∧ i ≤ m ∧ gs σ 436 = n ∧ gs σ 452 = 0 ∧ gs σ 564 = (M : Int)
/-- a fault of the grammar was found -/
def Tfl (σ : tS) (N : List (List Int)) (S : List Int) (b m : Nat) (p : Int) (n : Int) (M : Nat) : Prop := TT σ N S b m ∧ (∃ i, i ≤ m ∧ gs σ 432 = ((b + i : Nat) : Int)) ∧ gs σ 436 = n ∧ gs σ 452 = 1 ∧ gs σ 456 = p ∧ gs σ 564 = (M : Int)
/-- what reading leaves as it was: all but its own; of the nodes those that were there -/
def nd (σ τ : tS) (M : Nat) : Prop := fr PF PA σ τ ∧ ∀ f ∈ PA, ∀ i, i < M → ga τ f i = ga σ f i
theorem nd_refl (σ : tS) (M : Nat) : nd σ σ M := ⟨fr_refl _ _ _, fun _ _ _ _ => rfl⟩
theorem nd_trans {σ τ υ : tS} {M M' : Nat} (A : nd σ τ M) (B : nd τ υ M') (h : M ≤ M') : nd σ υ M := ⟨fr_trans A.1 B.1, fun f hf i hi => (B.2 f hf i (by omega)).trans (A.2 f hf i hi)⟩
theorem TT_fr {σ τ : tS} {N : List (List Int)} {S : List Int} {b m : Nat} (A : fr PF PA σ τ) (T : TT σ N S b m) : TT τ N S b m := ⟨fun j hj => TKi_eq (fun f hf => A.2 f (by simp only [List.mem_cons, List.not_mem_nil, or_false] at hf ⊢; omega) _) (T.1 j hj), T.2⟩
section LT6
variable {σ : tS} {N : List (List Int)} {S : List Int} {b m i : Nat} {n : Int} {M : Nat} {p : Int}
theorem t_is (H : Tst σ N S b m i n M) (k : Int) : T_is k σ = some (if tokk S i = k then 1 else 0) := by
  obtain ⟨T, ha, hi, hn, hf, hM⟩ := H
  unfold T_is T_is_18
  rw [ha, if_pos ⟨by omega, by have := T.2.1; omega⟩, show (((b + i : Nat) : Int)).toNat = b + i by omega, (T.1 i hi).1]
  by_cases c : tokk S i = k
  · rw [if_neg (fun z => z c), if_pos c]; rfl
  · rw [if_pos c, if_neg c]; rfl
theorem t_isF (H : Tfl σ N S b m p n M) (k : Int) : ∃ x, T_is k σ = some x := by
  obtain ⟨T, ⟨i, hi, ha⟩, hn, hf, hp, hM⟩ := H
  unfold T_is T_is_18
  rw [ha, if_pos ⟨by omega, by have := T.2.1; omega⟩]
  by_cases c : ga σ 470 (((b + i : Nat) : Int)).toNat ≠ k
  · exact ⟨0, by rw [if_pos c]; rfl⟩
  · exact ⟨1, by rw [if_neg c]; rfl⟩
theorem Tst_at (H : Tst σ N S b m i n M) (hk : tokk S i ≠ 0) : Tst (us σ 432 ((b + (i + 1) : Nat) : Int)) N S b m (i + 1) n M ∧ nd σ (us σ 432 ((b + (i + 1) : Nat) : Int)) M := by
  obtain ⟨T, ha, hi, hn, hf, hM⟩ := H
  have A : fr PF PA σ (us σ 432 ((b + (i + 1) : Nat) : Int)) := fr_us (fr_refl _ _ _) (by simp)
  refine ⟨⟨TT_fr A T, by rw [gs_us, if_pos rfl], ?_, by rw [gs_us, if_neg (by decide)]; exact hn, by rw [gs_us, if_neg (by decide)]; exact hf, by rw [gs_us, if_neg (by decide)]; exact hM⟩, A, fun _ _ _ _ => rfl⟩
  by_cases c : i = m
  · rw [c, T.2.2.1] at hk
    exact absurd rfl hk
  · omega
theorem t_takes (H : Tst σ N S b m i n M) {k : Int} (hk0 : k ≠ 0) : (tokk S i = k → ∃ τ, T_takes k σ = some (1, τ) ∧ Tst τ N S b m (i + 1) n M ∧ nd σ τ M) ∧ (tokk S i ≠ k → T_takes k σ = some (0, σ)) := by
  have H0 := H
  obtain ⟨T, ha, hi, hn, hf, hM⟩ := H
  unfold T_takes
  rw [hf, if_neg (by decide), ha, if_pos ⟨by omega, by have := T.2.1; omega⟩, show (((b + i : Nat) : Int)).toNat = b + i by omega, (T.1 i hi).1, w32_s (by have := T.2.1; omega) (by have := T.2.1; omega)]
  refine ⟨fun c => ?_, fun c => by rw [if_neg c]⟩
  have h1 := Tst_at H0 (by omega)
  refine ⟨us σ 432 ((b + (i + 1) : Nat) : Int), ?_, h1⟩
  rw [if_pos c, show ((b + i : Nat) : Int) + 1 = ((b + (i + 1) : Nat) : Int) by omega]
theorem t_takesF (H : Tfl σ N S b m p n M) (k : Int) : T_takes k σ = some (0, σ) := by
  unfold T_takes
  rw [H.2.2.2.1, if_pos (by decide)]
theorem t_wrong (H : Tst σ N S b m i n M) : ∃ τ, T_wrong σ = some τ ∧ Tfl τ N S b m (tokq S i) n M ∧ nd σ τ M := by
  obtain ⟨T, ha, hi, hn, hf, hM⟩ := H
  unfold T_wrong
  rw [hf, if_pos rfl, ha, if_pos ⟨by omega, by have := T.2.1; omega⟩, show (((b + i : Nat) : Int)).toNat = b + i by omega, (T.1 i hi).2.1]
  have A : fr PF PA σ (us (us σ 452 1) 456 (tokq S i : Int)) := fr_us (fr_us (fr_refl _ _ _) (by simp)) (by simp)
  refine ⟨_, rfl, ⟨TT_fr A T, ⟨i, hi, ?_⟩, ?_, ?_, ?_, ?_⟩, A, fun _ _ _ _ => rfl⟩
  · rw [gs_us, if_neg (by decide), gs_us, if_neg (by decide)]; exact ha
  · rw [gs_us, if_neg (by decide), gs_us, if_neg (by decide)]; exact hn
  · rw [gs_us, if_neg (by decide), gs_us, if_pos rfl]
  · rw [gs_us, if_pos rfl]
  · rw [gs_us, if_neg (by decide), gs_us, if_neg (by decide)]; exact hM
theorem t_wrongF (H : Tfl σ N S b m p n M) : T_wrong σ = some σ := by
  unfold T_wrong
  rw [H.2.2.2.1, if_neg (by decide)]
theorem t_need (H : Tst σ N S b m i n M) {k : Int} (hk0 : k ≠ 0) : (tokk S i = k → ∃ τ, T_need k σ = some τ ∧ Tst τ N S b m (i + 1) n M ∧ nd σ τ M) ∧ (tokk S i ≠ k → ∃ τ, T_need k σ = some τ ∧ Tfl τ N S b m (tokq S i) n M ∧ nd σ τ M) := by
  obtain ⟨p1, p2⟩ := t_takes H hk0
  unfold T_need
  refine ⟨fun c => ?_, fun c => ?_⟩
  · obtain ⟨τ, e1, e2, e3⟩ := p1 c
    refine ⟨τ, ?_, e2, e3⟩
    rw [e1]; simp
  · obtain ⟨τ, e1, e2, e3⟩ := t_wrong H
    refine ⟨τ, ?_, e2, e3⟩
    rw [p2 c]
    simp [e1]
theorem t_needF (H : Tfl σ N S b m p n M) (k : Int) : T_need k σ = some σ := by
  unfold T_need
  rw [t_takesF H]
  simp [t_wrongF H]
theorem t_needed (H : Tst σ N S b m i n M) {k : Int} (hk0 : k ≠ 0) : (tokk S i = k → ∃ τ, T_needed k σ = some (((b + i : Nat) : Int), τ) ∧ Tst τ N S b m (i + 1) n M ∧ nd σ τ M) ∧ (tokk S i ≠ k → ∃ τ, T_needed k σ = some (((b + i : Nat) : Int), τ) ∧ Tfl τ N S b m (tokq S i) n M ∧ nd σ τ M) := by
  obtain ⟨p1, p2⟩ := t_need H hk0
  unfold T_needed
  rw [H.2.1]
  refine ⟨fun c => ?_, fun c => ?_⟩
  · obtain ⟨τ, e1, e2⟩ := p1 c
    exact ⟨τ, by rw [e1]; rfl, e2⟩
  · obtain ⟨τ, e1, e2⟩ := p2 c
    exact ⟨τ, by rw [e1]; rfl, e2⟩
theorem t_neededF (H : Tfl σ N S b m p n M) (k : Int) : T_needed k σ = some (gs σ 432, σ) := by
  unfold T_needed
  rw [t_needF H]; rfl
theorem Tst_beg {x : Int} (H : Tst σ N S b m i n M) : Tst (us σ 436 x) N S b m i x M ∧ nd σ (us σ 436 x) M := by
  obtain ⟨T, ha, hi, hn, hf, hM⟩ := H
  have A : fr PF PA σ (us σ 436 x) := fr_us (fr_refl _ _ _) (by simp)
  exact ⟨⟨TT_fr A T, by rw [gs_us, if_neg (by decide)]; exact ha, hi, by rw [gs_us, if_pos rfl], by rw [gs_us, if_neg (by decide)]; exact hf, by rw [gs_us, if_neg (by decide)]; exact hM⟩, A, fun _ _ _ _ => rfl⟩
theorem Tfl_beg {x : Int} (H : Tfl σ N S b m p n M) : Tfl (us σ 436 x) N S b m p x M ∧ nd σ (us σ 436 x) M := by
  obtain ⟨T, ⟨i, hi, ha⟩, hn, hf, hp, hM⟩ := H
  have A : fr PF PA σ (us σ 436 x) := fr_us (fr_refl _ _ _) (by simp)
  exact ⟨⟨TT_fr A T, ⟨i, hi, by rw [gs_us, if_neg (by decide)]; exact ha⟩, by rw [gs_us, if_pos rfl], by rw [gs_us, if_neg (by decide)]; exact hf, by rw [gs_us, if_neg (by decide)]; exact hp, by rw [gs_us, if_neg (by decide)]; exact hM⟩, A, fun _ _ _ _ => rfl⟩
theorem t_enter (H : Tst σ N S b m i n M) (hn : 0 ≤ n ∧ n ≤ 20) : (n ≠ 20 → ∃ τ, T_enter σ = some τ ∧ Tst τ N S b m i (n + 1) M ∧ nd σ τ M) ∧ (n = 20 → ∃ τ, T_enter σ = some τ ∧ Tfl τ N S b m (tokq S i) (n + 1) M ∧ nd σ τ M) := by
  unfold T_enter
  have h436 : gs σ 436 = n := H.2.2.2.1
  rw [h436]
  refine ⟨fun c => ?_, fun c => ?_⟩
  · rw [if_pos c, w32_s (by omega) (by omega)]
    exact ⟨_, rfl, Tst_beg H⟩
  · obtain ⟨τ, e1, e2, e3⟩ := t_wrong H
    rw [if_neg (fun z => z c), e1]
    simp only [Option.bind_some]
    rw [e2.2.2.1, w32_s (by omega) (by omega)]
    exact ⟨_, rfl, (Tfl_beg e2).1, nd_trans e3 (Tfl_beg e2).2 (Nat.le_refl _)⟩
theorem t_enterF (H : Tfl σ N S b m p n M) (hn : 0 ≤ n ∧ n ≤ 1000) : ∃ τ, T_enter σ = some τ ∧ Tfl τ N S b m p (n + 1) M ∧ nd σ τ M := by
  unfold T_enter
  rw [H.2.2.1]
  by_cases c : n ≠ 20
  · rw [if_pos c, w32_s (by omega) (by omega)]
    exact ⟨_, rfl, Tfl_beg H⟩
  · rw [if_neg c, t_wrongF H]
    simp only [Option.bind_some]
    rw [H.2.2.1, w32_s (by omega) (by omega)]
    exact ⟨_, rfl, Tfl_beg H⟩
/-- a node's cells -/
def node (σ : tS) (i : Nat) (k t a b c d x : Int) : Prop := ga σ 538 i = k ∧ ga σ 542 i = t ∧ ga σ 546 i = a ∧ ga σ 550 i = b ∧ ga σ 554 i = c ∧ ga σ 558 i = d ∧ ga σ 562 i = x
theorem t_node0 (hM : gs σ 564 = (M : Int)) (h84 : M < 8400) (k t a bb c d : Int) : ∃ τ, T_node k t a bb c d σ = some ((M : Int), τ) ∧ gs τ 564 = ((M + 1 : Nat) : Int) ∧ node τ M k t a bb c d (-1) ∧ nd σ τ M ∧ (∀ f, f ≠ 564 → gs τ f = gs σ f) ∧ (∀ f ∈ PA, ∀ i, i ≠ M → ga τ f i = ga σ f i) := by
  unfold T_node
  rw [hM, if_pos ⟨by omega, by omega⟩, show ((M : Int)).toNat = M by omega, w32_s (by omega) (by omega)]
  refine ⟨_, rfl, ?_, ⟨?_, ?_, ?_, ?_, ?_, ?_, ?_⟩, ⟨?_, ?_⟩, ?_, ?_⟩
  · simp only [gs_ua, gs_us, if_true]; rfl
  · simp [ga_ua]
  · simp [ga_ua]
  · simp [ga_ua]
  · simp [ga_ua]
  · simp [ga_ua]
  · simp [ga_ua]
  · simp [ga_ua]
  · exact fr_ua (fr_ua (fr_ua (fr_ua (fr_ua (fr_ua (fr_ua (fr_us (fr_refl _ _ _) (by simp)) (by simp)) (by simp)) (by simp)) (by simp)) (by simp)) (by simp)) (by simp)
  · intro f _ i hi
    have : i ≠ M := by omega
    simp [ga_ua, ga_us, this]
  · intro f hf
    simp [gs_ua, gs_us, hf]
  · intro f _ i hi
    simp [ga_ua, ga_us, hi]
theorem t_node (H : Tst σ N S b m i n M) (h84 : M < 8400) (k t a bb c d : Int) : ∃ τ, T_node k t a bb c d σ = some ((M : Int), τ) ∧ Tst τ N S b m i n (M + 1) ∧ node τ M k t a bb c d (-1) ∧ nd σ τ M ∧ (∀ f ∈ PA, ∀ i, i ≠ M → ga τ f i = ga σ f i) := by
  obtain ⟨τ, e1, e2, e3, e4, e5, e6⟩ := t_node0 H.2.2.2.2.2 h84 k t a bb c d
  exact ⟨τ, e1, ⟨TT_fr e4.1 H.1, by rw [e5 _ (by decide)]; exact H.2.1, H.2.2.1, by rw [e5 _ (by decide)]; exact H.2.2.2.1, by rw [e5 _ (by decide)]; exact H.2.2.2.2.1, e2⟩, e3, e4, e6⟩
theorem t_nodeF (H : Tfl σ N S b m p n M) (h84 : M < 8400) (k t a bb c d : Int) : ∃ τ, T_node k t a bb c d σ = some ((M : Int), τ) ∧ Tfl τ N S b m p n (M + 1) ∧ nd σ τ M := by
  obtain ⟨τ, e1, e2, e3, e4, e5, e6⟩ := t_node0 H.2.2.2.2.2 h84 k t a bb c d
  obtain ⟨i, hi, ha⟩ := H.2.1
  exact ⟨τ, e1, ⟨TT_fr e4.1 H.1, ⟨i, hi, by rw [e5 _ (by decide)]; exact ha⟩, by rw [e5 _ (by decide)]; exact H.2.2.1, by rw [e5 _ (by decide)]; exact H.2.2.2.1, by rw [e5 _ (by decide)]; exact H.2.2.2.2.1, e2⟩, e4⟩
theorem t_isPiece (H : Tst σ N S b m i n M) : T_isPiece σ = some (if tokk S i = 3 ∨ tokk S i = 2 ∨ tokk S i = 40 then 1 else 0) := by
  unfold T_isPiece T_isPiece_37
  rw [H.2.2.2.2.1, if_neg (by decide), t_is H, t_is H, t_is H]
  simp only [Option.bind_some]
  by_cases c1 : tokk S i = 3
  · simp [c1]
  · by_cases c2 : tokk S i = 2
    · simp [c2]
    · by_cases c3 : tokk S i = 40 <;> simp [c1, c2, c3]
theorem t_isPieceF (H : Tfl σ N S b m p n M) : T_isPiece σ = some 0 := by
  unfold T_isPiece T_isPiece_37
  rw [H.2.2.2.1, if_pos (by decide)]
  simp
end LT6
