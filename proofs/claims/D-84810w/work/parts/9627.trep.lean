set_option maxRecDepth 100000
/-! THE TWIN'S MACHINE: what stands for dictionaries, things, environments -/
/-- a row of four dictionaries -/
def rowN (a b c d : Int) : Int := (a + 1) + 4096 * (b + 1) + 16777216 * (c + 1) + 68719476736 * (d + 1)
def rIn (rw : Int) (j : Nat) : Int := w32 (l2i (and64 (shr64 rw (w32 (12 * (j : Int)))) 4095) - 1)
def rk (x : Int) : Prop := -1 ≤ x ∧ x < 4094
theorem t_row {a b c d : Int} (ha : rk a) (hb : rk b) (hc : rk c) (hd : rk d) : T_row a b c d = some (rowN a b c d) := by
  unfold rk at ha hb hc hd
  unfold T_row
  have e : ∀ x : Int, -1 ≤ x → x < 4094 → w64 (x + 1) = x + 1 := fun x h1 h2 => w64_eq (by omega) (by omega)
  rw [e a ha.1 ha.2, e b hb.1 hb.2, e c hc.1 hc.2, e d hd.1 hd.2]
  rw [shl_12 (x := b + 1) (by unfold lR; omega) (by unfold lR; omega), shl_24 (x := c + 1) (by unfold lR; omega) (by unfold lR; omega), shl_36 (x := d + 1) (by unfold lR; omega) (by unfold lR; omega)]
  have o1 : or64 (a + 1) (4096 * (b + 1)) = 4096 * (b + 1) + (a + 1) := by rw [or_cm, or_12 (x := 4096 * (b + 1)) (k := a + 1) (by unfold lR; omega) (by omega) (by omega) (by omega)]
  have o2 : or64 (4096 * (b + 1) + (a + 1)) (16777216 * (c + 1)) = 16777216 * (c + 1) + (4096 * (b + 1) + (a + 1)) := by rw [or_cm, or_24 (x := 16777216 * (c + 1)) (k := 4096 * (b + 1) + (a + 1)) (by unfold lR; omega) (by omega) (by omega) (by omega)]
  have o3 : or64 (16777216 * (c + 1) + (4096 * (b + 1) + (a + 1))) (68719476736 * (d + 1)) = 68719476736 * (d + 1) + (16777216 * (c + 1) + (4096 * (b + 1) + (a + 1))) := by rw [or_cm, or_36 (x := 68719476736 * (d + 1)) (k := 16777216 * (c + 1) + (4096 * (b + 1) + (a + 1))) (by unfold lR; omega) (by omega) (by omega) (by omega)]
  rw [o1, o2, o3]
  unfold rowN
  congr 1
  omega
theorem rIn_row {a b c d : Int} (ha : rk a) (hb : rk b) (hc : rk c) (hd : rk d) : rIn (rowN a b c d) 0 = a ∧ rIn (rowN a b c d) 1 = b ∧ rIn (rowN a b c d) 2 = c ∧ rIn (rowN a b c d) 3 = d := by
  unfold rk at ha hb hc hd
  have hr : lR (rowN a b c d) := by unfold lR rowN; omega
  have fin : ∀ y x : Int, y % 4096 = x + 1 → lR y → -1 ≤ x → x < 4094 → w32 (l2i (and64 y 4095) - 1) = x := fun y x e hy h1 h2 => by
    rw [and_12 hy, e, l2i_w, w32_s (x := x + 1) (by omega) (by omega), w32_s (by omega) (by omega)]
    omega
  unfold rIn
  refine ⟨?_, ?_, ?_, ?_⟩
  · rw [show w32 (12 * ((0 : Nat) : Int)) = 0 by decide, shr_0 hr]
    exact fin _ a (by unfold rowN; omega) (by unfold lR rowN; omega) ha.1 ha.2
  · rw [show w32 (12 * ((1 : Nat) : Int)) = 12 by decide, shr_12 hr]
    exact fin _ b (by unfold rowN; omega) (by unfold lR rowN; omega) hb.1 hb.2
  · rw [show w32 (12 * ((2 : Nat) : Int)) = 24 by decide, shr_24 hr]
    exact fin _ c (by unfold rowN; omega) (by unfold lR rowN; omega) hc.1 hc.2
  · rw [show w32 (12 * ((3 : Nat) : Int)) = 36 by decide, shr_36 hr]
    exact fin _ d (by unfold rowN; omega) (by unfold lR rowN; omega) hd.1 hd.2
theorem t_inRow {js : Nat → Int} {n : Int} (hn : n < 4094) (h : ∀ j, -1 ≤ js j ∧ js j < n) {j : Nat} (hj : j < 4) : T_inRow (rowN (js 0) (js 1) (js 2) (js 3)) (j : Int) = some (js j) := by
  have rkj : ∀ j, rk (js j) := fun j => ⟨(h j).1, by have := (h j).2; omega⟩
  obtain ⟨h0, h1, h2, h3⟩ := rIn_row (rkj 0) (rkj 1) (rkj 2) (rkj 3)
  show some (rIn (rowN (js 0) (js 1) (js 2) (js 3)) j) = some (js j)
  have : j = 0 ∨ j = 1 ∨ j = 2 ∨ j = 3 := by omega
  rcases this with e | e | e | e
  · rw [e, h0]
  · rw [e, h1]
  · rw [e, h2]
  · rw [e, h3]
/-- a dictionary of a class for a closed type, by its number -/
def dcW (ins : List INs) (σ : tS) : Ty → Nat → Int → Prop
  | .leaf, _, _ => False
  | .inner k0 w _ l r, c, x => k0 = 1 ∧ ∃ (k i : Nat) (d : INs) (js : Nat → Int), x = (k : Int) ∧ (k : Int) < gs σ 964 ∧ iOf ins c w = some i ∧ ins[i]? = some d ∧ ga σ 958 k = (i : Int) ∧ (∀ j, -1 ≤ js j ∧ js j < (k : Int)) ∧ ga σ 962 k = rowN (js 0) (js 1) (js 2) (js 3) ∧ ∀ (j : Nat) (p : Nat × Nat), d.2.2.2.1[j]? = some p → (p.2 = 0 → dcW ins σ l p.1 (js j)) ∧ (p.2 ≠ 0 → dcW ins σ r p.1 (js j))
/-- the row of an owner -/
def rTw (ins : List INs) (σ : tS) (gv : List GVs) (θ : Nat → Ty) (row : Int) : Prop := ∃ js : Nat → Int, (∀ j, -1 ≤ js j ∧ js j < gs σ 964) ∧ row = rowN (js 0) (js 1) (js 2) (js 3) ∧ ∀ (j : Nat) (g : GVs), gv[j]? = some g → g.1 < 100 → dcW ins σ (θ g.2.1) g.1 (js j)
def owT (o : Nat) : Int := if o < 200 then (o : Int) else -1
/-- things (true) and environments (false); cd: an ex of an owner by its node -/
def vTw (M : MPg) (cd : Nat → Et → Int → Prop) (σ : tS) : Vt → Bool → Int → Prop
  | .leaf, true, _ => False
  | .leaf, false, x => x = -1
  | .inner t a _ l r, true, x => (t = 1 ∧ x = 8 * a.1) ∨ (t = 2 ∧ x = 8 * a.1 + 1) ∨ (t = 3 ∧ a.1 = 0 ∧ x = 2) ∨ (t = 3 ∧ a.1 ≠ 0 ∧ x = 8 * a.1 + 6) ∨ ∃ k : Nat, (k : Int) < gs σ 952 ∧ ((t = 4 ∧ x = 8 * (k : Int) + 3 ∧ vTw M cd σ l true (ga σ 930 k) ∧ vTw M cd σ r true (ga σ 934 k)) ∨ (t = 5 ∧ x = 8 * (k : Int) + 4 ∧ vTw M cd σ l true (ga σ 930 k) ∧ vTw M cd σ r true (ga σ 934 k)) ∨ (t = 6 ∧ x = 8 * (k : Int) + 7 ∧ vTw M cd σ l true (ga σ 930 k) ∧ ga σ 934 k = a.1) ∨ (t = 7 ∧ x = 8 * (k : Int) + 5 ∧ cd a.2.1.1 a.2.2 (ga σ 938 k) ∧ vTw M cd σ l false (ga σ 942 k) ∧ ga σ 946 k = owT a.2.1.1 ∧ rTw M.2.2.2 σ (gvW M a.2.1.1) a.2.1.2 (ga σ 950 k)))
  | .inner t _ _ l r, false, x => t = 8 ∧ ∃ k : Nat, x = (k : Int) ∧ (k : Int) < gs σ 924 ∧ ga σ 914 k < (k : Int) ∧ vTw M cd σ r false (ga σ 914 k) ∧ ga σ 918 k = ((xls r).length : Int) ∧ vTw M cd σ l true (ga σ 922 k)
/-- more things, names, dictionaries -/
def mGr (σ τ : tS) : Prop := (gs σ 952 ≤ gs τ 952 ∧ ∀ f ∈ [930, 934, 938, 942, 946, 950], ∀ k : Nat, (k : Int) < gs σ 952 → ga τ f k = ga σ f k) ∧ (gs σ 924 ≤ gs τ 924 ∧ ∀ f ∈ [914, 918, 922], ∀ k : Nat, (k : Int) < gs σ 924 → ga τ f k = ga σ f k) ∧ gs σ 964 ≤ gs τ 964 ∧ ∀ f ∈ [958, 962], ∀ k : Nat, (k : Int) < gs σ 964 → ga τ f k = ga σ f k
section LTR
variable {M : MPg} {cd : Nat → Et → Int → Prop} {ins : List INs} {σ τ υ : tS}
theorem mGr_refl (σ : tS) : mGr σ σ := ⟨⟨Int.le_refl _, fun _ _ _ _ => rfl⟩, ⟨Int.le_refl _, fun _ _ _ _ => rfl⟩, Int.le_refl _, fun _ _ _ _ => rfl⟩
theorem mGr_trans (A : mGr σ τ) (B : mGr τ υ) : mGr σ υ := by
  obtain ⟨⟨a1, a2⟩, ⟨a3, a4⟩, a5, a6⟩ := A
  obtain ⟨⟨b1, b2⟩, ⟨b3, b4⟩, b5, b6⟩ := B
  exact ⟨⟨by omega, fun f hf k hk => (b2 f hf k (by omega)).trans (a2 f hf k hk)⟩, ⟨by omega, fun f hf k hk => (b4 f hf k (by omega)).trans (a4 f hf k hk)⟩, by omega, fun f hf k hk => (b6 f hf k (by omega)).trans (a6 f hf k hk)⟩
theorem mGr_fr {fs as : List Nat} (F : fr fs as σ τ) (h1 : ∀ f ∈ [952, 924, 964], f ∉ fs) (h2 : ∀ f ∈ [930, 934, 938, 942, 946, 950, 914, 918, 922, 958, 962], f ∉ as) : mGr σ τ := by
  refine ⟨⟨by rw [F.1 952 (h1 952 (by decide))]; exact Int.le_refl _, fun f hf k _ => F.2 f (h2 f ?_) k⟩, ⟨by rw [F.1 924 (h1 924 (by decide))]; exact Int.le_refl _, fun f hf k _ => F.2 f (h2 f ?_) k⟩, by rw [F.1 964 (h1 964 (by decide))]; exact Int.le_refl _, fun f hf k _ => F.2 f (h2 f ?_) k⟩
  · simp only [List.mem_cons, List.not_mem_nil, or_false] at hf ⊢
    omega
  · simp only [List.mem_cons, List.not_mem_nil, or_false] at hf ⊢
    omega
  · simp only [List.mem_cons, List.not_mem_nil, or_false] at hf ⊢
    omega
theorem dcW_gr (G : mGr σ τ) : ∀ {T : Ty} {c : Nat} {x : Int}, dcW ins σ T c x → dcW ins τ T c x
  | .leaf, _, _, h => h
  | .inner _ _ _ _ _, _, _, ⟨k0, k, i, d, js, h1, h2, h3, h4, h5, h6, h7, h8⟩ => ⟨k0, k, i, d, js, h1, by have := G.2.2.1; omega, h3, h4, by rw [G.2.2.2 958 (by decide) k h2]; exact h5, h6, by rw [G.2.2.2 962 (by decide) k h2]; exact h7, fun j p e => ⟨fun z => dcW_gr G ((h8 j p e).1 z), fun z => dcW_gr G ((h8 j p e).2 z)⟩⟩
theorem rTw_gr (G : mGr σ τ) {gv : List GVs} {θ : Nat → Ty} {row : Int} (h : rTw ins σ gv θ row) : rTw ins τ gv θ row := by
  obtain ⟨js, h1, h2, h3⟩ := h
  exact ⟨js, fun j => ⟨(h1 j).1, by have := (h1 j).2; have := G.2.2.1; omega⟩, h2, fun j g e c => dcW_gr G (h3 j g e c)⟩
theorem vTw_gr (G : mGr σ τ) : ∀ {v : Vt} {b : Bool} {x : Int}, vTw M cd σ v b x → vTw M cd τ v b x
  | .leaf, true, _, h => h
  | .leaf, false, _, h => h
  | .inner t a u l r, true, x, h => by
    have g := G.1.2
    rcases h with h | h | h | h | ⟨k, hk, h⟩
    · exact .inl h
    · exact .inr (.inl h)
    · exact .inr (.inr (.inl h))
    · exact .inr (.inr (.inr (.inl h)))
    · refine .inr (.inr (.inr (.inr ⟨k, by have := G.1.1; omega, ?_⟩)))
      rw [g 930 (by decide) k hk, g 934 (by decide) k hk, g 938 (by decide) k hk, g 942 (by decide) k hk, g 946 (by decide) k hk, g 950 (by decide) k hk]
      rcases h with ⟨h1, h2, h3, h4⟩ | ⟨h1, h2, h3, h4⟩ | ⟨h1, h2, h3, h4⟩ | ⟨h1, h2, h3, h4, h5, h6⟩
      · exact .inl ⟨h1, h2, vTw_gr G h3, vTw_gr G h4⟩
      · exact .inr (.inl ⟨h1, h2, vTw_gr G h3, vTw_gr G h4⟩)
      · exact .inr (.inr (.inl ⟨h1, h2, vTw_gr G h3, h4⟩))
      · exact .inr (.inr (.inr ⟨h1, h2, h3, vTw_gr G h4, h5, rTw_gr G h6⟩))
  | .inner t a u l r, false, x, ⟨h1, k, h2, h3, h0, h4, h5, h6⟩ => by
    have g := G.2.1.2
    refine ⟨h1, k, h2, by have := G.2.1.1; omega, by rw [g 914 (by decide) k h3]; exact h0, ?_, ?_, ?_⟩
    · rw [g 914 (by decide) k h3]; exact vTw_gr G h4
    · rw [g 918 (by decide) k h3]; exact h5
    · rw [g 922 (by decide) k h3]; exact vTw_gr G h6
theorem env_len : ∀ {en : Vt} {x : Int}, vTw M cd σ en false x → ((xls en).length : Int) ≤ x + 1
  | .leaf, x, h => by
    have h' : x = -1 := h
    rw [h']
    exact Int.le_refl _
  | .inner t a u l r, x, ⟨h1, k, h2, h3, h0, h4, h5, h6⟩ => by
    have := env_len h4
    show ((xls r ++ [l]).length : Int) ≤ x + 1
    rw [List.length_append, List.length_singleton]
    omega
/-- how high a dictionary that is there is -/
theorem dcW_hgt : ∀ {T : Ty} {c : Nat} {x : Int}, dcW ins σ T c x → (hgt ins T c : Int) ≤ x + 1
  | .leaf, _, _, h => h.elim
  | .inner k0 w u l r, c, x, ⟨_, k, i, d, js, h1, h2, h3, h4, h5, h6, h7, h8⟩ => by
    rw [hgt_in (k := k0) (u := u) (l := l) (r := r) h3 h4]
    have : (d.2.2.2.1.map (fun p => if p.2 = 0 then hgt ins l p.1 else hgt ins r p.1)).foldl max 0 ≤ k := by
      refine foldl_le _ _ _ (Nat.zero_le _) (fun y hy => ?_)
      obtain ⟨p, hp, ey⟩ := List.mem_map.mp hy
      obtain ⟨j, jl, je⟩ := List.getElem_of_mem hp
      obtain ⟨g1, g2⟩ := h8 j p (by rw [List.getElem?_eq_getElem jl, je])
      have := (h6 j).2
      rw [← ey]
      show (if p.2 = 0 then hgt ins l p.1 else hgt ins r p.1) ≤ k
      by_cases q : p.2 = 0
      · rw [if_pos q]
        have := dcW_hgt (g1 q)
        omega
      · rw [if_neg q]
        have := dcW_hgt (g2 q)
        omega
    omega
theorem dcW_had : ∀ {T : Ty} {c : Nat} {x : Int}, dcW ins σ T c x → cHd ins T c
  | .leaf, _, _, h => h.elim
  | .inner k0 w u l r, c, x, ⟨k0', k, i, d, js, h1, h2, h3, h4, h5, h6, h7, h8⟩ => ⟨k0', i, d, h3, h4, fun p hp => by
    obtain ⟨j, jl, je⟩ := List.getElem_of_mem hp
    obtain ⟨g1, g2⟩ := h8 j p (by rw [List.getElem?_eq_getElem jl, je])
    exact ⟨fun z => dcW_had (g1 z), fun z => dcW_had (g2 z)⟩⟩
end LTR
