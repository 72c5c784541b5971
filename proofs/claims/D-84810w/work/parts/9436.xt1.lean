set_option maxRecDepth 100000
/-! EXS THAT ARE KNOWN, AS TREES: the plain cases -/
/-- exs of a depth are trees -/
def XI (G : om_G) (A : Nat) (S : List Int) (b : Nat) (N : List (List Int)) (cs : List Nat) (rest : List (Nat × List Nat)) (fo : List Nat) (F : FT) (mo : List (List Nat)) (Ms : List FT) (fo' mo' : Nat → Nat) (E : JE) (Sl : Nat → Prop) (y0 z0 : Nat) (h : om_H) (us : List Nat) (σ : tS) (n k : Nat) : Prop := ∀ d lo hi alo ahi a v, XS G A S b h σ (Psi1 S b N cs rest fo F mo Ms z0 h us σ n) k d lo hi alo ahi a v → hi ≤ 2700 → ahi ≤ hz h → y0 ≤ alo → ∃ t, XO G N (clF cs) (UU us rest) Sl fo' mo' E h σ n t d k lo hi alo ahi a v
theorem numV_nn {v : Int} : ∀ {w : List Int}, 0 ≤ v → (∀ c ∈ w, 48 ≤ c) → 0 ≤ numV v w
  | [], hv, _ => hv
  | c :: w, hv, hw => by
    have hc := hw c List.mem_cons_self
    show 0 ≤ numV (10 * v + (c - 48)) w
    exact numV_nn (by omega) (fun x hx => hw x (List.mem_cons_of_mem _ hx))
theorem num_nn {h : om_H} {A : Nat} {S : List Int} (X : txC h A S) {j : Nat} (tk' : tokk S j = 4) : 0 ≤ numV 0 (tokw S j) := by
  have d : ∀ x ∈ (tokw S j).map u8, 48 ≤ x ∧ x ≤ 57 := by
    rw [← tokw_u8]
    exact tk_dig tk'
  refine numV_nn (Int.le_refl _) (fun c hc => ?_)
  have h1 := X.2.2.2.2 c (List.mem_of_mem_drop (List.mem_of_mem_take hc))
  have h2 := d (u8 c) (List.mem_map_of_mem hc)
  unfold u8 at h2
  omega
/-- numbers are small -/
theorem tk_6 {L : List Int} (h : (tk L).1 = 4) : (tk L).2 ≤ 6 := by
  cases L with
  | nil => simp [tk] at h
  | cons c r =>
    by_cases cl : (cSm c || cGr c) = true
    · rw [tk_al cl] at h
      simp only at h
      have := wordK_r ((c :: r).take ((c :: r).takeWhile cAl).length)
      split at h
      · omega
      · split at h <;> omega
    · by_cases cd : cDg c = true
      · rw [tk_dg cl cd] at h ⊢
        simp only at h ⊢
        split at h
        · omega
        · rename_i q
          simp only [Bool.or_eq_true, decide_eq_true_eq, not_or] at q
          omega
      · have hc : cSm c = false ∧ cGr c = false ∧ cDg c = false := by
          simp only [Bool.or_eq_true, not_or, Bool.not_eq_true] at cl cd
          exact ⟨cl.1, cl.2, cd⟩
        rw [tk_sg hc] at h
        split at h
        · omega
        · split at h
          · omega
          · split at h
            · rename_i q; have := cSg_r q; omega
            · omega
theorem num_lt {h : om_H} {A : Nat} {S : List Int} (X : txC h A S) {j : Nat} (tk' : tokk S j = 4) : numV 0 (tokw S j) < 1000000 := by
  have d : ∀ x ∈ (tokw S j).map u8, 48 ≤ x ∧ x ≤ 57 := by
    rw [← tokw_u8]
    exact tk_dig tk'
  have l6 : (tokw S j).length ≤ 6 := by
    have h6 : tokn S j ≤ 6 := tk_6 tk'
    unfold tokw
    exact Nat.le_trans (List.length_take_le _ _) h6
  have q := (numV_lt (tokw S j) 0 (fun c hc => by
    have h1 := X.2.2.2.2 c (List.mem_of_mem_drop (List.mem_of_mem_take hc))
    have h2 := d (u8 c) (List.mem_map_of_mem hc)
    unfold u8 at h2
    omega) (Int.le_refl _)).2
  generalize (tokw S j).length = k at l6 q
  have hk : k = 0 ∨ k = 1 ∨ k = 2 ∨ k = 3 ∨ k = 4 ∨ k = 5 ∨ k = 6 := by omega
  rcases hk with e | e | e | e | e | e | e
  all_goals
    rw [e] at q
    exact Int.lt_of_lt_of_le q (by decide)
section LX1
variable {G : om_G} {A : Nat} {S : List Int} {b m : Nat} {N : List (List Int)} {cs : List Nat} {rest : List (Nat × List Nat)} {fo : List Nat} {F : FT} {mo : List (List Nat)} {Ms : List FT} {fo' mo' : Nat → Nat} {E : JE} {Sl : Nat → Prop} {y0 z0 : Nat} {h : om_H} {us : List Nat} {σ : tS} {n d k lo hi alo ahi a v : Nat}
theorem TT_nz {j : Nat} (T : TT σ N S b m) (e : tokk S (j + 1) ≠ 0) : tokk S j ≠ 0 := T.2.2.2 j (by have := TT_lt T e; omega)
/-- a word and its name -/
theorem tk_wN (X : XH G A S b m N fo F mo Ms fo' mo' E Sl y0 z0 h σ n) {j wo : Nat} (tk : tokk S j = 2) (lw : wo < hz h) (W : wd h A S wo j) : ∃ w, wN h N w wo ∧ ga σ 482 (b + j) = (w : Int) ∧ b + j < 4100 ∧ w < 2100 := by
  obtain ⟨w, w1, w2, w3, w4⟩ := tk_nm X.1.1 X.1.2.2.1 tk lw W
  exact ⟨w, w1, w2, w4, (X.1.2.1 w _ w3).1⟩
/-- a plain name -/
theorem xt_10 (X : XH G A S b m N fo F mo Ms fo' mo' E Sl y0 z0 h σ n) (i1 : lo ≤ v ∧ v < hi) (i2 : alo ≤ a ∧ a < ahi) (h27 : hi ≤ 2700) (hA : ahi ≤ hz h) (w : X10 A S b h σ (Psi1 S b N cs rest fo F mo Ms z0 h us σ n d) lo hi alo ahi a v) : ∃ t, XO G N (clF cs) (UU us rest) Sl fo' mo' E h σ n t d (k + 1) lo hi alo ahi a v := by
  obtain ⟨lb, e0, L, p72, f82⟩ := nm_plain X hA w
  obtain ⟨q1, q2, q3, q4⟩ := nm_tw L ⟨i1.1, i1.2, h27⟩ w.2.1 w.2.2.1.1
  exact ⟨xn 10 lb .leaf .leaf, q1, fun alo' ahi' c1 c2 c3 => nm_co L e0 f82 (by omega), q2, q3, ⟨Nat.zero_le _, by show (if (10 : Nat) = 12 ∨ (10 : Nat) = 13 ∨ (10 : Nat) = 18 then _ else if (10 : Nat) = 0 then _ else 1 + max 0 0) ≤ k + 1; rw [if_neg (by omega), if_neg (by omega)]; omega⟩, q4⟩
/-- a number -/
theorem xt_11 (X : XH G A S b m N fo F mo Ms fo' mo' E Sl y0 z0 h σ n) (i1 : lo ≤ v ∧ v < hi) (i2 : alo ≤ a ∧ a < ahi) (h27 : hi ≤ 2700) (hA : ahi ≤ hz h) (w : X11 S b h σ (Psi1 S b N cs rest fo F mo Ms z0 h us σ n d) lo hi a v) : ∃ t, XO G N (clF cs) (UU us rest) Sl fo' mo' E h σ n t d (k + 1) lo hi alo ahi a v := by
  obtain ⟨k29, k11, ⟨ev, eh⟩, j, ej, tk, p72, f84, P⟩ := w
  have f82 := P.1 (by decide)
  have n0 := num_nn X.1.2.2.1.1 tk
  have n1 := num_lt X.1.2.2.1.1 tk
  have jm := TT_lt X.1.1 (j := j) (by omega)
  have t0 := X.1.1.1 j (by omega)
  have bm := X.1.1.2.1
  have e82 : ga σ 482 (b + j) = numV 0 (tokw S j) := by
    rw [t0.2.2.2.1]
    unfold tVal
    rw [if_neg (by omega), if_pos tk]
  refine ⟨xn 11 (tokq S j, (numV 0 (tokw S j)).toNat, 0, 0, 0, []) .leaf .leaf, ?_, fun alo' ahi' c1 c2 c3 => ?_, ?_, ⟨?_, ?_⟩, ⟨Nat.zero_le _, by show (if (11 : Nat) = 12 ∨ (11 : Nat) = 13 ∨ (11 : Nat) = 18 then _ else if (11 : Nat) = 0 then _ else 1 + max 0 0) ≤ k + 1; rw [if_neg (by omega), if_neg (by omega)]; omega⟩, ?_⟩
  · rw [XTg_e]
    unfold XTb
    rw [if_neg (by decide), if_pos rfl]
    exact ⟨by omega, k11, ⟨fun _ => ⟨b + j, ej, by omega, by rw [e82]; show _ = (((numV 0 (tokw S j)).toNat : Nat) : Int); omega, by show (numV 0 (tokw S j)).toNat < 1000000; omega⟩, fun z => by omega, fun z => by omega, fun z => by omega, fun a ha => absurd ha List.not_mem_nil, fun z => by omega⟩, tk_place X.1.1 ej (by omega)⟩
  · rw [XCg_e]
    unfold XCb
    rw [aX_0, aH_0, aD_0, if_neg (by decide), if_pos rfl]
    exact ⟨⟨by omega, by omega, .inl (.inl rfl), c3, fun z => by omega, fun z => by omega, by omega⟩, by omega, ⟨fun _ => by rw [aX_0]; exact f82, fun z => by omega⟩, fun z => by omega, k29, p72, by rw [f84]; show _ = (((numV 0 (tokw S j)).toNat : Nat) : Int); omega⟩
  · rw [xok_e]
    unfold xokB
    rw [if_neg (by decide), if_pos rfl]
    trivial
  · show 1 + 2 * 0 + 0 + 0 ≤ _
    omega
  · show 1 + 0 + 0 ≤ _
    omega
  · show (if (11 : Nat) = 10 ∧ _ then 1 else 0) + 0 + 0 + _ ≤ _
    rw [if_neg (fun z => by omega)]
    have := ctP_mono (σ := σ) (a := lo) (b := hi) (by omega)
    omega
/-- a function -/
theorem xt_14 (X : XH G A S b m N fo F mo Ms fo' mo' E Sl y0 z0 h σ n) (IH : XI G A S b N cs rest fo F mo Ms fo' mo' E Sl y0 z0 h us σ n k) (i1 : lo ≤ v ∧ v < hi) (i2 : alo ≤ a ∧ a < ahi) (h27 : hi ≤ 2700) (hA : ahi ≤ hz h) (hy : y0 ≤ alo) (w : X14 A S b h σ (Psi1 S b N cs rest fo F mo Ms z0 h us σ n d) (XS G A S b h σ (Psi1 S b N cs rest fo F mo Ms z0 h us σ n) k (d + 1)) lo hi alo ahi a v) : ∃ t, XO G N (clF cs) (UU us rest) Sl fo' mo' E h σ n t d (k + 1) lo hi alo ahi a v := by
  obtain ⟨k24, k14, ev, j, nb, mid, a1, a2, a3, ej, tk, p72, e46, rw1, W, e54, r1, r2, r3, r4, P, B, r5⟩ := w
  have f82 := P.1 (by decide)
  obtain ⟨T, t1, t2, t3⟩ := P.2.2.2.1 rfl
  have ib := XS_in _ _ _ _ _ _ _ _ B
  obtain ⟨l, o1, o2, o3, o4, o5, o6⟩ := IH _ _ _ _ _ _ _ B (by omega) (by omega) (by omega)
  obtain ⟨wn, w1, w2, w3, w4⟩ := tk_wN X tk (by omega) W
  have okT := X.2.2.2.1 _ _ (tyQ_27 t1 (Nat.le_refl _)) t3
  refine ⟨xn 14 (tokq S j, 0, 0, wn, 0, [(T, 0)]) l .leaf, ?_, fun alo' ahi' c1 c2 c3 => ?_, ?_, ⟨?_, ?_⟩, ⟨?_, ?_⟩, ?_⟩
  · rw [XTg_e]
    unfold XTb
    rw [if_neg (by decide), if_neg (by decide), if_neg (by decide), if_neg (by decide), if_pos rfl]
    exact ⟨by omega, k14, ⟨fun z => by omega, fun _ => ⟨b + (j + 1), e46, w3, w2, w4⟩, fun z => by omega, fun z => by omega, fun p hp => (by rw [List.mem_singleton.mp hp]; exact ⟨t1.2.2.2, t1.2.2.1⟩), fun _ => ⟨(T, 0), rfl⟩⟩, ev, tk_place X.1.1 ej (TT_nz X.1.1 (by omega)), t3, mid, nb, r4, e54, o1⟩
  · rw [XCg_e]
    unfold XCb
    rw [aX_0, aH_0, aD_0, if_neg (by decide), if_neg (by decide), if_neg (by decide), if_neg (by decide), if_neg (by decide), if_pos rfl]
    exact ⟨⟨by omega, by omega, .inl (.inl rfl), c3, fun z => by omega, fun z => by omega, by omega⟩, by omega, ⟨fun _ => by rw [aX_0]; exact f82, fun z => by omega⟩, fun z => by omega, p72, k24, t2, w1, a2, a3, by omega, by omega, o2 a2 a3 (Nat.le_refl _) (Nat.le_refl _) (by omega)⟩
  · rw [xok_e]
    unfold xokB
    rw [if_neg (by decide), if_neg (by decide), if_neg (by decide), if_neg (by decide), if_pos rfl]
    exact ⟨okT, o3⟩
  · show 1 + 2 * tsz T + xsz l + 0 ≤ _
    have := t1.2.1
    omega
  · show 1 + xnN l + 0 ≤ _
    omega
  · show (if (14 : Nat) = 14 ∨ _ then 1 else _) + max (xbd l) 0 ≤ _
    rw [if_pos (.inl rfl)]
    omega
  · show (if (14 : Nat) = 12 ∨ (14 : Nat) = 13 ∨ (14 : Nat) = 18 then _ else if (14 : Nat) = 0 then _ else 1 + max (xrd l) 0) ≤ _
    rw [if_neg (by omega), if_neg (by omega)]
    omega
  · show (if (14 : Nat) = 10 ∧ _ then 1 else 0) + xU l + 0 + _ ≤ _
    rw [if_neg (fun z => by omega)]
    have := ctP_mono (σ := σ) (a := lo) (b := mid) (by omega)
    have := ctP_mono (σ := σ) (a := v) (b := hi) (by omega)
    omega
/-- a let -/
theorem xt_15 (X : XH G A S b m N fo F mo Ms fo' mo' E Sl y0 z0 h σ n) (IH : XI G A S b N cs rest fo F mo Ms fo' mo' E Sl y0 z0 h us σ n k) (i1 : lo ≤ v ∧ v < hi) (i2 : alo ≤ a ∧ a < ahi) (h27 : hi ≤ 2700) (hA : ahi ≤ hz h) (hy : y0 ≤ alo) (w : X15d A S b h σ (Psi1 S b N cs rest fo F mo Ms z0 h us σ n d) (XS G A S b h σ (Psi1 S b N cs rest fo F mo Ms z0 h us σ n) k d) (XS G A S b h σ (Psi1 S b N cs rest fo F mo Ms z0 h us σ n) k (d + 1)) lo hi alo ahi a v) : ∃ t, XO G N (clF cs) (UU us rest) Sl fo' mo' E h σ n t d (k + 1) lo hi alo ahi a v := by
  obtain ⟨k25, k15, ev, j, n1, n2, m1, m2, a1, a2, a3, a4, ej, tk, p72, e46, rw1, W, e54, e58, r1, r2, r3, r4, P, B1, B2, r5⟩ := w
  have f82 := P.1 (by decide)
  obtain ⟨T, t1, t2, t3⟩ := P.2.2.2.2.1 rfl
  have ib1 := XS_in _ _ _ _ _ _ _ _ B1
  have ib2 := XS_in _ _ _ _ _ _ _ _ B2
  obtain ⟨l, o1, o2, o3, o4, o5, o6⟩ := IH _ _ _ _ _ _ _ B1 (by omega) (by omega) (by omega)
  obtain ⟨r, x1, x2, x3, x4, x5, x6⟩ := IH _ _ _ _ _ _ _ B2 (by omega) (by omega) (by omega)
  obtain ⟨wn, w1, w2, w3, w4⟩ := tk_wN X tk (by omega) W
  have okT := X.2.2.2.1 _ _ (tyQ_27 t1 (Nat.le_refl _)) t3
  refine ⟨xn 15 (tokq S j, 0, 0, wn, 0, [(T, 0)]) l r, ?_, fun alo' ahi' c1 c2 c3 => ?_, ?_, ⟨?_, ?_⟩, ⟨?_, ?_⟩, ?_⟩
  · rw [XTg_e]
    unfold XTb
    rw [if_neg (by decide), if_neg (by decide), if_neg (by decide), if_neg (by decide), if_neg (by decide), if_pos rfl]
    exact ⟨by omega, k15, ⟨fun z => by omega, fun _ => ⟨b + (j + 1), e46, w3, w2, w4⟩, fun z => by omega, fun z => by omega, fun p hp => (by rw [List.mem_singleton.mp hp]; exact ⟨t1.2.2.2, t1.2.2.1⟩), fun _ => ⟨(T, 0), rfl⟩⟩, ev, tk_place X.1.1 ej (TT_nz X.1.1 (by omega)), t3, m1, m2, n1, n2, r4, e54, e58, o1, x1⟩
  · rw [XCg_e]
    unfold XCb
    rw [aX_0, aH_0, aD_0, if_neg (by decide), if_neg (by decide), if_neg (by decide), if_neg (by decide), if_neg (by decide), if_neg (by decide), if_pos rfl]
    exact ⟨⟨by omega, by omega, .inl (.inl rfl), c3, fun z => by omega, fun z => by omega, by omega⟩, by omega, ⟨fun _ => by rw [aX_0]; exact f82, fun z => by omega⟩, fun z => by omega, p72, k25, t2, w1, a2, a3, a4, by omega, ⟨by omega, by omega⟩, by omega, o2 a2 a3 (Nat.le_refl _) (Nat.le_refl _) (by omega), x2 a3 a4 (Nat.le_refl _) (Nat.le_refl _) (by omega)⟩
  · rw [xok_e]
    unfold xokB
    rw [if_neg (by decide), if_neg (by decide), if_neg (by decide), if_neg (by decide), if_neg (by decide), if_pos rfl]
    exact ⟨okT, o3, x3⟩
  · show 1 + 2 * tsz T + xsz l + xsz r ≤ _
    have := t1.2.1
    omega
  · show 1 + xnN l + xnN r ≤ _
    omega
  · show (if (15 : Nat) = 14 ∨ (15 : Nat) = 15 then 1 else _) + max (xbd l) (xbd r) ≤ _
    rw [if_pos (.inr rfl)]
    omega
  · show (if (15 : Nat) = 12 ∨ (15 : Nat) = 13 ∨ (15 : Nat) = 18 then _ else if (15 : Nat) = 0 then _ else 1 + max (xrd l) (xrd r)) ≤ _
    rw [if_neg (by omega), if_neg (by omega)]
    omega
  · show (if (15 : Nat) = 10 ∧ _ then 1 else 0) + xU l + xU r + _ ≤ _
    rw [if_neg (fun z => by omega)]
    have := ctP_mono (σ := σ) (a := lo) (b := m1) (by omega)
    have := ctP_mono (σ := σ) (a := v) (b := hi) (by omega)
    omega
/-- a choice -/
theorem xt_16 (X : XH G A S b m N fo F mo Ms fo' mo' E Sl y0 z0 h σ n) (IH : XI G A S b N cs rest fo F mo Ms fo' mo' E Sl y0 z0 h us σ n k) (i1 : lo ≤ v ∧ v < hi) (i2 : alo ≤ a ∧ a < ahi) (h27 : hi ≤ 2700) (hA : ahi ≤ hz h) (hy : y0 ≤ alo) (w : X16 S b h σ (Psi1 S b N cs rest fo F mo Ms z0 h us σ n d) (XS G A S b h σ (Psi1 S b N cs rest fo F mo Ms z0 h us σ n) k d) lo hi alo ahi a v) : ∃ t, XO G N (clF cs) (UU us rest) Sl fo' mo' E h σ n t d (k + 1) lo hi alo ahi a v := by
  obtain ⟨k26, k16, ev, j, n1, n2, n3, m1, m2, a1, a2, a3, a4, ej, ⟨p72, tk⟩, e46, e50, e54, r1, r2, B1, B2, B3, r5, P⟩ := w
  have f82 := P.1 (by decide)
  have ib1 := XS_in _ _ _ _ _ _ _ _ B1
  have ib2 := XS_in _ _ _ _ _ _ _ _ B2
  have ib3 := XS_in _ _ _ _ _ _ _ _ B3
  obtain ⟨l, o1, o2, o3, o4, o5, o6⟩ := IH _ _ _ _ _ _ _ B1 (by omega) (by omega) (by omega)
  obtain ⟨x, x1, x2, x3, x4, x5, x6⟩ := IH _ _ _ _ _ _ _ B2 (by omega) (by omega) (by omega)
  obtain ⟨y, y1, y2, y3, y4, y5, y6⟩ := IH _ _ _ _ _ _ _ B3 (by omega) (by omega) (by omega)
  refine ⟨xn 16 (tokq S j, 0, 0, 0, 0, []) l (xn 0 (0, 0, 0, 0, 0, []) x y), ?_, fun alo' ahi' c1 c2 c3 => ?_, ?_, ⟨?_, ?_⟩, ⟨?_, ?_⟩, ?_⟩
  · rw [XTg_e]
    unfold XTb
    rw [if_neg (by decide), if_neg (by decide), if_neg (by decide), if_neg (by decide), if_neg (by decide), if_neg (by decide), if_neg (by decide)]
    simp only
    rw [if_pos trivial]
    exact ⟨by omega, k16, ⟨fun z => by omega, fun z => by omega, fun z => by omega, fun z => by omega, fun a ha => absurd ha List.not_mem_nil, fun z => by omega⟩, ev, tk_place X.1.1 ej tk, trivial, m1, m2, n1, n2, n3, e46, e50, e54, o1, x1, y1⟩
  · rw [XCg_e]
    unfold XCb
    rw [aX_0, aH_0, aD_0, if_neg (by decide), if_neg (by decide), if_neg (by decide), if_neg (by decide), if_neg (by decide), if_neg (by decide), if_neg (by decide)]
    simp only
    rw [if_pos trivial]
    exact ⟨⟨by omega, by omega, .inl (.inl rfl), c3, fun z => by omega, fun z => by omega, by omega⟩, by omega, ⟨fun _ => by rw [aX_0]; exact f82, fun z => by omega⟩, fun z => by omega, p72, trivial, k26, a1, a2, a3, a4, by omega, ⟨by omega, by omega, by omega⟩, by omega, o2 a1 a2 (Nat.le_refl _) (Nat.le_refl _) (by omega), x2 a2 a3 (Nat.le_refl _) (Nat.le_refl _) (by omega), y2 a3 a4 (Nat.le_refl _) (Nat.le_refl _) (by omega)⟩
  · rw [xok_e]
    unfold xokB
    rw [if_neg (by decide), if_neg (by decide), if_neg (by decide), if_neg (by decide), if_neg (by decide), if_neg (by decide), if_neg (by decide)]
    simp only
    rw [if_pos trivial]
    exact ⟨o3, x3, y3⟩
  · show 1 + 2 * 0 + xsz l + (1 + 2 * 0 + xsz x + xsz y) ≤ _
    omega
  · show 1 + xnN l + (1 + xnN x + xnN y) ≤ _
    omega
  · show (if (16 : Nat) = 14 ∨ (16 : Nat) = 15 then 1 else if (16 : Nat) = 17 then 2 else 0) + max (xbd l) ((if (0 : Nat) = 14 ∨ (0 : Nat) = 15 then 1 else if (0 : Nat) = 17 then 2 else 0) + max (xbd x) (xbd y)) ≤ _
    rw [if_neg (by omega), if_neg (by omega), if_neg (by omega), if_neg (by omega)]
    omega
  · show (if (16 : Nat) = 12 ∨ (16 : Nat) = 13 ∨ (16 : Nat) = 18 then _ else if (16 : Nat) = 0 then _ else 1 + max (xrd l) (if (0 : Nat) = 12 ∨ (0 : Nat) = 13 ∨ (0 : Nat) = 18 then _ else if (0 : Nat) = 0 then max (xrd x) (xrd y) else _)) ≤ _
    rw [if_neg (by omega), if_neg (by omega), if_neg (by omega), if_pos rfl]
    omega
  · show (if (16 : Nat) = 10 ∧ _ then 1 else 0) + xU l + ((if (0 : Nat) = 10 ∧ _ then 1 else 0) + xU x + xU y) + _ ≤ _
    rw [if_neg (fun z => by omega), if_neg (fun z => by omega)]
    have := ctP_mono (σ := σ) (a := v) (b := hi) (by omega)
    omega
/-- a case -/
theorem xt_17 (X : XH G A S b m N fo F mo Ms fo' mo' E Sl y0 z0 h σ n) (IH : XI G A S b N cs rest fo F mo Ms fo' mo' E Sl y0 z0 h us σ n k) (i1 : lo ≤ v ∧ v < hi) (i2 : alo ≤ a ∧ a < ahi) (h27 : hi ≤ 2700) (hA : ahi ≤ hz h) (hy : y0 ≤ alo) (w : X17d A S b h σ (Psi1 S b N cs rest fo F mo Ms z0 h us σ n d) (XS G A S b h σ (Psi1 S b N cs rest fo F mo Ms z0 h us σ n) k d) (XS G A S b h σ (Psi1 S b N cs rest fo F mo Ms z0 h us σ n) k (d + 2)) lo hi alo ahi a v) : ∃ t, XO G N (clF cs) (UU us rest) Sl fo' mo' E h σ n t d (k + 1) lo hi alo ahi a v := by
  obtain ⟨k27, k17, ev, j, jx, n1, n2, n3, m1, m2, a1, a2, a3, a4, a5, ej, ⟨p72, tk⟩, e46, e50, e54, e58, tx1, tx2, rx, Wx, rxs, Wxs, r1, r2, B1, B2, r34, B3, r5, P⟩ := w
  obtain ⟨wn, w1, w2, w3, w4⟩ := tk_wN X tx1 (by omega) Wx
  obtain ⟨wm, v1, v2, v3, v4⟩ := tk_wN X tx2 (by omega) Wxs
  have f82 := P.1 (by decide)
  have ib1 := XS_in _ _ _ _ _ _ _ _ B1
  have ib2 := XS_in _ _ _ _ _ _ _ _ B2
  have ib3 := XS_in _ _ _ _ _ _ _ _ B3
  obtain ⟨l, o1, o2, o3, o4, o5, o6⟩ := IH _ _ _ _ _ _ _ B1 (by omega) (by omega) (by omega)
  obtain ⟨x, x1, x2, x3, x4, x5, x6⟩ := IH _ _ _ _ _ _ _ B2 (by omega) (by omega) (by omega)
  obtain ⟨y, y1, y2, y3, y4, y5, y6⟩ := IH _ _ _ _ _ _ _ B3 (by omega) (by omega) (by omega)
  refine ⟨xn 17 (tokq S j, 0, 0, wn, wm, []) l (xn 0 (0, 0, 0, 0, 0, []) x y), ?_, fun alo' ahi' c1 c2 c3 => ?_, ?_, ⟨?_, ?_⟩, ⟨?_, ?_⟩, ?_⟩
  · rw [XTg_e]
    unfold XTb
    rw [if_neg (by decide), if_neg (by decide), if_neg (by decide), if_neg (by decide), if_neg (by decide), if_neg (by decide), if_neg (by decide)]
    simp only
    rw [if_neg (by decide), if_pos trivial]
    exact ⟨by omega, k17, ⟨fun z => by omega, fun z => by omega, fun _ => ⟨b + jx, e54, v3, ⟨w2, w4⟩, v2, v4⟩, fun z => by omega, fun a ha => absurd ha List.not_mem_nil, fun z => by omega⟩, ev, tk_place X.1.1 ej tk, trivial, m1, m2, n1, n2, n3, e46, e50, e58, o1, x1, y1⟩
  · rw [XCg_e]
    unfold XCb
    rw [aX_0, aH_0, aD_0, if_neg (by decide), if_neg (by decide), if_neg (by decide), if_neg (by decide), if_neg (by decide), if_neg (by decide), if_neg (by decide)]
    simp only
    rw [if_neg (by decide), if_pos trivial]
    exact ⟨⟨by omega, by omega, .inl (.inl rfl), c3, fun z => by omega, fun z => by omega, by omega⟩, by omega, ⟨fun _ => by rw [aX_0]; exact f82, fun z => by omega⟩, fun z => by omega, p72, trivial, k27, w1, v1, a1, a2, a3, a4, a5, by omega, ⟨by omega, by omega, r34, by omega⟩, by omega, o2 a1 a2 (Nat.le_refl _) (Nat.le_refl _) (by omega), x2 a2 a3 (Nat.le_refl _) (Nat.le_refl _) (by omega), y2 a4 a5 (Nat.le_refl _) (Nat.le_refl _) (by omega)⟩
  · rw [xok_e]
    unfold xokB
    rw [if_neg (by decide), if_neg (by decide), if_neg (by decide), if_neg (by decide), if_neg (by decide), if_neg (by decide), if_neg (by decide)]
    simp only
    rw [if_neg (by decide), if_pos trivial]
    exact ⟨o3, x3, y3⟩
  · show 1 + 2 * 0 + xsz l + (1 + 2 * 0 + xsz x + xsz y) ≤ _
    omega
  · show 1 + xnN l + (1 + xnN x + xnN y) ≤ _
    omega
  · show (if (17 : Nat) = 14 ∨ (17 : Nat) = 15 then 1 else if (17 : Nat) = 17 then 2 else 0) + max (xbd l) ((if (0 : Nat) = 14 ∨ (0 : Nat) = 15 then 1 else if (0 : Nat) = 17 then 2 else 0) + max (xbd x) (xbd y)) ≤ _
    rw [if_neg (by omega), if_pos rfl, if_neg (by omega), if_neg (by omega)]
    omega
  · show (if (17 : Nat) = 12 ∨ (17 : Nat) = 13 ∨ (17 : Nat) = 18 then _ else if (17 : Nat) = 0 then _ else 1 + max (xrd l) (if (0 : Nat) = 12 ∨ (0 : Nat) = 13 ∨ (0 : Nat) = 18 then _ else if (0 : Nat) = 0 then max (xrd x) (xrd y) else _)) ≤ _
    rw [if_neg (by omega), if_neg (by omega), if_neg (by omega), if_pos rfl]
    omega
  · show (if (17 : Nat) = 10 ∧ _ then 1 else 0) + xU l + ((if (0 : Nat) = 10 ∧ _ then 1 else 0) + xU x + xU y) + _ ≤ _
    rw [if_neg (fun z => by omega), if_neg (fun z => by omega)]
    have := ctP_mono (σ := σ) (a := v) (b := hi) (by omega)
    omega
end LX1
