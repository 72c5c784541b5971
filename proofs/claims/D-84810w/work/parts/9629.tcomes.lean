set_option maxRecDepth 100000
/-! THE TWIN'S MACHINE: frames; a thing comes back -/
/-- what a machine's step writes in the twin -/
abbrev WMS : List Nat := [784, 792, 808, 812, 816, 823, 827, 836, 856, 880, 884, 888, 924, 952, 964, 992, 996, 1000, 1004, 1008, 1012, 1020, 1024, 1028, 1037, 1084]
abbrev WMA : List Nat := [778, 798, 802, 806, 830, 834, 850, 914, 918, 922, 930, 934, 938, 942, 946, 950, 958, 962, 970, 974, 978, 982, 986, 990, 1018, 1042, 1046, 1054, 1058, 1062, 1066, 1070, 1074, 1078, 1082]
/-- the types behind names' @s are types -/
def atO (ins : List INs) : Et → Prop
  | .leaf => True
  | .inner t a _ l r => (t = 10 → ∀ p ∈ a.1.2.2.2.2.2, tyOk ins p.1 ∧ tsz p.1 ≤ 2700) ∧ (t ≠ 10 → t ≠ 11 → atO ins l) ∧ (t ≠ 10 → t ≠ 11 → t ≠ 14 → atO ins r)
/-- an owner that is there -/
def owO (M : MPg) (o : Nat) : Prop := o < M.1.length ∨ (100 ≤ o ∧ o < 100 + M.2.2.2.length) ∨ o = 1000
/-- an ex of an owner, by its node -/
def cdN (σ0 : tS) (n : Nat) (M : MPg) (rg : Nat → Nat × Nat) (o : Nat) (e : Et) (x : Int) : Prop := ∃ v lo hi : Nat, x = (v : Int) ∧ XTf σ0 n e lo hi v ∧ eK (eW M o) (QN σ0 n) e ∧ eTy e ≠ .leaf ∧ atO M.2.2.2 e ∧ (rg o).1 ≤ lo ∧ hi ≤ (rg o).2 ∧ owO M o
/-- frames -/
def fTw (M : MPg) (cd : Nat → Et → Int → Prop) (σ : tS) : List Fr → Prop
  | [] => True
  | f :: fs => (ga σ 970 fs.length = (f.1 : Int) ∧ cd f.2.2.2.1.1 f.2.1 (ga σ 974 fs.length) ∧ vTw M cd σ f.2.2.1 false (ga σ 978 fs.length) ∧ ga σ 982 fs.length = owT f.2.2.2.1.1 ∧ rTw M.2.2.2 σ (gvW M f.2.2.2.1.1) f.2.2.2.1.2 (ga σ 990 fs.length) ∧ (100 ≤ f.1 → vTw M cd σ f.2.2.2.2 true (ga σ 986 fs.length))) ∧ fTw M cd σ fs
/-- between: frames fs, cells, most -/
def mMd (σ0 : tS) (n : Nat) (M : MPg) (rg : Nat → Nat × Nat) (σ : tS) (fs : List Fr) (c m : Nat) : Prop := fr WMS WMA σ0 σ ∧ mCt σ c ∧ (gs σ 992 = (fs.length : Int) ∧ fs.length ≤ 300 ∧ fs.length ≤ m) ∧ gs σ 996 = (m : Int) ∧ gs σ 1000 = 1 ∧ fTw M (cdN σ0 n M rg) σ fs
/-- a state -/
def mTw (σ0 : tS) (n : Nat) (M : MPg) (rg : Nat → Nat × Nat) (σ : tS) (s : MS) : Prop := mMd σ0 n M rg σ s.2.2.2.1 s.2.2.2.2.1 s.2.2.2.2.2 ∧ cdN σ0 n M rg s.2.2.1.1 s.1 (gs σ 1020) ∧ vTw M (cdN σ0 n M rg) σ s.2.1 false (gs σ 1024) ∧ gs σ 1028 = owT s.2.2.1.1 ∧ rTw M.2.2.2 σ (gvW M s.2.2.1.1) s.2.2.1.2 (gs σ 1037)
/-- an end: too deep, full -/
def mFw (σ0 : tS) (σ : tS) (k c m : Nat) : Prop := fr WMS WMA σ0 σ ∧ gs σ 1000 = (k : Int) ∧ gs σ 1008 = (c : Int) ∧ gs σ 996 = (m : Int)
/-- done: the thing is to be shown -/
def mDw (σ0 : tS) (n : Nat) (M : MPg) (rg : Nat → Nat × Nat) (σ : tS) (v : Vt) (x : Int) (c m : Nat) : Prop := fr WMS WMA σ0 σ ∧ mCt σ c ∧ gs σ 996 = (m : Int) ∧ gs σ 1000 = 1 ∧ gs σ 992 = 0 ∧ vTw M (cdN σ0 n M rg) σ v true x
/-- what is written when a thing comes back -/
abbrev CWS : List Nat := [924, 952, 992, 996, 1000, 1008, 1020, 1024, 1028, 1037]
abbrev CWA : List Nat := [914, 918, 922, 930, 934, 938, 942, 946, 950, 970, 974, 978, 982, 986, 990]
/-- what came of it: r is the run, from Z on -/
def mRw (σ0 : tS) (n : Nat) (M : MPg) (rg : Nat → Nat × Nat) (Z : tS) (r : Option tS) : MS ⊕ MF → Prop
  | .inl s => ∃ σ', r = some σ' ∧ mTw σ0 n M rg σ' s ∧ fr CWS CWA Z σ'
  | .inr f => (f.1 = 2 ∧ ∃ (x : Int) (σ1 : tS), r = T_show x (us σ1 1000 2) ∧ mDw σ0 n M rg σ1 f.2.1 x f.2.2.1 f.2.2.2 ∧ fr CWS CWA Z σ1) ∨ (f.1 ≠ 2 ∧ ∃ σ', r = some σ' ∧ mFw σ0 σ' f.1 f.2.2.1 f.2.2.2 ∧ fr CWS CWA Z σ')
theorem mRw_tr {σ0 Z Z' : tS} {n : Nat} {M : MPg} {rg : Nat → Nat × Nat} {r : Option tS} (A : fr CWS CWA Z Z') : ∀ {q : MS ⊕ MF}, mRw σ0 n M rg Z' r q → mRw σ0 n M rg Z r q
  | .inl s, ⟨σ', h1, h2, h3⟩ => ⟨σ', h1, h2, fr_trans A h3⟩
  | .inr f, h => by
    rcases h with ⟨h1, x, σ1, h2, h3, h4⟩ | ⟨h1, σ', h2, h3, h4⟩
    · exact .inl ⟨h1, x, σ1, h2, h3, fr_trans A h4⟩
    · exact .inr ⟨h1, σ', h2, h3, fr_trans A h4⟩
section LTC
variable {M : MPg} {cd : Nat → Et → Int → Prop} {σ0 σ τ : tS} {n c m : Nat} {rg : Nat → Nat × Nat}
theorem fTw_gr (G : mGr σ τ) : ∀ {fs : List Fr}, (∀ f ∈ [970, 974, 978, 982, 986, 990], ∀ k, k < fs.length → ga τ f k = ga σ f k) → fTw M cd σ fs → fTw M cd τ fs
  | [], _, _ => trivial
  | f :: fs, h, ⟨⟨h1, h2, h3, h4, h5, h6⟩, h7⟩ => by
    have e : ∀ g ∈ [970, 974, 978, 982, 986, 990], ga τ g fs.length = ga σ g fs.length := fun g hg => h g hg _ (by rw [List.length_cons]; omega)
    refine ⟨⟨?_, ?_, ?_, ?_, ?_, fun z => ?_⟩, fTw_gr G (fun g hg k hk => h g hg k (by rw [List.length_cons]; omega)) h7⟩
    · rw [e 970 (by decide)]; exact h1
    · rw [e 974 (by decide)]; exact h2
    · rw [e 978 (by decide)]; exact vTw_gr G h3
    · rw [e 982 (by decide)]; exact h4
    · rw [e 990 (by decide)]; exact rTw_gr G h5
    · rw [e 986 (by decide)]; exact vTw_gr G (h6 z)
theorem cd_node {o : Nat} {e : Et} {x : Int} (H : cdN σ0 n M rg o e x) (F : fr WMS WMA σ0 σ) : ∃ v : Nat, x = (v : Int) ∧ v < 4200 ∧ ga σ 538 v = (eTg e : Int) := by
  obtain ⟨v, lo, hi, e1, e2, _, _, _⟩ := H
  cases e with
  | leaf => exact (XTg_l e2).elim
  | inner t a u l r =>
    unfold XTf at e2
    rw [XTg_e] at e2
    unfold XTb at e2
    exact ⟨v, e1, by omega, by rw [F.2 538 (by decide)]; exact e2.2.1⟩
/-- what lies below an ex -/
theorem cd_12 {o : Nat} {e : Et} {v : Nat} (H : cdN σ0 n M rg o e (v : Int)) (h : eTg e = 12 ∨ eTg e = 18) : cdN σ0 n M rg o (eLf e) (ga σ0 546 v) ∧ cdN σ0 n M rg o (eRt e) (ga σ0 550 v) := by
  obtain ⟨v', lo, hi, e1, e2, e3, e4, eA, rl, rh, ow⟩ := H
  have ev : v' = v := by omega
  subst ev
  cases e with
  | leaf => exact (XTg_l e2).elim
  | inner t a u l r =>
    unfold XTf at e2
    rw [XTg_e] at e2
    unfold XTb at e2
    obtain ⟨hv, _, _, h4⟩ := e2
    obtain ⟨_, ⟨k1, k2⟩, k3, k4⟩ := e3
    have ht : t = 12 ∨ t = 18 := h
    have key : ∃ m x y : Nat, ga σ0 546 v' = (x : Int) ∧ ga σ0 550 v' = (y : Int) ∧ XTf σ0 n l lo m x ∧ XTf σ0 n r m v' y := by
      rcases ht with e | e
      · rw [if_neg (by omega), if_neg (by omega), if_pos e] at h4
        exact h4.2.2
      · rw [if_neg (by omega), if_neg (by omega), if_neg (by omega), if_neg (by omega), if_neg (by omega), if_neg (by omega), if_pos e] at h4
        exact h4.2.2.2
    obtain ⟨m, x, y, q1, q2, q3, q4⟩ := key
    have i1 := XTg_in q3
    have i2 := XTg_in q4
    exact ⟨⟨x, lo, m, q1, q3, k3, k1 (by omega) (by omega), eA.2.1 (by omega) (by omega), by omega, by omega, ow⟩, ⟨y, m, v', q2, q4, k4, k2 (by omega) (by omega) (by omega) (by omega) (by omega), eA.2.2 (by omega) (by omega) (by omega), by omega, by omega, ow⟩⟩
theorem cd_14 {o : Nat} {e : Et} {v : Nat} (H : cdN σ0 n M rg o e (v : Int)) (h : eTg e = 14) : cdN σ0 n M rg o (eLf e) (ga σ0 554 v) := by
  obtain ⟨v', lo, hi, e1, e2, e3, e4, eA, rl, rh, ow⟩ := H
  have ev : v' = v := by omega
  subst ev
  cases e with
  | leaf => exact (XTg_l e2).elim
  | inner t a u l r =>
    unfold XTf at e2
    rw [XTg_e] at e2
    unfold XTb at e2
    obtain ⟨hv, _, _, h4⟩ := e2
    obtain ⟨_, ⟨k1, k2⟩, k3, k4⟩ := e3
    have ht : t = 14 := h
    rw [if_neg (by omega), if_neg (by omega), if_neg (by omega), if_neg (by omega), if_pos ht] at h4
    obtain ⟨_, _, _, m, x, lm, q1, q2⟩ := h4
    exact ⟨x, m, v', q1, q2, k3, k1 (by omega) (by omega), eA.2.1 (by omega) (by omega), by omega, by omega, ow⟩
theorem cd_15 {o : Nat} {e : Et} {v : Nat} (H : cdN σ0 n M rg o e (v : Int)) (h : eTg e = 15) : cdN σ0 n M rg o (eLf e) (ga σ0 554 v) ∧ cdN σ0 n M rg o (eRt e) (ga σ0 558 v) := by
  obtain ⟨v', lo, hi, e1, e2, e3, e4, eA, rl, rh, ow⟩ := H
  have ev : v' = v := by omega
  subst ev
  cases e with
  | leaf => exact (XTg_l e2).elim
  | inner t a u l r =>
    unfold XTf at e2
    rw [XTg_e] at e2
    unfold XTb at e2
    obtain ⟨hv, _, _, h4⟩ := e2
    obtain ⟨_, ⟨k1, k2⟩, k3, k4⟩ := e3
    have ht : t = 15 := h
    rw [if_neg (by omega), if_neg (by omega), if_neg (by omega), if_neg (by omega), if_neg (by omega), if_pos ht] at h4
    obtain ⟨_, _, _, m, m', x, y, lm, q1, q2, q3, q4⟩ := h4
    have i1 := XTg_in q3
    have i2 := XTg_in q4
    exact ⟨⟨x, m, m', q1, q3, k3, k1 (by omega) (by omega), eA.2.1 (by omega) (by omega), by omega, by omega, ow⟩, ⟨y, m', v', q2, q4, k4, k2 (by omega) (by omega) (by omega) (by omega) (by omega), eA.2.2 (by omega) (by omega) (by omega), by omega, by omega, ow⟩⟩
theorem cd_16 {o : Nat} {e : Et} {v : Nat} (H : cdN σ0 n M rg o e (v : Int)) (h : eTg e = 16 ∨ eTg e = 17) : cdN σ0 n M rg o (eLf e) (ga σ0 546 v) ∧ cdN σ0 n M rg o (eLf (eRt e)) (ga σ0 550 v) ∧ (eTg e = 16 → cdN σ0 n M rg o (eRt (eRt e)) (ga σ0 554 v)) ∧ (eTg e = 17 → cdN σ0 n M rg o (eRt (eRt e)) (ga σ0 558 v)) := by
  obtain ⟨v', lo, hi, e1, e2, e3, e4, eA, rl, rh, ow⟩ := H
  have ev : v' = v := by omega
  subst ev
  cases e with
  | leaf => exact (XTg_l e2).elim
  | inner t a u l r =>
    unfold XTf at e2
    rw [XTg_e] at e2
    unfold XTb at e2
    obtain ⟨hv, _, _, h4⟩ := e2
    obtain ⟨_, ⟨k1, k2⟩, k3, k4⟩ := e3
    have ht : t = 16 ∨ t = 17 := h
    rw [if_neg (by omega), if_neg (by omega), if_neg (by omega), if_neg (by omega), if_neg (by omega), if_neg (by omega), if_neg (by omega)] at h4
    cases r with
    | leaf => exact h4.elim
    | inner t' a' u' r1 r2 =>
      obtain ⟨_, _, t0, h5⟩ := h4
      obtain ⟨_, ⟨j1, j2⟩, j3, j4⟩ := k4
      have eR := eA.2.2 (by omega) (by omega) (by omega)
      rcases ht with e | e
      · rw [if_pos e] at h5
        obtain ⟨m, m', x, y, z, q1, q2, q3, q4, q5, q6⟩ := h5
        have i1 := XTg_in q4
        have i2 := XTg_in q5
        have i3 := XTg_in q6
        exact ⟨⟨x, lo, m, q1, q4, k3, k1 (by omega) (by omega), eA.2.1 (by omega) (by omega), by omega, by omega, ow⟩, ⟨y, m, m', q2, q5, j3, j1 (by omega) (by omega), eR.2.1 (by omega) (by omega), by omega, by omega, ow⟩, fun _ => ⟨z, m', v', q3, q6, j4, j2 (by omega) (by omega) (by omega) (by omega) (by omega), eR.2.2 (by omega) (by omega) (by omega), by omega, by omega, ow⟩, fun w => absurd w (by show ¬ t = 17; omega)⟩
      · rw [if_neg (by omega), if_pos e] at h5
        obtain ⟨m, m', x, y, z, q1, q2, q3, q4, q5, q6⟩ := h5
        have i1 := XTg_in q4
        have i2 := XTg_in q5
        have i3 := XTg_in q6
        exact ⟨⟨x, lo, m, q1, q4, k3, k1 (by omega) (by omega), eA.2.1 (by omega) (by omega), by omega, by omega, ow⟩, ⟨y, m, m', q2, q5, j3, j1 (by omega) (by omega), eR.2.1 (by omega) (by omega), by omega, by omega, ow⟩, fun w => absurd w (by show ¬ t = 16; omega), fun _ => ⟨z, m', v', q3, q6, j4, j2 (by omega) (by omega) (by omega) (by omega) (by omega), eR.2.2 (by omega) (by omega) (by omega), by omega, by omega, ow⟩⟩
/-- a sign -/
theorem cd_18 {o : Nat} {e : Et} {v : Nat} (H : cdN σ0 n M rg o e (v : Int)) (h : eTg e = 18) : ∃ k : Nat, ga σ0 542 v = (k : Int) ∧ k < 4100 ∧ ((eLb e).2.1 : Int) = sgv (ga σ0 470 k) ∧ (ga σ0 470 k = 17 ∨ ga σ0 470 k = 60 ∨ ga σ0 470 k = 43 ∨ ga σ0 470 k = 45 ∨ ga σ0 470 k = 42) := by
  obtain ⟨v', lo, hi, e1, e2, e3, e4, eA, rl, rh, ow⟩ := H
  have ev : v' = v := by omega
  subst ev
  cases e with
  | leaf => exact (XTg_l e2).elim
  | inner t a u l r =>
    unfold XTf at e2
    rw [XTg_e] at e2
    unfold XTb at e2
    obtain ⟨_, h2, h3, _⟩ := e2
    have ht : t = 18 := h
    exact h3.2.2.2.2.1 (by rw [h2, ht]; rfl)
theorem t_result {k : Int} {s : Nat} {a b : Int} (hs : (s : Int) = sgv k) (hk : k = 17 ∨ k = 60 ∨ k = 43 ∨ k = 45 ∨ k = 42) {vx : Vt} (e : vx = xsg s a b) : ∃ y, T_result k a b = some y ∧ vTw M cd σ vx true y := by
  have rg : ∀ x : Int, -2147483648 ≤ w32 x ∧ w32 x ≤ 2147483647 := w32_in
  rw [e]
  rcases hk with q | q | q | q | q
  · have es : s = 61 := by rw [q] at hs; have : sgv 17 = 61 := rfl; omega
    have ex : xsg s a b = xvB (if a = b then 1 else 0) := by unfold xsg; rw [if_neg (by omega), if_pos es]
    have et : T_result k a b = if a ≠ b then T_result_97 1 0 else T_result_97 1 1 := by unfold T_result; rw [if_neg (by omega), if_neg (by omega), if_neg (by omega), if_neg (by omega)]
    rw [ex, et]
    by_cases h : a = b
    · rw [if_neg (fun z => z h), if_pos h]
      unfold T_result_97
      rw [t_thing (by decide) (by decide) (by decide) (by decide)]
      exact ⟨_, rfl, .inr (.inl ⟨rfl, rfl⟩)⟩
    · rw [if_pos h, if_neg h]
      unfold T_result_97
      rw [t_thing (by decide) (by decide) (by decide) (by decide)]
      exact ⟨_, rfl, .inr (.inl ⟨rfl, rfl⟩)⟩
  · have es : s = 60 := by rw [q] at hs; have : sgv 60 = 60 := rfl; omega
    have ex : xsg s a b = xvB (if a < b then 1 else 0) := by unfold xsg; rw [if_pos es]
    have et : T_result k a b = if b ≤ a then T_result_82 1 0 else T_result_82 1 1 := by unfold T_result; rw [if_neg (by omega), if_neg (by omega), if_neg (by omega), if_pos q]
    rw [ex, et]
    by_cases h : a < b
    · rw [if_neg (by omega), if_pos h]
      unfold T_result_82
      rw [t_thing (by decide) (by decide) (by decide) (by decide)]
      exact ⟨_, rfl, .inr (.inl ⟨rfl, rfl⟩)⟩
    · rw [if_pos (by omega), if_neg h]
      unfold T_result_82
      rw [t_thing (by decide) (by decide) (by decide) (by decide)]
      exact ⟨_, rfl, .inr (.inl ⟨rfl, rfl⟩)⟩
  · have es : s = 43 := by rw [q] at hs; have : sgv 43 = 43 := rfl; omega
    have ex : xsg s a b = xvI (w32 (a + b)) := by unfold xsg; rw [if_neg (by omega), if_neg (by omega), if_neg (by omega), if_pos es]
    rw [ex]
    unfold T_result
    rw [if_neg (by omega), if_pos q, t_thing (by decide) (by decide) (rg _).1 (rg _).2]
    exact ⟨_, rfl, .inl ⟨rfl, by show _ = 8 * w32 (a + b); omega⟩⟩
  · have es : s = 45 := by rw [q] at hs; have : sgv 45 = 45 := rfl; omega
    have ex : xsg s a b = xvI (w32 (a - b)) := by unfold xsg; rw [if_neg (by omega), if_neg (by omega), if_neg (by omega), if_neg (by omega)]
    rw [ex]
    unfold T_result
    rw [if_neg (by omega), if_neg (by omega), if_pos q, t_thing (by decide) (by decide) (rg _).1 (rg _).2]
    exact ⟨_, rfl, .inl ⟨rfl, by show _ = 8 * w32 (a - b); omega⟩⟩
  · have es : s = 42 := by rw [q] at hs; have : sgv 42 = 42 := rfl; omega
    have ex : xsg s a b = xvI (w32 (a * b)) := by unfold xsg; rw [if_neg (by omega), if_neg (by omega), if_pos es]
    rw [ex]
    unfold T_result
    rw [if_pos q, t_thing (by decide) (by decide) (rg _).1 (rg _).2]
    exact ⟨_, rfl, .inl ⟨rfl, by show _ = 8 * w32 (a * b); omega⟩⟩
end LTC
