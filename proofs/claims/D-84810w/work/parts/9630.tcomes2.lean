set_option maxRecDepth 100000
/-! THE TWIN'S MACHINE: a thing comes back, as pcm says -/
section LTD
variable {M : MPg} {σ0 σ τ : tS} {n c m : Nat} {rg : Nat → Nat × Nat}
theorem mGr_o {fs as : List Nat} (F : fr fs as σ τ) (h1 : (924 ∉ fs ∧ 952 ∉ fs ∧ 964 ∉ fs)) (h2 : ∀ f ∈ [930, 934, 938, 942, 946, 950, 914, 918, 922, 958, 962], f ∉ as) : mGr σ τ := mGr_fr F (fun f hf => by
  simp only [List.mem_cons, List.not_mem_nil, or_false] at hf
  rcases hf with e | e | e
  · rw [e]; exact h1.2.1
  · rw [e]; exact h1.1
  · rw [e]; exact h1.2.2) h2
/-- A FRAME MORE -/
theorem t_frM {f : Fr} {fs : List Fr} {v : Int} {x : Int} (H : mMd σ0 n M rg σ fs c m) (hl : fs.length < 300) (hcd : cdN σ0 n M rg f.2.2.2.1.1 f.2.1 v) (he : vTw M (cdN σ0 n M rg) σ f.2.2.1 false (gs σ 1024)) (ho : gs σ 1028 = owT f.2.2.2.1.1) (hr : rTw M.2.2.2 σ (gvW M f.2.2.2.1.1) f.2.2.2.1.2 (gs σ 1037)) (hw : 100 ≤ f.1 → vTw M (cdN σ0 n M rg) σ f.2.2.2.2 true x) : ∃ σ', T_frame (f.1 : Int) v x σ = some (1, σ') ∧ mMd σ0 n M rg σ' (f :: fs) c (max m (fs.length + 1)) ∧ fr [992, 996] [970, 974, 978, 982, 986, 990] σ σ' ∧ mGr σ σ' := by
  obtain ⟨H1, H2, ⟨H3, H3', H3''⟩, H4, H5, H6⟩ := H
  obtain ⟨σ', e'⟩ : ∃ σ', σ' = us (us (ua (ua (ua (ua (ua (ua σ 970 fs.length (f.1 : Int)) 974 fs.length v) 978 fs.length (gs σ 1024)) 982 fs.length (gs σ 1028)) 990 fs.length (gs σ 1037)) 986 fs.length x) 992 ((fs.length + 1 : Nat) : Int)) 996 ((max m (fs.length + 1) : Nat) : Int) := ⟨_, rfl⟩
  have F : fr [992, 996] [970, 974, 978, 982, 986, 990] σ σ' := by
    rw [e']
    exact fr_us (fr_us (fr_ua (fr_ua (fr_ua (fr_ua (fr_ua (fr_ua (fr_refl _ _ _) (by decide)) (by decide)) (by decide)) (by decide)) (by decide)) (by decide)) (by decide)) (by decide)
  have Gr : mGr σ σ' := mGr_o F (by decide) (by decide)
  have at1 : ∀ g, g ∈ [970, 974, 978, 982, 986, 990] → ∀ k, k < fs.length → ga σ' g k = ga σ g k := fun g hg k hk => by
    rw [e']
    simp only [ga_us, ga_ua]
    rw [if_neg (by omega), if_neg (by omega), if_neg (by omega), if_neg (by omega), if_neg (by omega), if_neg (by omega)]
  have a70 : ga σ' 970 fs.length = (f.1 : Int) := by rw [e']; simp [ga_us, ga_ua]
  have a74 : ga σ' 974 fs.length = v := by rw [e']; simp [ga_us, ga_ua]
  have a78 : ga σ' 978 fs.length = gs σ 1024 := by rw [e']; simp [ga_us, ga_ua]
  have a82 : ga σ' 982 fs.length = gs σ 1028 := by rw [e']; simp [ga_us, ga_ua]
  have a90 : ga σ' 990 fs.length = gs σ 1037 := by rw [e']; simp [ga_us, ga_ua]
  have a86 : ga σ' 986 fs.length = x := by rw [e']; simp [ga_us, ga_ua]
  have g92 : gs σ' 992 = ((fs.length + 1 : Nat) : Int) := by rw [e']; rfl
  have g96 : gs σ' 996 = ((max m (fs.length + 1) : Nat) : Int) := by rw [e']; rfl
  refine ⟨σ', ?_, ⟨fr_trans H1 (fr_sub F (by decide) (by decide)), mCt_fr F (by decide) H2, ⟨by rw [g92, List.length_cons], by rw [List.length_cons]; omega, by rw [List.length_cons]; omega⟩, g96, by rw [F.1 1000 (by decide)]; exact H5, ⟨⟨a70, by rw [a74]; exact hcd, by rw [a78]; exact vTw_gr Gr he, by rw [a82]; exact ho, by rw [a90]; exact rTw_gr Gr hr, fun z => by rw [a86]; exact vTw_gr Gr (hw z)⟩, fTw_gr Gr (fun g hg k hk => at1 g hg k hk) H6⟩⟩, F, Gr⟩
  unfold T_frame
  rw [H3, if_pos (by omega), if_pos (by omega), show ((fs.length : Int)).toNat = fs.length by omega, w32_s (by omega) (by omega), H4]
  by_cases q : (fs.length : Int) + 1 ≤ (m : Int)
  · rw [if_pos q]
    unfold T_frame_115
    rw [e', show max m (fs.length + 1) = m by omega]
    have : gs (us (ua (ua (ua (ua (ua (ua σ 970 fs.length (f.1 : Int)) 974 fs.length v) 978 fs.length (gs σ 1024)) 982 fs.length (gs σ 1028)) 990 fs.length (gs σ 1037)) 986 fs.length x) 992 ((fs.length : Int) + 1)) 996 = (m : Int) := H4
    rw [this]
    rfl
  · rw [if_neg q]
    unfold T_frame_108
    rw [e', show max m (fs.length + 1) = fs.length + 1 by omega]
    rfl
theorem t_frF {l1 l2 l3 : Int} {fs : List Fr} (H : mMd σ0 n M rg σ fs c m) (hl : ¬ fs.length < 300) : T_frame l1 l2 l3 σ = some (0, us σ 1000 3) := by
  unfold T_frame
  rw [H.2.2.1.1, if_neg (by have := H.2.2.1.2; omega)]
/-- the latest frame is taken -/
def popT (σ : tS) (k : Nat) : tS := us (us (us (us (us σ 992 (k : Int)) 1020 (-1)) 1024 (ga σ 978 k)) 1028 (ga σ 982 k)) 1037 (ga σ 990 k)
theorem pop_md {f : Fr} {fs : List Fr} (H : mMd σ0 n M rg σ (f :: fs) c m) : mMd σ0 n M rg (popT σ fs.length) fs c m ∧ fr [992, 1020, 1024, 1028, 1037] [] σ (popT σ fs.length) ∧ mGr σ (popT σ fs.length) ∧ vTw M (cdN σ0 n M rg) (popT σ fs.length) f.2.2.1 false (gs (popT σ fs.length) 1024) ∧ gs (popT σ fs.length) 1028 = owT f.2.2.2.1.1 ∧ rTw M.2.2.2 (popT σ fs.length) (gvW M f.2.2.2.1.1) f.2.2.2.1.2 (gs (popT σ fs.length) 1037) := by
  obtain ⟨H1, H2, ⟨H3, H3', H3''⟩, H4, H5, ⟨⟨h1, h2, h3, h4, h5, h6⟩, h7⟩⟩ := H
  rw [List.length_cons] at H3 H3' H3''
  have F : fr [992, 1020, 1024, 1028, 1037] [] σ (popT σ fs.length) := by
    unfold popT
    exact fr_us (fr_us (fr_us (fr_us (fr_us (fr_refl _ _ _) (by decide)) (by decide)) (by decide)) (by decide)) (by decide)
  have Gr : mGr σ (popT σ fs.length) := mGr_o F (by decide) (by decide)
  refine ⟨⟨fr_trans H1 (fr_sub F (by decide) (by decide)), mCt_fr F (by decide) H2, ⟨rfl, by omega, by omega⟩, by rw [F.1 996 (by decide)]; exact H4, by rw [F.1 1000 (by decide)]; exact H5, fTw_gr Gr (fun g _ k _ => F.2 g (by simp) k) h7⟩, F, Gr, vTw_gr Gr h3, h4, rTw_gr Gr h5⟩
/-- the step of the loop, but for the kind of frame -/
noncomputable def tcB (x : Int) (σ : tS) (k : Nat) : Option ((Int × tS) ⊕ ((Int × tS) ⊕ (Int × Int × tS) ⊕ (Int × Int × tS) ⊕ (Int × Int × tS) ⊕ (Int × Int × tS) ⊕ (Int × Int × tS) ⊕ (Int × Int × tS) ⊕ tS)) := if ga σ 970 k = 12 then some (.inr (.inr (.inl (x, ga σ 974 k, popT σ k)))) else if ga σ 970 k = 15 then some (.inr (.inr (.inr (.inr (.inl (x, ga σ 974 k, popT σ k)))))) else if ga σ 970 k = 16 then some (.inr (.inr (.inr (.inr (.inr (.inl (x, ga σ 974 k, popT σ k))))))) else if ga σ 970 k = 17 then some (.inr (.inr (.inr (.inr (.inr (.inr (.inl (x, ga σ 974 k, popT σ k)))))))) else if ga σ 970 k = 18 then some (.inr (.inr (.inr (.inl (x, ga σ 974 k, popT σ k))))) else if ga σ 970 k = 118 then if 0 ≤ ga σ 974 k ∧ ga σ 974 k < 8400 ∧ 0 ≤ ga σ 542 (ga σ 974 k).toNat ∧ ga σ 542 (ga σ 974 k).toNat < 4100 then ((T_result (ga σ 470 (ga σ 542 (ga σ 974 k).toNat).toNat) (l2i (shr64 (ga σ 986 k) 3)) (l2i (shr64 x 3))).bind fun p2 => some (.inl (p2, popT σ k))) else none else if (and64 (ga σ 986 k) 7) ≠ 5 then (T_applied (ga σ 986 k) x (popT σ k)).bind fun p3 => some (.inl (p3.1, p3.2)) else some (.inr (.inr (.inr (.inr (.inr (.inr (.inr (.inl (x, ga σ 986 k, popT σ k)))))))))
theorem tc_eq {f : Fr} {fs : List Fr} {x : Int} (H : mMd σ0 n M rg σ (f :: fs) c m) : T_comes_2s (x, σ) = tcB x σ fs.length := by
  have h3 := H.2.2.1
  rw [List.length_cons] at h3
  unfold T_comes_2s
  simp only
  rw [H.2.2.2.2.1, if_neg (fun z => z rfl), h3.1, if_pos (by omega), show w32 (((fs.length + 1 : Nat) : Int) - 1) = (fs.length : Int) by rw [w32_s (by omega) (by omega)]; omega, if_pos (by omega), show ((fs.length : Int)).toNat = fs.length by omega]
  unfold T_go
  rw [Option.bind_some, if_pos (by omega)]
  rfl
theorem md_1020 {fs : List Fr} {x : Int} (H : mMd σ0 n M rg σ fs c m) : mMd σ0 n M rg (us σ 1020 x) fs c m ∧ mGr σ (us σ 1020 x) := by
  have F : fr [1020] [] σ (us σ 1020 x) := fr_one
  have Gr : mGr σ (us σ 1020 x) := mGr_o F (by decide) (by decide)
  obtain ⟨H1, H2, H3, H4, H5, H6⟩ := H
  exact ⟨⟨fr_trans H1 (fr_sub F (by decide) (by decide)), mCt_fr F (by decide) H2, H3, H4, H5, fTw_gr Gr (fun g _ k _ => rfl) H6⟩, Gr⟩
theorem full_md {fs : List Fr} (H : mMd σ0 n M rg σ fs c m) (hc : ¬ c < 4000) : mFw σ0 (us σ 1000 4) 4 4000 m := by
  have F : fr [1000] [] σ (us σ 1000 4) := fr_one
  refine ⟨fr_trans H.1 (fr_sub F (by decide) (by decide)), rfl, ?_, H.2.2.2.1⟩
  have := H.2.1.2.2
  show gs σ 1008 = _
  omega
/-- more of c in mMd -/
theorem md_grow {fs : List Fr} {fs' as' : List Nat} {c' : Nat} (H : mMd σ0 n M rg σ fs c m) (F : fr fs' as' σ τ) (h1 : ∀ f ∈ fs', f ∈ WMS) (h2 : ∀ f ∈ as', f ∈ WMA) (h3 : 992 ∉ fs' ∧ 996 ∉ fs' ∧ 1000 ∉ fs') (h4 : ∀ f ∈ [970, 974, 978, 982, 986, 990], f ∉ as') (Gr : mGr σ τ) (I : mCt τ c') : mMd σ0 n M rg τ fs c' m := by
  obtain ⟨H1, H2, H3, H4, H5, H6⟩ := H
  exact ⟨fr_trans H1 (fr_sub F h1 h2), I, by rw [F.1 992 h3.1]; exact H3, by rw [F.1 996 h3.2.1]; exact H4, by rw [F.1 1000 h3.2.2]; exact H5, fTw_gr Gr (fun g hg k _ => F.2 g (h4 g hg) k) H6⟩
theorem vTw_1 {v : Vt} {x : Int} {cd : Nat → Et → Int → Prop} (h : vTw M cd σ v true x) (t : xtg v = 1) : x = 8 * xnm v + 0 := by
  cases v with
  | leaf => exact h.elim
  | inner t' a u l r =>
    have t1 : t' = 1 := t
    rcases h with h | h | h | h | ⟨k, _, h⟩
    · show x = 8 * a.1 + 0
      omega
    · omega
    · omega
    · omega
    · rcases h with h | h | h | h <;> omega
theorem vTw_2 {v : Vt} {x : Int} {cd : Nat → Et → Int → Prop} (h : vTw M cd σ v true x) (t : xtg v = 2) : x = 8 * xnm v + 1 := by
  cases v with
  | leaf => exact h.elim
  | inner t' a u l r =>
    have t1 : t' = 2 := t
    rcases h with h | h | h | h | ⟨k, _, h⟩
    · omega
    · exact h.2
    · omega
    · omega
    · rcases h with h | h | h | h <;> omega
theorem vTw_3 {v : Vt} {x : Int} {cd : Nat → Et → Int → Prop} (h : vTw M cd σ v true x) (t : xtg v = 3) : (xnm v = 0 ∧ x = 8 * 0 + 2) ∨ (xnm v ≠ 0 ∧ x = 8 * xnm v + 6) := by
  cases v with
  | leaf => exact h.elim
  | inner t' a u l r =>
    have t1 : t' = 3 := t
    rcases h with h | h | h | h | ⟨k, _, h⟩
    · omega
    · omega
    · exact .inl ⟨h.2.1, by omega⟩
    · exact .inr ⟨h.2.1, h.2.2⟩
    · rcases h with h | h | h | h <;> omega
theorem vTw_45 {v : Vt} {x : Int} {cd : Nat → Et → Int → Prop} (h : vTw M cd σ v true x) (t : xtg v = 4 ∨ xtg v = 5) : ∃ k : Nat, (k : Int) < gs σ 952 ∧ ((xtg v = 4 ∧ x = 8 * (k : Int) + 3) ∨ (xtg v = 5 ∧ x = 8 * (k : Int) + 4)) ∧ vTw M cd σ (xl v) true (ga σ 930 k) ∧ vTw M cd σ (xr v) true (ga σ 934 k) := by
  cases v with
  | leaf => exact h.elim
  | inner t' a u l r =>
    have t1 : t' = 4 ∨ t' = 5 := t
    rcases h with h | h | h | h | ⟨k, hk, h⟩
    · omega
    · omega
    · omega
    · omega
    · rcases h with h | h | h | h
      · exact ⟨k, hk, .inl ⟨h.1, h.2.1⟩, h.2.2.1, h.2.2.2⟩
      · exact ⟨k, hk, .inr ⟨h.1, h.2.1⟩, h.2.2.1, h.2.2.2⟩
      · omega
      · omega
theorem vTw_6 {v : Vt} {x : Int} {cd : Nat → Et → Int → Prop} (h : vTw M cd σ v true x) (t : xtg v = 6) : ∃ k : Nat, (k : Int) < gs σ 952 ∧ x = 8 * (k : Int) + 7 ∧ vTw M cd σ (xl v) true (ga σ 930 k) ∧ ga σ 934 k = xnm v := by
  cases v with
  | leaf => exact h.elim
  | inner t' a u l r =>
    have t1 : t' = 6 := t
    rcases h with h | h | h | h | ⟨k, hk, h⟩
    · omega
    · omega
    · omega
    · omega
    · rcases h with h | h | h | h
      · omega
      · omega
      · exact ⟨k, hk, h.2.1, h.2.2.1, h.2.2.2⟩
      · omega
theorem vTw_7 {v : Vt} {x : Int} {cd : Nat → Et → Int → Prop} (h : vTw M cd σ v true x) (t : xtg v = 7) : ∃ k : Nat, (k : Int) < gs σ 952 ∧ x = 8 * (k : Int) + 5 ∧ cd (xow v).1 (xcd v) (ga σ 938 k) ∧ vTw M cd σ (xl v) false (ga σ 942 k) ∧ ga σ 946 k = owT (xow v).1 ∧ rTw M.2.2.2 σ (gvW M (xow v).1) (xow v).2 (ga σ 950 k) := by
  cases v with
  | leaf => exact h.elim
  | inner t' a u l r =>
    have t1 : t' = 7 := t
    rcases h with h | h | h | h | ⟨k, hk, h⟩
    · omega
    · omega
    · omega
    · omega
    · rcases h with h | h | h | h
      · omega
      · omega
      · omega
      · exact ⟨k, hk, h.2.1, h.2.2.1, h.2.2.2.1, h.2.2.2.2.1, h.2.2.2.2.2⟩
end LTD
