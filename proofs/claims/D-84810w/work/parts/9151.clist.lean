set_option maxRecDepth 100000
/-! LISTS of the component -/
theorem addL_ll (h : om_H) (a x b : Nat) (hl : (ll h a).length ≤ lc h a) : ll (addL h a x) b = if b = a then ll h a ++ [x] else ll h b := by
  unfold addL
  split
  · rw [ll_sL]
  · split
    · rename_i h1 h2
      have : ll h a = [] := List.eq_nil_of_length_eq_zero (by omega)
      rw [ll_gL, this]; rfl
    · rw [ll_gL]
theorem addL_kd (h : om_H) (a x b : Nat) (hk : kd h a = 42) : kd (addL h a x) b = kd h b := by
  unfold addL
  split
  · rfl
  · split
    · rw [kd_gL]; split
      · rename_i e; rw [e, hk]
      · rfl
    · rw [kd_gL]; split
      · rename_i e; rw [e, hk]
      · rfl
theorem addL_fI (h : om_H) (a x f b : Nat) : fI (addL h a x) f b = fI h f b := by
  unfold addL
  split
  · rfl
  · split <;> rfl
theorem addL_fR (h : om_H) (a x f b : Nat) : fR (addL h a x) f b = fR h f b := by
  unfold addL
  split
  · rfl
  · split <;> rfl
theorem addL_an (h : om_H) (a x b : Nat) : an (addL h a x) b = an h b := by
  unfold addL
  split
  · rfl
  · split <;> rfl
theorem addL_aI (h : om_H) (a x b i : Nat) : aI (addL h a x) b i = aI h b i := by
  unfold addL
  split
  · rfl
  · split <;> rfl
theorem addL_aR (h : om_H) (a x b i : Nat) : aR (addL h a x) b i = aR h b i := by
  unfold addL
  split
  · rfl
  · split <;> rfl
theorem addL_lc (h : om_H) (a x b : Nat) (hb : b ≠ a) : lc (addL h a x) b = lc h b := by
  unfold addL
  split
  · rfl
  · split
    · rw [lc_gL, if_neg hb]
    · rw [lc_gL, if_neg hb]
/-- a list's room, and what it costs to make it larger -/
theorem addL_room (h : om_H) (a x : Nat) (hl : (ll h a).length ≤ lc h a) (hc : lc h a ≤ 2 * (ll h a).length + 10) : (ll h a).length + 1 ≤ lc (addL h a x) a ∧ lc (addL h a x) a ≤ 2 * ((ll h a).length + 1) + 10 ∧ lc h a ≤ lc (addL h a x) a ∧ hz h ≤ hz (addL h a x) ∧ hz (addL h a x) ≤ hz h + 1 ∧ hu h ≤ hu (addL h a x) ∧ hu (addL h a x) + 4 * lc h a ≤ hu h + 4 * lc (addL h a x) a := by
  unfold addL
  split
  · rename_i c
    simp only [lc_sL, hz_sL, hu_sL]
    omega
  · split
    · simp only [lc_gL, hz_gL, hu_gL, if_true]
      omega
    · simp only [lc_gL, hz_gL, hu_gL, if_true]
      unfold om_cap
      split <;> omega
/-- a list is sound -/
def okL (G : om_G) (h : om_H) (a : Nat) : Prop := kd h a = 42 ∧ (ll h a).length ≤ lc h a ∧ lc h a ≤ 2 * (ll h a).length + 10 ∧ ∀ y ∈ ll h a, om_obj G h y
theorem c_add {G : om_G} {h : om_H} {a x : Nat} (L : okL G h a) (hx : om_obj G h x) (hn : (ll h a).length ≤ 100000) : P_J2_add G a x h = some (1, addL h a x) := by
  unfold P_J2_add
  exact gd_pos ⟨L.1, L.2.1, by have := L.2.2.1; omega, hx, L.2.2.2⟩
theorem hx_add {t : Nat} {h h' : om_H} (A : hx t h h') {a x : Nat} (ha : hz h ≤ a) (hk : kd h' a = 42) (hl : (ll h' a).length ≤ lc h' a) (hc : lc h' a ≤ 2 * (ll h' a).length + 10) : hx t h (addL h' a x) := by
  obtain ⟨a0, a1, a2, a3, a4, a5, a6, a7, a8, a9⟩ := A
  obtain ⟨r1, r2, r3, r4, r5, r6, r7⟩ := addL_room h' a x hl hc
  exact ⟨by omega, by omega, fun b q => by rw [addL_kd _ _ _ _ hk]; exact a2 b q, fun f b q d => by rw [addL_fI]; exact a3 f b q d, fun f b q d => by rw [addL_fR]; exact a4 f b q d, fun b q => by rw [addL_an]; exact a5 b q, fun b i q => by rw [addL_aI]; exact a6 b i q, fun b i q => by rw [addL_aR]; exact a7 b i q, fun b q => by rw [addL_ll _ _ _ _ hl, if_neg (by omega)]; exact a8 b q, fun b q => by rw [addL_lc _ _ _ _ (by omega)]; exact a9 b q⟩
/-- Cst does not see what isn't the Tokens object or its text -/
theorem Cst_keep {G : om_G} {h h' : om_H} {t : Nat} {S : List Int} {i : Nat} {n : Int} (H : Cst G h t S i n) (X : hx t h h') (Y : ∀ f, fI h' f t = fI h f t) (Z : ∀ f, fR h' f t = fR h f t) : Cst G h' t S i n := Cst_sameT H X ⟨Y, Z⟩
theorem Cst_add {G : om_G} {h : om_H} {t : Nat} {S : List Int} {i : Nat} {n : Int} {a x : Nat} (H : Cst G h t S i n) (hk : kd h a = 42) (hl : (ll h a).length ≤ lc h a) (hc : lc h a ≤ 2 * (ll h a).length + 10) : Cst G (addL h a x) t S i n := by
  obtain ⟨⟨⟨k, ⟨x1, x2, x3, x4, x5⟩, m⟩, a1, a2, a3, a4, a5, a6, a7, a8⟩, b1, b2, b3⟩ := H
  obtain ⟨r1, r2, r3, r4, r5, r6, r7⟩ := addL_room h a x hl hc
  have fi : ∀ f, fI (addL h a x) f t = fI h f t := fun f => addL_fI _ _ _ _ _
  have fr_ : ∀ f, fR (addL h a x) f t = fR h f t := fun f => addL_fR _ _ _ _ _
  refine ⟨⟨⟨by rw [addL_kd _ _ _ _ hk]; exact k, ⟨?_, ?_, x3, ?_, x5⟩, by rw [fi]; exact m⟩, by rw [fi]; exact a1, by rw [fr_]; exact a2, by rw [fi]; exact a3, by rw [fi]; exact a4, by rw [fi]; exact a5, by rw [fi]; exact a6, by rw [fi]; exact a7, by rw [fi]; exact a8⟩, by rw [fi]; exact b1, by omega, by rw [fr_]; omega⟩
  · rw [fr_, addL_kd _ _ _ _ hk]; exact x1
  · rw [fr_, addL_an]; exact x2
  · intro p y e; rw [fr_, addL_aI]; exact x4 p y e
/-! a Written is made -/
def mkW (h : om_H) (a w : Nat) (g : Int) : om_H := sI (sR (sR (gL (nO h 41 3) (hz h) [] 0 0 0) 1274 a (hz h)) 1266 a w) 1271 a g
theorem c_Winit {G : om_G} {h : om_H} {a w : Nat} {g : Int} (ha : a < hz h) (hk : kd h a = 20) (hg : g = 0 ∨ g = 1) : C_19_init G a w g h = some (mkW h a w g) := by
  unfold C_19_init P_J2_init
  have k1 : kd (nO h 41 3) (hz h) = 41 := by rw [kd_nO, if_pos rfl]
  have f1 : fI (nO h 41 3) 1728 (hz h) = 0 := by rw [fI_nO, if_pos rfl]
  rw [gd_pos ⟨hk, k1⟩, gd_pos ⟨k1, f1⟩]
  simp only [Option.bind_some]
  have k2 : kd (gL (nO h 41 3) (hz h) [] 0 0 0) a = 20 := by rw [kd_gL, if_neg (by omega), kd_nO, if_neg (by omega)]; exact hk
  rw [gd_pos ⟨k2, k2, hg⟩]
  rfl
section LW2
variable {h : om_H} {a w : Nat} {g : Int}
theorem mkW_kd (ha : a < hz h) (x : Nat) : kd (mkW h a w g) x = if x = hz h then 42 else kd h x := by
  show (if x = hz h then 42 else if x = hz h then 41 else kd h x) = _
  split <;> rfl
theorem mkW_ll (x : Nat) : ll (mkW h a w g) x = if x = hz h then [] else ll h x := rfl
theorem mkW_lc (x : Nat) : lc (mkW h a w g) x = if x = hz h then 0 else lc h x := rfl
theorem mkW_hz : hz (mkW h a w g) = hz h + 1 := rfl
theorem mkW_hu : hu (mkW h a w g) = hu h + 3 := rfl
theorem mkW_74 : fR (mkW h a w g) 1274 a = hz h := by
  unfold mkW
  rw [fR_sI, fR_ne (by decide), fR_eq]
theorem mkW_66 : fR (mkW h a w g) 1266 a = w := by
  unfold mkW
  rw [fR_sI, fR_eq]
theorem mkW_71 : fI (mkW h a w g) 1271 a = g := by
  unfold mkW
  rw [fI_eq]
theorem mkW_fI {f x : Nat} (h1 : x ≠ a) (h2 : x < hz h) : fI (mkW h a w g) f x = fI h f x := by
  unfold mkW
  rw [fI_na h1, fI_sR, fI_sR, fI_gL, fI_nO, if_neg (by omega)]
theorem mkW_fR {f x : Nat} (h1 : x ≠ a) (h2 : x < hz h) : fR (mkW h a w g) f x = fR h f x := by
  unfold mkW
  rw [fR_sI, fR_na h1, fR_na h1, fR_gL, fR_nO, if_neg (by omega)]
theorem hx_mkW {t : Nat} {h0 : om_H} (A : hx t h0 h) (h1 : hz h0 ≤ a) : hx t h0 (mkW h a w g) := by
  have A0 := A.1
  exact hx_sI (hx_sR (hx_sR (hx_gL (hx_trans A (hx_nO h 41 3)) A0) h1) h1) h1
end LW2
