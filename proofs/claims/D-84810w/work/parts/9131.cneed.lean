set_option maxRecDepth 100000
/-! what is begun while a text is read: older things are as they were, but for the Tokens -/
def hx (t : Nat) (h h' : om_H) : Prop := hz h ≤ hz h' ∧ hu h ≤ hu h' ∧ (∀ a, a < hz h → kd h' a = kd h a) ∧ (∀ f a, a < hz h → a ≠ t → fI h' f a = fI h f a) ∧ (∀ f a, a < hz h → a ≠ t → fR h' f a = fR h f a) ∧ (∀ a, a < hz h → an h' a = an h a) ∧ (∀ a i, a < hz h → aI h' a i = aI h a i) ∧ (∀ a i, a < hz h → aR h' a i = aR h a i) ∧ (∀ a, a < hz h → ll h' a = ll h a) ∧ (∀ a, a < hz h → lc h' a = lc h a)
theorem hx_refl (t : Nat) (h : om_H) : hx t h h := ⟨Nat.le_refl _, Nat.le_refl _, fun _ _ => rfl, fun _ _ _ _ => rfl, fun _ _ _ _ => rfl, fun _ _ => rfl, fun _ _ _ => rfl, fun _ _ _ => rfl, fun _ _ => rfl, fun _ _ => rfl⟩
theorem hx_trans {t : Nat} {h h1 h2 : om_H} (A : hx t h h1) (B : hx t h1 h2) : hx t h h2 := by
  obtain ⟨a0, a1, a2, a3, a4, a5, a6, a7, a8, a9⟩ := A
  obtain ⟨b0, b1, b2, b3, b4, b5, b6, b7, b8, b9⟩ := B
  exact ⟨Nat.le_trans a0 b0, Nat.le_trans a1 b1, fun a c => (b2 a (Nat.lt_of_lt_of_le c a0)).trans (a2 a c), fun f a c d => (b3 f a (Nat.lt_of_lt_of_le c a0) d).trans (a3 f a c d), fun f a c d => (b4 f a (Nat.lt_of_lt_of_le c a0) d).trans (a4 f a c d), fun a c => (b5 a (Nat.lt_of_lt_of_le c a0)).trans (a5 a c), fun a i c => (b6 a i (Nat.lt_of_lt_of_le c a0)).trans (a6 a i c), fun a i c => (b7 a i (Nat.lt_of_lt_of_le c a0)).trans (a7 a i c), fun a c => (b8 a (Nat.lt_of_lt_of_le c a0)).trans (a8 a c), fun a c => (b9 a (Nat.lt_of_lt_of_le c a0)).trans (a9 a c)⟩
theorem hx_onlyT {t : Nat} {h h' : om_H} (A : onlyT t h h') : hx t h h' := by
  obtain ⟨a1, a2, a3, a4, a5, a6, a7, a8, a9, a10, a11, a12, a13⟩ := A
  exact ⟨by rw [a9]; exact Nat.le_refl _, by rw [a10]; exact Nat.le_refl _, fun a _ => by rw [a1], fun f a _ c => a2 f a c, fun f a _ c => a3 f a c, fun a _ => by rw [a4], fun a i _ => by rw [a5], fun a i _ => by rw [a6], fun a _ => by rw [a7], fun a _ => by rw [a8]⟩
theorem hx_nO {t : Nat} (h : om_H) (k n : Nat) : hx t h (nO h k n) := ⟨by rw [hz_nO]; omega, by rw [hu_nO]; omega, fun a c => by rw [kd_nO, if_neg (by omega)], fun f a c _ => by rw [fI_nO, if_neg (by omega)], fun f a c _ => by rw [fR_nO, if_neg (by omega)], fun _ _ => rfl, fun _ _ _ => rfl, fun _ _ _ => rfl, fun _ _ => rfl, fun _ _ => rfl⟩
theorem hx_sI {t : Nat} {h h' : om_H} (A : hx t h h') {f a : Nat} {x : Int} (ha : hz h ≤ a) : hx t h (sI h' f a x) := by
  obtain ⟨a0, a1, a2, a3, a4, a5, a6, a7, a8, a9⟩ := A
  exact ⟨a0, a1, a2, fun g b c d => by rw [fI_na (by omega)]; exact a3 g b c d, a4, a5, a6, a7, a8, a9⟩
theorem hx_sR {t : Nat} {h h' : om_H} (A : hx t h h') {f a x : Nat} (ha : hz h ≤ a) : hx t h (sR h' f a x) := by
  obtain ⟨a0, a1, a2, a3, a4, a5, a6, a7, a8, a9⟩ := A
  exact ⟨a0, a1, a2, a3, fun g b c d => by rw [fR_na (by omega)]; exact a4 g b c d, a5, a6, a7, a8, a9⟩
theorem hx_gL {t : Nat} {h h' : om_H} (A : hx t h h') {a : Nat} {l : List Nat} {c n u : Nat} (ha : hz h ≤ a) : hx t h (gL h' a l c n u) := by
  obtain ⟨a0, a1, a2, a3, a4, a5, a6, a7, a8, a9⟩ := A
  exact ⟨by rw [hz_gL]; omega, by rw [hu_gL]; omega, fun b q => by rw [kd_gL, if_neg (by omega)]; exact a2 b q, a3, a4, a5, a6, a7, fun b q => by rw [ll_gL, if_neg (by omega)]; exact a8 b q, fun b q => by rw [lc_gL, if_neg (by omega)]; exact a9 b q⟩
theorem hx_sL {t : Nat} {h h' : om_H} (A : hx t h h') {a : Nat} {l : List Nat} (ha : hz h ≤ a) : hx t h (sL h' a l) := by
  obtain ⟨a0, a1, a2, a3, a4, a5, a6, a7, a8, a9⟩ := A
  exact ⟨a0, a1, a2, a3, a4, a5, a6, a7, fun b q => by rw [ll_sL, if_neg (by omega)]; exact a8 b q, a9⟩
/-- a Tokens object is as it was -/
def sameT (t : Nat) (h h' : om_H) : Prop := (∀ f, fI h' f t = fI h f t) ∧ ∀ f, fR h' f t = fR h f t
/-- a Word that is the token of a number -/
def wd (h : om_H) (A : Nat) (S : List Int) (a j : Nat) : Prop := kd h a = 17 ∧ fR h 1186 a = A ∧ fI h 1188 a = (tokq S j : Int) ∧ fI h 1192 a = (tokn S j : Int)
/-- a Fault of the grammar at a place -/
def flt (h : om_H) (a : Nat) (k p : Int) : Prop := kd h a = 16 ∧ fI h 1176 a = k ∧ fI h 1180 a = p ∧ a ≠ 0
section LC6
variable {G : om_G} {h h' : om_H} {t : Nat} {S : List Int} {i : Nat} {n : Int}
theorem Cst_sameT (H : Cst G h t S i n) (A : hx t h h') (B : sameT t h h') : Cst G h' t S i n := by
  obtain ⟨⟨⟨k, ⟨x1, x2, x3, x4, x5⟩, m⟩, a1, a2, a3, a4, a5, a6, a7, a8⟩, b1, b2, b3⟩ := H
  obtain ⟨c0, c1, c2, c3, c4, c5, c6, c7, c8, c9⟩ := A
  refine ⟨⟨⟨by rw [c2 t b2]; exact k, ⟨?_, ?_, x3, ?_, x5⟩, by rw [B.1]; exact m⟩, by rw [B.1]; exact a1, by rw [B.2]; exact a2, by rw [B.1]; exact a3, by rw [B.1]; exact a4, by rw [B.1]; exact a5, by rw [B.1]; exact a6, by rw [B.1]; exact a7, by rw [B.1]; exact a8⟩, by rw [B.1]; exact b1, by omega, by rw [B.2]; omega⟩
  · rw [B.2, c2 _ b3]; exact x1
  · rw [B.2, c5 _ b3]; exact x2
  · intro p x e; rw [B.2, c6 _ _ b3]; exact x4 p x e
theorem wd_hx {A a j : Nat} (X : hx t h h') (ha : a < hz h) (hat : a ≠ t) (w : wd h A S a j) : wd h' A S a j := by
  obtain ⟨c0, c1, c2, c3, c4, c5, c6, c7, c8, c9⟩ := X
  exact ⟨by rw [c2 a ha]; exact w.1, by rw [c4 _ a ha hat]; exact w.2.1, by rw [c3 _ a ha hat]; exact w.2.2.1, by rw [c3 _ a ha hat]; exact w.2.2.2⟩
/-- the word that a Tokens object stands at -/
theorem c_word (H : Cst G h t S i n) (hk : tokk S i ≠ 0) : ∃ h', C_14_word G t h = some (hz h, h') ∧ hx t h h' ∧ sameT t h h' ∧ wd h' (fR h 1122 t) S (hz h) i ∧ hz h' = hz h + 1 ∧ hu h' = hu h + 3 := by
  have ht := H.2.2.1
  have k1 : kd (nO h 17 3) t = 15 := by rw [kd_nO, if_neg (by omega)]; exact Cst_kd H
  have k2 : kd (nO h 17 3) (hz h) = 17 := by rw [kd_nO, if_pos rfl]
  unfold C_14_word C_16_init
  rw [gd_pos ⟨k1, k2⟩, gd_pos k2]
  have r1 : fR (nO h 17 3) 1122 t = fR h 1122 t := by rw [fR_nO, if_neg (by omega)]
  have r2 : fI (nO h 17 3) 1136 t = fI h 1136 t := by rw [fI_nO, if_neg (by omega)]
  have r3 : fI (nO h 17 3) 1140 t = fI h 1140 t := by rw [fI_nO, if_neg (by omega)]
  rw [r1, r2, r3, Cst_q H, Cst_n H hk]
  refine ⟨_, rfl, hx_sI (hx_sI (hx_sR (hx_nO h 17 3) (Nat.le_refl _)) (Nat.le_refl _)) (Nat.le_refl _), ⟨fun f => ?_, fun f => ?_⟩, ⟨k2, ?_, ?_, ?_⟩, rfl, rfl⟩
  · rw [fI_na (by omega), fI_na (by omega), fI_sR, fI_nO, if_neg (by omega)]
  · rw [fR_sI, fR_sI, fR_na (by omega), fR_nO, if_neg (by omega)]
  · rw [fR_sI, fR_sI, fR_eq]
  · rw [fI_ne (by decide), fI_eq]
  · rw [fI_eq]
/-- a Fault at the token -/
theorem c_wrong (H : Cst G h t S i n) : ∃ h', C_14_wrong G t h = some (hz h, h') ∧ hx t h h' ∧ sameT t h h' ∧ flt h' (hz h) 1 (tokq S i) ∧ hz h' = hz h + 1 ∧ hu h' = hu h + 8 := by
  have ht := H.2.2.1
  have k1 : kd (nO h 16 8) t = 15 := by rw [kd_nO, if_neg (by omega)]; exact Cst_kd H
  have k2 : kd (nO h 16 8) (hz h) = 16 := by rw [kd_nO, if_pos rfl]
  have z : ∀ f, fR (nO h 16 8) f (hz h) = 0 := fun f => by rw [fR_nO, if_pos rfl]
  unfold C_14_wrong C_15_init P_J10_init
  rw [gd_pos ⟨k1, k2⟩, gd_pos k2, gd_pos ⟨k2, rfl, rfl, rfl, rfl, z _, z _, z _, z _⟩]
  have r2 : fI (nO h 16 8) 1136 t = fI h 1136 t := by rw [fI_nO, if_neg (by omega)]
  simp only [Option.bind_some]
  rw [gd_pos k2, r2, Cst_q H]
  refine ⟨_, rfl, hx_sI (hx_sI (hx_nO h 16 8) (Nat.le_refl _)) (Nat.le_refl _), ⟨fun f => ?_, fun f => ?_⟩, ⟨k2, ?_, ?_, by omega⟩, rfl, rfl⟩
  · rw [fI_na (by omega), fI_na (by omega), fI_nO, if_neg (by omega)]
  · rw [fR_sI, fR_sI, fR_nO, if_neg (by omega)]
  · rw [fI_ne (by decide), fI_eq]
  · rw [fI_eq]
/-- thrown: a Fault of the grammar at the token of a number -/
def thr (t : Nat) (S : List Int) (i : Nat) (h h' : om_H) (a : Nat) : Prop := hx t h h' ∧ flt h' a 1 (tokq S i) ∧ hz h' ≤ hz h + 1 ∧ hu h' ≤ hu h + 8
theorem c_need2 (hG : om_okG G) (H : Cst G h t S i n) {v : Int} (hv : v = 256 ∨ v = 257 ∨ (40 ≤ v ∧ v ≤ 255)) :
    (tokk S i = sc v → ∃ h', C_14_need_2 G t v h = some (.inr (), h') ∧ Cst G h' t S (i + 1) n ∧ onlyT t h h') ∧ (tokk S i ≠ sc v → ∃ a h', C_14_need_2 G t v h = some (.inl a, h') ∧ thr t S i h h' a) := by
  obtain ⟨p1, p2⟩ := c_passes2 hG H hv
  unfold C_14_need_2
  rw [gd_pos (Cst_kd H)]
  refine ⟨fun c => ?_, fun c => ?_⟩
  · obtain ⟨h', e1, e2, e3⟩ := p1 c
    refine ⟨h', ?_, e2, e3⟩
    rw [e1]
    simp
  · obtain ⟨h', e1, e2, e3, e4, e5, e6⟩ := c_wrong H
    refine ⟨hz h, h', ?_, e2, e4, by omega, by omega⟩
    rw [p2 c]
    simp only [Option.bind_some]
    rw [if_neg (by simp), gd_pos (Cst_kd H), e1]
    simp only [Option.bind_some]
    rw [gd_pos e4.2.2.2]
/-- a token of a kind is passed, as a Word -/
theorem c_need (hG : om_okG G) (H : Cst G h t S i n) {e : Nat} (he : 1 ≤ e ∧ e ≤ 4) :
    (tokk S i = (e : Int) → ∃ h', C_14_need G t (om_cA G e) h = some (.inr (hz h), h') ∧ Cst G h' t S (i + 1) n ∧ hx t h h' ∧ wd h' (fR h 1122 t) S (hz h) i ∧ hz h' = hz h + 1 ∧ hu h' = hu h + 3 ∧ fR h' 1122 t = fR h 1122 t) ∧ (tokk S i ≠ (e : Int) → ∃ a h', C_14_need G t (om_cA G e) h = some (.inl a, h') ∧ thr t S i h h' a) := by
  have hk := Cst_kind hG H (e := e) (by omega)
  have hs := kE_s (tokk_r S i).1 (e := e) (by omega)
  unfold C_14_need
  rw [gd_pos (Cst_kd H)]
  refine ⟨fun c => ?_, fun c => ?_⟩
  · obtain ⟨h1, e1, e2, e3, e4, e5, e6⟩ := c_word H (by omega)
    have H1 := Cst_sameT H e2 e3
    obtain ⟨h2, f1, f2, f3⟩ := c_next H1 (by omega)
    have X := hx_onlyT f3
    refine ⟨h2, ?_, f2, hx_trans e2 X, wd_hx X (by omega) (by have := H.2.2.1; omega) e4, ?_, ?_, ?_⟩
    · rw [if_pos (hk.mpr (hs.mpr c)), gd_pos (Cst_kd H), e1]
      simp only [Option.bind_some]
      rw [gd_pos (Cst_kd H1), f1]
      rfl
    · rw [f3.2.2.2.2.2.2.2.2.1]; exact e5
    · rw [f3.2.2.2.2.2.2.2.2.2.1]; exact e6
    · rw [f3.2.2.2.2.2.2.2.2.2.2.2.2]; exact e3.2 _
  · obtain ⟨h', e1, e2, e3, e4, e5, e6⟩ := c_wrong H
    refine ⟨hz h, h', ?_, e2, e4, by omega, by omega⟩
    rw [if_neg (fun z => c (hs.mp (hk.mp z))), gd_pos (Cst_kd H), e1]
    simp only [Option.bind_some]
    rw [gd_pos e4.2.2.2]
/-- one more thing is begun -/
theorem c_begin (H : Cst G h t S i n) (hn : 0 ≤ n ∧ n ≤ 20) : (n ≠ 20 → ∃ h', C_14_begin G t h = some (.inr (), h') ∧ Cst G h' t S i (n + 1) ∧ hx t h h' ∧ hz h' = hz h ∧ hu h' = hu h ∧ fR h' 1122 t = fR h 1122 t) ∧ (n = 20 → ∃ a h', C_14_begin G t h = some (.inl a, h') ∧ thr t S i h h' a) := by
  unfold C_14_begin
  rw [gd_pos (Cst_kd H), H.2.1]
  refine ⟨fun c => ?_, fun c => ?_⟩
  · rw [if_pos c, gd_pos (Cst_kd H), w32_s (by omega) (by omega)]
    refine ⟨_, rfl, ?_, ?_, rfl, rfl, rfl⟩
    · obtain ⟨⟨T, a1, a2, a3, a4, a5, a6, a7, a8⟩, b1, b2, b3⟩ := H
      exact ⟨⟨tkT_sI T (by decide), by rw [fI_ne (by decide)]; exact a1, a2, by rw [fI_ne (by decide)]; exact a3, by rw [fI_ne (by decide)]; exact a4, by rw [fI_ne (by decide)]; exact a5, by rw [fI_ne (by decide)]; exact a6, by rw [fI_ne (by decide)]; exact a7, by rw [fI_ne (by decide)]; exact a8⟩, fI_eq, b2, b3⟩
    · exact ⟨Nat.le_refl _, Nat.le_refl _, fun _ _ => rfl, fun f a _ d => fI_na d, fun _ _ _ _ => rfl, fun _ _ => rfl, fun _ _ _ => rfl, fun _ _ _ => rfl, fun _ _ => rfl, fun _ _ => rfl⟩
  · obtain ⟨h', e1, e2, e3, e4, e5, e6⟩ := c_wrong H
    refine ⟨hz h, h', ?_, e2, e4, by omega, by omega⟩
    rw [if_neg (fun z => z c), gd_pos (Cst_kd H), e1]
    simp only [Option.bind_some]
    rw [gd_pos e4.2.2.2]
end LC6
