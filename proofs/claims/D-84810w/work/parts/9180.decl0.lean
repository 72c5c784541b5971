set_option maxRecDepth 100000
/-! DECLARATIONS: what reading them may write -/
abbrev DA : List Nat := [570, 574, 578, 582, 586, 590, 594, 598, 602, 606, 610, 614, 618, 622]
abbrev PFD : List Nat := 624 :: PF
abbrev PAD : List Nat := PA ++ DA
theorem TT_frD {σ τ : tS} {N : List (List Int)} {S : List Int} {b m : Nat} (A : fr PFD PAD σ τ) (T : TT σ N S b m) : TT τ N S b m := ⟨fun j hj => TKi_eq (fun f hf => A.2 f (by simp only [List.mem_cons, List.not_mem_nil, or_false, List.mem_append] at hf ⊢; omega) _) (T.1 j hj), T.2⟩
/-- of the nodes and of the declarations those that were there -/
def ndD (σ τ : tS) (M d : Nat) : Prop := fr PF PAD σ τ ∧ (∀ f ∈ PA, ∀ i, i < M → ga τ f i = ga σ f i) ∧ ∀ f ∈ DA, ∀ i, i < d → ga τ f i = ga σ f i
section LD0
variable {σ τ υ : tS} {N : List (List Int)} {S : List Int} {b m i : Nat} {n p : Int} {M M' d : Nat} {h h' h1 h2 : om_H} {t : Nat} {G : om_G}
theorem ndD_refl (σ : tS) (M d : Nat) : ndD σ σ M d := ⟨fr_refl _ _ _, fun _ _ _ _ => rfl, fun _ _ _ _ => rfl⟩
theorem ndD_trans (A : ndD σ τ M d) (B : ndD τ υ M d) : ndD σ υ M d := ⟨fr_trans A.1 B.1, fun f hf i hi => (B.2.1 f hf i hi).trans (A.2.1 f hf i hi), fun f hf i hi => (B.2.2 f hf i hi).trans (A.2.2 f hf i hi)⟩
theorem PA_DA {f : Nat} (hf : f ∈ DA) : f ∉ PA := by
  intro z
  simp only [List.mem_cons, List.not_mem_nil, or_false] at hf z
  omega
theorem nd_ndD (D : nd σ τ M') (h : M ≤ M') : ndD σ τ M d := ⟨fr_mono D.1 (fun f hf => hf) (fun f hf => List.mem_append_left _ hf), fun f hf i hi => D.2 f hf i (by omega), fun f hf i _ => D.1.2 f (PA_DA hf) i⟩
theorem ndD_nd (A : ndD σ τ M d) (D : nd τ υ M') (h : M ≤ M') : ndD σ υ M d := ndD_trans A (nd_ndD D h)
theorem ndD_ua (A : ndD σ τ M d) {f j : Nat} {x : Int} (hf : f ∈ DA) (hj : d ≤ j) : ndD σ (ua τ f j x) M d :=
  ⟨fr_ua A.1 (List.mem_append_right _ hf), fun g hg i hi => by rw [ga_ua, if_neg (fun (z : g = f ∧ i = j) => PA_DA hf (z.1 ▸ hg))]; exact A.2.1 g hg i hi, fun g hg i hi => by rw [ga_ua, if_neg (by omega)]; exact A.2.2 g hg i hi⟩
theorem Tst_ua (H : Tst σ N S b m i n M) {f j : Nat} {x : Int} (hf : f ∈ DA) : Tst (ua σ f j x) N S b m i n M := ⟨TT_frD (fr_ua (fr_refl _ _ _) (List.mem_append_right _ hf)) H.1, H.2⟩
theorem Tfl_ua (H : Tfl σ N S b m p n M) {f j : Nat} {x : Int} (hf : f ∈ DA) : Tfl (ua σ f j x) N S b m p n M := ⟨TT_frD (fr_ua (fr_refl _ _ _) (List.mem_append_right _ hf)) H.1, H.2⟩
/-- of the heap all but the Tokens object's fields and these lists -/
def hp (Z : Nat → Prop) (t : Nat) (h h' : om_H) : Prop := hz h ≤ hz h' ∧ hu h ≤ hu h' ∧ (∀ a, a < hz h → kd h' a = kd h a) ∧ (∀ f a, a < hz h → a ≠ t → fI h' f a = fI h f a) ∧ (∀ f a, a < hz h → a ≠ t → fR h' f a = fR h f a) ∧ (∀ a, a < hz h → an h' a = an h a) ∧ (∀ a i, a < hz h → aI h' a i = aI h a i) ∧ (∀ a i, a < hz h → aR h' a i = aR h a i) ∧ (∀ a, a < hz h → ¬ Z a → ll h' a = ll h a) ∧ (∀ a, a < hz h → ¬ Z a → lc h' a = lc h a)
theorem hx_hp {Z : Nat → Prop} (X : hx t h h') : hp Z t h h' := by
  obtain ⟨c0, c1, c2, c3, c4, c5, c6, c7, c8, c9⟩ := X
  exact ⟨c0, c1, c2, c3, c4, c5, c6, c7, fun a q _ => c8 a q, fun a q _ => c9 a q⟩
theorem hp_trans {Z : Nat → Prop} (X : hp Z t h h1) (Y : hp Z t h1 h2) : hp Z t h h2 := by
  obtain ⟨c0, c1, c2, c3, c4, c5, c6, c7, c8, c9⟩ := X
  obtain ⟨d0, d1, d2, d3, d4, d5, d6, d7, d8, d9⟩ := Y
  exact ⟨by omega, by omega, fun a q => by rw [d2 a (by omega)]; exact c2 a q, fun f a q r => by rw [d3 f a (by omega) r]; exact c3 f a q r, fun f a q r => by rw [d4 f a (by omega) r]; exact c4 f a q r, fun a q => by rw [d5 a (by omega)]; exact c5 a q, fun a i q => by rw [d6 a i (by omega)]; exact c6 a i q, fun a i q => by rw [d7 a i (by omega)]; exact c7 a i q, fun a q r => by rw [d8 a (by omega) r]; exact c8 a q r, fun a q r => by rw [d9 a (by omega) r]; exact c9 a q r⟩
theorem hxL_hp {Z : Nat → Prop} {L : Nat} (X : hxL L h h') (hL : Z L) : hp Z t h h' := by
  obtain ⟨c0, c1, c2, c3, c4, c5, c6, c7, c8, c9⟩ := X
  exact ⟨c0, c1, c2, fun f a q _ => c3 f a q, fun f a q _ => c4 f a q, c5, c6, c7, fun a q r => c8 a q (fun z => r (z ▸ hL)), fun a q r => c9 a q (fun z => r (z ▸ hL))⟩
/-- a write to an object of one's own, a list of one's own -/
theorem hp_sR {Z : Nat → Prop} (X : hp Z t h h') {f a x : Nat} (ha : hz h ≤ a) : hp Z t h (sR h' f a x) := by
  obtain ⟨c0, c1, c2, c3, c4, c5, c6, c7, c8, c9⟩ := X
  exact ⟨c0, c1, c2, c3, fun g b q r => by rw [fR_sR, if_neg (by omega)]; exact c4 g b q r, c5, c6, c7, c8, c9⟩
theorem hp_sI {Z : Nat → Prop} (X : hp Z t h h') {f a : Nat} {x : Int} (ha : hz h ≤ a) : hp Z t h (sI h' f a x) := by
  obtain ⟨c0, c1, c2, c3, c4, c5, c6, c7, c8, c9⟩ := X
  exact ⟨c0, c1, c2, fun g b q r => by rw [fI_sI, if_neg (by omega)]; exact c3 g b q r, c4, c5, c6, c7, c8, c9⟩
theorem hp_hxL {Z : Nat → Prop} {L : Nat} (X : hp Z t h h1) (Y : hxL L h1 h2) (hL : hz h ≤ L) : hp Z t h h2 := by
  obtain ⟨c0, c1, c2, c3, c4, c5, c6, c7, c8, c9⟩ := X
  obtain ⟨d0, d1, d2, d3, d4, d5, d6, d7, d8, d9⟩ := Y
  exact ⟨by omega, by omega, fun a q => by rw [d2 a (by omega)]; exact c2 a q, fun f a q r => by rw [d3 f a (by omega)]; exact c3 f a q r, fun f a q r => by rw [d4 f a (by omega)]; exact c4 f a q r, fun a q => by rw [d5 a (by omega)]; exact c5 a q, fun a i q => by rw [d6 a i (by omega)]; exact c6 a i q, fun a i q => by rw [d7 a i (by omega)]; exact c7 a i q, fun a q r => by rw [d8 a (by omega) (by omega)]; exact c8 a q r, fun a q r => by rw [d9 a (by omega) (by omega)]; exact c9 a q r⟩
/-- a list of the program: it may have more room than it needs -/
def okW (G : om_G) (h : om_H) (a : Nat) : Prop := a < hz h ∧ kd h a = 42 ∧ (ll h a).length ≤ lc h a ∧ lc h a ≤ 100000 ∧ ∀ y ∈ ll h a, objY G h y
theorem addL_room2 (h : om_H) (a x : Nat) (hl : (ll h a).length ≤ lc h a) : (ll h a).length + 1 ≤ lc (addL h a x) a ∧ (lc (addL h a x) a ≤ lc h a ∨ lc (addL h a x) a ≤ 2 * ((ll h a).length + 1) + 10) ∧ lc h a ≤ lc (addL h a x) a ∧ hz h ≤ hz (addL h a x) ∧ hz (addL h a x) ≤ hz h + 1 ∧ hu h ≤ hu (addL h a x) ∧ hu (addL h a x) + 4 * lc h a ≤ hu h + 4 * lc (addL h a x) a := by
  unfold addL
  split
  · simp only [lc_sL, hz_sL, hu_sL]
    omega
  · split
    · simp only [lc_gL, hz_gL, hu_gL, if_true]
      omega
    · simp only [lc_gL, hz_gL, hu_gL, if_true]
      unfold om_cap
      split <;> omega
theorem w_add {L x : Nat} (O : okW G h L) (hx' : objY G h x) (hn : (ll h L).length ≤ 40000) : P_J2_add G L x h = some (1, addL h L x) ∧ hxL L h (addL h L x) ∧ okW G (addL h L x) L ∧ ll (addL h L x) L = ll h L ++ [x] ∧ hz (addL h L x) ≤ hz h + 1 ∧ hu (addL h L x) + 4 * lc h L ≤ hu h + 4 * lc (addL h L x) L := by
  obtain ⟨o0, o1, o2, o3, o4⟩ := O
  have ad : P_J2_add G L x h = some (1, addL h L x) := by
    unfold P_J2_add
    exact gd_pos ⟨o1, o2, by omega, objY_obj hx', fun y hy => objY_obj (o4 y hy)⟩
  obtain ⟨a1, a2, a3, a4, a5, a6, a7⟩ := addL_room2 h L x o2
  have k1 : ∀ a, kd (addL h L x) a = kd h a := fun a => addL_kd _ _ _ _ o1
  have l1 : ll (addL h L x) L = ll h L ++ [x] := by rw [addL_ll _ _ _ _ o2, if_pos rfl]
  refine ⟨ad, ⟨a4, a6, fun a _ => k1 a, fun f a _ => addL_fI _ _ _ _ _, fun f a _ => addL_fR _ _ _ _ _, fun a _ => addL_an _ _ _ _, fun a i _ => addL_aI _ _ _ _ _, fun a i _ => addL_aR _ _ _ _ _, fun a _ c => by rw [addL_ll _ _ _ _ o2, if_neg c], fun a _ c => addL_lc _ _ _ _ c⟩, ⟨by omega, by rw [k1]; exact o1, by rw [l1]; simp; omega, by omega, ?_⟩, l1, a5, a7⟩
  intro y hy
  rw [l1] at hy
  rcases List.mem_append.mp hy with hy | hy
  · exact objY_mono a4 (fun a _ => k1 a) (o4 y hy)
  · simp at hy; rw [hy]; exact objY_mono a4 (fun a _ => k1 a) hx'
end LD0
