set_option maxRecDepth 100000
section LI
variable {G : om_G} {A t : Nat} {N : List (List Int)} {S : List Int} {b m i : Nat} {n p : Int} {M : Nat} {σ : tS} {h : om_H}
theorem t_isAtom (H : Tst σ N S b m i n M) : T_isAtom σ = some (if tokk S i = 2 ∨ tokk S i = 4 ∨ tokk S i = 40 then 1 else 0) := by
  unfold T_isAtom T_isAtom_37
  rw [H.2.2.2.2.1, if_neg (by decide), t_is H, t_is H, t_is H]
  simp only [Option.bind_some]
  by_cases c1 : tokk S i = 2
  · simp [c1]
  · by_cases c2 : tokk S i = 4
    · simp [c2]
    · by_cases c3 : tokk S i = 40 <;> simp [c1, c2, c3]
theorem t_isAtomF (H : Tfl σ N S b m p n M) : T_isAtom σ = some 0 := by
  unfold T_isAtom T_isAtom_37
  rw [H.2.2.2.1, if_pos (by decide)]
  simp
theorem XR_exk {Ψ : xP} : ∀ {k lo hi alo ahi a n : Nat}, XR G A S b h σ Ψ k lo hi alo ahi a n → ∃ k ∈ om_exk, kd h a = k + 1
  | 0, _, _, _, _, _, _, w => w.elim
  | k + 1, lo, hi, alo, ahi, a, n, w => by
    rcases w.2.2.2.2 with w | w | w | w | w | w | w | w
    · exact ⟨28, by decide, w.1⟩
    · exact ⟨27, by decide, w.1⟩
    · exact ⟨23, by decide, w.1⟩
    · exact ⟨24, by decide, w.1⟩
    · exact ⟨25, by decide, w.1⟩
    · exact ⟨26, by decide, w.1⟩
    · exact ⟨29, by decide, w.1⟩
    · exact ⟨31, by decide, w.1⟩
theorem exk_ne {a : Nat} (w : ∃ k ∈ om_exk, kd h a = k + 1) : kd h a ≠ 20 ∧ kd h a ≠ 31 ∧ kd h a ≠ 42 ∧ 1 ≤ kd h a ∧ kd h a ≤ 41 := by
  obtain ⟨k, h1, h2⟩ := w
  simp only [om_exk, List.mem_cons, List.not_mem_nil, or_false] at h1
  omega
/-- an object is put into a list of one's own: what is as it was -/
def hxL (L : Nat) (h h' : om_H) : Prop := hz h ≤ hz h' ∧ hu h ≤ hu h' ∧ (∀ a, a < hz h → kd h' a = kd h a) ∧ (∀ f a, a < hz h → fI h' f a = fI h f a) ∧ (∀ f a, a < hz h → fR h' f a = fR h f a) ∧ (∀ a, a < hz h → an h' a = an h a) ∧ (∀ a i, a < hz h → aI h' a i = aI h a i) ∧ (∀ a i, a < hz h → aR h' a i = aR h a i) ∧ (∀ a, a < hz h → a ≠ L → ll h' a = ll h a) ∧ (∀ a, a < hz h → a ≠ L → lc h' a = lc h a)
theorem hxL_hk {L alo ahi : Nat} {h' : om_H} (X : hxL L h h') (h1 : ahi ≤ hz h) (h2 : L < alo ∨ ahi ≤ L) : hk alo ahi h h' := by
  obtain ⟨c0, c1, c2, c3, c4, c5, c6, c7, c8, c9⟩ := X
  exact fun a d e => ⟨c2 a (by omega), fun f => c3 f a (by omega), fun f => c4 f a (by omega), c8 a (by omega) (by omega), c9 a (by omega) (by omega)⟩
theorem hxL_hx {L : Nat} {h0 h' : om_H} (Y : hx t h0 h) (X : hxL L h h') (h1 : hz h0 ≤ L) : hx t h0 h' := by
  obtain ⟨c0, c1, c2, c3, c4, c5, c6, c7, c8, c9⟩ := X
  obtain ⟨d0, d1, d2, d3, d4, d5, d6, d7, d8, d9⟩ := Y
  exact ⟨by omega, by omega, fun a q => by rw [c2 a (by omega)]; exact d2 a q, fun f a q r => by rw [c3 f a (by omega)]; exact d3 f a q r, fun f a q r => by rw [c4 f a (by omega)]; exact d4 f a q r, fun a q => by rw [c5 a (by omega)]; exact d5 a q, fun a i q => by rw [c6 a i (by omega)]; exact d6 a i q, fun a i q => by rw [c7 a i (by omega)]; exact d7 a i q, fun a q => by rw [c8 a (by omega) (by omega)]; exact d8 a q, fun a q => by rw [c9 a (by omega) (by omega)]; exact d9 a q⟩
theorem hxL_At {L : Nat} {h' : om_H} (H : At G A t N S b m i n M σ h) (X : hxL L h h') : At G A t N S b m i n M σ h' := by
  obtain ⟨c0, c1, c2, c3, c4, c5, c6, c7, c8, c9⟩ := X
  have h1 := At_t H
  have h2 := At_A H
  refine ⟨H.1, Cst_gen H.2.1 (c2 _ h1) (by rw [H.2.2]; exact c2 _ h2) (by rw [H.2.2]; exact c5 _ h2) (fun p => by rw [H.2.2]; exact c6 _ p h2) (fun f => c3 f _ h1) (fun f => c4 f _ h1) c0, by rw [c4 _ _ h1]; exact H.2.2⟩
/-- what a list may hold -/
def objY (G : om_G) (h : om_H) (y : Nat) : Prop := (y < hz h ∧ 1 ≤ kd h y ∧ kd h y ≤ 41) ∨ y = 0 ∨ ∃ j, j < 256 ∧ y = om_cA G (300 + j)
def okV (G : om_G) (h : om_H) (a : Nat) : Prop := a < hz h ∧ kd h a = 42 ∧ (ll h a).length ≤ lc h a ∧ lc h a ≤ 2 * (ll h a).length + 10 ∧ ∀ y ∈ ll h a, objY G h y
theorem objY_obj {y : Nat} (o : objY G h y) : om_obj G h y := by
  rcases o with ⟨o1, o2, o3⟩ | o | ⟨j, o1, o2⟩
  · exact om_obj_kd o2 o3 rfl
  · rw [o]; exact om_obj_0
  · rw [o2]; exact om_obj_int o1
theorem okV_okL {a : Nat} (O : okV G h a) : okL G h a := ⟨O.2.1, O.2.2.1, O.2.2.2.1, fun y hy => objY_obj (O.2.2.2.2 y hy)⟩
theorem objY_mono {h' : om_H} {y : Nat} (hz' : hz h ≤ hz h') (k : ∀ a, a < hz h → kd h' a = kd h a) (o : objY G h y) : objY G h' y := by
  rcases o with ⟨o1, o2, o3⟩ | o
  · exact .inl ⟨by omega, by rw [k y o1]; exact o2, by rw [k y o1]; exact o3⟩
  · exact .inr o
theorem okV_hx {h' : om_H} {a : Nat} (O : okV G h a) (X : hx t h h') : okV G h' a := by
  obtain ⟨c0, c1, c2, c3, c4, c5, c6, c7, c8, c9⟩ := X
  obtain ⟨o0, o1, o2, o3, o4⟩ := O
  exact ⟨by omega, by rw [c2 a o0]; exact o1, by rw [c8 a o0, c9 a o0]; exact o2, by rw [c8 a o0, c9 a o0]; exact o3, fun y hy => objY_mono c0 c2 (o4 y (by rw [c8 a o0] at hy; exact hy))⟩
theorem okV_hxL {h' : om_H} {a L : Nat} (O : okV G h a) (ha : a ≠ L) (X : hxL L h h') : okV G h' a := by
  obtain ⟨c0, c1, c2, c3, c4, c5, c6, c7, c8, c9⟩ := X
  obtain ⟨o0, o1, o2, o3, o4⟩ := O
  exact ⟨by omega, by rw [c2 a o0]; exact o1, by rw [c8 a o0 ha, c9 a o0 ha]; exact o2, by rw [c8 a o0 ha, c9 a o0 ha]; exact o3, fun y hy => objY_mono c0 c2 (o4 y (by rw [c8 a o0 ha] at hy; exact hy))⟩
theorem okV_sR {a f x y : Nat} (O : okV G h a) : okV G (sR h f x y) a := O
theorem okV_sI {a f x : Nat} {y : Int} (O : okV G h a) : okV G (sI h f x y) a := O
/-- a list gets one more -/
theorem v_add {L x : Nat} (O : okV G h L) (hx' : objY G h x) (hn : (ll h L).length ≤ 100000) : P_J2_add G L x h = some (1, addL h L x) ∧ hxL L h (addL h L x) ∧ okV G (addL h L x) L ∧ ll (addL h L x) L = ll h L ++ [x] ∧ hz (addL h L x) ≤ hz h + 1 ∧ hu (addL h L x) + 4 * lc h L ≤ hu h + 4 * lc (addL h L x) L := by
  have O1 := okV_okL O
  have ad := c_add O1 (objY_obj hx') hn
  obtain ⟨a1, a2, a3, a4, a5, a6, a7⟩ := addL_room h L x O1.2.1 O1.2.2.1
  have k1 : ∀ a, kd (addL h L x) a = kd h a := fun a => addL_kd _ _ _ _ O1.1
  have l1 : ll (addL h L x) L = ll h L ++ [x] := by rw [addL_ll _ _ _ _ O1.2.1, if_pos rfl]
  refine ⟨ad, ⟨a4, a6, fun a _ => k1 a, fun f a _ => addL_fI _ _ _ _ _, fun f a _ => addL_fR _ _ _ _ _, fun a _ => addL_an _ _ _ _, fun a i _ => addL_aI _ _ _ _ _, fun a i _ => addL_aR _ _ _ _ _, fun a _ c => by rw [addL_ll _ _ _ _ O1.2.1, if_neg c], fun a _ c => addL_lc _ _ _ _ c⟩, ⟨by have := O.1; omega, by rw [k1]; exact O.2.1, by rw [l1]; simp; omega, by rw [l1]; simp; omega, ?_⟩, l1, a5, a7⟩
  intro y hy
  rw [l1] at hy
  rcases List.mem_append.mp hy with hy | hy
  · exact objY_mono a4 (fun a _ => k1 a) (O.2.2.2.2 y hy)
  · simp at hy; rw [hy]; exact objY_mono a4 (fun a _ => k1 a) hx'
theorem hxL_trans {L : Nat} {h1 h2 : om_H} (X : hxL L h h1) (Y : hxL L h1 h2) : hxL L h h2 := by
  obtain ⟨c0, c1, c2, c3, c4, c5, c6, c7, c8, c9⟩ := X
  obtain ⟨d0, d1, d2, d3, d4, d5, d6, d7, d8, d9⟩ := Y
  exact ⟨by omega, by omega, fun a q => by rw [d2 a (by omega)]; exact c2 a q, fun f a q => by rw [d3 f a (by omega)]; exact c3 f a q, fun f a q => by rw [d4 f a (by omega)]; exact c4 f a q, fun a q => by rw [d5 a (by omega)]; exact c5 a q, fun a i q => by rw [d6 a i (by omega)]; exact c6 a i q, fun a i q => by rw [d7 a i (by omega)]; exact c7 a i q, fun a q r => by rw [d8 a (by omega) r]; exact c8 a q r, fun a q r => by rw [d9 a (by omega) r]; exact c9 a q r⟩
/-- an Item is made and put into a list -/
theorem item_add {L e w : Nat} {q : Int} (O : okV G h L) (hn : (ll h L).length ≤ 100000) : ∃ h1 h', C_31_init G (hz h) e w q (nO h 31 5) = some h1 ∧ kd (nO h 31 5) (hz h) = 31 ∧ kd h1 L = 42 ∧ P_J2_add G L (hz h) h1 = some (1, h') ∧ hxL L h h' ∧ okV G h' L ∧ ll h' L = ll h L ++ [hz h] ∧ kd h' (hz h) = 31 ∧ fR h' 1498 (hz h) = e ∧ fR h' 1502 (hz h) = w ∧ fI h' 1504 (hz h) = q ∧ hz h + 1 ≤ hz h' ∧ hz h' ≤ hz h + 2 ∧ hu h' + 4 * lc h L ≤ hu h + 5 + 4 * lc h' L := by
  have kA : kd (nO h 31 5) (hz h) = 31 := by rw [kd_nO, if_pos rfl]
  have hL := O.1
  have X1 : hxL L h (sI (sR (sR (nO h 31 5) 1498 (hz h) e) 1502 (hz h) w) 1504 (hz h) q) := by
    refine ⟨Nat.le_succ _, Nat.le_add_right _ _, fun a c => ?_, fun f a c => ?_, fun f a c => ?_, fun _ _ => rfl, fun _ _ _ => rfl, fun _ _ _ => rfl, fun _ _ _ => rfl, fun _ _ _ => rfl⟩
    · show kd (nO h 31 5) a = _; rw [kd_nO, if_neg (by omega)]
    · rw [fI_na (by omega), fI_sR, fI_sR, fI_nO, if_neg (by omega)]
    · rw [fR_sI, fR_na (by omega), fR_na (by omega), fR_nO, if_neg (by omega)]
  have z1 : hz (sI (sR (sR (nO h 31 5) 1498 (hz h) e) 1502 (hz h) w) 1504 (hz h) q) = hz h + 1 := rfl
  have y1 : hu (sI (sR (sR (nO h 31 5) 1498 (hz h) e) 1502 (hz h) w) 1504 (hz h) q) = hu h + 5 := rfl
  have k1 : kd (sI (sR (sR (nO h 31 5) 1498 (hz h) e) 1502 (hz h) w) 1504 (hz h) q) (hz h) = 31 := kA
  have r1 : fR (sI (sR (sR (nO h 31 5) 1498 (hz h) e) 1502 (hz h) w) 1504 (hz h) q) 1498 (hz h) = e := by rw [fR_sI, fR_ne (by decide), fR_eq]
  have r2 : fR (sI (sR (sR (nO h 31 5) 1498 (hz h) e) 1502 (hz h) w) 1504 (hz h) q) 1502 (hz h) = w := by rw [fR_sI, fR_eq]
  have p1 : fI (sI (sR (sR (nO h 31 5) 1498 (hz h) e) 1502 (hz h) w) 1504 (hz h) q) 1504 (hz h) = q := fI_eq
  have l1 : ll (sI (sR (sR (nO h 31 5) 1498 (hz h) e) 1502 (hz h) w) 1504 (hz h) q) L = ll h L := rfl
  have c1 : lc (sI (sR (sR (nO h 31 5) 1498 (hz h) e) 1502 (hz h) w) 1504 (hz h) q) L = lc h L := rfl
  unfold C_31_init
  rw [gd_pos kA]
  generalize sI (sR (sR (nO h 31 5) 1498 (hz h) e) 1502 (hz h) w) 1504 (hz h) q = h1 at *
  have kl : ∀ a, a < hz h → kd h1 a = kd h a := X1.2.2.1
  have O1 : okV G h1 L := ⟨by omega, by rw [kl L hL]; exact O.2.1, by rw [l1, c1]; exact O.2.2.1, by rw [l1, c1]; exact O.2.2.2.1, fun y hy => objY_mono (by omega) kl (O.2.2.2.2 y (by rw [l1] at hy; exact hy))⟩
  obtain ⟨a1, a2, a3, a4, a5, a6⟩ := v_add (x := hz h) O1 (.inl ⟨by omega, by omega, by omega⟩) (by rw [l1]; exact hn)
  rw [c1] at a6
  refine ⟨h1, _, rfl, kA, O1.2.1, a1, hxL_trans X1 a2, a3, by rw [a4, l1], ?_, ?_, ?_, ?_, ?_, by omega, by omega⟩
  · rw [a2.2.2.1 _ (by omega)]; exact k1
  · rw [a2.2.2.2.2.1 _ _ (by omega)]; exact r1
  · rw [a2.2.2.2.2.1 _ _ (by omega)]; exact r2
  · rw [a2.2.2.2.1 _ _ (by omega)]; exact p1
  · have := a2.1; omega
end LI
