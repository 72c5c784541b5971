set_option maxRecDepth 100000
/-! THE COMPONENT TELLS PROOFS -/
/-- what the sink is: count, wanted, got, most -/
abbrev SN : Type := Int × Int × Int × Int
def snk (s : Nat) (h : om_H) : SN := (fI h 192 s, fI h 196 s, fI h 200 s, fI h 204 s)
def sn1 (v : SN) (c : Int) : SN := if v.1 ≠ v.2.1 then (w32 (v.1 + 1), v.2) else (w32 (v.1 + 1), v.2.1, c, v.2.2.2)
def snL (L : List Int) (v : SN) : SN := L.foldl sn1 v
/-- what telling comes to, where nothing more is told behind the limit -/
def SyC (s : Nat) (h : om_H) (L : List Int) (h' : om_H) : Prop := (fI h 192 s + (L.length : Int) ≤ fI h 204 s → snk s h' = snL L (snk s h) ∧ fI h' 192 s = fI h 192 s + (L.length : Int)) ∧ (fI h 204 s < fI h 192 s + (L.length : Int) → fI h 204 s < fI h' 192 s) ∧ (fI h 192 s ≤ fI h' 192 s ∧ fI h' 192 s ≤ fI h 192 s + (L.length : Int)) ∧ fI h' 204 s = fI h 204 s
/-- so many bytes so far -/
def SkC (s : Nat) (h : om_H) (t : Nat) : Prop := fI h 192 s = (t : Int)
section LSC
variable {G : om_G} {s t : Nat} {h h1 h2 : om_H} {N : List (List Int)} {cl : Nat → Nat} {U : Nat → Prop} {nm con fam : Nat → List Int}
theorem snk_1 {c : Int} : snk s (put1 s h c) = sn1 (snk s h) c := by
  unfold put1 sn1
  show snk s (if fI h 192 s ≠ fI h 196 s then _ else _) = if fI h 192 s ≠ fI h 196 s then _ else _
  by_cases a : fI h 192 s ≠ fI h 196 s
  · rw [if_pos a, if_pos a]
    unfold snk
    rw [fI_eq, fI_ne (by decide), fI_ne (by decide), fI_ne (by decide)]
  · rw [if_neg a, if_neg a]
    unfold snk
    rw [fI_eq, fI_ne (by decide), fI_ne (by decide), fI_ne (by decide), fI_eq, fI_ne (by decide), fI_ne (by decide)]
theorem snk_L : ∀ {L : List Int} {h : om_H}, snk s (putL s L h) = snL L (snk s h)
  | [], _ => rfl
  | c :: L, h => by
    show snk s (putL s L (put1 s h c)) = snL L (sn1 (snk s h) c)
    rw [snk_L, snk_1]
theorem snL_app {L M : List Int} {v : SN} : snL (L ++ M) v = snL M (snL L v) := by
  unfold snL
  rw [List.foldl_append]
theorem put1_192 {c : Int} : fI (put1 s h c) 192 s = w32 (fI h 192 s + 1) := by
  unfold put1
  split
  · rw [fI_eq]
  · rw [fI_eq]
theorem SkC_L : ∀ {L : List Int} {h : om_H} {t : Nat}, SkC s h t → t + L.length < 2000000000 → SkC s (putL s L h) (t + L.length)
  | [], h, t, S, _ => S
  | c :: L, h, t, S, hl => by
    rw [List.length_cons] at hl ⊢
    have S1 : SkC s (put1 s h c) (t + 1) := by
      unfold SkC
      rw [put1_192, show fI h 192 s = (t : Int) from S, w32_s (by omega) (by omega)]
      rfl
    have := SkC_L (L := L) S1 (by omega)
    rw [show t + 1 + L.length = t + (L.length + 1) by omega] at this
    exact this
theorem SyC_L {L : List Int} (S : SkC s h t) (hl : t + L.length < 2000000000) : SyC s h L (putL s L h) := by
  have S' := SkC_L S hl
  have e1 : fI h 192 s = (t : Int) := S
  have e2 : fI (putL s L h) 192 s = ((t + L.length : Nat) : Int) := S'
  exact ⟨fun _ => ⟨snk_L, by omega⟩, fun w => by omega, ⟨by omega, by omega⟩, (putL_hK.2 s).2.1 204 (.inr ⟨by decide, by decide⟩)⟩
theorem SyC_trans {L M : List Int} (A : SyC s h L h1) (B : SyC s h1 M h2) : SyC s h (L ++ M) h2 := by
  obtain ⟨a1, a2, ⟨a3, a4⟩, a5⟩ := A
  obtain ⟨b1, b2, ⟨b3, b4⟩, b5⟩ := B
  rw [a5] at b1 b2
  have l : ((L ++ M).length : Int) = (L.length : Int) + (M.length : Int) := by rw [List.length_append]; omega
  unfold SyC
  rw [l]
  refine ⟨fun w => ?_, fun w => ?_, ⟨by omega, by omega⟩, by rw [b5, a5]⟩
  · obtain ⟨c1, c2⟩ := a1 (by omega)
    obtain ⟨d1, d2⟩ := b1 (by omega)
    exact ⟨by rw [d1, c1, snL_app], by omega⟩
  · by_cases v : fI h 204 s < fI h 192 s + (L.length : Int)
    · have := a2 v
      omega
    · have := (a1 (by omega)).2
      exact b2 (by omega)
theorem SyC_t {L : List Int} (S : SkC s h t) (A : SyC s h L h1) : ∃ t1, SkC s h1 t1 ∧ t ≤ t1 ∧ t1 ≤ t + L.length := by
  obtain ⟨_, _, ⟨a3, a4⟩, _⟩ := A
  have e : fI h 192 s = (t : Int) := S
  refine ⟨(fI h1 192 s).toNat, ?_, by omega, by omega⟩
  show fI h1 192 s = _
  omega
theorem SyC_skip {L : List Int} (hs : fI h 204 s < fI h 192 s) : SyC s h L h := ⟨fun w => by omega, fun _ => hs, ⟨Int.le_refl _, by omega⟩, rfl⟩
theorem SyC_no (e : snk s h1 = snk s h) : SyC s h [] h1 := by
  have e1 : fI h1 192 s = fI h 192 s := congrArg (fun v : SN => v.1) e
  have e2 : fI h1 204 s = fI h 204 s := congrArg (fun v : SN => v.2.2.2) e
  exact ⟨fun _ => ⟨e, by rw [e1]; simp⟩, fun w => by rw [e1]; simpa using w, ⟨by omega, by rw [e1]; simp⟩, e2⟩
/-- over, or not -/
theorem c_isOver (k : kd h s = 8) : C_7_isOver G s h = some (if fI h 192 s ≤ fI h 204 s then 0 else 1) := by
  unfold C_7_isOver
  rw [gd_pos k]
  by_cases c : fI h 192 s ≤ fI h 204 s
  · rw [if_pos c, if_pos c]
    unfold C_7_isOver_16
    rw [gd_pos (.inl rfl)]
  · rw [if_neg c, if_neg c]
    unfold C_7_isOver_16
    rw [gd_pos (.inr rfl)]
/-- one byte, with all that is known -/
theorem cs_b (k : kd h s = 8) (S : SkC s h t) (ht : t < 1999999999) (c : Int) : C_7_put_2 G s c h = some (put1 s h c) ∧ SyC s h [c] (put1 s h c) ∧ SkC s (put1 s h c) (t + 1) ∧ hK s h (put1 s h c) ∧ kd (put1 s h c) s = 8 := ⟨c_put1 k c, SyC_L (L := [c]) S (by simp; omega), SkC_L (L := [c]) S (by simp; omega), put1_hK, by rw [(put1_hK.2 s).1]; exact k⟩
end LSC
/-- a proof, by what is told of it: it is one of the first u of the list -/
def PrC (G : om_G) (N : List (List Int)) (cl : Nat → Nat) (U : Nat → Prop) (nm con fam : Nat → List Int) (Lp u : Nat) (h : om_H) : Nat → Nat → List Int → Prop
  | 0, _, _ => False
  | k + 1, p, L => (∃ i, i < u ∧ (ll h Lp)[i]? = some p) ∧ kd h p = 39 ∧ (
      (fR h 1670 p = om_cA G 7 ∧ ∃ T, (T ≠ .leaf ∧ wfT T ∧ tdp T < 70) ∧ tOc N cl nm con fam h T ∧ tyC h N cl U T (fR h 1674 p) ∧ L = altB nm con fam T)
    ∨ (fR h 1670 p = om_cA G 8 ∧ ∃ (i : Nat) (T : Ty), (kd h (fR h 1678 p) = 21 ∧ fI h 1280 (fR h 1678 p) = (i : Int) ∧ i < 100 ∧ fR h 1678 p < hz h) ∧ (T ≠ .leaf ∧ wfT T ∧ tdp T < 70) ∧ tOc N cl nm con fam h T ∧ tyC h N cl U T (fR h 1674 p) ∧ L = 120 :: numB i ++ prtB nm con fam T)
    ∨ (fR h 1670 p = om_cA G 9 ∧ ∃ g : Nat, fI h 1680 p = (g : Int) ∧ g < 100 ∧ L = 99 :: numB g)
    ∨ (fR h 1670 p = om_cA G 10 ∧ ∃ L1, PrC G N cl U nm con fam Lp u h k (fR h 1686 p) L1 ∧ L = 126 :: L1)
    ∨ (fR h 1670 p = om_cA G 11 ∧ ∃ L1 L2, PrC G N cl U nm con fam Lp u h k (fR h 1686 p) L1 ∧ PrC G N cl U nm con fam Lp u h k (fR h 1690 p) L2 ∧ L = 40 :: L1 ++ [59] ++ L2 ++ [41])
    ∨ (fR h 1670 p = om_cA G 12 ∧ ∃ (kk w : Nat) (x : Unit) (l r : Ty) (L1 L2 : List Int), tyC h N cl U (.inner kk w x l r) (fR h 1674 p) ∧ hdC N cl nm con fam h kk w ∧ PrC G N cl U nm con fam Lp u h k (fR h 1686 p) L1 ∧ ((fR h 1690 p = 0 ∧ L2 = []) ∨ (fR h 1690 p ≠ 0 ∧ ∃ L3, PrC G N cl U nm con fam Lp u h k (fR h 1690 p) L3 ∧ L2 = (if kk = 3 then [45, 62] else [44]) ++ L3)) ∧ L = (if kk = 3 then [] else hdB nm con fam kk w) ++ 40 :: L1 ++ L2 ++ [41]))
section LPT
variable {G : om_G} {s t Lp u : Nat} {h h1 h2 : om_H} {N : List (List Int)} {cl : Nat → Nat} {U : Nat → Prop} {nm con fam : Nat → List Int}
theorem PrC_hK (K : hK s h h1) : ∀ {k p : Nat} {L : List Int}, PrC G N cl U nm con fam Lp u h k p L → PrC G N cl U nm con fam Lp u h1 k p L
  | 0, _, _, H => H
  | k + 1, p, L, ⟨⟨i, i1, i2⟩, kp, H⟩ => by
    have eR := (K.2 p).2.2.1
    have eI : ∀ a f, f ≠ 192 ∧ f ≠ 200 → fI h1 f a = fI h f a := fun a f hf => (K.2 a).2.1 f (.inr hf)
    refine ⟨⟨i, i1, by rw [(K.2 Lp).2.2.2.2.2.2.1]; exact i2⟩, by rw [(K.2 p).1]; exact kp, ?_⟩
    rw [eR, eR, eR, eR, eR]
    rcases H with ⟨a, T, b, c, d, e⟩ | ⟨a, i, T, ⟨b1, b2, b3, b4⟩, c, d, e, f⟩ | ⟨a, g, b, c, d⟩ | ⟨a, L1, b, c⟩ | ⟨a, L1, L2, b, c, d⟩ | ⟨a, kk, w, x, l, r, L1, L2, b, c, d, e, f⟩
    · exact .inl ⟨a, T, b, tOc_hK K c, tyC_hK K d, e⟩
    · exact .inr (.inl ⟨a, i, T, ⟨by rw [(K.2 _).1]; exact b1, by rw [eI _ _ (by decide)]; exact b2, b3, by rw [K.1.1]; exact b4⟩, c, tOc_hK K d, tyC_hK K e, f⟩)
    · exact .inr (.inr (.inl ⟨a, g, by rw [eI _ _ (by decide)]; exact b, c, d⟩))
    · exact .inr (.inr (.inr (.inl ⟨a, L1, PrC_hK K b, c⟩)))
    · exact .inr (.inr (.inr (.inr (.inl ⟨a, L1, L2, PrC_hK K b, PrC_hK K c, d⟩))))
    · refine .inr (.inr (.inr (.inr (.inr ⟨a, kk, w, x, l, r, L1, L2, tyC_hK K b, hdC_hK K c, PrC_hK K d, ?_, f⟩))))
      rcases e with e | ⟨e, L3, e1, e2⟩
      · exact .inl e
      · exact .inr ⟨e, L3, PrC_hK K e1, e2⟩
theorem PrC_more : ∀ {k k' p : Nat} {L : List Int}, k ≤ k' → PrC G N cl U nm con fam Lp u h k p L → PrC G N cl U nm con fam Lp u h k' p L
  | 0, _, _, _, _, H => H.elim
  | k + 1, 0, _, _, hk, _ => by omega
  | k + 1, k' + 1, p, L, hk, ⟨i, kp, H⟩ => by
    have up : ∀ {p : Nat} {L : List Int}, PrC G N cl U nm con fam Lp u h k p L → PrC G N cl U nm con fam Lp u h k' p L := fun H => PrC_more (by omega) H
    refine ⟨i, kp, ?_⟩
    rcases H with H | H | H | ⟨a, L1, b, c⟩ | ⟨a, L1, L2, b, c, d⟩ | ⟨a, kk, w, x, l, r, L1, L2, b, c, d, e, f⟩
    · exact .inl H
    · exact .inr (.inl H)
    · exact .inr (.inr (.inl H))
    · exact .inr (.inr (.inr (.inl ⟨a, L1, up b, c⟩)))
    · exact .inr (.inr (.inr (.inr (.inl ⟨a, L1, L2, up b, up c, d⟩))))
    · refine .inr (.inr (.inr (.inr (.inr ⟨a, kk, w, x, l, r, L1, L2, b, c, up d, ?_, f⟩))))
      rcases e with e | ⟨e, L3, e1, e2⟩
      · exact .inl e
      · exact .inr ⟨e, L3, up e1, e2⟩
end LPT
