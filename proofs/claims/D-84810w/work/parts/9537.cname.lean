set_option maxRecDepth 100000
/-! THE COMPONENT TELLS NAMES -/
/-- a type that can be told -/
def tyG (N : List (List Int)) (cl : Nat → Nat) (nm con fam : Nat → List Int) (h : om_H) (T : Ty) : Prop := T ≠ .leaf ∧ wfT T ∧ tdp T < 70 ∧ tOc N cl nm con fam h T
/-- a reason that can be told -/
def evD (G : om_G) (N : List (List Int)) (cl : Nat → Nat) (U : Nat → Prop) (ab : List (Option Nat)) (ins : List INs) (gv : List GVs) (nm con fam cnm : Nat → List Int) (te s : Nat) (E : om_H → Prop) (K : om_H → om_H → Prop) (h0 : om_H) (k2 : Ty → Ty → Prop) (D : Dc) (y : Nat) : Prop := (y < hz h0 ∧ kd h0 y = 38) ∧ ((∃ d, d ≠ 0 ∧ fR h0 1658 y = d ∧ ∀ h M, okD E K s h0 h (evB nm con fam cnm ab ins gv D ++ M) → TDw E K s h wDr (C_6_dictionary G te d h) (evB nm con fam cnm ab ins gv D)) ∨ ∃ T V, D = .inner 2 (0, 0, T, V) () .leaf .leaf ∧ fR h0 1658 y = 0 ∧ tyC h0 N cl U T (fR h0 1662 y) ∧ tyC h0 N cl U V (fR h0 1666 y) ∧ k2 T V)
section LNT
variable {G : om_G} {h0 h h1 : om_H} {N : List (List Int)} {cl : Nat → Nat} {U Sx Sl : Nat → Prop} {ins : List INs} {gv : List GVs} {ab : List (Option Nat)} {nm con fam cnm : Nat → List Int} {te s : Nat} {E : om_H → Prop} {K : om_H → om_H → Prop} {k2 : Ty → Ty → Prop} {fo mo : Nat → Nat}
theorem evB_2 {T V : Ty} : evB nm con fam cnm ab ins gv (.inner 2 (0, 0, T, V) () .leaf .leaf) = oneB nm con fam ins gv T V := by
  unfold evB
  simp only [dcsB, List.getElem?_cons_zero, Option.getD_some]
  try rfl
/-- a word that spells a name -/
theorem wN_at (I : TI G N cl U ins gv nm con fam te s E K h0 Sx k2) (hnm : ∀ (w : Nat) (L : List Int), N[w]? = some L → nm w = L) {w a : Nat} (W : wN h0 N w a) (k : K h0 h) : wb h a (nm w) := by
  obtain ⟨⟨b3, b4⟩, L, e1, b5⟩ := W
  have k17 := b5.1
  have k50 := b5.2.1
  have c2 := I.2.1 h _ k b3 (by omega)
  have c3 := I.2.1 h _ k b4 (by omega)
  rw [hnm w L e1]
  exact wb_keep b5 c2.1 c3.1 c2.2.1 c2.2.2.1 c3.2.2.2.1 c3.2.2.2.2.1
/-- how many @s -/
theorem c_manyT (I : TI G N cl U ins gv nm con fam te s E K h0 Sx k2) (hS : ∀ x, Sl x → Sx x) {lb : XL} {d a : Nat} (X : nmC h0 N cl U Sl fo mo lb d a) (ha : a < hz h0) (k : K h0 h) : C_28_many G a h = some ((lb.2.2.2.2.2.length : Nat) : Int) := by
  obtain ⟨⟨a1, a2, a3⟩, _, a4⟩ := X
  have e := I.2.1 h a k ha (by omega)
  unfold C_28_many
  rw [gd_pos (by rw [e.1]; exact a1), e.2.2.1]
  rcases a4 with ⟨b1, b2, b3⟩ | ⟨b1, ⟨c1, c2, c3, c4, c5⟩, _⟩
  · rw [if_neg (fun z => z b2), b1]
    rfl
  · have eL := I.2.2.1 h _ k c3 c4 (hS _ c2)
    unfold P_J2_size
    rw [if_pos c1, gd_pos ⟨by rw [e.1]; exact a1, by rw [eL.1]; exact c4⟩, gd_pos (by rw [eL.1]; exact c4), Option.bind_some, eL.2.2.2.2.2.2.1, c5]
theorem flat_len {α : Type} {f : α → List Int} (hf : ∀ a, 1 ≤ (f a).length) : ∀ (l : List α), l.length ≤ ((l.map f).flatten).length
  | [] => Nat.le_refl _
  | a :: l => by
    have := flat_len hf l
    have := hf a
    rw [List.map_cons, List.flatten_cons, List.length_append, List.length_cons]
    omega
/-- its @s -/
theorem c_ats (I : TI G N cl U ins gv nm con fam te s E K h0 Sx k2) (hS : ∀ x, Sl x → Sx x) {lb : XL} {d a : Nat} (X : nmC h0 N cl U Sl fo mo lb d a) (ha : a < hz h0) (ty : ∀ p ∈ lb.2.2.2.2.2, tyG N cl nm con fam h0 p.1) (h9 : lb.2.2.2.2.2.length < 1000000000) : ∀ (l : List (Ty × Nat)) (k : Nat) (h : om_H), lb.2.2.2.2.2.drop k = l → k ≤ lb.2.2.2.2.2.length → okD E K s h0 h ((l.map (fun p => 91 :: tyB nm con fam p.1 ++ [93])).flatten) → TDw E K s h id (om_loop (C_6_name_13s G te a) ((k : Int), h)) ((l.map (fun p => 91 :: tyB nm con fam p.1 ++ [93])).flatten)
  | [], k, h, el, hk, o => by
    have H := I.1
    have kl : lb.2.2.2.2.2.length ≤ k := List.drop_eq_nil_iff.mp el
    have e := I.2.1 h a o.2.1 ha (by have := X.1.1; omega)
    refine TDw_out H ?_ o.1
    unfold C_6_name_13s
    simp only
    rw [gd_pos (by rw [e.1]; exact X.1.1), c_manyT I hS X ha o.2.1, Option.bind_some, if_pos (by omega)]
    rfl
  | p :: l, k, h, el, hk, o => by
    have H := I.1
    have kl : k < lb.2.2.2.2.2.length := Classical.byContradiction (fun z => by
      rw [List.drop_eq_nil_iff.mpr (by omega)] at el
      cases el)
    have ek := List.drop_eq_getElem_cons kl
    rw [el] at ek
    injection ek with ek1 ek2
    have er : lb.2.2.2.2.2[k]? = some p := by rw [List.getElem?_eq_getElem kl, ek1]
    obtain ⟨q1, q2, q3, q4⟩ := ty p (List.mem_of_getElem? er)
    have a1 := X.1.1
    obtain ⟨_, _, a4⟩ := id X
    obtain ⟨d1, d2, d3, d4, d5, d6⟩ : fR h0 1462 a ≠ 0 ∧ Sl (fR h0 1462 a) ∧ fR h0 1462 a < hz h0 ∧ kd h0 (fR h0 1462 a) = 42 ∧ (ll h0 (fR h0 1462 a)).length = lb.2.2.2.2.2.length ∧ ∀ (i y : Nat) (p : Ty × Nat), (ll h0 (fR h0 1462 a))[i]? = some y → lb.2.2.2.2.2[i]? = some p → tyC h0 N cl U p.1 y := by
      rcases a4 with ⟨b1, _⟩ | ⟨_, _, ⟨c1, c2, c3, c4, c5⟩, c6⟩
      · rw [b1] at kl; exact absurd kl (Nat.not_lt_zero _)
      · exact ⟨c1, c2, c3, c4, c5, c6⟩
    have ed : (ll h0 (fR h0 1462 a))[k]? = some ((ll h0 (fR h0 1462 a))[k]'(by omega)) := List.getElem?_eq_getElem (by omega)
    generalize (ll h0 (fR h0 1462 a))[k]'(by omega) = y at ed
    have cy := d6 k y p ed er
    have wk : w32 ((k : Int) + 1) = ((k + 1 : Nat) : Int) := (w32_s (by omega) (by omega)).trans (by omega)
    rw [List.map_cons, List.flatten_cons, show 91 :: tyB nm con fam p.1 ++ [93] = [91] ++ (tyB nm con fam p.1 ++ [93]) from rfl] at o ⊢
    refine TDw_loop (k' := ((k + 1 : Nat) : Int)) H o ?_ (fun h1 o1 => c_ats I hS X ha ty h9 l (k + 1) h1 ek2.symm (by omega) o1)
    have o' := okD_l o
    have e := I.2.1 h a o.2.1 ha (by omega)
    unfold C_6_name_13s
    simp only
    rw [gd_pos (by rw [e.1]; exact a1), c_manyT I hS X ha o.2.1, Option.bind_some, if_neg (by omega)]
    refine TP_b H o' (fun h1 o1 => ?_)
    have e1 := I.2.1 h1 a o1.2.1 ha (by omega)
    have eL := I.2.2.1 h1 _ o1.2.1 d3 d4 (hS _ d2)
    have cy1 := I.2.2.2.1 h1 _ _ o1.2.1 cy
    unfold P_J2_get
    rw [e1.2.2.1, gd_pos ⟨(TH_g H o1.1).1, by rw [e1.1]; exact a1, by rw [eL.1]; exact d4⟩, gd_pos ⟨by rw [eL.1]; exact d4, by omega⟩, eL.2.2.2.2.2.2.1, show ((k : Int)).toNat = k by omega, ed, Option.bind_some]
    refine TDw_gd (.inr (tyC_34 cy1 q1).1) ?_
    refine TDw_seq H o1 (TD_t H q1 cy1 q3 q2 (I.2.2.2.2.1 h1 _ o1.2.1 q4) o1) (fun h2 o2 => ?_)
    rw [wk]
    exact TP_e (w2 := fun h => (Sum.inl (((k + 1 : Nat) : Int), h) : (Int × om_H) ⊕ om_H)) H o2
theorem c_reas (I : TI G N cl U ins gv nm con fam te s E K h0 Sx k2) (hS : ∀ x, Sl x → Sx x) {a : Nat} {evs : List Nat} (R : rsJ h0 Sl a evs) (ha : a < hz h0) (a1 : kd h0 a = 28) (k : K h0 h) : C_28_reasons G a h = some ((evs.length : Nat) : Int) := by
  have e := I.2.1 h a k ha (by omega)
  unfold C_28_reasons
  rw [gd_pos (by rw [e.1]; exact a1), e.2.2.1]
  rcases R with ⟨b1, b2⟩ | ⟨b1, c1, c2, c3, c4, c5⟩
  · rw [if_neg (fun z => z b2), b1]
    rfl
  · have eL := I.2.2.1 h _ k c3 c4 (hS _ c2)
    unfold P_J2_size
    rw [if_pos c1, gd_pos ⟨by rw [e.1]; exact a1, by rw [eL.1]; exact c4⟩, gd_pos (by rw [eL.1]; exact c4), Option.bind_some, eL.2.2.2.2.2.2.1, c5]
/-- its reasons -/
theorem c_evs (I : TI G N cl U ins gv nm con fam te s E K h0 Sx k2) (hS : ∀ x, Sl x → Sx x) {a : Nat} {evs : List Nat} {ev : List Dc} (R : rsJ h0 Sl a evs) (ha : a < hz h0) (a1 : kd h0 a = 28) (hl : evs.length = ev.length) (hE : ∀ (i y : Nat) (D : Dc), evs[i]? = some y → ev[i]? = some D → evD G N cl U ab ins gv nm con fam cnm te s E K h0 k2 D y) (h9 : ev.length < 1000000000) : ∀ (l : List Dc) (k : Nat) (h : om_H), ev.drop k = l → k ≤ ev.length → okD E K s h0 h ((l.map (fun D => 123 :: evB nm con fam cnm ab ins gv D ++ [125])).flatten) → TDw E K s h (fun h => (Sum.inl h : om_H ⊕ ((Nat ⊕ Unit) × om_H))) (om_loop (C_6_name_65s G te a) ((k : Int), h)) ((l.map (fun D => 123 :: evB nm con fam cnm ab ins gv D ++ [125])).flatten)
  | [], k, h, el, hk, o => by
    have H := I.1
    have kl : ev.length ≤ k := List.drop_eq_nil_iff.mp el
    have e := I.2.1 h a o.2.1 ha (by omega)
    refine TDw_out H ?_ o.1
    unfold C_6_name_65s
    simp only
    rw [gd_pos (by rw [e.1]; exact a1), c_reas I hS R ha a1 o.2.1, Option.bind_some, if_pos (by omega)]
  | D :: l, k, h, el, hk, o => by
    have H := I.1
    have kl : k < ev.length := Classical.byContradiction (fun z => by
      rw [List.drop_eq_nil_iff.mpr (by omega)] at el
      cases el)
    have ek := List.drop_eq_getElem_cons kl
    rw [el] at ek
    injection ek with ek1 ek2
    have er : ev[k]? = some D := by rw [List.getElem?_eq_getElem kl, ek1]
    have ed : evs[k]? = some (evs[k]'(by omega)) := List.getElem?_eq_getElem (by omega)
    generalize evs[k]'(by omega) = y at ed
    obtain ⟨⟨y1, y2⟩, Y⟩ := hE k y D ed er
    obtain ⟨c1, c2, c3, c4, c5⟩ : fR h0 1482 a ≠ 0 ∧ Sl (fR h0 1482 a) ∧ fR h0 1482 a < hz h0 ∧ kd h0 (fR h0 1482 a) = 42 ∧ ll h0 (fR h0 1482 a) = evs := by
      rcases id R with ⟨b1, _⟩ | ⟨_, c⟩
      · rw [b1] at ed; simp at ed
      · exact c
    have wk : w32 ((k : Int) + 1) = ((k + 1 : Nat) : Int) := (w32_s (by omega) (by omega)).trans (by omega)
    rw [List.map_cons, List.flatten_cons, show 123 :: evB nm con fam cnm ab ins gv D ++ [125] = [123] ++ (evB nm con fam cnm ab ins gv D ++ [125]) from rfl] at o ⊢
    refine TDw_loop (k' := ((k + 1 : Nat) : Int)) H o ?_ (fun h1 o1 => c_evs I hS R ha a1 hl hE h9 l (k + 1) h1 ek2.symm (by omega) o1)
    have o' := okD_l o
    have e := I.2.1 h a o.2.1 ha (by omega)
    have ey := I.2.1 h y o.2.1 y1 (by omega)
    have eL := I.2.2.1 h _ o.2.1 c3 c4 (hS _ c2)
    unfold C_6_name_65s P_J2_get
    simp only
    rw [gd_pos (by rw [e.1]; exact a1), c_reas I hS R ha a1 o.2.1, Option.bind_some, if_neg (by omega), e.2.2.1, gd_pos ⟨by rw [e.1]; exact a1, by rw [eL.1]; exact c4⟩, gd_pos ⟨by rw [eL.1]; exact c4, by omega⟩, eL.2.2.2.2.2.2.1, c5, show ((k : Int)).toNat = k by omega, ed, Option.bind_some]
    have q := TH_g H o.1
    refine TDw_gd ⟨.inr (by rw [ey.1]; exact y2), q.1, q.2⟩ (TDw_seq H o' (TD_b H o') (fun h1 o1 => ?_))
    have ey1 := I.2.1 h1 y o1.2.1 y1 (by omega)
    show TDw E K s h1 _ (gd (kd h1 y = 38) (if fR h1 1658 y = 0 then _ else _)) _
    rw [gd_pos (by rw [ey1.1]; exact y2), ey1.2.2.1]
    have s124 : ∀ h, okD E K s h0 h [125] → TDw E K s h (fun h => (Sum.inl (((k + 1 : Nat) : Int), h) : (Int × om_H) ⊕ (om_H ⊕ ((Nat ⊕ Unit) × om_H)))) (C_6_name_124 G te a (k : Int) h) [125] := fun h o => by
      unfold C_6_name_124
      rw [wk]
      exact TP_e (w2 := fun h => (Sum.inl (((k + 1 : Nat) : Int), h) : (Int × om_H) ⊕ (om_H ⊕ ((Nat ⊕ Unit) × om_H)))) H o
    rcases Y with ⟨dd, n1, n2, run⟩ | ⟨T, V, n1, n2, n3, n4, n5⟩
    · rw [n2, if_neg n1]
      refine TDw_gd ⟨by show kd h1 y = 38; rw [ey1.1]; exact y2, (TH_g H o1.1).1⟩ ?_
      refine TDw_xc H o1 ?_ s124
      show TDw E K s h1 wDr (C_6_dictionary G te (fR h1 1658 y) h1) _
      rw [ey1.2.2.1, n2]
      exact run h1 [125] o1
    · rw [n2, if_pos rfl]
      refine TDw_gd ⟨by show kd h1 y = 38; rw [ey1.1]; exact y2, (TH_g H o1.1).1⟩ ?_
      refine TDw_xc H o1 ?_ s124
      show TDw E K s h1 wDr (C_6_one G te (fR h1 1662 y) (fR h1 1666 y) h1) _
      rw [ey1.2.2.1, ey1.2.2.1]
      rw [n1, evB_2] at o1 ⊢
      exact I.2.2.2.2.2 h1 T V _ _ _ o1 n5 n3 n4
/-- A NAME IS TOLD -/
theorem c_nmT (I : TI G N cl U ins gv nm con fam te s E K h0 Sx k2) (hnm : ∀ (w : Nat) (L : List Int), N[w]? = some L → nm w = L) (hS : ∀ x, Sl x → Sx x) {lb : XL} {d a : Nat} {evs : List Nat} {ev : List Dc} (X : nmC h0 N cl U Sl fo mo lb d a) (ha : a < hz h0) (ty : ∀ p ∈ lb.2.2.2.2.2, tyG N cl nm con fam h0 p.1) (R : rsJ h0 Sl a evs) (hl : evs.length = ev.length) (hE : ∀ (i y : Nat) (D : Dc), evs[i]? = some y → ev[i]? = some D → evD G N cl U ab ins gv nm con fam cnm te s E K h0 k2 D y) (h : om_H) (M : List Int) (o : okD E K s h0 h (nmB nm con fam cnm ab ins gv lb ev ++ M)) : TDw E K s h wDr (C_6_name G te a h) (nmB nm con fam cnm ab ins gv lb ev) := by
  have H := I.1
  have o := okD_l o
  have a1 := X.1.1
  have e := I.2.1 h a o.2.1 ha (by omega)
  have q := TH_g H o.1
  unfold nmB at o ⊢
  rw [List.append_assoc] at o ⊢
  obtain ⟨_, _, t, _, dl⟩ := id o
  rw [List.length_append, List.length_append] at dl
  have f1 := flat_len (f := fun p : Ty × Nat => 91 :: tyB nm con fam p.1 ++ [93]) (fun a => by rw [List.length_append, List.length_cons]; omega) lb.2.2.2.2.2
  have f2 := flat_len (f := fun D => 123 :: evB nm con fam cnm ab ins gv D ++ [125]) (fun a => by rw [List.length_append, List.length_cons]; omega) ev
  unfold C_6_name
  rw [e.2.2.1]
  refine TDw_gd ⟨q.1, by rw [e.1]; exact a1, q.2⟩ (TDw_seq H o (TD_w H (wN_at I hnm X.1.2.2 o.2.1) o) (fun h1 o1 => ?_))
  refine TDw_seq H o1 (c_ats I hS X ha ty (by omega) lb.2.2.2.2.2 0 h1 rfl (Nat.zero_le _) (okD_l o1)) (fun h2 o2 => ?_)
  refine TDw_nil (TDw_seq H (okD_nil o2) (c_evs I hS R ha a1 hl hE (by omega) ev 0 h2 rfl (Nat.zero_le _) o2) (fun h3 o3 => ?_))
  exact TDw_end H o3.1
end LNT
