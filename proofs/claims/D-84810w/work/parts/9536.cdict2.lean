set_option maxRecDepth 100000
/-! THE COMPONENT TELLS DICTIONARIES (2) -/
section LDT2
variable {G : om_G} {h0 h h1 : om_H} {N : List (List Int)} {cl : Nat → Nat} {U Sx Lv : Nat → Prop} {ins : List INs} {gv : List GVs} {ab : List (Option Nat)} {io : Nat → Nat} {nm con fam cnm : Nat → List Int} {te s : Nat} {E : om_H → Prop} {K : om_H → om_H → Prop} {k2 : Ty → Ty → Prop}
theorem sepL_len : ∀ (l : List (List Int)) (k : Nat), l.length ≤ (sepL k l).length
  | [], _ => Nat.le_refl _
  | a :: l, k => by
    have := sepL_len l (k + 1)
    show l.length + 1 ≤ ((if k = 0 then 123 else 44) :: a ++ sepL (k + 1) l).length
    rw [List.length_append, List.length_cons]
    omega
/-- those that it asks for, one after another -/
theorem c_dloop (I : TI G N cl U ins gv nm con fam te s E K h0 Sx k2) {y : Nat} {r : Nat → Nat → om_H → Option ((Nat ⊕ Unit) × om_H)} {rows : List (List Int)} (ky : y < hz h0 ∧ kd h0 y = 36) (hL : fR h0 1634 y < hz h0 ∧ kd h0 (fR h0 1634 y) = 42 ∧ Sx (fR h0 1634 y)) (hlen : (ll h0 (fR h0 1634 y)).length = rows.length) (h9 : rows.length < 1000000000) (HD : ∀ (i d : Nat) (L : List Int), (ll h0 (fR h0 1634 y))[i]? = some d → rows[i]? = some L → (d < hz h0 ∧ kd h0 d = 36) ∧ ∀ h M, okD E K s h0 h (L ++ M) → TDw E K s h wDr (r te d h) L) : ∀ (l : List (List Int)) (k : Nat) (h : om_H), rows.drop k = l → k ≤ rows.length → okD E K s h0 h (sepL k l) → TDw E K s h (fun h => (Sum.inl h : om_H ⊕ ((Nat ⊕ Unit) × om_H))) (om_loop (C_6_dictionary_140s G r te y) ((k : Int), h)) (sepL k l)
  | [], k, h, el, hk, o => by
    have H := I.1
    have kl : rows.length ≤ k := List.drop_eq_nil_iff.mp el
    have e := I.2.1 h y o.2.1 ky.1 (by omega)
    have eL := I.2.2.1 h _ o.2.1 hL.1 hL.2.1 hL.2.2
    refine TDw_out H ?_ o.1
    unfold C_6_dictionary_140s P_J2_size
    simp only
    rw [e.2.2.1, gd_pos ⟨by rw [e.1]; exact ky.2, by rw [eL.1]; exact hL.2.1⟩, gd_pos (by rw [eL.1]; exact hL.2.1), Option.bind_some, eL.2.2.2.2.2.2.1, hlen, if_pos (by omega)]
  | a :: l, k, h, el, hk, o => by
    have H := I.1
    have kl : k < rows.length := Classical.byContradiction (fun z => by
      rw [List.drop_eq_nil_iff.mpr (by omega)] at el
      cases el)
    have ek := List.drop_eq_getElem_cons kl
    rw [el] at ek
    injection ek with ek1 ek2
    have er : rows[k]? = some a := by rw [List.getElem?_eq_getElem kl, ek1]
    have ed : (ll h0 (fR h0 1634 y))[k]? = some ((ll h0 (fR h0 1634 y))[k]'(by omega)) := List.getElem?_eq_getElem (by omega)
    generalize (ll h0 (fR h0 1634 y))[k]'(by omega) = d at ed
    obtain ⟨kd', run⟩ := HD k d a ed er
    have wk : w32 ((k : Int) + 1) = ((k + 1 : Nat) : Int) := (w32_s (by omega) (by omega)).trans (by omega)
    have s166 : ∀ (c : Int) (h : om_H), okD E K s h0 h ([c] ++ a) → TDw E K s h (fun h => (Sum.inl (((k + 1 : Nat) : Int), h) : (Int × om_H) ⊕ (om_H ⊕ ((Nat ⊕ Unit) × om_H)))) (C_6_dictionary_166 G r te y (k : Int) (fR h 182 te) c h) ([c] ++ a) := fun c h o => by
      have q := TH_g H o.1
      unfold C_6_dictionary_166
      refine TDw_gd q.2 (TDw_seq H o (TD_b H o) (fun h1 o1 => ?_))
      have e1 := I.2.1 h1 y o1.2.1 ky.1 (by omega)
      have eL1 := I.2.2.1 h1 _ o1.2.1 hL.1 hL.2.1 hL.2.2
      have ed1 := I.2.1 h1 d o1.2.1 kd'.1 (by omega)
      show TDw E K s h1 _ (gd (kd h1 y = 36 ∧ kd h1 (fR h1 1634 y) = 42) ((P_J2_get G (fR h1 1634 y) (k : Int) h1).bind _)) a
      unfold P_J2_get
      rw [e1.2.2.1, gd_pos ⟨by rw [e1.1]; exact ky.2, by rw [eL1.1]; exact hL.2.1⟩, gd_pos ⟨by rw [eL1.1]; exact hL.2.1, by omega⟩, eL1.2.2.2.2.2.2.1, show ((k : Int)).toNat = k by omega, ed, Option.bind_some]
      refine TDw_gd ⟨.inr (by show kd h1 d = 36; rw [ed1.1]; exact kd'.2), (TH_g H o1.1).1⟩ ?_
      refine TDw_nil (TDw_xc H (okD_nil o1) (run h1 [] (okD_nil o1)) (fun h2 o2 => ?_))
      rw [wk]
      exact TDw_end H o2.1
    have es : sepL k (a :: l) = ([if k = 0 then (123 : Int) else 44] ++ a) ++ sepL (k + 1) l := rfl
    rw [es] at o ⊢
    refine TDw_loop (k' := ((k + 1 : Nat) : Int)) H o ?_ (fun h1 o1 => c_dloop I ky hL hlen h9 HD l (k + 1) h1 ek2.symm (by omega) o1)
    have o' := okD_l o
    have e := I.2.1 h y o.2.1 ky.1 (by omega)
    have eL := I.2.2.1 h _ o.2.1 hL.1 hL.2.1 hL.2.2
    unfold C_6_dictionary_140s P_J2_size
    simp only
    rw [e.2.2.1, gd_pos ⟨by rw [e.1]; exact ky.2, by rw [eL.1]; exact hL.2.1⟩, gd_pos (by rw [eL.1]; exact hL.2.1), Option.bind_some, eL.2.2.2.2.2.2.1, hlen, if_neg (by omega)]
    refine TDw_gd (TH_g H o.1).1 ?_
    by_cases k0 : k = 0
    · rw [if_pos k0] at o' ⊢
      rw [if_neg (by omega)]
      exact s166 123 h o'
    · rw [if_neg k0] at o' ⊢
      rw [if_pos (by omega)]
      exact s166 44 h o'
/-- an inst's -/
theorem c_insT (I : TI G N cl U ins gv nm con fam te s E K h0 Sx k2) {y i c w : Nat} {x : Unit} {l rr : Ty} (X : icX h0 N cl U Lv io i c (.inner 1 w x l rr) y) (Io : ioC io h0 i) (wf : wfT (.inner 1 w x l rr)) (hd : tdp (.inner 1 w x l rr) < 70) (O : tOc N cl nm con fam h0 (.inner 1 w x l rr)) (Ls : Sx (fR h0 1630 y) ∧ Sx (fR h0 1634 y)) {r : Nat → Nat → om_H → Option ((Nat ⊕ Unit) × om_H)} {rows : List (List Int)} (hlen : (ll h0 (fR h0 1634 y)).length = rows.length) (HD : ∀ (i d : Nat) (L : List Int), (ll h0 (fR h0 1634 y))[i]? = some d → rows[i]? = some L → (d < hz h0 ∧ kd h0 d = 36) ∧ ∀ h M, okD E K s h0 h (L ++ M) → TDw E K s h wDr (r te d h) L) (h : om_H) (M : List Int) (o : okD E K s h0 h ((105 :: numB i ++ prtB nm con fam (.inner 1 w x l rr) ++ cosB rows) ++ M)) (hc : ∀ h1, okD E K s h0 h1 M → TDw E K s h1 wDr (C_6_dictionary_209 G r te y h1) M) : TDw E K s h wDr (C_6_dictionary_27 G r te y h) ((105 :: numB i ++ prtB nm con fam (.inner 1 w x l rr) ++ cosB rows) ++ M) := by
  have H := I.1
  obtain ⟨_, ⟨y0, y1, y2⟩, ⟨a1, a2, a3, a4, a5⟩, ⟨b1, b2, b3⟩, ⟨d1, d2, d3⟩, f1, f2⟩ := X
  have ey : ∀ h, K h0 h → eqA y h0 h := fun h k => I.2.1 h y k y1 (by omega)
  have e := ey h o.2.1
  have ec : cosB rows = sepL 0 rows ++ (if rows.length = 0 then [] else [125]) := by
    cases rows with
    | nil => rfl
    | cons a L' =>
      rw [if_neg (by rw [List.length_cons]; omega)]
      show 123 :: comB (a :: L') ++ [125] = ((if 0 = 0 then 123 else 44) :: a ++ sepL (0 + 1) L') ++ [125]
      rw [comB_sep a L' 0, if_pos rfl]
      simp
  rw [ec, show (105 :: numB i ++ prtB nm con fam (.inner 1 w x l rr) ++ (sepL 0 rows ++ (if rows.length = 0 then [] else [125]))) ++ M = [105] ++ (numB i ++ (prtB nm con fam (.inner 1 w x l rr) ++ (sepL 0 rows ++ ((if rows.length = 0 then [] else [125]) ++ M)))) by simp] at o ⊢
  unfold C_6_dictionary_27
  refine TDw_gd (by rw [e.1]; exact y2) ?_
  rw [e.2.1, a1, if_pos (by decide)]
  refine TDw_gd (by rw [e.1]; exact y2) ?_
  rw [e.2.2.1, a2, if_pos rfl]
  refine TP_b H o (fun h1 o1 => ?_)
  have e1 := ey h1 o1.2.1
  have ei1 := I.2.1 h1 (io i) o1.2.1 Io.2.1 (by have := Io.1; omega)
  have q1 := TH_g H o1.1
  rw [e1.2.2.1, a4]
  refine TDw_gd ⟨q1.1, by rw [e1.1]; exact y2, by rw [ei1.1]; exact Io.1, q1.2⟩ ?_
  rw [ei1.2.1, Io.2.2.1]
  refine TDw_seq H o1 (TD_n H (by have := Io.2.2.2; omega) o1) (fun h2 o2 => ?_)
  have e2 := ey h2 o2.2.1
  refine TDw_gd ⟨by show kd h2 y = 36; rw [e2.1]; exact y2, (TH_g H o2.1).1⟩ ?_
  show TDw E K s h2 wDr ((C_6_types G te (fR h2 1630 y) h2).bind _) _
  rw [e2.2.2.1]
  refine TDw_seq H o2 (c_typesT I ⟨b2, b3, Ls.1⟩ f1 f2 wf hd O o2) (fun h3 o3 => ?_)
  have r9 : rows.length < 1000000000 := by
    obtain ⟨_, _, t, _, d⟩ := o3
    rw [List.length_append] at d
    have := sepL_len rows 0
    omega
  refine TDw_seq H o3 (c_dloop I ⟨y1, y2⟩ ⟨d2, d3, Ls.2⟩ hlen r9 HD rows 0 h3 rfl (Nat.zero_le _) (okD_l o3)) (fun h4 o4 => ?_)
  have e4 := ey h4 o4.2.1
  have eL4 := I.2.2.1 h4 _ o4.2.1 d2 d3 Ls.2
  show TDw E K s h4 wDr (gd (kd h4 y = 36 ∧ kd h4 (fR h4 1634 y) = 42) ((P_J2_isEmpty G (fR h4 1634 y) h4).bind _)) _
  unfold P_J2_isEmpty
  rw [e4.2.2.1, gd_pos ⟨by rw [e4.1]; exact y2, by rw [eL4.1]; exact d3⟩, gd_pos (by rw [eL4.1]; exact d3), Option.bind_some, eL4.2.2.2.2.2.2.1, hlen]
  by_cases rz : rows.length = 0
  · have ez : (if rows.length = 0 then (1 : Int) else 0) = 1 := if_pos rz
    rw [ez, if_pos (by decide)]
    rw [if_pos rz] at o4 ⊢
    exact hc h4 o4
  · have ez : (if rows.length = 0 then (1 : Int) else 0) = 0 := if_neg rz
    rw [ez, if_neg (by decide)]
    rw [if_neg rz] at o4 ⊢
    exact TP_b H o4 hc
theorem gcX_cl {g1 j n a : Nat} (H : gcX h0 cl ab Lv g1 j n a) : (a ≠ 0 ∧ a < hz h0 ∧ kd h0 a = 36) ∧ ∃ k, upA ab n g1 = some k ∧ fR h0 1614 a = cl k := by
  cases n with
  | zero => exact ⟨H.2.1, g1, rfl, H.2.2.2.2.2⟩
  | succ n => exact ⟨H.2.1, H.2.2.2.2.1⟩
/-- DICTIONARIES ARE TOLD -/
theorem c_dicT (I : TI G N cl U ins gv nm con fam te s E K h0 Sx k2) (HLv : ∀ d, Lv d → (fR h0 1630 d ≠ 0 → Sx (fR h0 1630 d)) ∧ (fR h0 1634 d ≠ 0 → Sx (fR h0 1634 d))) : ∀ (D : Dc) (l : List Nat) (f : Nat), DcX h0 N cl U Lv io ab gv D l → dK N cl nm con fam cnm io ab gv h0 k2 D f → l.length = (dcsB nm con fam cnm ab ins gv D).length ∧ ∀ (i d : Nat) (L : List Int), l[i]? = some d → (dcsB nm con fam cnm ab ins gv D)[i]? = some L → (d < hz h0 ∧ kd h0 d = 36) ∧ ∀ F, f ≤ F → ∀ h M, okD E K s h0 h (L ++ M) → TDw E K s h wDr (C_6_dictionaryD G F te d h) L
  | .leaf, l, f, X, _ => by
    have e : l = [] := X
    subst e
    exact ⟨rfl, fun i d L e => by simp at e⟩
  | .inner t (j, n, u, T) x cs nx, l, f, ⟨y, l', e1, e2, e3, e4, e5⟩, ⟨k1, kk, k3, k4⟩ => by
    obtain ⟨n1, n2⟩ := c_dicT I HLv nx l' f e5 k4
    subst e1
    rw [dcsB_i]
    refine ⟨by rw [List.length_cons, List.length_cons, n1], fun i d L ei eL => ?_⟩
    cases i with
    | succ i => exact n2 i d L (by simpa using ei) (by simpa using eL)
    | zero =>
      have ed : y = d := by simpa using ei
      have eL' : evB nm con fam cnm ab ins gv (.inner t (j, n, u, T) x cs nx) = L := by simpa using eL
      subst ed eL'
      rcases kk with ⟨t0, q1, q2, q3⟩ | ⟨t1, q1, q2, q3, ⟨w, xx, lq, rq, q4⟩, q5, q6, q7⟩
      · rw [if_pos t0] at e3
        obtain ⟨g, g1, g2⟩ := e3
        obtain ⟨ky, k, g3, g4⟩ := gcX_cl g2
        refine ⟨⟨ky.2.1, ky.2.2⟩, fun F hF h M o => ?_⟩
        have q1' : n < f := q1
        obtain ⟨F', rfl⟩ : ∃ a, F = a + 1 := ⟨F - 1, by omega⟩
        subst t0
        show TDw E K s h wDr (C_6_dictionaryB G (C_6_dictionaryD G F') te y h) _
        rw [evB_0 g1, g3] at o ⊢
        exact c_csB I ⟨ky.2.1, ky.2.2⟩ g4 (q3 g g1 n k (Nat.le_refl _) g3) e2 k1 (fun h M o hc => c_gvT I q2 n y F' g2 (by omega) (q3 g g1) h M o hc) h M o
      · subst t1
        rw [if_neg (by decide)] at e3 e4
        have q4' : u = .inner 1 w xx lq rq := q4
        subst q4'
        have ky := e3.2.1
        have ls := HLv y e3.1
        obtain ⟨m1, m2⟩ := c_dicT I HLv cs _ (f - 1) e4 k3
        refine ⟨⟨ky.2.1, ky.2.2⟩, fun F hF h M o => ?_⟩
        obtain ⟨F', rfl⟩ : ∃ a, F = a + 1 := ⟨F - 1, by omega⟩
        show TDw E K s h wDr (C_6_dictionaryB G (C_6_dictionaryD G F') te y h) _
        rw [evB_1] at o ⊢
        exact c_csB I ⟨ky.2.1, ky.2.2⟩ e3.2.2.1.2.2.1 q3 e2 k1 (fun h M o hc => c_insT I e3 q2 q5 q6 q7 ⟨ls.1 e3.2.2.2.1.1, ls.2 e3.2.2.2.2.1.1⟩ m1 (fun i d L a b => ⟨(m2 i d L a b).1, fun h M o => (m2 i d L a b).2 F' (by omega) h M o⟩) h M o hc) h M o
end LDT2
