set_option maxRecDepth 100000
/-! THE COMPONENT TELLS what a term begins with -/
/-- a word that spells L -/
def wLt (h : om_H) (a : Nat) (L : List Int) : Prop := (a < hz h ∧ fR h 1186 a < hz h) ∧ wb h a L
/-- a scope that can be told -/
def ScT (N : List (List Int)) (cl : Nat → Nat) (U Sx : Nat → Prop) (nm con fam cnm : Nat → List Int) (h : om_H) (sc : Nat) (ns : List Nat) (gv : List GVs) : Prop := (sc < hz h ∧ kd h sc = 5) ∧ ((fR h 162 sc < hz h ∧ kd h (fR h 162 sc) = 42 ∧ Sx (fR h 162 sc)) ∧ (ll h (fR h 162 sc)).length = ns.length ∧ ∀ (i y w : Nat), (ll h (fR h 162 sc))[i]? = some y → ns[i]? = some w → kd h y = 17 ∧ wLt h y (nm w)) ∧ ((fR h 166 sc < hz h ∧ kd h (fR h 166 sc) = 42 ∧ Sx (fR h 166 sc)) ∧ (ll h (fR h 166 sc)).length = gv.length ∧ ∀ (i y : Nat) (g : GVs), (ll h (fR h 166 sc))[i]? = some y → gv[i]? = some g → (y < hz h ∧ kd h y = 22) ∧ wLt h (fR h 1338 y) (if g.1 < 100 then cnm g.1 else fam (g.1 - 100)) ∧ wLt h (fR h 1342 y) (nm g.2.1) ∧ (g.1 < 100 → fR h 1346 y = 0) ∧ (100 ≤ g.1 → fR h 1346 y ≠ 0 ∧ tyC h N cl U g.2.2 (fR h 1354 y) ∧ tyG N cl nm con fam h g.2.2))
section LSC2
variable {G : om_G} {h0 h h1 : om_H} {N : List (List Int)} {cl : Nat → Nat} {U Sx : Nat → Prop} {ins : List INs} {gv : List GVs} {nm con fam cnm : Nat → List Int} {te s : Nat} {E : om_H → Prop} {K : om_H → om_H → Prop} {k2 : Ty → Ty → Prop} {sc : Nat} {ns : List Nat}
theorem wL_at (I : TI G N cl U ins gv nm con fam te s E K h0 Sx k2) {a : Nat} {L : List Int} (W : wLt h0 a L) (k : K h0 h) : wb h a L := by
  obtain ⟨⟨b3, b4⟩, b5⟩ := W
  have k17 := b5.1
  have k50 := b5.2.1
  have c2 := I.2.1 h _ k b3 (by omega)
  have c3 := I.2.1 h _ k b4 (by omega)
  exact wb_keep b5 c2.1 c3.1 c2.2.1 c2.2.2.1 c3.2.2.2.1 c3.2.2.2.2.1
theorem c_isEq {y : Nat} (k22 : kd h y = 22) : C_21_isEqual G y h = some (if fR h 1346 y = 0 then 0 else 1) := by
  unfold C_21_isEqual C_21_isEqual_12
  rw [gd_pos k22]
  by_cases c : fR h 1346 y = 0
  · rw [if_pos c, if_pos c, gd_pos (.inl rfl)]
  · rw [if_neg c, if_neg c, gd_pos (.inr rfl)]
theorem allB_k {w : Nat} {l : List Nat} : allB nm (w :: l) = ([47, 92] ++ (nm w ++ [46])) ++ allB nm l := by
  unfold allB
  rw [List.map_cons, List.flatten_cons]
  simp
/-- the names -/
theorem c_sc2 (I : TI G N cl U ins gv nm con fam te s E K h0 Sx k2) (S : ScT N cl U Sx nm con fam cnm h0 sc ns gv) (h9 : ns.length < 1000000000) : ∀ (l : List Nat) (k : Nat) (h : om_H), ns.drop k = l → k ≤ ns.length → okD E K s h0 h (allB nm l) → TDw E K s h id (om_loop (C_6_scope_2s G te sc) ((k : Int), h)) (allB nm l)
  | [], k, h, el, hk, o => by
    obtain ⟨⟨s1, s2⟩, ⟨⟨a1, a2, a3⟩, a4, a5⟩, _⟩ := S
    have kl : ns.length ≤ k := List.drop_eq_nil_iff.mp el
    have e := I.2.1 h sc o.2.1 s1 (by omega)
    have eL := I.2.2.1 h _ o.2.1 a1 a2 a3
    have kL : kd h (fR h0 162 sc) = 42 := by rw [eL.1]; exact a2
    refine TDw_out I.1 ?_ o.1
    unfold C_6_scope_2s P_J2_size
    simp only
    rw [e.2.2.1, gd_pos ⟨by rw [e.1]; exact s2, kL⟩, gd_pos kL, Option.bind_some, eL.2.2.2.2.2.2.1, if_pos (by omega)]
    rfl
  | w :: l, k, h, el, hk, o => by
    have H := I.1
    obtain ⟨⟨s1, s2⟩, ⟨⟨a1, a2, a3⟩, a4, a5⟩, _⟩ := id S
    have kl : k < ns.length := Classical.byContradiction (fun z => by
      rw [List.drop_eq_nil_iff.mpr (by omega)] at el
      cases el)
    have ek := List.drop_eq_getElem_cons kl
    rw [el] at ek
    injection ek with ek1 ek2
    have er : ns[k]? = some w := by rw [List.getElem?_eq_getElem kl, ek1]
    have ed : (ll h0 (fR h0 162 sc))[k]? = some ((ll h0 (fR h0 162 sc))[k]'(by omega)) := List.getElem?_eq_getElem (by omega)
    generalize (ll h0 (fR h0 162 sc))[k]'(by omega) = y at ed
    obtain ⟨y17, W⟩ := a5 k y w ed er
    have wk : w32 ((k : Int) + 1) = ((k + 1 : Nat) : Int) := (w32_s (by omega) (by omega)).trans (by omega)
    rw [allB_k] at o ⊢
    refine TDw_loop (k' := ((k + 1 : Nat) : Int)) H o ?_ (fun h1 o1 => c_sc2 I S h9 l (k + 1) h1 ek2.symm (by omega) o1)
    have o' := okD_l o
    have e := I.2.1 h sc o.2.1 s1 (by omega)
    have eL := I.2.2.1 h _ o.2.1 a1 a2 a3
    have kL : kd h (fR h0 162 sc) = 42 := by rw [eL.1]; exact a2
    unfold C_6_scope_2s P_J2_size P_J2_get
    simp only
    rw [e.2.2.1, gd_pos ⟨by rw [e.1]; exact s2, kL⟩, gd_pos kL, Option.bind_some, eL.2.2.2.2.2.2.1, if_neg (by omega)]
    refine TP_s H (j := 33) (M := [47, 92]) rfl (by decide) o' (fun h1 o1 => ?_)
    have e1 := I.2.1 h1 sc o1.2.1 s1 (by omega)
    have eL1 := I.2.2.1 h1 _ o1.2.1 a1 a2 a3
    have kL1 : kd h1 (fR h0 162 sc) = 42 := by rw [eL1.1]; exact a2
    have ey := I.2.1 h1 y o1.2.1 W.1.1 (by omega)
    have q1 := TH_g H o1.1
    rw [e1.2.2.1, gd_pos ⟨q1.1, by rw [e1.1]; exact s2, kL1⟩, gd_pos ⟨kL1, by omega⟩, eL1.2.2.2.2.2.2.1, show ((k : Int)).toNat = k by omega, ed, Option.bind_some]
    refine TDw_gd ⟨.inr (by rw [ey.1]; exact y17), q1.2⟩ (TDi H o1 (TD_w H (wL_at I W o1.2.1) o1) (fun h2 o2 => ?_))
    rw [wk]
    exact TP_e (w2 := fun h => (Sum.inl (((k + 1 : Nat) : Int), h) : (Int × om_H) ⊕ om_H)) H o2
theorem givB_len : ∀ (l : List GVs) (k : Nat), l.length ≤ (givB nm con fam cnm k l).length
  | [], _ => Nat.le_refl _
  | g :: l, k => by
    have := givB_len l (k + 1)
    show l.length + 1 ≤ ([92, if g.1 < 100 then 100 else 99] ++ numB k ++ [58] ++ (if g.1 < 100 then cnm g.1 else fam (g.1 - 100)) ++ [40] ++ nm g.2.1 ++ [41] ++ (if g.1 < 100 then [] else 126 :: tyB nm con fam g.2.2) ++ [46] ++ givB nm con fam cnm (k + 1) l).length
    simp only [List.length_append, List.length_cons]
    omega
/-- the givens -/
theorem c_sc58 (I : TI G N cl U ins gv nm con fam te s E K h0 Sx k2) (S : ScT N cl U Sx nm con fam cnm h0 sc ns gv) (h9 : gv.length < 1000000000) : ∀ (l : List GVs) (k : Nat) (h : om_H), gv.drop k = l → k ≤ gv.length → okD E K s h0 h (givB nm con fam cnm k l) → TDw E K s h id (om_loop (C_6_scope_58s G te sc) ((k : Int), h)) (givB nm con fam cnm k l)
  | [], k, h, el, hk, o => by
    obtain ⟨⟨s1, s2⟩, _, ⟨⟨a1, a2, a3⟩, a4, a5⟩⟩ := S
    have kl : gv.length ≤ k := List.drop_eq_nil_iff.mp el
    have e := I.2.1 h sc o.2.1 s1 (by omega)
    have eL := I.2.2.1 h _ o.2.1 a1 a2 a3
    have kL : kd h (fR h0 166 sc) = 42 := by rw [eL.1]; exact a2
    refine TDw_out I.1 ?_ o.1
    unfold C_6_scope_58s P_J2_size
    simp only
    rw [e.2.2.1, gd_pos ⟨by rw [e.1]; exact s2, kL⟩, gd_pos kL, Option.bind_some, eL.2.2.2.2.2.2.1, if_pos (by omega)]
    rfl
  | g :: l, k, h, el, hk, o => by
    have H := I.1
    obtain ⟨⟨s1, s2⟩, _, ⟨⟨a1, a2, a3⟩, a4, a5⟩⟩ := id S
    have kl : k < gv.length := Classical.byContradiction (fun z => by
      rw [List.drop_eq_nil_iff.mpr (by omega)] at el
      cases el)
    have ek := List.drop_eq_getElem_cons kl
    rw [el] at ek
    injection ek with ek1 ek2
    have er : gv[k]? = some g := by rw [List.getElem?_eq_getElem kl, ek1]
    have ed : (ll h0 (fR h0 166 sc))[k]? = some ((ll h0 (fR h0 166 sc))[k]'(by omega)) := List.getElem?_eq_getElem (by omega)
    generalize (ll h0 (fR h0 166 sc))[k]'(by omega) = y at ed
    obtain ⟨⟨y1, y22⟩, W1, W2, n1, n2⟩ := a5 k y g ed er
    have ey : ∀ h, K h0 h → eqA y h0 h := fun h k => I.2.1 h y k y1 (by omega)
    have wk : w32 ((k : Int) + 1) = ((k + 1 : Nat) : Int) := (w32_s (by omega) (by omega)).trans (by omega)
    -- the end
    have s202 : ∀ h, okD E K s h0 h [46] → TDw E K s h (fun h => (Sum.inl (((k + 1 : Nat) : Int), h) : (Int × om_H) ⊕ om_H)) (C_6_scope_202 G te sc (k : Int) h) [46] := fun h o => by
      unfold C_6_scope_202
      rw [wk]
      exact TP_e (w2 := fun h => (Sum.inl (((k + 1 : Nat) : Int), h) : (Int × om_H) ⊕ om_H)) H o
    have tail : ∀ h, okD E K s h0 h ((if g.1 < 100 then [] else 126 :: tyB nm con fam g.2.2) ++ [46]) → TDw E K s h (fun h => (Sum.inl (((k + 1 : Nat) : Int), h) : (Int × om_H) ⊕ om_H)) (gd (kd h y = 22) ((C_21_isEqual G y h).bind fun p8 => if p8 = 0 then C_6_scope_184 G te sc (k : Int) y h else gd (kd h te = 7 ∧ kd h (fR h 182 te) = 8) ((C_7_put_2 G (fR h 182 te) 126 h).bind fun p9 => C_6_scope_184 G te sc (k : Int) y p9))) ((if g.1 < 100 then [] else 126 :: tyB nm con fam g.2.2) ++ [46]) := fun h o => by
      have kh : kd h y = 22 := by rw [(ey h o.2.1).1]; exact y22
      rw [gd_pos kh, c_isEq kh, Option.bind_some, (ey h o.2.1).2.2.1]
      by_cases c : g.1 < 100
      · have z0 : (if fR h0 1346 y = 0 then (0 : Int) else 1) = 0 := if_pos (n1 c)
        rw [if_pos c, List.nil_append] at o ⊢
        rw [z0, if_pos rfl]
        unfold C_6_scope_184
        rw [gd_pos kh, c_isEq kh, Option.bind_some, (ey h o.2.1).2.2.1, z0, if_pos rfl]
        exact s202 h o
      · obtain ⟨m1, m2, m3⟩ := n2 (by omega)
        have z0 : (if fR h0 1346 y = 0 then (0 : Int) else 1) = 1 := if_neg m1
        rw [if_neg c, show 126 :: tyB nm con fam g.2.2 ++ [46] = [126] ++ (tyB nm con fam g.2.2 ++ [46]) from rfl] at o ⊢
        rw [z0, if_neg (by decide)]
        refine TP_b H o (fun h1 o1 => ?_)
        have kh1 : kd h1 y = 22 := by rw [(ey h1 o1.2.1).1]; exact y22
        unfold C_6_scope_184
        rw [gd_pos kh1, c_isEq kh1, Option.bind_some, (ey h1 o1.2.1).2.2.1, z0, if_neg (by decide), (ey h1 o1.2.1).2.2.1]
        exact TDw_gd ⟨(TH_g H o1.1).1, kh1⟩ (TDi H o1 (TD_t H m3.1 (I.2.2.2.1 h1 _ _ o1.2.1 m2) m3.2.2.1 m3.2.1 (I.2.2.2.2.1 h1 _ o1.2.1 m3.2.2.2) o1) (fun h2 o2 => s202 h2 o2))
    have s108 : ∀ (c : Int) (h : om_H), okD E K s h0 h ([c] ++ (numB k ++ ([58] ++ ((if g.1 < 100 then cnm g.1 else fam (g.1 - 100)) ++ ([40] ++ (nm g.2.1 ++ ([41] ++ ((if g.1 < 100 then [] else 126 :: tyB nm con fam g.2.2) ++ [46])))))))) → TDw E K s h (fun h => (Sum.inl (((k + 1 : Nat) : Int), h) : (Int × om_H) ⊕ om_H)) (C_6_scope_108 G te sc (k : Int) y (fR h 182 te) c h) ([c] ++ (numB k ++ ([58] ++ ((if g.1 < 100 then cnm g.1 else fam (g.1 - 100)) ++ ([40] ++ (nm g.2.1 ++ ([41] ++ ((if g.1 < 100 then [] else 126 :: tyB nm con fam g.2.2) ++ [46])))))))) := fun c h o => by
      unfold C_6_scope_108
      refine TDw_gd (TH_g H o.1).2 (TDi H o (TD_b H o) (fun h1 o1 => ?_))
      refine TDw_gd (TH_g H o1.1) (TDi H o1 (TD_n H (by omega) o1) (fun h2 o2 => ?_))
      refine TP_b H o2 (fun h3 o3 => ?_)
      have q3 := TH_g H o3.1
      rw [(ey h3 o3.2.1).2.2.1]
      refine TDw_gd ⟨q3.1, by rw [(ey h3 o3.2.1).1]; exact y22, q3.2⟩ (TDi H o3 (TD_w H (wL_at I W1 o3.2.1) o3) (fun h4 o4 => ?_))
      refine TP_b H o4 (fun h5 o5 => ?_)
      have q5 := TH_g H o5.1
      rw [(ey h5 o5.2.1).2.2.1]
      refine TDw_gd ⟨q5.1, by rw [(ey h5 o5.2.1).1]; exact y22, q5.2⟩ (TDi H o5 (TD_w H (wL_at I W2 o5.2.1) o5) (fun h6 o6 => ?_))
      exact TP_b H o6 (fun h7 o7 => tail h7 o7)
    have es : givB nm con fam cnm k (g :: l) = ([92] ++ ([if g.1 < 100 then 100 else 99] ++ (numB k ++ ([58] ++ ((if g.1 < 100 then cnm g.1 else fam (g.1 - 100)) ++ ([40] ++ (nm g.2.1 ++ ([41] ++ ((if g.1 < 100 then [] else 126 :: tyB nm con fam g.2.2) ++ [46]))))))))) ++ givB nm con fam cnm (k + 1) l := by
      show [92, if g.1 < 100 then 100 else 99] ++ numB k ++ [58] ++ (if g.1 < 100 then cnm g.1 else fam (g.1 - 100)) ++ [40] ++ nm g.2.1 ++ [41] ++ (if g.1 < 100 then [] else 126 :: tyB nm con fam g.2.2) ++ [46] ++ givB nm con fam cnm (k + 1) l = _
      simp
    rw [es] at o ⊢
    refine TDw_loop (k' := ((k + 1 : Nat) : Int)) H o ?_ (fun h1 o1 => c_sc58 I S h9 l (k + 1) h1 ek2.symm (by omega) o1)
    have o' := okD_l o
    have e := I.2.1 h sc o.2.1 s1 (by omega)
    have eL := I.2.2.1 h _ o.2.1 a1 a2 a3
    have kL : kd h (fR h0 166 sc) = 42 := by rw [eL.1]; exact a2
    have ks : kd h sc = 5 := by rw [e.1]; exact s2
    unfold C_6_scope_58s P_J2_size P_J2_get
    simp only
    rw [e.2.2.1, gd_pos ⟨ks, kL⟩, gd_pos kL, Option.bind_some, eL.2.2.2.2.2.2.1, if_neg (by omega), gd_pos ⟨ks, kL⟩, gd_pos ⟨kL, by omega⟩, show ((k : Int)).toNat = k by omega, ed, Option.bind_some]
    have q := TH_g H o.1
    refine TDw_gd ⟨.inr (by rw [(ey h o.2.1).1]; exact y22), q.1, q.2⟩ (TDi H o' (TD_b H o') (fun h1 o1 => ?_))
    have kh1 : kd h1 y = 22 := by rw [(ey h1 o1.2.1).1]; exact y22
    rw [gd_pos ⟨(TH_g H o1.1).1, kh1⟩, c_isEq kh1, Option.bind_some, (ey h1 o1.2.1).2.2.1]
    by_cases c : g.1 < 100
    · have z0 : (if fR h0 1346 y = 0 then (0 : Int) else 1) = 0 := if_pos (n1 c)
      have z1 : (if g.1 < 100 then (100 : Int) else 99) = 100 := if_pos c
      rw [z0, if_pos rfl]
      rw [z1] at o1 ⊢
      exact s108 100 h1 o1
    · have z0 : (if fR h0 1346 y = 0 then (0 : Int) else 1) = 1 := if_neg (n2 (by omega)).1
      have z1 : (if g.1 < 100 then (100 : Int) else 99) = 99 := if_neg c
      rw [z0, if_neg (by decide)]
      rw [z1] at o1 ⊢
      exact s108 99 h1 o1
/-- what a term begins with -/
theorem c_scopeT (I : TI G N cl U ins gv nm con fam te s E K h0 Sx k2) (S : ScT N cl U Sx nm con fam cnm h0 sc ns gv) {L : List Int} (o : okD E K s h0 h ((allB nm ns ++ givB nm con fam cnm 0 gv) ++ L)) : TDw E K s h id (C_6_scope G te sc h) (allB nm ns ++ givB nm con fam cnm 0 gv) := by
  have H := I.1
  have o := okD_l o
  obtain ⟨_, _, t, _, dl⟩ := id o
  rw [List.length_append] at dl
  have f2 := givB_len (nm := nm) (con := con) (fam := fam) (cnm := cnm) gv 0
  have f1 : ns.length ≤ (allB nm ns).length := flat_len (f := fun w => [47, 92] ++ nm w ++ [46]) (fun a => by simp only [List.length_append, List.length_cons]; omega) ns
  unfold C_6_scope
  refine TDi H o (c_sc2 I S (by omega) ns 0 h rfl (Nat.zero_le _) (okD_l o)) (fun h1 o1 => ?_)
  exact TDw_nil (TDi H (okD_nil o1) (c_sc58 I S (by omega) gv 0 h1 rfl (Nat.zero_le _) o1) (fun h2 o2 => TDw_end (w := id) H o2.1))
end LSC2
