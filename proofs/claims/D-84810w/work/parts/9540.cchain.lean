set_option maxRecDepth 100000
/-! THE COMPONENT TELLS CHAINS -/
section LCH
variable {G : om_G} {h0 h h1 : om_H} {N : List (List Int)} {cl : Nat → Nat} {U Sx Sl : Nat → Prop} {ins : List INs} {gv : List GVs} {ab : List (Option Nat)} {nm con fam cnm : Nat → List Int} {te s : Nat} {E : om_H → Prop} {K : om_H → om_H → Prop} {k2 : Ty → Ty → Prop} {r : Nat → Nat → om_H → Option ((Nat ⊕ Unit) × om_H)} {L : List Int} {a : Nat}
/-- one of a chain, with its sign -/
theorem c_it38 (I : TI G N cl U ins gv nm con fam te s E K h0 Sx k2) (hI : intO G) (hS : ∀ x, Sl x → Sx x) {M sg e : Nat} {Lr : List Int} (ha : a < hz h0 ∧ kd h0 a = 32) (ic : chC2 G h0 Sl a M sg e) (he : e < hz h0 ∧ 24 ≤ kd h0 e ∧ kd h0 e ≤ 32 ∧ kd h0 e ≠ 31) (R : RXt G te s E K h0 r e Lr) (o : okD E K s h0 h ((sgB sg ++ (Lr ++ [41])) ++ L)) : TDw E K s h (fun h => (Sum.inl ((M : Int), h) : (Int × om_H) ⊕ (om_H ⊕ ((Nat ⊕ Unit) × om_H)))) (C_6_chain_38s G r te a (((M - 1 : Nat) : Int), h)) (sgB sg ++ (Lr ++ [41])) := by
  have H := I.1
  obtain ⟨⟨l1, l2, l3⟩, ⟨n1, n2, n3⟩, ⟨m0, m1, m2, m3⟩, ei, ⟨s1, s2⟩, _⟩ := ic
  have eb : ∀ h, K h0 h → eqA a h0 h := fun h k => I.2.1 h a k ha.1 (by omega)
  have eL : ∀ h, K h0 h → eqA (fR h0 1522 a) h0 h := fun h k => I.2.2.1 h _ k l2 l3 (hS _ l1)
  have eM := I.2.2.1 h _ o.2.1 n2 n3 (hS _ n1)
  have wk : w32 (((M - 1 : Nat) : Int) + 1) = (M : Int) := (w32_s (by omega) (by omega)).trans (by omega)
  have o' := okD_l o
  have s91 : ∀ h, okD E K s h0 h (Lr ++ [41]) → TDw E K s h (fun h => (Sum.inl ((M : Int), h) : (Int × om_H) ⊕ (om_H ⊕ ((Nat ⊕ Unit) × om_H)))) (C_6_chain_91 G r te a ((M - 1 : Nat) : Int) h) (Lr ++ [41]) := fun h o => by
    unfold C_6_chain_91 P_J2_get
    have kL : kd h (fR h0 1522 a) = 42 := by rw [(eL h o.2.1).1]; exact l3
    have ka : kd h a = 32 := by rw [(eb h o.2.1).1]; exact ha.2
    have ee := I.2.1 h e o.2.1 he.1 (by omega)
    rw [(eb h o.2.1).2.2.1, gd_pos ⟨ka, kL⟩, gd_pos ⟨kL, by omega⟩, (eL h o.2.1).2.2.2.2.2.2.1, show (((M - 1 : Nat) : Int)).toNat = M - 1 by omega, ei, Option.bind_some]
    refine TDw_gd ⟨.inr (exk_of (by rw [ee.1]; omega) (by rw [ee.1]; omega)), (TH_g H o.1).1⟩ (TDw_xc H o (R h _ o) (fun h2 o2 => ?_))
    rw [wk]
    exact TP_e (w2 := fun h => (Sum.inl ((M : Int), h) : (Int × om_H) ⊕ (om_H ⊕ ((Nat ⊕ Unit) × om_H)))) H o2
  unfold C_6_chain_38s P_J2_size P_J2_get
  simp only
  have kL : kd h (fR h0 1522 a) = 42 := by rw [(eL h o.2.1).1]; exact l3
  have kM : kd h (fR h0 1526 a) = 42 := by rw [eM.1]; exact n3
  have ka : kd h a = 32 := by rw [(eb h o.2.1).1]; exact ha.2
  have e22 := (eb h o.2.1).2.2.1 1522
  have e26 := (eb h o.2.1).2.2.1 1526
  rw [e22, e26, gd_pos ⟨ka, kL⟩, gd_pos kL, Option.bind_some, (eL h o.2.1).2.2.2.2.2.2.1, if_neg (by omega), gd_pos ⟨ka, kM⟩, gd_pos ⟨kM, by omega⟩, eM.2.2.2.2.2.2.1, show (((M - 1 : Nat) : Int)).toNat = M - 1 by omega, s2, Option.bind_some, gd_pos ⟨⟨sg + 128, by omega, rfl⟩, hI.2 (sg + 128) h (by omega)⟩, c_intv hI (by omega), Option.bind_some]
  have es : ((sg + 128 : Nat) : Int) - 128 = (sg : Int) := by omega
  rw [es]
  unfold sgB at o' ⊢
  by_cases c : sg = 61
  · rw [if_pos c] at o' ⊢
    rw [if_neg (by omega)]
    exact TP_s H (j := 50) (M := [61, 61]) rfl (by decide) o' (fun h1 o1 => s91 h1 o1)
  · rw [if_neg c] at o' ⊢
    rw [if_pos (by omega)]
    exact TP_b H o' (fun h1 o1 => s91 h1 o1)
/-- the items of a chain -/
def SCn (G : om_G) (te s : Nat) (E : om_H → Prop) (K : om_H → om_H → Prop) (h0 : om_H) (r : Nat → Nat → om_H → Option ((Nat ⊕ Unit) × om_H)) (a M : Nat) (Q : List Int) : Prop := ∀ h L, okD E K s h0 h (Q ++ L) → (∀ h1, okD E K s h0 h1 L → TDw E K s h1 (fun h => (Sum.inl h : om_H ⊕ ((Nat ⊕ Unit) × om_H))) (om_loop (C_6_chain_38s G r te a) ((M : Int), h1)) L) → TDw E K s h (fun h => (Sum.inl h : om_H ⊕ ((Nat ⊕ Unit) × om_H))) (om_loop (C_6_chain_38s G r te a) (0, h)) (Q ++ L)
theorem SCn_0 : SCn G te s E K h0 r a 0 [] := fun _ _ o k => k _ o
theorem SCn_s (I : TI G N cl U ins gv nm con fam te s E K h0 Sx k2) (hI : intO G) (hS : ∀ x, Sl x → Sx x) {M sg e : Nat} {Lr Q : List Int} (ha : a < hz h0 ∧ kd h0 a = 32) (ic : chC2 G h0 Sl a M sg e) (he : e < hz h0 ∧ 24 ≤ kd h0 e ∧ kd h0 e ≤ 32 ∧ kd h0 e ≠ 31) (R : RXt G te s E K h0 r e Lr) (X : SCn G te s E K h0 r a (M - 1) Q) : SCn G te s E K h0 r a M (Q ++ (sgB sg ++ (Lr ++ [41]))) := by
  intro h L o k
  rw [List.append_assoc] at o ⊢
  refine X h _ o (fun h1 o1 => ?_)
  exact TDw_loop (k' := (M : Int)) I.1 o1 (c_it38 I hI hS ha ic he R o1) k
/-- what a chain opens -/
theorem c_ch2 (I : TI G N cl U ins gv nm con fam te s E K h0 Sx k2) (hS : ∀ x, Sl x → Sx x) (ha : a < hz h0 ∧ kd h0 a = 32) (hL : Sl (fR h0 1522 a) ∧ fR h0 1522 a < hz h0 ∧ kd h0 (fR h0 1522 a) = 42 ∧ (ll h0 (fR h0 1522 a)).length ≤ 4200) : ∀ (n k : Nat) (h : om_H), k + n = (ll h0 (fR h0 1522 a)).length → okD E K s h0 h (List.replicate n 40) → TDw E K s h id (om_loop (C_6_chain_2s G r te a) ((k : Int), h)) (List.replicate n 40)
  | 0, k, h, hk, o => by
    have e := I.2.1 h a o.2.1 ha.1 (by omega)
    have eL := I.2.2.1 h _ o.2.1 hL.2.1 hL.2.2.1 (hS _ hL.1)
    refine TDw_out I.1 ?_ o.1
    unfold C_6_chain_2s P_J2_size
    simp only
    have kL : kd h (fR h0 1522 a) = 42 := by rw [eL.1]; exact hL.2.2.1
    rw [e.2.2.1, gd_pos ⟨by rw [e.1]; exact ha.2, kL⟩, gd_pos kL, Option.bind_some, eL.2.2.2.2.2.2.1, if_pos (by omega)]
    rfl
  | n + 1, k, h, hk, o => by
    have H := I.1
    have e := I.2.1 h a o.2.1 ha.1 (by omega)
    have eL := I.2.2.1 h _ o.2.1 hL.2.1 hL.2.2.1 (hS _ hL.1)
    have kL : kd h (fR h0 1522 a) = 42 := by rw [eL.1]; exact hL.2.2.1
    have wk : w32 ((k : Int) + 1) = ((k + 1 : Nat) : Int) := (w32_s (by omega) (by omega)).trans (by omega)
    rw [show List.replicate (n + 1) (40 : Int) = [40] ++ List.replicate n 40 from rfl] at o ⊢
    refine TDw_loop (k' := ((k + 1 : Nat) : Int)) H o ?_ (fun h1 o1 => c_ch2 I hS ha hL n (k + 1) h1 (by omega) o1)
    have o' := okD_l o
    unfold C_6_chain_2s P_J2_size
    simp only
    rw [e.2.2.1, gd_pos ⟨by rw [e.1]; exact ha.2, kL⟩, gd_pos kL, Option.bind_some, eL.2.2.2.2.2.2.1, if_neg (by omega), wk]
    exact TP_e (w2 := fun h => (Sum.inl (((k + 1 : Nat) : Int), h) : (Int × om_H) ⊕ om_H)) H o'
/-- A CHAIN -/
theorem c_chT (I : TI G N cl U ins gv nm con fam te s E K h0 Sx k2) (hS : ∀ x, Sl x → Sx x) {Q L0 : List Int} (ha : a < hz h0 ∧ kd h0 a = 32) (hL : Sl (fR h0 1522 a) ∧ fR h0 1522 a < hz h0 ∧ kd h0 (fR h0 1522 a) = 42 ∧ (ll h0 (fR h0 1522 a)).length ≤ 4200) (X : SCn G te s E K h0 r a (ll h0 (fR h0 1522 a)).length Q) (R : RXt G te s E K h0 r (fR h0 1518 a) L0) : RPt s E K h0 te (C_6_plainB G r) a (List.replicate (ll h0 (fR h0 1522 a)).length 40 ++ L0 ++ Q) := by
  intro h M o
  have H := I.1
  have eb : ∀ h, K h0 h → eqA a h0 h := fun h k => I.2.1 h a k ha.1 (by omega)
  have kh : kd h a = 32 := by rw [(eb h o.2.1).1]; exact ha.2
  have eL : ∀ h, K h0 h → eqA (fR h0 1522 a) h0 h := fun h k => I.2.2.1 h _ k hL.2.1 hL.2.2.1 (hS _ hL.1)
  have o := okD_l o
  have ex := exk_of (h := h) (b := a) (by omega) (by omega)
  unfold C_6_plainB
  rw [gd_pos ex, if_pos (by omega), gd_pos ex, if_pos (by omega), gd_pos ex, if_pos (by omega), gd_pos ex, if_pos (by omega), gd_pos ex, if_pos (by omega), gd_pos ex, if_pos (by omega), gd_pos ex, if_pos (by omega)]
  refine TDw_gd ⟨.inr kh, (TH_g H o.1).1⟩ ?_
  refine TDw_nil (TDw_xc H (okD_nil o) ?_ (fun _ o1 => TDw_end H o1.1))
  unfold C_6_chain
  rw [List.append_assoc] at o ⊢
  have pre := c_ch2 (r := r) I hS ha hL (ll h0 (fR h0 1522 a)).length 0 h (by omega) (okD_l o)
  refine TDi H o pre (fun h1 o1 => ?_)
  rw [(eb h1 o1.2.1).2.2.1]
  refine TDw_gd ⟨by rw [(eb h1 o1.2.1).1]; exact ha.2, (TH_g H o1.1).1⟩ (TDw_xc H o1 (R h1 _ o1) (fun h2 o2 => ?_))
  have post : TDw E K s h2 (fun h => (Sum.inl h : om_H ⊕ ((Nat ⊕ Unit) × om_H))) (om_loop (C_6_chain_38s G r te a) (0, h2)) Q := TDw_nil (X h2 [] (okD_nil o2) (fun h3 o3 => TDw_out H (by
    have k3 : kd h3 (fR h0 1522 a) = 42 := by rw [(eL h3 o3.2.1).1]; exact hL.2.2.1
    unfold C_6_chain_38s P_J2_size
    simp only
    rw [(eb h3 o3.2.1).2.2.1 1522, gd_pos ⟨by rw [(eb h3 o3.2.1).1]; exact ha.2, k3⟩, gd_pos k3, Option.bind_some, (eL h3 o3.2.1).2.2.2.2.2.2.1, if_pos (by omega)]) o3.1))
  exact TDw_nil (TDw_seq H (okD_nil o2) post (fun h3 o3 => TDw_end H o3.1))
end LCH
