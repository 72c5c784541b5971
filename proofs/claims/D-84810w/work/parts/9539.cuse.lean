set_option maxRecDepth 100000
/-! THE COMPONENT TELLS USES -/
section LUS
variable {G : om_G} {h0 h h1 : om_H} {N : List (List Int)} {cl : Nat → Nat} {U Sx Sl : Nat → Prop} {ins : List INs} {gv : List GVs} {ab : List (Option Nat)} {nm con fam cnm : Nat → List Int} {te s : Nat} {E : om_H → Prop} {K : om_H → om_H → Prop} {k2 : Ty → Ty → Prop} {r : Nat → Nat → om_H → Option ((Nat ⊕ Unit) × om_H)} {L : List Int} {a : Nat}
/-- the cast of what lies left of an item -/
def cIt (h : om_H) (N : List (List Int)) (cl : Nat → Nat) (U : Nat → Prop) (k2 : Ty → Ty → Prop) (T C : Ty) (i : Nat) : Prop := (C = .leaf ∧ fR h 1510 i = fR h 1514 i) ∨ (C ≠ .leaf ∧ fR h 1510 i ≠ fR h 1514 i ∧ tyC h N cl U T (fR h 1510 i) ∧ tyC h N cl U C (fR h 1514 i) ∧ k2 T C)
/-- what an item opens -/
theorem c_it15 (I : TI G N cl U ins gv nm con fam te s E K h0 Sx k2) (hS : ∀ x, Sl x → Sx x) {M i f0 : Nat} {T C : Ty} (ha : a < hz h0 ∧ kd h0 a = 30) (ic : itC h0 Sl a M i) (ci : cIt h0 N cl U k2 T C i) (hf : f0 + 1 ≤ M) (o : okD E K s h0 h ((if lfB C = true then [40] else [40, 40]) ++ L)) : TDw E K s h (fun h => (Sum.inl (((M - 1 : Nat) : Int) - 1, h) : (Int × om_H) ⊕ om_H)) (C_6_use_15s G r te a (f0 : Int) ((M : Int) - 1, h)) (if lfB C = true then [40] else [40, 40]) := by
  have H := I.1
  obtain ⟨⟨l1, l2, l3⟩, ⟨m1, m2, m3⟩, ei, ⟨i1, i2, i3⟩⟩ := ic
  have e := I.2.1 h a o.2.1 ha.1 (by omega)
  have ee := I.2.1 h i o.2.1 i2 (by omega)
  have eL := I.2.2.1 h _ o.2.1 l2 l3 (hS _ l1)
  have q := TH_g H o.1
  have wk : w32 (((M : Int) - 1) + -1) = ((M - 1 : Nat) : Int) - 1 := (w32_s (by omega) (by omega)).trans (by omega)
  have o' := okD_l o
  have s59 : ∀ (j : Nat) (M0 : List Int), om_sb[j]? = some M0 → M0.length ≤ 100000 → okD E K s h0 h M0 → TDw E K s h (fun h => (Sum.inl (((M - 1 : Nat) : Int) - 1, h) : (Int × om_H) ⊕ om_H)) (C_6_use_59 G r te a (f0 : Int) ((M : Int) - 1) (fR h 182 te) j h) M0 := fun j M0 ej hl o => by
    unfold C_6_use_59
    rw [wk]
    exact TDw_gd q.2 (TDw_nil (TDi H (okD_nil o) (TD_s H ej hl (okD_nil o)) (fun h1 o1 => TDw_end H o1.1)))
  unfold C_6_use_15s P_J2_get
  simp only
  rw [if_neg (by omega), e.2.2.1, gd_pos ⟨by rw [e.1]; exact ha.2, by rw [eL.1]; exact l3⟩, gd_pos ⟨by rw [eL.1]; exact l3, by omega⟩, eL.2.2.2.2.2.2.1, show ((M : Int) - 1).toNat = M - 1 by omega, ei, Option.bind_some]
  have ki : kd h i = 31 := by rw [ee.1]; exact i3
  refine TDw_gd ⟨.inr ki, q.1, ki⟩ ?_
  rw [ee.2.2.1, ee.2.2.1]
  rcases ci with ⟨c1, c2⟩ | ⟨c1, c2, _⟩
  · have lf := lfB_t.mpr c1
    rw [if_pos lf] at o' ⊢
    rw [if_neg (fun z => z c2)]
    exact s59 48 [40] rfl (by decide) o'
  · have lf : ¬ lfB C = true := fun z => c1 (lfB_t.mp z)
    rw [if_neg lf] at o' ⊢
    rw [if_pos c2]
    exact s59 49 [40, 40] rfl (by decide) o'
/-- an item -/
theorem c_it78 (I : TI G N cl U ins gv nm con fam te s E K h0 Sx k2) (hS : ∀ x, Sl x → Sx x) {M i : Nat} {T C : Ty} {Lr : List Int} (ha : a < hz h0 ∧ kd h0 a = 30) (ic : itC h0 Sl a M i) (ci : cIt h0 N cl U k2 T C i) (R : RXt G te s E K h0 r (fR h0 1498 i) Lr) (o : okD E K s h0 h ((cstB nm con fam ins gv T C ++ ([32] ++ (Lr ++ [41]))) ++ L)) : TDw E K s h (fun h => (Sum.inl ((M : Int), h) : (Int × om_H) ⊕ (om_H ⊕ ((Nat ⊕ Unit) × om_H)))) (C_6_use_78s G r te a (((M - 1 : Nat) : Int), h)) (cstB nm con fam ins gv T C ++ ([32] ++ (Lr ++ [41]))) := by
  have H := I.1
  obtain ⟨⟨l1, l2, l3⟩, ⟨m1, m2, m3⟩, ei, ⟨i1, i2, i3⟩⟩ := ic
  have e := I.2.1 h a o.2.1 ha.1 (by omega)
  have ei' : ∀ h, K h0 h → eqA i h0 h := fun h k => I.2.1 h i k i2 (by omega)
  have ee := ei' h o.2.1
  have eL := I.2.2.1 h _ o.2.1 l2 l3 (hS _ l1)
  have wk : w32 (((M - 1 : Nat) : Int) + 1) = (M : Int) := (w32_s (by omega) (by omega)).trans (by omega)
  have o' := okD_l o
  have s147 : ∀ h, okD E K s h0 h ([32] ++ (Lr ++ [41])) → TDw E K s h (fun h => (Sum.inl ((M : Int), h) : (Int × om_H) ⊕ (om_H ⊕ ((Nat ⊕ Unit) × om_H)))) (C_6_use_147 G r te a ((M - 1 : Nat) : Int) i h) ([32] ++ (Lr ++ [41])) := fun h o => by
    unfold C_6_use_147
    refine TP_b H o (fun h1 o1 => ?_)
    rw [(ei' h1 o1.2.1).2.2.1]
    refine TDw_gd ⟨by rw [(ei' h1 o1.2.1).1]; exact i3, (TH_g H o1.1).1⟩ (TDw_xc H o1 (R h1 _ o1) (fun h2 o2 => ?_))
    rw [wk]
    exact TP_e (w2 := fun h => (Sum.inl ((M : Int), h) : (Int × om_H) ⊕ (om_H ⊕ ((Nat ⊕ Unit) × om_H)))) H o2
  unfold C_6_use_78s P_J2_size P_J2_get
  simp only
  have kL : kd h (fR h0 1494 a) = 42 := by rw [eL.1]; exact l3
  have ka : kd h a = 30 := by rw [e.1]; exact ha.2
  have ki : kd h i = 31 := by rw [ee.1]; exact i3
  rw [e.2.2.1, gd_pos ⟨ka, kL⟩, gd_pos kL, Option.bind_some, eL.2.2.2.2.2.2.1, if_neg (by omega), gd_pos ⟨ka, kL⟩, gd_pos ⟨kL, by omega⟩, show (((M - 1 : Nat) : Int)).toNat = M - 1 by omega, ei, Option.bind_some, gd_pos ⟨.inr ki, ki⟩, ee.2.2.1, ee.2.2.1]
  unfold cstB at o' ⊢
  rcases ci with ⟨c1, c2⟩ | ⟨c1, c2, c3, c4, c5⟩
  · have lf := lfB_t.mpr c1
    rw [if_pos lf, List.nil_append] at o' ⊢
    rw [if_pos c2]
    exact s147 h o'
  · have lf : ¬ lfB C = true := fun z => c1 (lfB_t.mp z)
    rw [if_neg lf, show ([124, 62] ++ oneB nm con fam ins gv T C ++ [41]) ++ ([32] ++ (Lr ++ [41])) = [124, 62] ++ (oneB nm con fam ins gv T C ++ ([41] ++ ([32] ++ (Lr ++ [41])))) by simp] at o' ⊢
    rw [if_neg c2]
    refine TP_s H (j := 36) (M := [124, 62]) rfl (by decide) o' (fun h1 o1 => ?_)
    rw [(ei' h1 o1.2.1).2.2.1, (ei' h1 o1.2.1).2.2.1]
    refine TDw_gd ⟨by rw [(ei' h1 o1.2.1).1]; exact i3, (TH_g H o1.1).1⟩ (TDw_xc H o1 (I.2.2.2.2.2 h1 T C _ _ _ o1 c5 c3 c4) (fun h2 o2 => ?_))
    exact TP_b H o2 (fun h3 o3 => s147 h3 o3)
/-- what a spine is: what it opens, its head, its items -/
def SPn (G : om_G) (te s : Nat) (E : om_H → Prop) (K : om_H → om_H → Prop) (h0 : om_H) (r : Nat → Nat → om_H → Option ((Nat ⊕ Unit) × om_H)) (a M f0 : Nat) (P Q : List Int) : Prop := f0 ≤ M ∧ (∀ h L, okD E K s h0 h (P ++ L) → (∀ h1, okD E K s h0 h1 L → TDw E K s h1 id (om_loop (C_6_use_15s G r te a (f0 : Int)) ((f0 : Int) - 1, h1)) L) → TDw E K s h id (om_loop (C_6_use_15s G r te a (f0 : Int)) ((M : Int) - 1, h)) (P ++ L)) ∧ ∀ h L, okD E K s h0 h (Q ++ L) → (∀ h1, okD E K s h0 h1 L → TDw E K s h1 (fun h => (Sum.inl h : om_H ⊕ ((Nat ⊕ Unit) × om_H))) (om_loop (C_6_use_78s G r te a) ((M : Int), h1)) L) → TDw E K s h (fun h => (Sum.inl h : om_H ⊕ ((Nat ⊕ Unit) × om_H))) (om_loop (C_6_use_78s G r te a) ((f0 : Int), h)) (Q ++ L)
theorem SPn_0 {M : Nat} : SPn G te s E K h0 r a M M [] [] := ⟨Nat.le_refl _, fun _ _ o k => k _ o, fun _ _ o k => k _ o⟩
theorem SPn_s (I : TI G N cl U ins gv nm con fam te s E K h0 Sx k2) (hS : ∀ x, Sl x → Sx x) {M i f0 : Nat} {T C : Ty} {Lr P Q : List Int} (ha : a < hz h0 ∧ kd h0 a = 30) (ic : itC h0 Sl a M i) (ci : cIt h0 N cl U k2 T C i) (R : RXt G te s E K h0 r (fR h0 1498 i) Lr) (X : SPn G te s E K h0 r a (M - 1) f0 P Q) : SPn G te s E K h0 r a M f0 ((if lfB C = true then [40] else [40, 40]) ++ P) (Q ++ (cstB nm con fam ins gv T C ++ ([32] ++ (Lr ++ [41])))) := by
  obtain ⟨x1, x2, x3⟩ := X
  have m1 := ic.2.1.1
  refine ⟨by omega, fun h L o k => ?_, fun h L o k => ?_⟩
  · rw [List.append_assoc] at o ⊢
    exact TDw_loop (k' := ((M - 1 : Nat) : Int) - 1) I.1 o (c_it15 I hS ha ic ci (by omega) o) (fun h1 o1 => x2 h1 L o1 k)
  · rw [List.append_assoc] at o ⊢
    refine x3 h _ o (fun h1 o1 => ?_)
    exact TDw_loop (k' := (M : Int)) I.1 o1 (c_it78 I hS ha ic ci R o1) k
/-- A USE -/
theorem c_useT (I : TI G N cl U ins gv nm con fam te s E K h0 Sx k2) (hS : ∀ x, Sl x → Sx x) {f0 : Nat} {P Q cor : List Int} (ha : a < hz h0 ∧ kd h0 a = 30) (hL : Sl (fR h0 1494 a) ∧ fR h0 1494 a < hz h0 ∧ kd h0 (fR h0 1494 a) = 42 ∧ (ll h0 (fR h0 1494 a)).length ≤ 4200) (hf : ∀ h, K h0 h → C_6_first G a h = some (f0 : Int)) (X : SPn G te s E K h0 r a (ll h0 (fR h0 1494 a)).length f0 P Q) (R : RPt s E K h0 te r (fR h0 1490 a) cor) : RPt s E K h0 te (C_6_plainB G r) a (P ++ cor ++ Q) := by
  intro h M o
  have H := I.1
  have eb : ∀ h, K h0 h → eqA a h0 h := fun h k => I.2.1 h a k ha.1 (by omega)
  have kh : kd h a = 30 := by rw [(eb h o.2.1).1]; exact ha.2
  have eL : ∀ h, K h0 h → eqA (fR h0 1494 a) h0 h := fun h k => I.2.2.1 h _ k hL.2.1 hL.2.2.1 (hS _ hL.1)
  have o := okD_l o
  have ex := exk_of (h := h) (b := a) (by omega) (by omega)
  unfold C_6_plainB
  rw [gd_pos ex, if_pos (by omega), gd_pos ex, if_pos (by omega), gd_pos ex, if_pos (by omega), gd_pos ex, if_pos (by omega), gd_pos ex, if_pos (by omega), gd_pos ex, if_pos (by omega), gd_pos ex, if_neg (fun z => z kh)]
  refine TDw_gd ⟨.inr kh, (TH_g H o.1).1⟩ ?_
  refine TDw_nil (TDw_xc H (okD_nil o) ?_ (fun _ o1 => TDw_end H o1.1))
  unfold C_6_use P_J2_size
  have kL : kd h (fR h0 1494 a) = 42 := by rw [(eL h o.2.1).1]; exact hL.2.2.1
  rw [hf h o.2.1, Option.bind_some, (eb h o.2.1).2.2.1, gd_pos ⟨kh, kL⟩, gd_pos kL, Option.bind_some, (eL h o.2.1).2.2.2.2.2.2.1]
  have wk : w32 (((ll h0 (fR h0 1494 a)).length : Int) - 1) = ((ll h0 (fR h0 1494 a)).length : Int) - 1 := w32_s (by omega) (by omega)
  rw [wk]
  obtain ⟨x1, x2, x3⟩ := X
  rw [List.append_assoc] at o ⊢
  have pre : TDw E K s h id (om_loop (C_6_use_15s G r te a (f0 : Int)) (((ll h0 (fR h0 1494 a)).length : Int) - 1, h)) P := TDw_nil (x2 h [] (okD_nil (okD_l o)) (fun h1 o1 => TDw_out H (by
    unfold C_6_use_15s
    simp only
    rw [if_pos (by omega)]
    rfl) o1.1))
  refine TDi H o pre (fun h1 o1 => ?_)
  rw [(eb h1 o1.2.1).2.2.1]
  refine TDw_gd ⟨by rw [(eb h1 o1.2.1).1]; exact ha.2, (TH_g H o1.1).1⟩ (TDw_xc H o1 (R h1 _ o1) (fun h2 o2 => ?_))
  have post : TDw E K s h2 (fun h => (Sum.inl h : om_H ⊕ ((Nat ⊕ Unit) × om_H))) (om_loop (C_6_use_78s G r te a) ((f0 : Int), h2)) Q := TDw_nil (x3 h2 [] (okD_nil o2) (fun h3 o3 => TDw_out H (by
    have k3 : kd h3 (fR h0 1494 a) = 42 := by rw [(eL h3 o3.2.1).1]; exact hL.2.2.1
    unfold C_6_use_78s P_J2_size
    simp only
    rw [(eb h3 o3.2.1).2.2.1, gd_pos ⟨by rw [(eb h3 o3.2.1).1]; exact ha.2, k3⟩, gd_pos k3, Option.bind_some, (eL h3 o3.2.1).2.2.2.2.2.2.1, if_pos (by omega)]) o3.1))
  exact TDw_nil (TDw_seq H (okD_nil o2) post (fun h3 o3 => TDw_end H o3.1))
end LUS
