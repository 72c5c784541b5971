set_option maxRecDepth 100000
/-! THE COMPONENT TELLS DICTIONARIES -/
/-- a class's name, an inst's number -/
def cnC (cl : Nat → Nat) (cnm : Nat → List Int) (h : om_H) (c : Nat) : Prop := (cl c < hz h ∧ kd h (cl c) = 18 ∧ fR h 1206 (cl c) < hz h ∧ fR h 1186 (fR h 1206 (cl c)) < hz h) ∧ wb h (fR h 1206 (cl c)) (cnm c)
def ioC (io : Nat → Nat) (h : om_H) (i : Nat) : Prop := kd h (io i) = 21 ∧ io i < hz h ∧ fI h 1280 (io i) = (i : Int) ∧ i < 100
/-- dictionaries that can be told -/
def dK (N : List (List Int)) (cl : Nat → Nat) (nm con fam cnm : Nat → List Int) (io : Nat → Nat) (ab : List (Option Nat)) (gv : List GVs) (h : om_H) (k2 : Ty → Ty → Prop) : Dc → Nat → Prop
  | .leaf, _ => True
  | .inner t a _ cs nx, f => (tyE a.2.2.1 a.2.2.2 = false → k2 a.2.2.1 a.2.2.2) ∧ ((t = 0 ∧ a.2.1 < f ∧ a.1 < 100 ∧ ∀ g, gv[a.1]? = some g → ∀ i k, i ≤ a.2.1 → upA ab i g.1 = some k → cnC cl cnm h k) ∨ (t = 1 ∧ 0 < f ∧ ioC io h a.1 ∧ cnC cl cnm h a.2.1 ∧ (∃ w x l r, a.2.2.1 = .inner 1 w x l r) ∧ wfT a.2.2.1 ∧ tdp a.2.2.1 < 70 ∧ tOc N cl nm con fam h a.2.2.1)) ∧ dK N cl nm con fam cnm io ab gv h k2 cs (f - 1) ∧ dK N cl nm con fam cnm io ab gv h k2 nx f
section LDT
variable {G : om_G} {h0 h h1 : om_H} {N : List (List Int)} {cl : Nat → Nat} {U Sx Lv : Nat → Prop} {ins : List INs} {gv : List GVs} {ab : List (Option Nat)} {io : Nat → Nat} {nm con fam cnm : Nat → List Int} {te s : Nat} {E : om_H → Prop} {K : om_H → om_H → Prop} {k2 : Ty → Ty → Prop}
theorem okD_l {L M : List Int} (o : okD E K s h0 h (L ++ M)) : okD E K s h0 h L := by
  obtain ⟨a, b, t, c, d⟩ := o
  rw [List.length_append] at d
  exact ⟨a, b, t, c, by omega⟩
/-- the name of a class is there -/
theorem cnC_at (I : TI G N cl U ins gv nm con fam te s E K h0 Sx k2) {c : Nat} (C : cnC cl cnm h0 c) (k : K h0 h) : kd h (cl c) = 18 ∧ fR h 1206 (cl c) = fR h0 1206 (cl c) ∧ wb h (fR h0 1206 (cl c)) (cnm c) := by
  obtain ⟨⟨b1, b2, b3, b4⟩, b5⟩ := C
  have k17 := b5.1
  have k50 := b5.2.1
  have c1 := I.2.1 h _ k b1 (by omega)
  have c2 := I.2.1 h _ k b3 (by omega)
  have c3 := I.2.1 h _ k b4 (by omega)
  exact ⟨by rw [c1.1]; exact b2, c1.2.2.1 1206, wb_keep b5 c2.1 c3.1 c2.2.1 c2.2.2.1 c3.2.2.2.1 c3.2.2.2.2.1⟩
/-- with a cast -/
theorem c_csB (I : TI G N cl U ins gv nm con fam te s E K h0 Sx k2) {y c : Nat} {u T : Ty} {core : List Int} {r : Nat → Nat → om_H → Option ((Nat ⊕ Unit) × om_H)} (ky : y < hz h0 ∧ kd h0 y = 36) (ec : fR h0 1614 y = cl c) (C : cnC cl cnm h0 c) (cst : cstC h0 N cl U u T y) (hk2 : tyE u T = false → k2 u T) (HC : ∀ h M, okD E K s h0 h (core ++ M) → (∀ h1, okD E K s h0 h1 M → TDw E K s h1 wDr (C_6_dictionary_209 G r te y h1) M) → TDw E K s h wDr (C_6_dictionary_27 G r te y h) (core ++ M)) (h : om_H) (M : List Int) (o : okD E K s h0 h (csB nm con fam cnm ins gv c u T core ++ M)) : TDw E K s h wDr (C_6_dictionaryB G r te y h) (csB nm con fam cnm ins gv c u T core) := by
  have H := I.1
  have ey : ∀ h, K h0 h → eqA y h0 h := fun h k => I.2.1 h y k ky.1 (by omega)
  have o := okD_l o
  unfold C_6_dictionaryB
  refine TD_over H o ?_
  have e := ey h o.2.1
  refine TDw_gd (by rw [e.1]; exact ky.2) ?_
  rw [e.2.2.1]
  rcases cst with ⟨c1, c2⟩ | ⟨c1, c2, c3, c4⟩
  · rw [if_pos c2]
    unfold csB at o ⊢
    rw [if_pos c1] at o ⊢
    refine TDw_nil (HC h [] (okD_nil o) (fun h1 o1 => ?_))
    unfold C_6_dictionary_209
    have e1 := ey h1 o1.2.1
    refine TDw_gd (by rw [e1.1]; exact ky.2) ?_
    rw [e1.2.2.1, if_neg (fun z => z c2)]
    exact TDw_end H o1.1
  · rw [if_neg c2]
    unfold csB at o ⊢
    rw [if_neg (by rw [c1]; decide)] at o ⊢
    rw [show 40 :: core ++ [124, 62] ++ cnm c ++ [40] ++ oneB nm con fam ins gv u T ++ [41, 41] = [40] ++ (core ++ ([124, 62] ++ (cnm c ++ ([40] ++ (oneB nm con fam ins gv u T ++ [41, 41]))))) by simp] at o ⊢
    refine TP_b H o (fun h1 o1 => ?_)
    refine HC h1 _ o1 (fun h2 o2 => ?_)
    unfold C_6_dictionary_209
    have e2 := ey h2 o2.2.1
    refine TDw_gd (by rw [e2.1]; exact ky.2) ?_
    rw [e2.2.2.1, if_pos c2]
    refine TP_s H (j := 36) (M := [124, 62]) rfl (by decide) o2 (fun h3 o3 => ?_)
    have e3 := ey h3 o3.2.1
    have g3 := TH_g H o3.1
    obtain ⟨w1, w2, w3⟩ := cnC_at I C o3.2.1
    rw [e3.2.2.1, ec, w2]
    refine TDw_gd ⟨g3.1, by rw [e3.1]; exact ky.2, w1, g3.2⟩ ?_
    refine TDw_seq H o3 (TD_w H w3 o3) (fun h4 o4 => ?_)
    refine TP_b H o4 (fun h5 o5 => ?_)
    have e5 := ey h5 o5.2.1
    refine TDw_gd ⟨by rw [e5.1]; exact ky.2, (TH_g H o5.1).1⟩ ?_
    rw [e5.2.2.1, e5.2.2.1]
    refine TDw_xc H o5 (I.2.2.2.2.2 h5 u T _ _ _ o5 (hk2 c1) c3 c4) (fun h6 o6 => ?_)
    exact TDw_nil (TP_s H (j := 39) (M := [41, 41]) rfl (by decide) (okD_nil o6) (fun h7 o7 => TDw_end H o7.1))
/-- a given's -/
theorem c_gvT (I : TI G N cl U ins gv nm con fam te s E K h0 Sx k2) {g1 j : Nat} (hj : j < 100) : ∀ (n a f : Nat), gcX h0 cl ab Lv g1 j n a → n ≤ f → (∀ i k, i ≤ n → upA ab i g1 = some k → cnC cl cnm h0 k) → ∀ h M, okD E K s h0 h (gvBy cnm ab g1 j n ++ M) → (∀ h1, okD E K s h0 h1 M → TDw E K s h1 wDr (C_6_dictionary_209 G (C_6_dictionaryD G f) te a h1) M) → TDw E K s h wDr (C_6_dictionary_27 G (C_6_dictionaryD G f) te a h) (gvBy cnm ab g1 j n ++ M)
  | 0, a, f, gx, hf, hn, h, M, o, hc => by
    have H := I.1
    obtain ⟨_, ⟨a1, a2, a3⟩, a4, _⟩ := gx
    have e := I.2.1 h a o.2.1 a2 (by omega)
    unfold C_6_dictionary_27
    refine TDw_gd (by rw [e.1]; exact a3) ?_
    rw [e.2.1, a4, if_neg (by omega)]
    rw [show gvBy cnm ab g1 j 0 ++ M = [100] ++ (numB j ++ M) from rfl] at o ⊢
    refine TP_b H o (fun h1 o1 => ?_)
    have e1 := I.2.1 h1 a o1.2.1 a2 (by omega)
    have q := TH_g H o1.1
    refine TDw_gd ⟨q.1, by rw [e1.1]; exact a3, q.2⟩ ?_
    rw [e1.2.1, a4]
    exact TDw_seq H o1 (TD_n H (by omega) o1) hc
  | n + 1, a, 0, gx, hf, hn, h, M, o, hc => by omega
  | n + 1, a, f + 1, gx, hf, hn, h, M, o, hc => by
    have H := I.1
    obtain ⟨_, ⟨a1, a2, a3⟩, a4, _, ⟨k, a5, a6⟩, a7, gx'⟩ := gx
    have e := I.2.1 h a o.2.1 a2 (by omega)
    have b0 : fR h0 1622 a ≠ 0 ∧ fR h0 1622 a < hz h0 ∧ kd h0 (fR h0 1622 a) = 36 := by
      cases n with
      | zero => exact gx'.2.1
      | succ n => exact gx'.2.1
    have C := hn (n + 1) k (Nat.le_refl _) a5
    obtain ⟨w1, w2, w3⟩ := cnC_at I C o.2.1
    have q := TH_g H o.1
    unfold C_6_dictionary_27
    refine TDw_gd (by rw [e.1]; exact a3) ?_
    rw [e.2.1, a4, if_pos (by decide)]
    refine TDw_gd (by rw [e.1]; exact a3) ?_
    rw [e.2.2.1, e.2.2.1, if_neg b0.1, a6, w2]
    refine TDw_gd ⟨q.1, by rw [e.1]; exact a3, w1, q.2⟩ ?_
    have eb : gvBy cnm ab g1 j (n + 1) ++ M = cnm k ++ ([94, 40] ++ (gvBy cnm ab g1 j n ++ ([41] ++ M))) := by
      show (cnm ((upA ab (n + 1) g1).getD 0) ++ [94, 40] ++ gvBy cnm ab g1 j n ++ [41]) ++ M = _
      rw [a5]
      simp
    rw [eb] at o ⊢
    refine TDw_seq H o (TD_w H w3 o) (fun h1 o1 => ?_)
    refine TP_s H (j := 35) (M := [94, 40]) rfl (by decide) o1 (fun h2 o2 => ?_)
    have e2 := I.2.1 h2 a o2.2.1 a2 (by omega)
    refine TDw_gd ⟨by rw [e2.1]; exact a3, (TH_g H o2.1).1⟩ ?_
    rw [e2.2.2.1]
    refine TDw_xc H o2 ?_ (fun h3 o3 => TP_b H o3 hc)
    -- the one below
    have o2' := okD_l o2
    show TDw E K s h2 wDr (C_6_dictionaryB G (C_6_dictionaryD G f) te (fR h0 1622 a) h2) _
    unfold C_6_dictionaryB
    refine TD_over H o2' ?_
    have eb2 := I.2.1 h2 _ o2.2.1 b0.2.1 (by omega)
    refine TDw_gd (by rw [eb2.1]; exact b0.2.2) ?_
    rw [eb2.2.2.1, if_pos a7]
    refine TDw_nil (c_gvT I hj n _ f gx' (by omega) (fun i k hi => hn i k (by omega)) h2 [] (okD_nil o2') (fun h4 o4 => ?_))
    unfold C_6_dictionary_209
    have e4 := I.2.1 h4 _ o4.2.1 b0.2.1 (by omega)
    refine TDw_gd (by rw [e4.1]; exact b0.2.2) ?_
    rw [e4.2.2.1, if_neg (fun z => z a7)]
    exact TDw_end H o4.1
/-- one of the types of an inst's dictionary -/
theorem c_ty1 (I : TI G N cl U ins gv nm con fam te s E K h0 Sx k2) {Ln k y : Nat} {T : Ty} {L : List Int} (hL : Ln < hz h0 ∧ kd h0 Ln = 42 ∧ Sx Ln) (hl : (ll h0 Ln).length ≤ 2) (e : (ll h0 Ln)[k]? = some y) (c : tyC h0 N cl U T y) (hT : T ≠ .leaf) (wf : wfT T) (hd : tdp T < 70) (O : tOc N cl nm con fam h0 T) (o : okD E K s h0 h (((if k = 0 then [] else [44]) ++ tyB nm con fam T) ++ L)) : TDw E K s h (fun h => (Sum.inl (((k + 1 : Nat) : Int), h) : (Int × om_H) ⊕ om_H)) (C_6_types_19s G te Ln ((k : Int), h)) ((if k = 0 then [] else [44]) ++ tyB nm con fam T) := by
  have H := I.1
  have kl := (List.getElem?_eq_some_iff.mp e).1
  have eL : ∀ h, K h0 h → eqA Ln h0 h := fun h q => I.2.2.1 h Ln q hL.1 hL.2.1 hL.2.2
  have y34 := tyC_34 c hT
  have s40 : ∀ h, okD E K s h0 h (tyB nm con fam T) → TDw E K s h (fun h => (Sum.inl (((k + 1 : Nat) : Int), h) : (Int × om_H) ⊕ om_H)) (C_6_types_40 G te Ln (k : Int) h) (tyB nm con fam T) := fun h o => by
    have e1 := eL h o.2.1
    have q := TH_g H o.1
    unfold C_6_types_40 P_J2_get
    have cy := I.2.2.2.1 h _ _ o.2.1 c
    refine TDw_gd ⟨q.1, by rw [e1.1]; exact hL.2.1⟩ ?_
    rw [gd_pos ⟨by rw [e1.1]; exact hL.2.1, by omega⟩, e1.2.2.2.2.2.2.1, show ((k : Int)).toNat = k by omega, e, Option.bind_some]
    refine TDw_gd (.inr (tyC_34 cy hT).1) ?_
    refine TDw_nil (TDw_seq H (okD_nil o) (TD_t H hT cy hd wf (I.2.2.2.2.1 h _ o.2.1 O) (okD_nil o)) (fun h1 o1 => ?_))
    have wk : w32 ((k : Int) + 1) = ((k + 1 : Nat) : Int) := (w32_s (by omega) (by omega)).trans (by omega)
    rw [wk]
    exact TDw_end H o1.1
  have o := okD_l o
  have e1 := eL h o.2.1
  unfold C_6_types_19s P_J2_size
  refine TDw_gd (by show kd h Ln = 42; rw [e1.1]; exact hL.2.1) ?_
  rw [gd_pos (by show kd h Ln = 42; rw [e1.1]; exact hL.2.1), Option.bind_some]
  show TDw E K s h _ (if ((ll h Ln).length : Int) ≤ (k : Int) then _ else if (k : Int) ≤ 0 then C_6_types_40 G te Ln (k : Int) h else _) _
  rw [e1.2.2.2.2.2.2.1, if_neg (by omega)]
  by_cases k0 : k = 0
  · rw [if_pos k0] at o ⊢
    rw [if_pos (by omega)]
    exact s40 h o
  · rw [if_neg k0] at o ⊢
    rw [if_neg (by omega)]
    exact TP_b H o (fun h1 o1 => s40 h1 o1)
/-- the types of an inst's dictionary -/
theorem c_typesT (I : TI G N cl U ins gv nm con fam te s E K h0 Sx k2) {Ln w : Nat} {x : Unit} {l r : Ty} {L : List Int} (hL : Ln < hz h0 ∧ kd h0 Ln = 42 ∧ Sx Ln) (hl : (ll h0 Ln).length = pN w) (c : ∀ (k y : Nat), (ll h0 Ln)[k]? = some y → tyC h0 N cl U (if k = 0 then l else r) y) (wf : wfT (.inner 1 w x l r)) (hd : tdp (.inner 1 w x l r) < 70) (O : tOc N cl nm con fam h0 (.inner 1 w x l r)) (o : okD E K s h0 h (prtB nm con fam (.inner 1 w x l r) ++ L)) : TDw E K s h id (C_6_types G te Ln h) (prtB nm con fam (.inner 1 w x l r)) := by
  have H := I.1
  have eL : ∀ h, K h0 h → eqA Ln h0 h := fun h q => I.2.2.1 h Ln q hL.1 hL.2.1 hL.2.2
  have sh : w ≤ 3 ∧ (l = .leaf ↔ w < 2) ∧ (r = .leaf ↔ w ≠ 3) := by
    rcases wf.1 with q | q | q | q
    · omega
    · exact q.2
    · omega
    · omega
  have o := okD_l o
  have e1 := eL h o.2.1
  have out : ∀ (h : om_H) (k : Nat), E h → K h0 h → (ll h0 Ln).length = k → TDw E K s h id (om_loop (C_6_types_19s G te Ln) ((k : Int), h)) [] := fun h k eh q hk => TDw_out H (by
    have e2 := eL h q
    unfold C_6_types_19s P_J2_size
    simp only
    rw [gd_pos (by rw [e2.1]; exact hL.2.1), gd_pos (by rw [e2.1]; exact hL.2.1), Option.bind_some, e2.2.2.2.2.2.2.1, if_pos (by omega)]
    rfl) eh
  have dl : tdp l < 70 ∧ tdp r < 70 := by
    have : tdp (.inner 1 w x l r) = 1 + max (tdp l) (tdp r) := rfl
    omega
  unfold C_6_types P_J2_isEmpty
  refine TDw_gd (by rw [e1.1]; exact hL.2.1) ?_
  rw [gd_pos (by rw [e1.1]; exact hL.2.1), Option.bind_some, e1.2.2.2.2.2.2.1, hl]
  unfold pN at hl ⊢
  have ep : prtB nm con fam (.inner 1 w x l r) = if lfB l = true then [] else 91 :: tyB nm con fam l ++ (if lfB r = true then [] else 44 :: tyB nm con fam r) ++ [93] := rfl
  rw [ep] at o ⊢
  by_cases w2 : 2 ≤ w
  · rw [if_pos w2] at hl ⊢
    have ll0 : l ≠ .leaf := fun z => by have := sh.2.1.mp z; omega
    have e0 : (if w - 1 = 0 then (1 : Int) else 0) = 0 := if_neg (by omega)
    rw [e0, if_pos rfl]
    rw [if_neg (fun z => ll0 (lfB_t.mp z))] at o ⊢
    have y0 : (ll h0 Ln)[0]? = some ((ll h0 Ln)[0]'(by omega)) := List.getElem?_eq_getElem (by omega)
    have c0 := c 0 _ y0
    rw [if_pos rfl] at c0
    by_cases w3 : w = 3
    · have rr0 : r ≠ .leaf := fun z => sh.2.2.mp z w3
      rw [if_neg (fun z => rr0 (lfB_t.mp z))] at o ⊢
      have y1 : (ll h0 Ln)[1]? = some ((ll h0 Ln)[1]'(by omega)) := List.getElem?_eq_getElem (by omega)
      have c1 := c 1 _ y1
      rw [if_neg (by decide)] at c1
      rw [show 91 :: tyB nm con fam l ++ 44 :: tyB nm con fam r ++ [93] = [91] ++ ((tyB nm con fam l ++ ([44] ++ tyB nm con fam r)) ++ [93]) by simp] at o ⊢
      refine TP_b H o (fun h1 o1 => ?_)
      refine TDw_seq (w1 := id) H o1 ?_ (fun h2 o2 => TP_e (w2 := id) H o2)
      have o1' : okD E K s h0 h1 ((([] : List Int) ++ tyB nm con fam l) ++ ([44] ++ tyB nm con fam r)) := okD_l o1
      have t0 := c_ty1 (k := 0) I hL (by omega) y0 c0 ll0 wf.2.1 dl.1 O.2.1 o1'
      refine TDw_loop (k' := 1) H o1' t0 (fun h2 o2 => ?_)
      have o2' : okD E K s h0 h2 (([44] ++ tyB nm con fam r) ++ []) := okD_nil o2
      have t1 := c_ty1 (k := 1) I hL (by omega) y1 c1 rr0 wf.2.2 dl.2 O.2.2 o2'
      exact TDw_nil (TDw_loop (k' := 2) H o2' t1 (fun h3 o3 => out h3 2 o3.1 o3.2.1 (by omega)))
    · have rr0 : r = .leaf := sh.2.2.mpr w3
      rw [if_pos (lfB_t.mpr rr0)] at o ⊢
      rw [show 91 :: tyB nm con fam l ++ [] ++ [93] = [91] ++ (tyB nm con fam l ++ [93]) by simp] at o ⊢
      refine TP_b H o (fun h1 o1 => ?_)
      refine TDw_seq (w1 := id) H o1 ?_ (fun h2 o2 => TP_e (w2 := id) H o2)
      have o1' : okD E K s h0 h1 ((([] : List Int) ++ tyB nm con fam l) ++ []) := okD_nil (okD_l o1)
      have t0 := c_ty1 (k := 0) I hL (by omega) y0 c0 ll0 wf.2.1 dl.1 O.2.1 o1'
      exact TDw_nil (TDw_loop (k' := 1) H o1' t0 (fun h3 o3 => out h3 1 o3.1 o3.2.1 (by omega)))
  · rw [if_neg w2] at hl ⊢
    rw [if_pos rfl, if_neg (by decide)]
    rw [if_pos (lfB_t.mpr (sh.2.1.mpr (by omega)))]
    exact TDw_end (w := id) H o.1
end LDT
