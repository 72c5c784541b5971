set_option maxRecDepth 100000
/-! RECEIVERS: an object of a class; an ArrayList; a constant -/
def om_Rc (G : om_G) (h : om_H) (b : Nat) (C : String) : Prop := ∀ (s : State) (H : Heap), om_SC G s → om_R G h H → b ≠ 0 ∧ ∃ cell : Cell, H[om_ra G b]? = some cell ∧ cell.vm.isStatics = false ∧ s.vm.findClass C = some cell.cls
theorem om_Rc_k {G : om_G} {h : om_H} {b kc : Nat} {r : vw_C} (hc : om_cl[kc]? = some r) (hb : kd h b = kc + 1) : om_Rc G h b r.1 := fun s H hS hR => by
  obtain ⟨h0, -, hcell⟩ := om_recv hS hR hc hb
  rw [om_ra_f hR.2.2.1 (hR.2.2.2.2.1 b (by omega))]
  exact ⟨h0, hcell⟩
theorem om_Rc_l {G : om_G} {h : om_H} {b : Nat} (hb : kd h b = 42) : om_Rc G h b RJ2 := fun s H hS hR => by
  have hb1 := hR.2.2.2.2.1 b (by omega)
  have h0 := hR.2.2.1
  obtain ⟨E, r8, -⟩ := hR.2.2.2.2.2.2.2
  obtain ⟨⟨mc, cell, q1, q2, q3, q4⟩, -⟩ := r8 b hb
  obtain ⟨hSl, hfc, kC, hkC, hkind⟩ := hS.2.2.1 40 _ rfl
  rw [om_ra_f hR.2.2.1 hb1]
  exact ⟨by omega, cell, q1, by rw [q3]; rfl, by rw [q2]; exact hfc⟩
theorem om_Rc_c {G : om_G} {h : om_H} {b : Nat} {C : String} (hb : b ≠ 0) (hO : ∀ s, om_K G s → va_O C (om_ra G b) (om_Aa G) s (om_H0 G)) : om_Rc G h b C := fun s H hS hR => by
  obtain ⟨cell, q1, q2, q3, q4⟩ := hO s hS.2.2.2.2.1
  exact ⟨hb, cell, by rw [hR.2.2.2.1 (om_ra G b) (by omega)]; exact q1, q2, q3⟩
section OM9
variable {G : om_G} {d d' : Nat} {M Mc : om_M} {pc : Nat} {ls ls' : List (Option om_V)} {st rest vs : List om_V} {h h' : om_H} {Q Q1 : om_O → Prop}
theorem om_next_fewer {O : om_O} (hs : om_le ls' ls) (k : om_next G d M pc ls' rest Q O) : om_next G d M pc ls rest Q O := by
  obtain ⟨r, hO⟩ := O
  unfold om_next at k ⊢
  rcases r with r | a
  · cases r with
    | none => exact ok_fewer hs k
    | some v => exact ok_fewer hs k
  · exact k
theorem om_o0 (hh : M.2.2.2.2 = []) : om_out0 M pc := fun q hq => by rw [hh] at hq; cases hq
/-- invokevirtual, by a receiver -/
theorem ok_callR {index b n : Nat} {C : String} {As : List om_V} (hd : decode M.2.1 pc = .ok (.invokevirtual index, 3)) (hl : om_ML M.1.cls index Mc.1) (hw : om_MW Mc n) (hn : As.length = n) (hi : Cond.instanceMethod Mc.1 ∈ lw_all) (hs : Cond.selects C Mc.1 Mc.1 ∈ lw_all) (hb : om_Rc G h b C)
    (hst : st = As.reverse ++ vR b :: rest) (hroom : om_cat rest + Mc.2.2.1 + 11 ≤ 64) (hlen : (om_sl (vR b :: As)).length ≤ Mc.2.2.1) (ho : om_out0 M pc)
    (hcal : OK G d' Mc 0 (om_ent (vR b :: As) Mc.2.2.1) [] h Q1) (hdd : d' + 1 ≤ d) (k : ∀ O, Q1 O → om_next G d M (pc + 3) ls rest Q O) : OK G d M pc ls st h Q := by
  subst hst
  refine ok_call (len := 3) (Mc := Mc) (vs := vR b :: As) ?_ hcal hdd hlen hw.2.2.1 hw.1 hw.2.1 hroom ?_ ?_ ho k
  · intro p l e R s m args below meth c H locs la cells slots T X hR hsz hT S
    have hS := X.2.2.2.2.2.2.2.2
    obtain ⟨mk, methM, hnamed, hmethM, hstM, habM⟩ := Cond.instanceMethod_spec (hS.1 _ hi args)
    obtain ⟨methM', cM, hmethM', -, -, -, -, -, -, hsigM⟩ := om_cw_spec hnamed (hS.1 _ hw.1 args)
    cases hmethM.symm.trans hmethM'
    obtain ⟨hb0, cellB, v1, v3, hcls⟩ := hb s H hS hR
    obtain ⟨c2, r2, m2, q1, q2, q3, q4, kP, hkP, hkPi⟩ := Cond.selects_spec (hS.1 _ hs args)
    cases hcls.symm.trans q1
    cases (State.methodFound?_of_named hnamed hw.2.2.2.1).symm.trans q2
    cases hnamed.symm.trans q3
    have hselP : selectMethod e.platform s.vm cellB.cls mk = .method mk := by rw [Launch.admits_selectMethod S.admits]; exact q4
    have hstack : (F0 m pc la ((As.reverse ++ vR b :: rest).map (om_tv G))).stack = (As.map (om_tv G)).reverse ++ .ref (om_ra G b) :: rest.map (om_tv G) := by
      show (As.reverse ++ vR b :: rest).map (om_tv G) = _
      rw [List.map_append, List.map_cons, List.map_reverse, show om_tv G (vR b) = .ref (om_ra G b) from om_rv_ne hb0]
    have ea : ((vR b :: As).map (om_tv G)).toArray = (Value.ref (om_ra G b) :: As.map (om_tv G)).toArray := by
      rw [List.map_cons, show om_tv G (vR b) = .ref (om_ra G b) from om_rv_ne hb0]
    rw [ea]
    have hl3 : (As.map (om_tv G)).length = methM.sig.parameters.length := by rw [List.length_map, hn]; exact om_len hw _ hsigM
    have hcell : T.heap[om_ra G b]? = some cellB := by rw [hT]; exact v1
    rcases hl with hl | ⟨host, hl⟩
    · obtain ⟨vm₁, X₁, hstep₁⟩ := S.invokevirtual X.1 X.2.2.2.2.2.1 (hS.1 _ hl args) hnamed hmethM hstM hkP hkPi hw.2.2.2.1 (a := om_ra G b) (cell := cellB) hcell
        (fun z h => by rw [h] at v3; cases v3) hselP hmethM habM hkP hkPi (g := F0 m pc la ((As.reverse ++ vR b :: rest).map (om_tv G))) rfl (argsL := As.map (om_tv G)) (rest := rest.map (om_tv G)) hl3 hstack (by rw [X.2.1]; exact hd)
      exact ⟨vm₁, mk, _, X₁, X₁.warmed, X₁.named hnamed, by rw [X.2.1]; exact hd, fun target ht => hstep₁ target ht⟩
    · obtain ⟨vm₁, X₁, hstep₁⟩ := S.invokevirtualNest X.1 X.2.2.2.2.2.1 (va_Nw.use rfl (hS.2.1 _ hl rfl)) hnamed hmethM hstM hkP hkPi hw.2.2.2.1 (a := om_ra G b) (cell := cellB) hcell
        (fun z h => by rw [h] at v3; cases v3) hselP hmethM habM hkP hkPi (g := F0 m pc la ((As.reverse ++ vR b :: rest).map (om_tv G))) rfl (argsL := As.map (om_tv G)) (rest := rest.map (om_tv G)) hl3 hstack (by rw [X.2.1]; exact hd)
      exact ⟨vm₁, mk, _, X₁, X₁.warmed, X₁.named hnamed, by rw [X.2.1]; exact hd, fun target ht => hstep₁ target ht⟩
  · intro v hv
    rcases List.mem_cons.mp hv with rfl | hv
    · exact List.mem_append_right _ List.mem_cons_self
    · exact List.mem_append_left _ (List.mem_reverse.mpr hv)
  · intro v hv
    exact List.mem_append_right _ (List.mem_cons_of_mem _ hv)
/-- invokevirtual of an inherited method (an enum's ordinal) -/
theorem ok_callU {index b n : Nat} {C owner : String} {x : MethodName} {As : List om_V} (hd : decode M.2.1 pc = .ok (.invokevirtual index, 3)) (hl : Cond.methodLink M.1.cls index x ∈ lw_all) (hsm : Cond.sameMethod x.cls owner x.name x.desc ∈ lw_all) (hown : owner ≠ "java/lang/invoke/MethodHandle" ∧ owner ≠ "java/lang/invoke/VarHandle") (hx : Mc.1 = ⟨owner, x.name, x.desc⟩) (hw : om_MW Mc n) (hn : As.length = n) (hi : Cond.instanceMethod Mc.1 ∈ lw_all) (hs : Cond.selects C x Mc.1 ∈ lw_all) (hb : om_Rc G h b C)
    (hst : st = As.reverse ++ vR b :: rest) (hroom : om_cat rest + Mc.2.2.1 + 11 ≤ 64) (hlen : (om_sl (vR b :: As)).length ≤ Mc.2.2.1) (ho : om_out0 M pc)
    (hcal : OK G d' Mc 0 (om_ent (vR b :: As) Mc.2.2.1) [] h Q1) (hdd : d' + 1 ≤ d) (k : ∀ O, Q1 O → om_next G d M (pc + 3) ls rest Q O) : OK G d M pc ls st h Q := by
  subst hst
  refine ok_call (len := 3) (Mc := Mc) (vs := vR b :: As) ?_ hcal hdd hlen hw.2.2.1 hw.1 hw.2.1 hroom ?_ ?_ ho k
  · intro p l e R s m args below meth c H locs la cells slots T X hR hsz hT S
    have hS := X.2.2.2.2.2.2.2.2
    obtain ⟨mk, methM, hnamed, hmethM, hstM, habM⟩ := Cond.instanceMethod_spec (hS.1 _ hi args)
    obtain ⟨methM', cM, hmethM', -, -, -, -, -, -, hsigM⟩ := om_cw_spec hnamed (hS.1 _ hw.1 args)
    cases hmethM.symm.trans hmethM'
    obtain ⟨cn, ck, r1, hcn, hck, hni, hf, hn1⟩ := Cond.sameMethod_found (hS.1 _ hsm args)
    rw [hx] at hnamed hsigM
    cases hnamed.symm.trans hn1
    obtain ⟨hb0, cellB, v1, v3, hcls⟩ := hb s H hS hR
    obtain ⟨c2, r2, m2, q1, q2, q3, q4, kP, hkP, hkPi⟩ := Cond.selects_spec (hS.1 _ hs args)
    cases hcls.symm.trans q1
    cases hf.symm.trans q2
    rw [hx] at q3
    cases hnamed.symm.trans q3
    have hselP : selectMethod e.platform s.vm cellB.cls mk = .method mk := by rw [Launch.admits_selectMethod S.admits]; exact q4
    have hstack : (F0 m pc la ((As.reverse ++ vR b :: rest).map (om_tv G))).stack = (As.map (om_tv G)).reverse ++ .ref (om_ra G b) :: rest.map (om_tv G) := by
      show (As.reverse ++ vR b :: rest).map (om_tv G) = _
      rw [List.map_append, List.map_cons, List.map_reverse, show om_tv G (vR b) = .ref (om_ra G b) from om_rv_ne hb0]
    have ea : ((vR b :: As).map (om_tv G)).toArray = (Value.ref (om_ra G b) :: As.map (om_tv G)).toArray := by
      rw [List.map_cons, show om_tv G (vR b) = .ref (om_ra G b) from om_rv_ne hb0]
    rw [ea]
    have hl3 : (As.map (om_tv G)).length = methM.sig.parameters.length := by
      rw [List.length_map, hn]
      exact om_len hw _ (by rw [hx]; exact hsigM)
    have hcell : T.heap[om_ra G b]? = some cellB := by rw [hT]; exact v1
    obtain ⟨vm₁, X₁, hstep₁⟩ := S.invokevirtualUp X.1 X.2.2.2.2.2.1 (hS.1 _ hl args) (hS.1 _ hsm args) hown hnamed hmethM hstM (a := om_ra G b) (cell := cellB) hcell
      (fun z h => by rw [h] at v3; cases v3) hselP hmethM habM hkP hkPi (g := F0 m pc la ((As.reverse ++ vR b :: rest).map (om_tv G))) rfl (argsL := As.map (om_tv G)) (rest := rest.map (om_tv G)) hl3 hstack (by rw [X.2.1]; exact hd)
    exact ⟨vm₁, mk, _, X₁, X₁.warmed, by rw [hx]; exact X₁.named hnamed, by rw [X.2.1]; exact hd, fun target ht => hstep₁ target ht⟩
  · intro v hv
    rcases List.mem_cons.mp hv with rfl | hv
    · exact List.mem_append_right _ List.mem_cons_self
    · exact List.mem_append_left _ (List.mem_reverse.mpr hv)
  · intro v hv
    exact List.mem_append_right _ (List.mem_cons_of_mem _ hv)
/-- a cast to Ex -/
theorem om_exk_cast : ∀ k ∈ om_exk, ∃ r, om_cl[k]? = some r ∧ Cond.castable r.1 "CoercedClasses$Ex" ∈ lw_tbl := by
  intro k hk
  simp only [om_exk, List.mem_cons, List.not_mem_nil, or_false] at hk
  rcases hk with rfl | rfl | rfl | rfl | rfl | rfl | rfl | rfl
  · exact ⟨_, rfl, q4457⟩
  · exact ⟨_, rfl, q4458⟩
  · exact ⟨_, rfl, q4456⟩
  · exact ⟨_, rfl, q4454⟩
  · exact ⟨_, rfl, q4459⟩
  · exact ⟨_, rfl, q4460⟩
  · exact ⟨_, rfl, q4461⟩
  · exact ⟨_, rfl, q4455⟩
theorem ok_castEx {index a : Nat} (hd : decode M.2.1 pc = .ok (.checkcast index, 3)) (hl : Cond.classLink M.1.cls index "CoercedClasses$Ex" ∈ lw_all) (ha : a = 0 ∨ ∃ k ∈ om_exk, kd h a = k + 1) (k : OK G d M (pc + 3) ls (vR a :: st) h Q) : OK G d M pc ls (vR a :: st) h Q := by
  rcases ha with ha | ⟨k0, hk0, ha⟩
  · subst ha
    exact ok_castNull hd k
  · obtain ⟨r, hc, hq⟩ := om_exk_cast k0 hk0
    exact ok_cast hd hc hl (Or.inr hq) (Or.inr ha) k
/-- a cast of an Integer of the start's -/
theorem ok_castBox {index a : Nat} (hG : om_okG G) (hd : decode M.2.1 pc = .ok (.checkcast index, 3)) (hl : Cond.classLink M.1.cls index "java/lang/Integer" ∈ lw_all) (ha : ∃ j, j < 256 ∧ a = om_cA G (300 + j)) (k : OK G d M (pc + 3) ls (vR a :: st) h Q) : OK G d M pc ls (vR a :: st) h Q := by
  obtain ⟨j, hj, rfl⟩ := ha
  refine ok_st ?_ k (fun p l e R s m args below meth c H locs la cells slots Q' X L hR V kk => ?_)
  · exact fun V => V.2.1
  · have hS := X.2.2.2.2.2.2.2.2
    obtain ⟨cell, q1, q2, q3, q4⟩ := (hG.1 s hS.2.2.2.2.1).2.2.2.2.1.2.2.2.1 j hj
    have e1 : om_tv G (vR (om_cA G (300 + j))) = .ref (om_ca G (300 + j)) := om_rv_ne (om_cA_0 hG (by omega))
    show W p l e R s m args below meth c H locs cells slots Q' (F0 m pc la (om_tv G (vR (om_cA G (300 + j))) :: List.map (om_tv G) _))
    have kk : W p l e R s m args below meth c H locs cells slots Q' (F0 m (pc + 3) la (om_tv G (vR (om_cA G (300 + j))) :: List.map (om_tv G) _)) := kk
    rw [e1] at kk ⊢
    obtain ⟨cC, kC, w1, w2, w3, -⟩ := Cond.instantiable_spec (hS.1 _ q1892 args)
    have q4 : om_ca G (300 + j) < om_b G := (hG.2.2.1 (300 + j) (by omega)).2
    exact va_castS X.1 X.2.1 X.2.2.2.2.2.1 (hS.1 _ hl args) ⟨w1, kC, w2, w3⟩ ⟨cell, by rw [hR.2.2.2.1 _ q4]; exact q1, q2, q3⟩ hd kk
end OM9
theorem om_FL1 {own : String} {idx f k : Nat} (h : ∃ (r : vw_C) (j : Nat) (ref : String), om_cl[k]? = some r ∧ j < r.2.2 ∧ (om_ft (k + 1)).getD j 0 = f ∧
  (Cond.fieldLink own idx ref (r.2.1 j).2.1 (r.2.1 j).2.2.1 ∈ lw_all ∨ ∃ host, Cond.fieldLinkNest own idx ref (r.2.1 j).2.1 (r.2.1 j).2.2.1 host ∈ lw_tbl) ∧
  (ref = (r.2.1 j).1 ∨ Cond.sameField ref (r.2.1 j).1 (r.2.1 j).2.1 (r.2.1 j).2.2.1 ∈ lw_all)) : om_FL own idx f [k] := fun k' hk' => by rw [List.mem_singleton.mp hk']; exact h
theorem om_FP1 {own : String} {idx f k : Nat} {fin : Bool} (h : ∃ (r : vw_C) (j : Nat) (ref : String), om_cl[k]? = some r ∧ j < r.2.2 ∧ (om_ft (k + 1)).getD j 0 = f ∧
  (Cond.fieldLink own idx ref (r.2.1 j).2.1 (r.2.1 j).2.2.1 ∈ lw_all ∨ (fin = false ∧ ∃ host, Cond.fieldLinkNest own idx ref (r.2.1 j).2.1 (r.2.1 j).2.2.1 host ∈ lw_tbl)) ∧
  (ref = (r.2.1 j).1 ∨ Cond.sameField ref (r.2.1 j).1 (r.2.1 j).2.1 (r.2.1 j).2.2.1 ∈ lw_all) ∧ (r.2.1 j).2.2.2 = fin ∧ (fin = true → (r.2.1 j).1 = own)) : om_FP own idx f fin [k] := fun k' hk' => by rw [List.mem_singleton.mp hk']; exact h
