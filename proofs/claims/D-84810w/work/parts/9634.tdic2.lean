set_option maxRecDepth 100000
/-! THE TWIN'S MACHINE: dictionaries of insts are put together; all of them -/
section LTF
variable {M : MPg} {σ0 σ τ : tS} {n : Nat} {gv : List GVs} {θ : Nat → Ty}
/-- a dictionary is made -/
theorem t_made {p c0 i c w : Nat} {x : Unit} {l r : Ty} {d : INs} {js : Nat → Int} (B : DcB σ0 n σ p c0) (p16 : p < 16000) (ei : iOf M.2.2.2 c w = some i) (ed : M.2.2.2[i]? = some d) (hj : ∀ j, j < 4 → ga σ 1082 (4 * p + j) = js j) (h1 : ∀ j, -1 ≤ js j ∧ js j < gs σ 964) (hc : ∀ (j : Nat) (q : Nat × Nat), d.2.2.2.1[j]? = some q → (q.2 = 0 → dcW M.2.2.2 σ l q.1 (js j)) ∧ (q.2 ≠ 0 → dcW M.2.2.2 σ r q.1 (js j))) : ∃ got' σ', T_dictionaryMade (i : Int) (p : Int) σ = some (got', σ') ∧ DcO M σ p c0 1 (.inner 1 w x l r) c got' σ' := by
  obtain ⟨B1, B2, B3, B4⟩ := B
  have ct := B2
  obtain ⟨⟨i1, i2, i3⟩, i4, i5, i6⟩ := B2
  obtain ⟨kk, ek⟩ : ∃ kk : Nat, gs σ 964 = (kk : Int) := ⟨(gs σ 964).toNat, by omega⟩
  by_cases hf : c0 < 4000
  · obtain ⟨σ', e'⟩ : ∃ σ', σ' = us (ua (ua (us σ 1008 ((c0 + 1 : Nat) : Int)) 958 kk (i : Int)) 962 kk (rowN (js 0) (js 1) (js 2) (js 3))) 964 ((kk + 1 : Nat) : Int) := ⟨_, rfl⟩
    have F : fr [964, 1008] [958, 962] σ σ' := by
      rw [e']
      exact fr_us (fr_ua (fr_ua (fr_us (fr_refl _ _ _) (by decide)) (by decide)) (by decide)) (by decide)
    have g64 : gs σ' 964 = ((kk + 1 : Nat) : Int) := by rw [e']; rfl
    have g08 : gs σ' 1008 = ((c0 + 1 : Nat) : Int) := by rw [e']; rfl
    have a58 : ∀ j, ga σ' 958 j = if j = kk then (i : Int) else ga σ 958 j := fun j => by
      rw [e']
      simp only [ga_us, ga_ua]
      by_cases q : j = kk
      · simp [q]
      · simp [q]
    have a62 : ∀ j, ga σ' 962 j = if j = kk then rowN (js 0) (js 1) (js 2) (js 3) else ga σ 962 j := fun j => by
      rw [e']
      simp only [ga_us, ga_ua]
      by_cases q : j = kk
      · simp [q]
      · simp [q]
    have Gr : mGr σ σ' := by
      refine ⟨⟨by rw [F.1 952 (by decide)]; exact Int.le_refl _, fun f hf j _ => F.2 f (fun z => by simp only [List.mem_cons, List.not_mem_nil, or_false] at hf z; omega) j⟩, ⟨by rw [F.1 924 (by decide)]; exact Int.le_refl _, fun f hf j _ => F.2 f (fun z => by simp only [List.mem_cons, List.not_mem_nil, or_false] at hf z; omega) j⟩, by omega, fun f hf j hj => ?_⟩
      simp only [List.mem_cons, List.not_mem_nil, or_false] at hf
      rcases hf with e | e
      · rw [e, a58, if_neg (by omega)]
      · rw [e, a62, if_neg (by omega)]
    refine ⟨(kk : Int), σ', ?_, fr_sub F (by decide) (by decide), Gr, by rw [F.1 1084 (by decide)]; exact B4, eBl_fr F (by decide), .inl ⟨by omega, ⟨⟨by rw [F.1 924 (by decide)]; exact i1, by rw [F.1 952 (by decide)]; exact i2, by omega⟩, by rw [g64, F.1 924 (by decide), F.1 952 (by decide)]; omega, g08, by omega⟩, by rw [F.1 1000 (by decide)]; exact B3, rfl, kk, i, d, js, rfl, by omega, ei, ed, by rw [a58, if_pos rfl], fun j => ⟨(h1 j).1, by have := (h1 j).2; omega⟩, by rw [a62, if_pos rfl], fun j q e => ⟨fun z => dcW_gr Gr ((hc j q e).1 z), fun z => dcW_gr Gr ((hc j q e).2 z)⟩⟩⟩
    unfold T_dictionaryMade
    rw [t_cell0 ct hf, Option.bind_some]
    show (if (1 : Int) ≠ 0 then _ else _) = _
    rw [if_pos (by decide)]
    simp only
    have eg : gs (us σ 1008 ((c0 + 1 : Nat) : Int)) 964 = (kk : Int) := ek
    rw [eg, w32_s (x := 4 * (p : Int)) (by omega) (by omega), w32_s (x := 4 * (p : Int) + 1) (by omega) (by omega), w32_s (x := 4 * (p : Int) + 2) (by omega) (by omega), w32_s (x := 4 * (p : Int) + 3) (by omega) (by omega), if_pos ⟨by omega, by omega, by omega, by omega, by omega, by omega, by omega, by omega, by omega, by omega⟩, show (4 * (p : Int)).toNat = 4 * p + 0 by omega, show (4 * (p : Int) + 1).toNat = 4 * p + 1 by omega, show (4 * (p : Int) + 2).toNat = 4 * p + 2 by omega, show (4 * (p : Int) + 3).toNat = 4 * p + 3 by omega]
    have r0 : ga (us σ 1008 ((c0 + 1 : Nat) : Int)) 1082 (4 * p + 0) = js 0 := hj 0 (by decide)
    have r1 : ga (us σ 1008 ((c0 + 1 : Nat) : Int)) 1082 (4 * p + 1) = js 1 := hj 1 (by decide)
    have r2 : ga (us σ 1008 ((c0 + 1 : Nat) : Int)) 1082 (4 * p + 2) = js 2 := hj 2 (by decide)
    have r3 : ga (us σ 1008 ((c0 + 1 : Nat) : Int)) 1082 (4 * p + 3) = js 3 := hj 3 (by decide)
    have rkj : ∀ j, rk (js j) := fun j => ⟨(h1 j).1, by have := (h1 j).2; omega⟩
    rw [r0, r1, r2, r3, t_row (rkj 0) (rkj 1) (rkj 2) (rkj 3), Option.bind_some]
    unfold T_dictionaryMade_68
    have eg2 : gs (ua (us σ 1008 ((c0 + 1 : Nat) : Int)) 958 ((kk : Int)).toNat (i : Int)) 964 = (kk : Int) := ek
    rw [if_pos (by omega), eg2, w32_s (x := (kk : Int) + 1) (by omega) (by omega), w32_s (x := (kk : Int) + 1 - 1) (by omega) (by omega), show (kk : Int) + 1 - 1 = (kk : Int) by omega, show ((kk : Int)).toNat = kk by omega, e']
    rfl
  · have F : fr [1000] [] σ (us σ 1000 4) := fr_one
    refine ⟨-1, us σ 1000 4, ?_, fr_sub F (by decide) (by decide), mGr_o F (by decide) (by decide), B4, eBl_fr F (by simp), .inr ⟨by omega, rfl, rfl, ?_⟩⟩
    · unfold T_dictionaryMade
      rw [t_cell1 ct hf, Option.bind_some]
      exact if_neg (fun z => z rfl)
    · show gs σ 1008 = 4000
      omega
/-- CONDITIONS, one after another -/
theorem ev_cd (P : DcP σ0 n M) (hs : okTh M.2.2.2 gv θ) {o c w i h : Nat} {xx : Unit} {l r : Ty} {d : INs} {row t : Int} (ow : owO M o) (eg : gvW M o = gv) (hG : gvF' M.2.2.2 gv) (ei : iOf M.2.2.2 c w = some i) (ed : M.2.2.2[i]? = some d) (okL : ∀ X, (X = l ∨ X = r) → okF M.2.2.2 X ∧ tsz X ≤ 1000000) (ls : List ((Nat × Nat) × Ty × Nat)) (el : ls.map Prod.fst = d.2.2.2.1) (H : ∀ y ∈ ls, (if y.1.2 = 0 then l else r) ≠ .leaf ∧ knT M.2.2.2 gv (QN σ0 n) 130 (if y.1.2 = 0 then l else r) y.2.1 ∧ EvT σ0 n M gv θ o y.1.1 y.2.1 y.2.2 h) {p : Nat} (hp : p + 1 + h ≤ 16000) (p16 : p + 1 < 16000) : ∀ (l2 l1 : List ((Nat × Nat) × Ty × Nat)) (σ : tS) (c0 : Nat) (got : Int) (js : Nat → Int), ls = l1 ++ l2 → DcB σ0 n σ (p + 1) c0 → ga σ 1062 p = (i : Int) → ga σ 1066 p = t → ga σ 1070 p = owT o → ga σ 1074 p = row → ga σ 1078 p = (l1.length : Int) → tyT σ n (.inner 1 w xx l r) t → rTw M.2.2.2 σ gv θ row → (∀ j, j < 4 → ga σ 1082 (4 * p + j) = js j) → (∀ j, -1 ≤ js j ∧ js j < gs σ 964) → (∀ (j : Nat) (y : (Nat × Nat) × Ty × Nat), l1[j]? = some y → (y.1.2 = 0 → dcW M.2.2.2 σ (sem M.2.2.2 θ l) y.1.1 (js j)) ∧ (y.1.2 ≠ 0 → dcW M.2.2.2 σ (sem M.2.2.2 θ r) y.1.1 (js j))) →
    ∃ a b σ2 got' σ', T_dictionaryOut_257 got (p : Int) (i : Int) (l1.length : Int) 0 σ = some (.inl (a, b, σ2)) ∧ om_loop T_dictionaryOut_20s (a, b, σ2) = om_loop T_dictionaryOut_20s (got', 1, σ') ∧ DcO M σ p c0 (1 + (l2.map (fun y => y.2.2)).sum) (.inner 1 w xx (sem M.2.2.2 θ l) (sem M.2.2.2 θ r)) c got' σ'
  | [], l1, σ, c0, got, js, e, B, h62, h66, h70, h74, h78, ct, rw', hj, hj1, hd => by
    rw [List.append_nil] at e
    have Pg := pgt_M B.1 P.1.2.1
    have l20 := Pg.2.2.1
    have il := (List.getElem?_eq_some_iff.mp ed).1
    have e10 : ga σ 710 i = (d.2.2.2.1.length : Int) := (Pg.2.2.2 i d ed).2.2.2.1.1
    have ll : l1.length = d.2.2.2.1.length := by rw [← el, e, List.length_map]
    have F1 : fr [1084] [] σ (us σ 1084 (p : Int)) := fr_one
    have G1 : mGr σ (us σ 1084 (p : Int)) := mGr_o F1 (by decide) (by decide)
    have B1 : DcB σ0 n (us σ 1084 (p : Int)) p c0 := ⟨fr_trans B.1 (fr_sub F1 (by decide) (by decide)), mCt_fr F1 (by decide) B.2.1, B.2.2.1, rfl⟩
    obtain ⟨got', σ', m1, m2⟩ := t_made (M := M) (σ := us σ 1084 (p : Int)) (x := xx) (w := w) (c := c) (l := sem M.2.2.2 θ l) (r := sem M.2.2.2 θ r) (js := js) B1 (by omega) ei ed hj hj1 (fun j q eq => by
      rw [← el, List.getElem?_map] at eq
      obtain ⟨y, y1, y2⟩ := Option.map_eq_some_iff.mp eq
      rw [e] at y1
      rw [← y2]
      obtain ⟨z1, z2⟩ := hd j y y1
      exact ⟨fun z => dcW_gr G1 (z1 z), fun z => dcW_gr G1 (z2 z)⟩)
    obtain ⟨s1, s2, s3, s4, s5⟩ := m2
    refine ⟨got', 1, σ', got', σ', ?_, rfl, fr_trans (fr_sub F1 (by decide) (by decide)) s1, mGr_trans G1 s2, s3, eBl_trans (eBl_fr F1 (by simp)) s4, s5⟩
    unfold T_dictionaryOut_257
    rw [if_neg (fun z => z rfl), if_pos (by omega), show ((i : Int)).toNat = i by omega, e10, if_pos (by omega)]
    unfold T_dictionaryOut_366
    rw [if_neg (fun z => z rfl), B.2.2.2, show w32 (((p + 1 : Nat) : Int) - 1) = (p : Int) by rw [w32_s (by omega) (by omega)]; omega]
    unfold T_dictionaryOut_381
    rw [m1, Option.bind_some]
  | y :: l2, l1, σ, c0, got, js, e, B, h62, h66, h70, h74, h78, ct, rw', hj, hj1, hd => by
    have Pg := pgt_M B.1 P.1.2.1
    have l20 := Pg.2.2.1
    have il := (List.getElem?_eq_some_iff.mp ed).1
    have pg := Pg.2.2.2 i d ed
    have e10 : ga σ 710 i = (d.2.2.2.1.length : Int) := pg.2.2.2.1.1
    have l4 := pg.2.2.2.1.2.1
    have ey : ls[l1.length]? = some y := by rw [e]; exact at_len
    have ym : y ∈ ls := List.mem_of_getElem? ey
    obtain ⟨H1, H2, H3⟩ := H y ym
    have ec : d.2.2.2.1[l1.length]? = some y.1 := by rw [← el, List.getElem?_map, ey]; rfl
    have kl := (List.getElem?_eq_some_iff.mp ec).1
    obtain ⟨q14, q18, _, _⟩ := pg.2.2.2.1.2.2 _ _ ec
    obtain ⟨σb, b1, b2, b3⟩ := t_byO P.1 B.1 P.2.1 P.2.2.1 ow P.2.2.2.1
    rw [eg] at b3
    have Bb := dcB_fr B b2 (by decide) (by decide) (by decide)
    obtain ⟨m, ct1, ct2, ct3, ct4, ct5, ct6⟩ := id ct
    have hn := P.1.2.2
    have ctb : tyT σb n (if y.1.2 = 0 then l else r) (if y.1.2 = 0 then ga σ 510 m else ga σ 514 m) := by
      have X := tx_M (n := n) (fr_sub b2 (by decide) (by decide) : fr WMS WMA σ σb)
      split
      · exact tyT_mono X ct5
      · exact tyT_mono X ct6
    have okp := okL (if y.1.2 = 0 then l else r) (by split <;> simp)
    obtain ⟨t1, σc, o1, o2, o3, _⟩ := t_outM P.1 Bb.1 b3 P.2.2.2.2.1.2.2.1 hG H2 ctb H1 okp.1 okp.2
    have Bc := dcB_fr Bb o2 (by decide) (by decide) (by decide)
    have Vc : GVT σc n gv := GVT_f2 (o2.1 792 (by decide)) (fun f hf i => o2.2 f (by simp only [List.mem_cons, List.not_mem_nil, or_false] at hf ⊢; omega) i) (tx_M (fr_sub o2 (by decide) (by decide))) b3
    have Fc : fr DFS DFA σ σc := fr_trans (fr_sub b2 (by decide) (by decide)) (fr_sub o2 (by decide) (by decide))
    have Gc : mGr σ σc := mGr_trans (mGr_o b2 (by decide) (by decide)) (mGr_o o2 (by decide) (by decide))
    have blc : eBl (p + 1) σ σc := eBl_trans (eBl_fr b2 (by decide)) (eBl_fr o2 (by decide))
    obtain ⟨σd, got', σ', f1, f2, f3⟩ := H3 σc (p + 1) c0 got t1 row Bc Vc hp o3 (rTw_gr Gc rw')
    obtain ⟨g1, g2, g3, g4, g5⟩ := f3
    have Fd : fr DFS DFA σ σ' := fr_trans Fc g1
    have Gd : mGr σ σ' := mGr_trans Gc g2
    have bl : eBl (p + 1) σ σ' := eBl_trans blc g4
    have st : T_dictionaryOut_257 got (p : Int) (i : Int) (l1.length : Int) 0 σ = some (.inl (got, 0, σd)) := by
      unfold T_dictionaryOut_257
      rw [if_neg (fun z => z rfl), if_pos (by omega), show ((i : Int)).toNat = i by omega, e10, if_neg (by omega), if_pos (by omega), show ((p : Int)).toNat = p by omega, h70, b1, Option.bind_some, w32_s (x := 4 * (i : Int)) (by omega) (by omega), w32_s (by omega) (by omega), if_pos (by omega), show (4 * (i : Int) + (l1.length : Int)).toNat = 4 * i + l1.length by omega]
      have e18 : ga σb 718 (4 * i + l1.length) = (y.1.2 : Int) := by rw [b2.2 718 (by decide)]; exact q18
      have e14 : ga σb 714 (4 * i + l1.length) = (y.1.1 : Int) := by rw [b2.2 714 (by decide)]; exact q14
      have e66 : ga σb 1066 p = (m : Int) := by rw [b2.2 1066 (by decide), h66, ct1]
      have e510 : ga σb 510 m = ga σ 510 m := b2.2 510 (by decide) m
      have e514 : ga σb 514 m = ga σ 514 m := b2.2 514 (by decide) m
      have e70c : ga σc 1070 p = owT o := by rw [o2.2 1070 (by decide), b2.2 1070 (by decide)]; exact h70
      have e74c : ga σc 1074 p = row := by rw [o2.2 1074 (by decide), b2.2 1074 (by decide)]; exact h74
      have fin : T_dictionaryOut_343 got 0 (p : Int) (y.1.1 : Int) (if y.1.2 = 0 then ga σ 510 m else ga σ 514 m) σb = some (.inl (got, 0, σd)) := by
        unfold T_dictionaryOut_343
        rw [o1, Option.bind_some, if_pos (by omega), show ((p : Int)).toNat = p by omega]
        simp only
        rw [e70c, e74c, f1, Option.bind_some]
      rw [e18, e14, e66, show ((m : Int)).toNat = m by omega, e510, e514]
      by_cases q : y.1.2 = 0
      · rw [if_pos q] at fin
        rw [if_neg (fun z => z (by omega)), if_pos (by omega)]
        exact fin
      · rw [if_neg q] at fin
        rw [if_pos (by omega), if_pos (by omega)]
        exact fin
    have k62 : ga σ' 1062 p = (i : Int) := by rw [bl.1 1062 (by decide) p (by omega)]; exact h62
    have k78 : ga σ' 1078 p = (l1.length : Int) := by rw [bl.1 1078 (by decide) p (by omega)]; exact h78
    have sm : (((y :: l2).map (fun y => y.2.2)).sum : Nat) = y.2.2 + (l2.map (fun y => y.2.2)).sum := by rw [List.map_cons, List.sum_cons]
    have un : T_dictionaryOut_20s (got', 1, σ') = T_dictionaryOut_241 got' 1 (p : Int) (i : Int) ((l1.length + 1 : Nat) : Int) (ua (ua σ' 1082 (4 * p + l1.length) got') 1078 p ((l1.length + 1 : Nat) : Int)) := by
      unfold T_dictionaryOut_20s
      simp only
      rw [g3, if_neg (by omega), show w32 (((p + 1 : Nat) : Int) - 1) = (p : Int) by rw [w32_s (by omega) (by omega)]; omega, if_pos (by omega), show ((p : Int)).toNat = p by omega, k62, if_pos (by omega), if_pos (by omega), if_neg (by decide), k78, w32_s (x := 4 * (p : Int)) (by omega) (by omega), w32_s (x := 4 * (p : Int) + (l1.length : Int)) (by omega) (by omega), if_pos ⟨by omega, by omega, by omega, by omega⟩, w32_s (x := (l1.length : Int) + 1) (by omega) (by omega), show (4 * (p : Int) + (l1.length : Int)).toNat = 4 * p + l1.length by omega]
      rfl
    rcases g5 with ⟨h1, h2, h3, h4⟩ | ⟨h1, h2, h3, h4⟩
    · obtain ⟨σe, ee⟩ : ∃ σe, σe = ua (ua σ' 1082 (4 * p + l1.length) got') 1078 p ((l1.length + 1 : Nat) : Int) := ⟨_, rfl⟩
      have Fe : fr [] [1078, 1082] σ' σe := by rw [ee]; exact fr_ua (fr_ua (fr_refl _ _ _) (by decide)) (by decide)
      have Ge : mGr σ' σe := mGr_o Fe (by simp) (by decide)
      have B' : DcB σ0 n σ' (p + 1) (c0 + y.2.2) := ⟨fr_trans B.1 (fr_DM Fd), h2, h3, g3⟩
      have Be := dcB_fr B' Fe (by simp) (by decide) (by simp)
      have gotk : ∃ kg : Nat, got' = (kg : Int) ∧ (kg : Int) < gs σ' 964 := by
        generalize sem M.2.2.2 θ y.2.1 = T0 at h4
        cases T0 with
        | leaf => exact h4.elim
        | inner a b u l' r' =>
          obtain ⟨_, kg, _, _, _, z1, z2, _⟩ := h4
          exact ⟨kg, z1, z2⟩
      obtain ⟨kg, kg1, kg2⟩ := gotk
      have at1 : ∀ a ∈ [1062, 1066, 1070, 1074], ga σe a p = ga σ a p := fun a ha => by
        rw [Fe.2 a (by simp only [List.mem_cons, List.not_mem_nil, or_false] at ha ⊢; omega), bl.1 a (by simp only [List.mem_cons, List.not_mem_nil, or_false] at ha ⊢; omega) p (by omega)]
      have se : sem M.2.2.2 θ y.2.1 = sem M.2.2.2 θ (if y.1.2 = 0 then l else r) := by
        obtain ⟨Dl, bg, w1, _⟩ := H2
        exact wk_sem P.2.2.2.2.1.1 hs.2.1 (by have := P.2.2.2.2.1.2.1; omega) (w1 (0, 0, []))
      have ihs := ev_cd P hs (xx := xx) ow eg hG ei ed okL ls el H hp p16 l2 (l1 ++ [y]) σe (c0 + y.2.2) got' (fun j => if j = l1.length then got' else js j) (by rw [e, List.append_assoc]; rfl) Be (by rw [at1 1062 (by decide)]; exact h62) (by rw [at1 1066 (by decide)]; exact h66) (by rw [at1 1070 (by decide)]; exact h70) (by rw [at1 1074 (by decide)]; exact h74) (by rw [ee, List.length_append, List.length_singleton]; simp [ga_ua]) (tyT_mono (tx_M (fr_trans (fr_DM Fd) (fr_sub Fe (by simp) (by decide)))) ct) (rTw_gr (mGr_trans Gd Ge) rw') (fun j hj4 => by
          rw [ee]
          simp only [ga_ua]
          by_cases q : j = l1.length
          · simp [q]
          · rw [if_neg (by omega), if_neg (by omega), if_neg q, bl.2 _ (by omega)]
            exact hj j hj4) (fun j => by
          have g64 : gs σe 964 = gs σ' 964 := Fe.1 964 (by simp)
          rw [g64]
          by_cases q : j = l1.length
          · simp only [q, if_true]
            omega
          · simp only [q, if_false]
            have := hj1 j
            have := Gd.2.2.1
            omega) (fun j z ez => by
          by_cases q : j < l1.length
          · rw [List.getElem?_append_left q] at ez
            have nj : ¬ j = l1.length := by omega
            simp only [nj, if_false]
            obtain ⟨z1, z2⟩ := hd j z ez
            exact ⟨fun w => dcW_gr (mGr_trans Gd Ge) (z1 w), fun w => dcW_gr (mGr_trans Gd Ge) (z2 w)⟩
          · rw [List.getElem?_append_right (by omega)] at ez
            have j0 : j = l1.length := by
              have := (List.getElem?_eq_some_iff.mp ez).1
              rw [List.length_singleton] at this
              omega
            subst j0
            rw [Nat.sub_self] at ez
            rw [← Option.some.inj ez]
            simp only [if_true]
            rw [se] at h4
            refine ⟨fun w => ?_, fun w => ?_⟩
            · rw [if_pos w] at h4; exact dcW_gr Ge h4
            · rw [if_neg w] at h4; exact dcW_gr Ge h4)
      rw [List.length_append, List.length_singleton] at ihs
      obtain ⟨a, b, σ2, got2, σ3, r1, r2, r3⟩ := ihs
      have st2 : T_dictionaryOut_20s (got', 1, σ') = some (.inl (a, b, σ2)) := by
        rw [un]
        unfold T_dictionaryOut_241
        rw [if_neg (by decide), if_pos (by omega), ← ee]
        exact r1
      obtain ⟨s1, s2, s3, s4, s5⟩ := r3
      refine ⟨got, 0, σd, got2, σ3, st, by rw [f2, om_loop_in st2, r2], fr_trans Fd (fr_trans (fr_sub Fe (by simp) (by decide)) s1), mGr_trans Gd (mGr_trans Ge s2), s3, ?_, ?_⟩
      · refine eBl_trans (eBl_le (by omega) bl) (eBl_trans ⟨fun a' ha q hq => ?_, fun q hq => ?_⟩ s4)
        · rw [ee]
          simp only [ga_ua]
          rw [if_neg (by omega), if_neg (by omega)]
        · rw [ee]
          simp only [ga_ua]
          rw [if_neg (by omega), if_neg (by omega)]
      · rw [sm, show c0 + (1 + (y.2.2 + (l2.map (fun y => y.2.2)).sum)) = c0 + y.2.2 + (1 + (l2.map (fun y => y.2.2)).sum) by omega]
        exact s5
    · obtain ⟨σe, ee⟩ : ∃ σe, σe = ua (ua σ' 1082 (4 * p + l1.length) got') 1078 p ((l1.length + 1 : Nat) : Int) := ⟨_, rfl⟩
      have Fe : fr [] [1078, 1082] σ' σe := by rw [ee]; exact fr_ua (fr_ua (fr_refl _ _ _) (by decide)) (by decide)
      have F1 : fr [1084] [] σe (us σe 1084 (p : Int)) := fr_one
      have g84 : gs σe 1084 = ((p + 1 : Nat) : Int) := by rw [Fe.1 1084 (by simp)]; exact g3
      have st2 : T_dictionaryOut_20s (got', 1, σ') = some (.inl (got', 1, us σe 1084 (p : Int))) := by
        rw [un]
        unfold T_dictionaryOut_241
        rw [if_neg (by decide), if_neg (fun z => z h2), ← ee]
        unfold T_dictionaryOut_257
        rw [if_pos (by decide)]
        unfold T_dictionaryOut_366
        rw [if_pos (by decide), g84, show w32 (((p + 1 : Nat) : Int) - 1) = (p : Int) by rw [w32_s (by omega) (by omega)]; omega]
      refine ⟨got, 0, σd, got', us σe 1084 (p : Int), st, by rw [f2, om_loop_in st2], fr_trans Fd (fr_trans (fr_sub Fe (by simp) (by decide)) (fr_sub F1 (by decide) (by decide))), mGr_trans Gd (mGr_trans (mGr_o Fe (by simp) (by decide)) (mGr_o F1 (by decide) (by decide))), rfl, ?_, .inr ⟨by rw [sm]; omega, h2, ?_, ?_⟩⟩
      · refine eBl_trans (eBl_le (by omega) bl) (eBl_trans ⟨fun a' ha q hq => ?_, fun q hq => ?_⟩ (eBl_fr F1 (by simp)))
        · rw [ee]
          simp only [ga_ua]
          rw [if_neg (by omega), if_neg (by omega)]
        · rw [ee]
          simp only [ga_ua]
          rw [if_neg (by omega), if_neg (by omega)]
      · show gs σe 1000 = 4
        rw [Fe.1 1000 (by simp)]; exact h3
      · show gs σe 1008 = 4000
        rw [Fe.1 1008 (by simp)]; exact h4
end LTF
