set_option maxRecDepth 100000
/-! CONSTANTS by numbers (their addresses: om_cA G): enum constants 0..25; String constants 100.., their bytes 200..; the small Integers 300..555; ArrayList's empty array 600, 601; the Integers' array 602 -/
def om_en : List (String × String × String × Int) := [("CoercedClasses$Kind", "END", "LCoercedClasses$Kind;", 0), ("CoercedClasses$Kind", "BAD", "LCoercedClasses$Kind;", 1), ("CoercedClasses$Kind", "NAME", "LCoercedClasses$Kind;", 2), ("CoercedClasses$Kind", "GREAT", "LCoercedClasses$Kind;", 3), ("CoercedClasses$Kind", "NUMBER", "LCoercedClasses$Kind;", 4), ("CoercedClasses$Kind", "SIGN", "LCoercedClasses$Kind;", 5), ("CoercedClasses$Kind", "WORD", "LCoercedClasses$Kind;", 6), ("CoercedClasses$Why", "ALIKE", "LCoercedClasses$Why;", 0), ("CoercedClasses$Why", "LINE", "LCoercedClasses$Why;", 1), ("CoercedClasses$Why", "GIVEN", "LCoercedClasses$Why;", 2), ("CoercedClasses$Why", "TURNED", "LCoercedClasses$Why;", 3), ("CoercedClasses$Why", "THEN", "LCoercedClasses$Why;", 4), ("CoercedClasses$Why", "PARTS", "LCoercedClasses$Why;", 5), ("CoercedClasses$Form", "BOUND", "LCoercedClasses$Form;", 0), ("CoercedClasses$Form", "FUNCTION", "LCoercedClasses$Form;", 1), ("CoercedClasses$Form", "LIST", "LCoercedClasses$Form;", 2), ("CoercedClasses$Form", "PAIR", "LCoercedClasses$Form;", 3), ("CoercedClasses$Form", "PART", "LCoercedClasses$Form;", 4), ("CoercedClasses$Form", "DICTIONARY", "LCoercedClasses$Form;", 5), ("CoercedClasses$Wait", "ARGUMENT", "LCoercedClasses$Wait;", 0), ("CoercedClasses$Wait", "FUNCTION", "LCoercedClasses$Wait;", 1), ("CoercedClasses$Wait", "LET", "LCoercedClasses$Wait;", 2), ("CoercedClasses$Wait", "IF", "LCoercedClasses$Wait;", 3), ("CoercedClasses$Wait", "CASE", "LCoercedClasses$Wait;", 4), ("CoercedClasses$Wait", "LEFT", "LCoercedClasses$Wait;", 5), ("CoercedClasses$Wait", "RIGHT", "LCoercedClasses$Wait;", 6)]
def om_sr : List (String × Nat × String) := [("CoercedClasses$Tokens", 80, "class"), ("CoercedClasses$Tokens", 86, "instance"), ("CoercedClasses$Tokens", 88, "type"), ("CoercedClasses$Tokens", 90, "forall"), ("CoercedClasses$Tokens", 92, "if"), ("CoercedClasses$Tokens", 94, "then"), ("CoercedClasses$Tokens", 96, "else"), ("CoercedClasses$Tokens", 98, "let"), ("CoercedClasses$Tokens", 100, "in"), ("CoercedClasses$Tokens", 102, "case"), ("CoercedClasses$Tokens", 104, "of"), ("CoercedClasses$Program", 71, "class"), ("CoercedClasses$Program", 126, "type"), ("CoercedClasses$Program", 81, "instance"), ("CoercedClasses", 92, "let"), ("CoercedClasses", 98, "if"), ("CoercedClasses", 100, "case"), ("CoercedClasses", 159, "in"), ("CoercedClasses", 171, "then"), ("CoercedClasses", 176, "else"), ("CoercedClasses", 187, "of"), ("CoercedClasses", 189, "nil"), ("CoercedClasses", 196, "cons"), ("CoercedClasses$Program", 204, "forall"), ("CoercedClasses", 79, "Int"), ("CoercedClasses", 81, "Bool"), ("CoercedClasses", 83, "List"), ("CoercedClasses", 85, "Pair"), ("CoercedClasses", 270, "pair"), ("CoercedClasses", 272, "fst"), ("CoercedClasses", 274, "snd"), ("CoercedClasses", 276, "true"), ("CoercedClasses", 278, "false"), ("CoercedClasses$Teller", 334, "/\\"), ("CoercedClasses", 321, "->"), ("CoercedClasses$Teller", 153, "^("), ("CoercedClasses$Teller", 170, "|>"), ("CoercedClasses$Teller", 113, "->"), ("CoercedClasses$Teller", 115, ","), ("CoercedClasses$Teller", 178, "))"), ("CoercedClasses$Teller", 233, "let "), ("CoercedClasses$Teller", 240, " in "), ("CoercedClasses$Teller", 245, "if "), ("CoercedClasses$Teller", 249, " then "), ("CoercedClasses$Teller", 253, " else "), ("CoercedClasses$Teller", 260, "case "), ("CoercedClasses$Teller", 265, " of {nil->"), ("CoercedClasses$Teller", 270, ";cons "), ("CoercedClasses$Teller", 309, "("), ("CoercedClasses$Teller", 311, "(("), ("CoercedClasses$Teller", 327, "=="), ("CoercedClasses$Machine", 436, "true"), ("CoercedClasses$Machine", 438, "false"), ("CoercedClasses$Machine", 444, "[]"), ("CoercedClasses$Machine", 446, "?")]
def om_sb : List (List Int) := [[99, 108, 97, 115, 115], [105, 110, 115, 116, 97, 110, 99, 101], [116, 121, 112, 101], [102, 111, 114, 97, 108, 108], [105, 102], [116, 104, 101, 110], [101, 108, 115, 101], [108, 101, 116], [105, 110], [99, 97, 115, 101], [111, 102], [99, 108, 97, 115, 115], [116, 121, 112, 101], [105, 110, 115, 116, 97, 110, 99, 101], [108, 101, 116], [105, 102], [99, 97, 115, 101], [105, 110], [116, 104, 101, 110], [101, 108, 115, 101], [111, 102], [110, 105, 108], [99, 111, 110, 115], [102, 111, 114, 97, 108, 108], [73, 110, 116], [66, 111, 111, 108], [76, 105, 115, 116], [80, 97, 105, 114], [112, 97, 105, 114], [102, 115, 116], [115, 110, 100], [116, 114, 117, 101], [102, 97, 108, 115, 101], [47, 92], [45, 62], [94, 40], [124, 62], [45, 62], [44], [41, 41], [108, 101, 116, 32], [32, 105, 110, 32], [105, 102, 32], [32, 116, 104, 101, 110, 32], [32, 101, 108, 115, 101, 32], [99, 97, 115, 101, 32], [32, 111, 102, 32, 123, 110, 105, 108, 45, 62], [59, 99, 111, 110, 115, 32], [40], [40, 40], [61, 61], [116, 114, 117, 101], [102, 97, 108, 115, 101], [91, 93], [63]]
abbrev om_Aa (G : om_G) : Nat → Prop := fun q => om_b G ≤ q
def om_exn : List String := ["CoercedClasses$Lambda", "CoercedClasses$Let", "CoercedClasses$If", "CoercedClasses$Case", "CoercedClasses$Name", "CoercedClasses$Num", "CoercedClasses$Use", "CoercedClasses$Chain"]
/-- a String constant -/
abbrev om_ca (G : om_G) (i : Nat) : Nat := om_ra G (om_cA G i)
def om_Ks (G : om_G) (s : State) (j : Nat) (b : List Int) : Prop := va_O "java/lang/String" (om_ca G (100 + j)) (om_Aa G) s (om_H0 G) ∧ va_OF "java/lang/String" "coder" "B" (.int 0) (om_ca G (100 + j)) (om_Aa G) s (om_H0 G) ∧
  va_OF "java/lang/String" "value" "[B" (.ref (om_ca G (200 + j))) (om_ca G (100 + j)) (om_Aa G) s (om_H0 G) ∧ va_T .byte (om_ca G (200 + j)) b.length (fun i => .int (Int32.ofInt (b.getD i 0))) (om_Aa G) s (om_H0 G)
/-- what else the tables and the start's heap say: no Ex is another's; enum constants; String constants; their ordinals; Integers; the rest -/
def om_Kc (G : om_G) (s : State) : Prop :=
  (∀ C ∈ om_exn, ∀ T ∈ om_exn, C ≠ T → va_Nc C T s) ∧
  (∀ (i : Nat) (q : String × String × String × Int), om_en[i]? = some q → va_Z q.1 q.2.1 q.2.2.1 (.ref (om_ca G i)) (om_Aa G) s (om_H0 G) ∧ va_O q.1 (om_ca G i) (om_Aa G) s (om_H0 G) ∧ va_OF "java/lang/Enum" "ordinal" "I" (.int (Int32.ofInt q.2.2.2)) (om_ca G i) (om_Aa G) s (om_H0 G)) ∧
  (∀ (j : Nat) (q : String × Nat × String), om_sr[j]? = some q → vk_R q.1 q.2.1 q.2.2 (om_ca G (100 + j)) s) ∧ (∀ (j : Nat) (b : List Int), om_sb[j]? = some b → om_Ks G s j b) ∧
  (va_Z "java/lang/Integer$IntegerCache" "high" "I" (.int 127) (om_Aa G) s (om_H0 G) ∧ va_Z "java/lang/Integer$IntegerCache" "cache" "[Ljava/lang/Integer;" (.ref (om_ca G 602)) (om_Aa G) s (om_H0 G) ∧ va_T (.object "java/lang/Integer") (om_ca G 602) 256 (fun i => .ref (om_ca G (300 + i))) (om_Aa G) s (om_H0 G) ∧ vb_C (fun k => om_ca G (300 + k)) (om_Aa G) s (om_H0 G)) ∧
  (va_Z "java/util/ArrayList" "DEFAULTCAPACITY_EMPTY_ELEMENTDATA" "[Ljava/lang/Object;" (.ref (om_ca G 600)) (om_Aa G) s (om_H0 G) ∧ va_T (.object "java/lang/Object") (om_ca G 600) 0 (fun _ => .null) (om_Aa G) s (om_H0 G)) ∧
  (va_Z "java/lang/String" "COMPACT_STRINGS" "Z" (.int 1) (om_Aa G) s (om_H0 G) ∧ va_Z "jdk/internal/util/Preconditions" "SIOOBE_FORMATTER" "Ljava/util/function/BiFunction;" (om_rv G (om_cA G 1004)) (om_Aa G) s (om_H0 G) ∧ va_Z "java/lang/Throwable" "UNASSIGNED_STACK" "[Ljava/lang/StackTraceElement;" (om_rv G (om_cA G 1005)) (om_Aa G) s (om_H0 G) ∧ va_Z "java/lang/Throwable" "SUPPRESSED_SENTINEL" "Ljava/util/List;" (om_rv G (om_cA G 1006)) (om_Aa G) s (om_H0 G)) ∧
  (va_Mi "[Ljava/lang/Object;" (om_ca G 1003) s ∧ va_Dc s)
/-- the world's constants are these; they differ -/
def om_okG (G : om_G) : Prop := (∀ s, om_K G s → om_Kc G s) ∧ (∀ i j, i < 26 → j < 26 → om_cA G i = om_cA G j → i = j) ∧ (∀ i, i < 1000 → 0 < om_cA G i ∧ om_ca G i < om_b G) ∧ 0 < om_cA G 1003
section OM8
variable {G : om_G} {d : Nat} {M : om_M} {pc : Nat} {ls : List (Option om_V)} {st : List om_V} {h h' : om_H} {Q : om_O → Prop}
theorem om_cA_ne (hG : om_okG G) {i j : Nat} (hi : i < 26) (hj : j < 26) (hij : i ≠ j) : om_cA G i ≠ om_cA G j := fun q => hij (hG.2.1 i j hi hj q)
theorem om_cA_eq (hG : om_okG G) {i j : Nat} (hi : i < 26) (hj : j < 26) : om_cA G i = om_cA G j ↔ i = j := ⟨hG.2.1 i j hi hj, fun q => by rw [q]⟩
theorem om_cA_0 (hG : om_okG G) {i : Nat} (hi : i < 1000) : om_cA G i ≠ 0 := by have := (hG.2.2.1 i hi).1; omega
/-- a static field of the start's -/
theorem ok_gets {C n dd : String} {w : om_V} {index : Nat} (hd : decode M.2.1 pc = .ok (.getstatic index, 3)) (hl : Cond.fieldLink M.1.cls index C n dd ∈ lw_all ∨ ∃ host, Cond.fieldLinkNest M.1.cls index C n dd host ∈ lw_tbl) (Z : ∀ s, om_K G s → va_Z C n dd (om_tv G w) (om_Aa G) s (om_H0 G)) (hw : om_okV w) (k : OK G d M (pc + 3) ls (w :: st) h Q) : OK G d M pc ls st h Q := by
  refine ok_st ?_ k (fun p l e R s m args below meth c H locs la cells slots Q' X L hR V kk => ?_)
  · exact fun V => om_c1 hw V.2.1
  · have hS := X.2.2.2.2.2.2.2.2
    have hZ := Z s hS.2.2.2.2.1
    rcases hl with hl | ⟨host, hl⟩
    · obtain ⟨cf, kf, fi, f, a, cell, h1, h2, h3, h4, h5, h6, h7, h8⟩ := hZ
      exact W.gets X.1 X.2.1 X.2.2.2.2.2.1 (hS.1 _ hl args) h1 h2 h3 h4 (by rw [hR.2.2.2.1 a (by omega)]; exact h5) (fun e => by rw [e] at h6; cases h6) h7 rfl hd kk
    · have hZ2 : va_Z C n dd (om_tv G w) (om_Aa G) s H := hZ.kept (fun a ha hA => hR.2.2.2.1 a ha)
      obtain ⟨cf, kf, fi, f, a, cell, h1, h2, h3, h4, h5, h6, h7, h8⟩ := hZ2
      intro T hT S
      obtain ⟨vm', X', st⟩ := S.getstaticNest X.1 X.2.2.2.2.2.1 (va_Nw.use rfl (hS.2.1 _ hl rfl)) h1 h2 h3 h4 (by rw [hT]; exact h5) (fun e => by rw [e] at h6; cases h6) h7 (g := F0 m pc la (List.map (om_tv G) _)) rfl (by rw [X.2.1]; exact hd)
      obtain ⟨t, a1, b1⟩ := kk (T.setVm vm') hT X'
      exact ⟨t, st t a1, b1⟩
/-- an enum constant -/
theorem ok_enum {i index : Nat} {q : String × String × String × Int} (hG : om_okG G) (hd : decode M.2.1 pc = .ok (.getstatic index, 3)) (hi : om_en[i]? = some q) (hl : Cond.fieldLink M.1.cls index q.1 q.2.1 q.2.2.1 ∈ lw_all ∨ ∃ host, Cond.fieldLinkNest M.1.cls index q.1 q.2.1 q.2.2.1 host ∈ lw_tbl) (k : OK G d M (pc + 3) ls (vR (om_cA G i) :: st) h Q) : OK G d M pc ls st h Q := by
  have hlt : i < 26 := (List.getElem?_eq_some_iff.mp hi).1
  refine ok_gets (w := vR (om_cA G i)) hd hl (fun s hs => ?_) trivial k
  rw [show om_tv G (vR (om_cA G i)) = .ref (om_ca G i) from om_rv_ne (om_cA_0 hG (by omega))]
  exact ((hG.1 s hs).2.1 i q hi).1
/-- numbers out of the pool -/
theorem ok_ldc {index : Nat} {v : Int32} {x : Int} (hd : decode M.2.1 pc = .ok (.ldc index, 2)) (hl : Cond.constant M.1.cls index v ∈ lw_all) (hv : v = Int32.ofInt x) (hx : iR x) (k : OK G d M (pc + 2) ls (vI x :: st) h Q) : OK G d M pc ls st h Q := by
  refine ok_st ?_ k (fun p l e R s m args below meth c H locs la cells slots Q' X L hR V kk => ?_)
  · exact fun V => om_c1 hx V.2.1
  · subst hv
    exact lv_ldc X.1 X.2.1 X.2.2.2.2.2.1 (X.2.2.2.2.2.2.2.2.1 _ hl args) hd kk
theorem ok_ldcw {index : Nat} {v : Int32} {x : Int} (hd : decode M.2.1 pc = .ok (.ldc_w index, 3)) (hl : Cond.constant M.1.cls index v ∈ lw_all) (hv : v = Int32.ofInt x) (hx : iR x) (k : OK G d M (pc + 3) ls (vI x :: st) h Q) : OK G d M pc ls st h Q := by
  refine ok_st ?_ k (fun p l e R s m args below meth c H locs la cells slots Q' X L hR V kk => ?_)
  · exact fun V => om_c1 hx V.2.1
  · subst hv
    exact lv_ldcw X.1 X.2.1 X.2.2.2.2.2.1 (X.2.2.2.2.2.2.2.2.1 _ hl args) hd kk
theorem ok_ldc2 {index : Nat} {v : Int64} {x : Int} (hd : decode M.2.1 pc = .ok (.ldc2_w index, 3)) (hl : Cond.constantLong M.1.cls index v ∈ lw_all) (hv : v = Int64.ofInt x) (hx : lR x) (k : OK G d M (pc + 3) ls (vL x :: st) h Q) : OK G d M pc ls st h Q := by
  refine ok_st ?_ k (fun p l e R s m args below meth c H locs la cells slots Q' X L hR V kk => ?_)
  · exact fun V => om_c1 hx V.2.1
  · subst hv
    exact lv_ldc2 X.1 X.2.1 X.2.2.2.2.2.1 (X.2.2.2.2.2.2.2.2.1 _ hl args) hd kk
/-- a String constant -/
theorem ok_ldcS {j index : Nat} {q : String × Nat × String} (hG : om_okG G) (hd : decode M.2.1 pc = .ok (.ldc index, 2)) (hj : om_sr[j]? = some q) (hq : q.1 = M.1.cls ∧ q.2.1 = index) (k : OK G d M (pc + 2) ls (vR (om_cA G (100 + j)) :: st) h Q) : OK G d M pc ls st h Q := by
  have hlt : j < 55 := (List.getElem?_eq_some_iff.mp hj).1
  refine ok_st ?_ k (fun p l e R s m args below meth c H locs la cells slots Q' X L hR V kk => ?_)
  · exact fun V => om_c1 (show om_okV (vR _) from trivial) V.2.1
  · have hZ := (hG.1 s X.2.2.2.2.2.2.2.2.2.2.2.2.1).2.2.1 j q hj
    rw [hq.1, hq.2] at hZ
    refine va_ldcS X.1 X.2.1 X.2.2.2.2.2.1 hZ hd ?_
    have e : (.ref (om_ca G (100 + j)) : Value) = om_tv G (vR (om_cA G (100 + j))) := (om_rv_ne (om_cA_0 hG (by omega))).symm
    rw [e]
    exact kk
theorem ok_ldcwS {j index : Nat} {q : String × Nat × String} (hG : om_okG G) (hd : decode M.2.1 pc = .ok (.ldc_w index, 3)) (hj : om_sr[j]? = some q) (hq : q.1 = M.1.cls ∧ q.2.1 = index) (k : OK G d M (pc + 3) ls (vR (om_cA G (100 + j)) :: st) h Q) : OK G d M pc ls st h Q := by
  have hlt : j < 55 := (List.getElem?_eq_some_iff.mp hj).1
  refine ok_st ?_ k (fun p l e R s m args below meth c H locs la cells slots Q' X L hR V kk => ?_)
  · exact fun V => om_c1 (show om_okV (vR _) from trivial) V.2.1
  · have hZ := (hG.1 s X.2.2.2.2.2.2.2.2.2.2.2.2.1).2.2.1 j q hj
    rw [hq.1, hq.2] at hZ
    intro T hT S
    have e1 : (.ref (om_ca G (100 + j)) : Value) = om_tv G (vR (om_cA G (100 + j))) := (om_rv_ne (om_cA_0 hG (by omega))).symm
    obtain ⟨t, a1, b1⟩ := kk T hT S
    refine ⟨t, ?_, b1⟩
    obtain ⟨kc, cf, i, a', hk, hcf, hcp, -, hr, hev'⟩ := Cond.stringRef_spec X.2.2.2.2.2.1 hZ.1
    cases hZ.2.symm.trans hev'
    obtain ⟨k', hk', he⟩ := S.warmed.alike.2.2 _ _ hk
    have hr' : k'.resolved[index]? = some (some (.string (om_ca G (100 + j)))) := by
      rcases S.warmed.entry hk hk' index with h | ⟨h, -⟩
      · rw [h]; exact hr
      · rw [hr] at h; cases h
    have hdd : decode c.code pc = .ok (.ldc_w index, 3) := by rw [X.2.1]; exact hd
    have hxx := X.1
    jvm_step S.here [hxx, hdd, ldc_w.wp_string (e := e) (s := T) (f := F0 m pc la (List.map (om_tv G) _)) S.here.top hk' (by rw [he]; exact hcf) hcp hr']
    have a1 : Steps p.tables e below (T.setTop (F0 m (pc + 3) la (om_tv G (vR (om_cA G (100 + j))) :: List.map (om_tv G) _))) t := a1
    rw [← e1] at a1
    exact a1
theorem ok_lcmp {x y : Int} (hd : decode M.2.1 pc = .ok (.lcmp, 1)) (k : OK G d M (pc + 1) ls (vI (if y < x then 1 else if x = y then 0 else -1) :: st) h Q) : OK G d M pc ls (vL y :: vL x :: st) h Q := by
  refine ok_st ?_ k (fun p l e R s m args below meth c H locs la cells slots Q' X L hR V kk => ?_)
  · exact fun V => om_c1 (show iR _ from by split; (unfold iR; omega); split <;> (unfold iR; omega)) (om_t1 (om_t1 V.2.1))
  · refine W.lcmp X.1 X.2.1 hd ?_
    have e : lg_cmp (Int64.ofInt x) (Int64.ofInt y) = Int32.ofInt (if y < x then 1 else if x = y then 0 else -1) := by
      have hx := om_h1 (om_t1 V.2.1)
      have hy := om_h1 V.2.1
      unfold lg_cmp
      by_cases c1 : y < x
      · rw [if_pos ((i64_lt hy hx).mpr c1), if_pos c1]; rfl
      · rw [if_neg (fun q => c1 ((i64_lt hy hx).mp q)), if_neg c1]
        by_cases c2 : x = y
        · rw [if_pos ((i64_eq hx hy).mpr c2), if_pos c2]; rfl
        · rw [if_neg (fun q => c2 ((i64_eq hx hy).mp q)), if_neg c2]; rfl
    rw [e]
    exact kk
/-! casts -/
theorem om_recv {s : State} {H : Heap} {a kc : Nat} {r : vw_C} (hS : om_SC G s) (hR : om_R G h H) (hc : om_cl[kc]? = some r) (ha : kd h a = kc + 1) : a ≠ 0 ∧ ClassAt s r.1 (G.1.1 kc) ∧ ∃ cell : Cell, H[a]? = some cell ∧ cell.vm.isStatics = false ∧ s.vm.findClass r.1 = some cell.cls := by
  have hb := hR.2.2.2.2.1 a (by omega)
  have h0 := hR.2.2.1
  obtain ⟨cell, v1, v2, v3, v4⟩ := hR.2.2.2.2.2.1 kc r a hc ha
  obtain ⟨hSl, hfc, kC, hkC, hkind⟩ := hS.2.2.1 kc r hc
  exact ⟨by omega, ⟨hfc, kC, hkC, hkind⟩, cell, v1, by rw [v3]; rfl, by rw [v2]; exact hfc⟩
/-- checkcast: null, or an object of the class, or of one that can be cast to it -/
theorem ok_cast {index a kc : Nat} {r : vw_C} {nm : String} (hd : decode M.2.1 pc = .ok (.checkcast index, 3)) (hc : om_cl[kc]? = some r) (hl : Cond.classLink M.1.cls index nm ∈ lw_all) (hn : nm = r.1 ∨ Cond.castable r.1 nm ∈ lw_tbl) (ha : a = 0 ∨ kd h a = kc + 1) (k : OK G d M (pc + 3) ls (vR a :: st) h Q) : OK G d M pc ls (vR a :: st) h Q := by
  rcases ha with rfl | ha
  · exact ok_castNull hd k
  refine ok_st ?_ k (fun p l e R s m args below meth c H locs la cells slots Q' X L hR V kk => ?_)
  · exact fun V => V.2.1
  · have hS := X.2.2.2.2.2.2.2.2
    obtain ⟨h0, hca, hcell⟩ := om_recv hS hR hc ha
    have e1 : om_tv G (vR a) = .ref a := om_rv_f hR.2.2.1 (hR.2.2.2.2.1 a (by omega))
    show W p l e R s m args below meth c H locs cells slots Q' (F0 m pc la (om_tv G (vR a) :: List.map (om_tv G) _))
    have kk : W p l e R s m args below meth c H locs cells slots Q' (F0 m (pc + 3) la (om_tv G (vR a) :: List.map (om_tv G) _)) := kk
    rw [e1] at kk ⊢
    rcases hn with rfl | hn
    · exact va_castS X.1 X.2.1 X.2.2.2.2.2.1 (hS.1 _ hl args) hca hcell hd kk
    · exact va_castY X.1 X.2.1 X.2.2.2.2.2.1 (hS.1 _ hl args) (hS.2.1 _ hn rfl) hcell hd kk
/-- the kinds of exs -/
def om_exk : List Nat := [23, 24, 25, 26, 27, 28, 29, 31]
theorem om_exk_cl : ∀ k ∈ om_exk, ∃ r, om_cl[k]? = some r ∧ r.1 ∈ om_exn := by
  intro k hk
  simp only [om_exk, List.mem_cons, List.not_mem_nil, or_false] at hk
  rcases hk with rfl | rfl | rfl | rfl | rfl | rfl | rfl | rfl <;> exact ⟨_, rfl, by decide⟩
/-- instanceof, of an ex: whether it is of the class kt -/
theorem ok_inst {index a kt : Nat} {r : vw_C} (hG : om_okG G) (hd : decode M.2.1 pc = .ok (.instanceof index, 3)) (hc : om_cl[kt]? = some r) (hm : r.1 ∈ om_exn) (hl : Cond.classLink M.1.cls index r.1 ∈ lw_all) (hnd : ∀ k ∈ om_exk, k ≠ kt → ∀ q, om_cl[k]? = some q → q.1 ≠ r.1) (ha : ∃ k ∈ om_exk, kd h a = k + 1) (k : OK G d M (pc + 3) ls (vI (if kd h a = kt + 1 then 1 else 0) :: st) h Q) : OK G d M pc ls (vR a :: st) h Q := by
  obtain ⟨k0, hk0, ha⟩ := ha
  refine ok_st ?_ k (fun p l e R s m args below meth c H locs la cells slots Q' X L hR V kk => ?_)
  · exact fun V => om_c1 (show iR _ from by split <;> (unfold iR; omega)) (om_t1 V.2.1)
  · have hS := X.2.2.2.2.2.2.2.2
    obtain ⟨r0, hc0, hm0⟩ := om_exk_cl k0 hk0
    obtain ⟨h0, hca, hcell⟩ := om_recv hS hR hc0 ha
    have e1 : om_tv G (vR a) = .ref a := om_rv_f hR.2.2.1 (hR.2.2.2.2.1 a (by omega))
    show W p l e R s m args below meth c H locs cells slots Q' (F0 m pc la (om_tv G (vR a) :: List.map (om_tv G) _))
    rw [e1]
    by_cases c1 : kd h a = kt + 1
    · have ek : k0 = kt := by omega
      subst ek
      cases hc.symm.trans hc0
      rw [if_pos c1] at kk
      exact va_instS X.1 X.2.1 X.2.2.2.2.2.1 (hS.1 _ hl args) hca hcell hd kk
    · rw [if_neg c1] at kk
      have hne : r0.1 ≠ r.1 := hnd k0 hk0 (by omega) r0 hc0
      exact va_instNo X.1 X.2.1 X.2.2.2.2.2.1 (hS.1 _ hl args) ((hG.1 s hS.2.2.2.2.1).1 r0.1 hm0 r.1 hm hne) hcell hd kk
end OM8
