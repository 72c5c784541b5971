set_option maxRecDepth 100000
section OM10
variable {G : om_G} {d : Nat} {M : om_M} {pc : Nat} {ls : List (Option om_V)} {st : List om_V} {h h' : om_H} {Q : om_O → Prop}
theorem ok_mmax {index : Nat} {x y : Int} (hd : decode M.2.1 pc = .ok (.invokestatic index, 3)) (hl : Cond.methodLink M.1.cls index Lib.Math.max.name ∈ lw_all) (hroom : om_cat st + 13 ≤ 64) (hdd : 1 ≤ d) (k : OK G d M (pc + 3) ls (vI (if x < y then y else x) :: st) h Q) : OK G d M pc ls (vI y :: vI x :: st) h Q := by
  refine ok_step (h' := h) ?_ (Nat.le_refl _) (Nat.le_refl _) k (fun p l e R s m args below meth c H locs la u0 Q' V C b1 b2 kk => ?_)
  · exact fun V => ⟨V.1, om_c1 (show iR _ from by split; exact om_h1 V.2.1; exact om_h1 (om_t1 V.2.1)) (om_t1 (om_t1 V.2.1)), V.2.2⟩
  · obtain ⟨X, c2, c3, -, hR, hlo, hL⟩ := C
    have hS := X.2.2.2.2.2.2.2.2
    have e1 : ((st.map (om_tv G)).map fun v => v.category).sum = om_cat st := om_cat_eq st
    refine va_mmax X.1 X.2.1 (by rw [X.2.2.1]; exact hL.1.1.symm) X.2.2.2.2.2.1 (hS.1 _ hl args) (hS.1 _ q1126 args) (hS.1 _ q274 args) (hS.1 _ q1127 args) (by omega) (by rw [e1]; omega) (by omega) (by omega) hd ?_
    have e2 : (if Int32.ofInt x < Int32.ofInt y then Int32.ofInt y else Int32.ofInt x) = Int32.ofInt (if x < y then y else x) := by
      by_cases c1 : x < y
      · rw [if_pos ((i32_lt (om_h1 (om_t1 V.2.1)) (om_h1 V.2.1)).mpr c1), if_pos c1]
      · rw [if_neg (fun q => c1 ((i32_lt (om_h1 (om_t1 V.2.1)) (om_h1 V.2.1)).mp q)), if_neg c1]
    rw [e2]
    exact kk H locs la hR hlo hL
theorem ok_mmin {index : Nat} {x y : Int} (hd : decode M.2.1 pc = .ok (.invokestatic index, 3)) (hl : Cond.methodLink M.1.cls index Lib.Math.min.name ∈ lw_all) (hroom : om_cat st + 13 ≤ 64) (hdd : 1 ≤ d) (k : OK G d M (pc + 3) ls (vI (if y < x then y else x) :: st) h Q) : OK G d M pc ls (vI y :: vI x :: st) h Q := by
  refine ok_step (h' := h) ?_ (Nat.le_refl _) (Nat.le_refl _) k (fun p l e R s m args below meth c H locs la u0 Q' V C b1 b2 kk => ?_)
  · exact fun V => ⟨V.1, om_c1 (show iR _ from by split; exact om_h1 V.2.1; exact om_h1 (om_t1 V.2.1)) (om_t1 (om_t1 V.2.1)), V.2.2⟩
  · obtain ⟨X, c2, c3, -, hR, hlo, hL⟩ := C
    have hS := X.2.2.2.2.2.2.2.2
    have e1 : ((st.map (om_tv G)).map fun v => v.category).sum = om_cat st := om_cat_eq st
    refine va_mmin X.1 X.2.1 (by rw [X.2.2.1]; exact hL.1.1.symm) X.2.2.2.2.2.1 (hS.1 _ hl args) (hS.1 _ q1192 args) (hS.1 _ q274 args) (hS.1 _ q1193 args) (by omega) (by rw [e1]; omega) (by omega) (by omega) hd ?_
    have e2 : (if Int32.ofInt y < Int32.ofInt x then Int32.ofInt y else Int32.ofInt x) = Int32.ofInt (if y < x then y else x) := by
      by_cases c1 : y < x
      · rw [if_pos ((i32_lt (om_h1 V.2.1) (om_h1 (om_t1 V.2.1))).mpr c1), if_pos c1]
      · rw [if_neg (fun q => c1 ((i32_lt (om_h1 V.2.1) (om_h1 (om_t1 V.2.1))).mp q)), if_neg c1]
    rw [e2]
    exact kk H locs la hR hlo hL
theorem om_kz600 (hG : om_okG G) (s : State) (hs : om_K G s) : va_Z "java/util/ArrayList" "DEFAULTCAPACITY_EMPTY_ELEMENTDATA" "[Ljava/lang/Object;" (om_tv G (vR (om_cA G 600))) (om_Aa G) s (om_H0 G) := by
  rw [show om_tv G (vR (om_cA G 600)) = .ref (om_ca G 600) from om_rv_ne (om_cA_0 hG (by omega))]
  exact (hG.1 s hs).2.2.2.2.2.1.1
end OM10
theorem om_nd23 : ∀ k ∈ om_exk, k ≠ 23 → ∀ q, om_cl[k]? = some q → q.1 ≠ RX24 := by
  intro k hk hne q hq
  simp only [om_exk, List.mem_cons, List.not_mem_nil, or_false] at hk
  rcases hk with rfl | rfl | rfl | rfl | rfl | rfl | rfl | rfl <;> first | exact absurd rfl hne | (cases hq; decide)
theorem om_nd24 : ∀ k ∈ om_exk, k ≠ 24 → ∀ q, om_cl[k]? = some q → q.1 ≠ RX25 := by
  intro k hk hne q hq
  simp only [om_exk, List.mem_cons, List.not_mem_nil, or_false] at hk
  rcases hk with rfl | rfl | rfl | rfl | rfl | rfl | rfl | rfl <;> first | exact absurd rfl hne | (cases hq; decide)
theorem om_nd25 : ∀ k ∈ om_exk, k ≠ 25 → ∀ q, om_cl[k]? = some q → q.1 ≠ RX26 := by
  intro k hk hne q hq
  simp only [om_exk, List.mem_cons, List.not_mem_nil, or_false] at hk
  rcases hk with rfl | rfl | rfl | rfl | rfl | rfl | rfl | rfl <;> first | exact absurd rfl hne | (cases hq; decide)
theorem om_nd26 : ∀ k ∈ om_exk, k ≠ 26 → ∀ q, om_cl[k]? = some q → q.1 ≠ RX27 := by
  intro k hk hne q hq
  simp only [om_exk, List.mem_cons, List.not_mem_nil, or_false] at hk
  rcases hk with rfl | rfl | rfl | rfl | rfl | rfl | rfl | rfl <;> first | exact absurd rfl hne | (cases hq; decide)
theorem om_nd27 : ∀ k ∈ om_exk, k ≠ 27 → ∀ q, om_cl[k]? = some q → q.1 ≠ RX28 := by
  intro k hk hne q hq
  simp only [om_exk, List.mem_cons, List.not_mem_nil, or_false] at hk
  rcases hk with rfl | rfl | rfl | rfl | rfl | rfl | rfl | rfl <;> first | exact absurd rfl hne | (cases hq; decide)
theorem om_nd28 : ∀ k ∈ om_exk, k ≠ 28 → ∀ q, om_cl[k]? = some q → q.1 ≠ RX29 := by
  intro k hk hne q hq
  simp only [om_exk, List.mem_cons, List.not_mem_nil, or_false] at hk
  rcases hk with rfl | rfl | rfl | rfl | rfl | rfl | rfl | rfl <;> first | exact absurd rfl hne | (cases hq; decide)
theorem om_nd29 : ∀ k ∈ om_exk, k ≠ 29 → ∀ q, om_cl[k]? = some q → q.1 ≠ RX30 := by
  intro k hk hne q hq
  simp only [om_exk, List.mem_cons, List.not_mem_nil, or_false] at hk
  rcases hk with rfl | rfl | rfl | rfl | rfl | rfl | rfl | rfl <;> first | exact absurd rfl hne | (cases hq; decide)
theorem om_nd31 : ∀ k ∈ om_exk, k ≠ 31 → ∀ q, om_cl[k]? = some q → q.1 ≠ RX32 := by
  intro k hk hne q hq
  simp only [om_exk, List.mem_cons, List.not_mem_nil, or_false] at hk
  rcases hk with rfl | rfl | rfl | rfl | rfl | rfl | rfl | rfl <;> first | exact absurd rfl hne | (cases hq; decide)
/-! THE TWIN: one object and its arrays (field, kind, length); they lie apart -/
def tw_arr : List (Nat × Nat × Nat) := [(402, 50, 2000), (406, 50, 2000), (410, 50, 2000), (414, 50, 2000), (470, 51, 4100), (474, 51, 4100), (478, 51, 4100), (482, 51, 4100), (490, 50, 21000), (494, 51, 2100), (502, 51, 126000), (506, 51, 126000), (510, 51, 126000), (514, 51, 126000), (518, 51, 126000), (522, 51, 126000), (526, 51, 4096), (530, 53, 126000), (538, 51, 8400), (542, 51, 8400), (546, 51, 8400), (550, 51, 8400), (554, 51, 8400), (558, 51, 8400), (562, 51, 8400), (570, 51, 700), (574, 51, 700), (578, 51, 700), (582, 51, 700), (586, 51, 700), (590, 51, 700), (594, 51, 700), (598, 51, 700), (602, 51, 700), (606, 51, 700), (610, 51, 700), (614, 51, 700), (618, 51, 700), (622, 51, 700), (630, 51, 2100), (634, 51, 2100), (638, 51, 2100), (642, 51, 2100), (658, 51, 8), (662, 51, 8), (666, 51, 8), (670, 51, 8), (674, 51, 8), (678, 51, 8), (682, 51, 32), (686, 51, 32), (690, 51, 20), (694, 51, 20), (698, 51, 20), (702, 51, 20), (706, 51, 40), (710, 51, 20), (714, 51, 80), (718, 51, 80), (722, 51, 20), (726, 51, 80), (730, 51, 24), (734, 51, 24), (738, 51, 24), (742, 51, 96), (746, 51, 24), (750, 51, 96), (754, 51, 96), (758, 51, 96), (762, 51, 24), (770, 53, 2100), (774, 53, 2100), (778, 51, 1100), (782, 51, 600), (798, 51, 4), (802, 51, 4), (806, 51, 4), (830, 51, 4), (834, 51, 4), (842, 51, 8400), (846, 51, 8400), (850, 51, 4200), (854, 51, 600), (878, 51, 7), (894, 50, 80400), (898, 51, 125), (902, 51, 125), (914, 51, 4100), (918, 51, 4100), (922, 52, 4100), (930, 52, 4100), (934, 52, 4100), (938, 51, 4100), (942, 51, 4100), (946, 51, 4100), (950, 52, 4100), (958, 51, 4100), (962, 52, 4100), (970, 51, 300), (974, 51, 300), (978, 51, 300), (982, 51, 300), (986, 52, 300), (990, 52, 300), (1018, 50, 400), (1042, 51, 33600), (1046, 51, 33600), (1054, 51, 16000), (1058, 51, 16000), (1062, 51, 16000), (1066, 51, 16000), (1070, 51, 16000), (1074, 52, 16000), (1078, 51, 16000), (1082, 51, 64000)]
def TW (h : om_H) (m : Nat) : Prop := kd h m = 14 ∧ (∀ q ∈ tw_arr, kd h (fR h q.1 m) = q.2.1 ∧ an h (fR h q.1 m) = q.2.2) ∧ ∀ p ∈ tw_arr, ∀ q ∈ tw_arr, fR h p.1 m = fR h q.1 m → p.1 = q.1
theorem tw_lt {h : om_H} {a n : Nat} {i : Int} (e : an h a = n) (c : i < (n : Int)) : i < (an h a : Int) := by rw [e]; exact c
theorem twi_402 : (402, 50, 2000) ∈ tw_arr := List.mem_of_getElem? (i := 0) rfl
/-- tape -/
theorem twk_402 {h : om_H} {m : Nat} (T : TW h m) : kd h (fR h 402 m) = 50 := (T.2.1 _ twi_402).1
theorem twn_402 {h : om_H} {m : Nat} (T : TW h m) : an h (fR h 402 m) = 2000 := (T.2.1 _ twi_402).2
theorem twi_406 : (406, 50, 2000) ∈ tw_arr := List.mem_of_getElem? (i := 1) rfl
/-- text -/
theorem twk_406 {h : om_H} {m : Nat} (T : TW h m) : kd h (fR h 406 m) = 50 := (T.2.1 _ twi_406).1
theorem twn_406 {h : om_H} {m : Nat} (T : TW h m) : an h (fR h 406 m) = 2000 := (T.2.1 _ twi_406).2
theorem twi_410 : (410, 50, 2000) ∈ tw_arr := List.mem_of_getElem? (i := 2) rfl
/-- programText -/
theorem twk_410 {h : om_H} {m : Nat} (T : TW h m) : kd h (fR h 410 m) = 50 := (T.2.1 _ twi_410).1
theorem twn_410 {h : om_H} {m : Nat} (T : TW h m) : an h (fR h 410 m) = 2000 := (T.2.1 _ twi_410).2
theorem twi_414 : (414, 50, 2000) ∈ tw_arr := List.mem_of_getElem? (i := 3) rfl
/-- askText -/
theorem twk_414 {h : om_H} {m : Nat} (T : TW h m) : kd h (fR h 414 m) = 50 := (T.2.1 _ twi_414).1
theorem twn_414 {h : om_H} {m : Nat} (T : TW h m) : an h (fR h 414 m) = 2000 := (T.2.1 _ twi_414).2
theorem twi_470 : (470, 51, 4100) ∈ tw_arr := List.mem_of_getElem? (i := 4) rfl
/-- tokenKind -/
theorem twk_470 {h : om_H} {m : Nat} (T : TW h m) : kd h (fR h 470 m) = 51 := (T.2.1 _ twi_470).1
theorem twn_470 {h : om_H} {m : Nat} (T : TW h m) : an h (fR h 470 m) = 4100 := (T.2.1 _ twi_470).2
theorem twi_474 : (474, 51, 4100) ∈ tw_arr := List.mem_of_getElem? (i := 5) rfl
/-- tokenPlace -/
theorem twk_474 {h : om_H} {m : Nat} (T : TW h m) : kd h (fR h 474 m) = 51 := (T.2.1 _ twi_474).1
theorem twn_474 {h : om_H} {m : Nat} (T : TW h m) : an h (fR h 474 m) = 4100 := (T.2.1 _ twi_474).2
theorem twi_478 : (478, 51, 4100) ∈ tw_arr := List.mem_of_getElem? (i := 6) rfl
/-- tokenSize -/
theorem twk_478 {h : om_H} {m : Nat} (T : TW h m) : kd h (fR h 478 m) = 51 := (T.2.1 _ twi_478).1
theorem twn_478 {h : om_H} {m : Nat} (T : TW h m) : an h (fR h 478 m) = 4100 := (T.2.1 _ twi_478).2
theorem twi_482 : (482, 51, 4100) ∈ tw_arr := List.mem_of_getElem? (i := 7) rfl
/-- tokenName -/
theorem twk_482 {h : om_H} {m : Nat} (T : TW h m) : kd h (fR h 482 m) = 51 := (T.2.1 _ twi_482).1
theorem twn_482 {h : om_H} {m : Nat} (T : TW h m) : an h (fR h 482 m) = 4100 := (T.2.1 _ twi_482).2
theorem twi_490 : (490, 50, 21000) ∈ tw_arr := List.mem_of_getElem? (i := 8) rfl
/-- letters -/
theorem twk_490 {h : om_H} {m : Nat} (T : TW h m) : kd h (fR h 490 m) = 50 := (T.2.1 _ twi_490).1
theorem twn_490 {h : om_H} {m : Nat} (T : TW h m) : an h (fR h 490 m) = 21000 := (T.2.1 _ twi_490).2
theorem twi_494 : (494, 51, 2100) ∈ tw_arr := List.mem_of_getElem? (i := 9) rfl
/-- letterSize -/
theorem twk_494 {h : om_H} {m : Nat} (T : TW h m) : kd h (fR h 494 m) = 51 := (T.2.1 _ twi_494).1
theorem twn_494 {h : om_H} {m : Nat} (T : TW h m) : an h (fR h 494 m) = 2100 := (T.2.1 _ twi_494).2
theorem twi_502 : (502, 51, 126000) ∈ tw_arr := List.mem_of_getElem? (i := 10) rfl
/-- typeKind -/
theorem twk_502 {h : om_H} {m : Nat} (T : TW h m) : kd h (fR h 502 m) = 51 := (T.2.1 _ twi_502).1
theorem twn_502 {h : om_H} {m : Nat} (T : TW h m) : an h (fR h 502 m) = 126000 := (T.2.1 _ twi_502).2
theorem twi_506 : (506, 51, 126000) ∈ tw_arr := List.mem_of_getElem? (i := 11) rfl
/-- typeWhich -/
theorem twk_506 {h : om_H} {m : Nat} (T : TW h m) : kd h (fR h 506 m) = 51 := (T.2.1 _ twi_506).1
theorem twn_506 {h : om_H} {m : Nat} (T : TW h m) : an h (fR h 506 m) = 126000 := (T.2.1 _ twi_506).2
theorem twi_510 : (510, 51, 126000) ∈ tw_arr := List.mem_of_getElem? (i := 12) rfl
/-- typeOne -/
theorem twk_510 {h : om_H} {m : Nat} (T : TW h m) : kd h (fR h 510 m) = 51 := (T.2.1 _ twi_510).1
theorem twn_510 {h : om_H} {m : Nat} (T : TW h m) : an h (fR h 510 m) = 126000 := (T.2.1 _ twi_510).2
theorem twi_514 : (514, 51, 126000) ∈ tw_arr := List.mem_of_getElem? (i := 13) rfl
/-- typeTwo -/
theorem twk_514 {h : om_H} {m : Nat} (T : TW h m) : kd h (fR h 514 m) = 51 := (T.2.1 _ twi_514).1
theorem twn_514 {h : om_H} {m : Nat} (T : TW h m) : an h (fR h 514 m) = 126000 := (T.2.1 _ twi_514).2
theorem twi_518 : (518, 51, 126000) ∈ tw_arr := List.mem_of_getElem? (i := 14) rfl
/-- typeSize -/
theorem twk_518 {h : om_H} {m : Nat} (T : TW h m) : kd h (fR h 518 m) = 51 := (T.2.1 _ twi_518).1
theorem twn_518 {h : om_H} {m : Nat} (T : TW h m) : an h (fR h 518 m) = 126000 := (T.2.1 _ twi_518).2
theorem twi_522 : (522, 51, 126000) ∈ tw_arr := List.mem_of_getElem? (i := 15) rfl
/-- typeNext -/
theorem twk_522 {h : om_H} {m : Nat} (T : TW h m) : kd h (fR h 522 m) = 51 := (T.2.1 _ twi_522).1
theorem twn_522 {h : om_H} {m : Nat} (T : TW h m) : an h (fR h 522 m) = 126000 := (T.2.1 _ twi_522).2
theorem twi_526 : (526, 51, 4096) ∈ tw_arr := List.mem_of_getElem? (i := 16) rfl
/-- typeHeads -/
theorem twk_526 {h : om_H} {m : Nat} (T : TW h m) : kd h (fR h 526 m) = 51 := (T.2.1 _ twi_526).1
theorem twn_526 {h : om_H} {m : Nat} (T : TW h m) : an h (fR h 526 m) = 4096 := (T.2.1 _ twi_526).2
theorem twi_530 : (530, 53, 126000) ∈ tw_arr := List.mem_of_getElem? (i := 17) rfl
/-- typeHas -/
theorem twk_530 {h : om_H} {m : Nat} (T : TW h m) : kd h (fR h 530 m) = 53 := (T.2.1 _ twi_530).1
theorem twn_530 {h : om_H} {m : Nat} (T : TW h m) : an h (fR h 530 m) = 126000 := (T.2.1 _ twi_530).2
theorem twi_538 : (538, 51, 8400) ∈ tw_arr := List.mem_of_getElem? (i := 18) rfl
/-- nodeKind -/
theorem twk_538 {h : om_H} {m : Nat} (T : TW h m) : kd h (fR h 538 m) = 51 := (T.2.1 _ twi_538).1
theorem twn_538 {h : om_H} {m : Nat} (T : TW h m) : an h (fR h 538 m) = 8400 := (T.2.1 _ twi_538).2
theorem twi_542 : (542, 51, 8400) ∈ tw_arr := List.mem_of_getElem? (i := 19) rfl
/-- nodeToken -/
theorem twk_542 {h : om_H} {m : Nat} (T : TW h m) : kd h (fR h 542 m) = 51 := (T.2.1 _ twi_542).1
theorem twn_542 {h : om_H} {m : Nat} (T : TW h m) : an h (fR h 542 m) = 8400 := (T.2.1 _ twi_542).2
theorem twi_546 : (546, 51, 8400) ∈ tw_arr := List.mem_of_getElem? (i := 20) rfl
/-- nodeA -/
theorem twk_546 {h : om_H} {m : Nat} (T : TW h m) : kd h (fR h 546 m) = 51 := (T.2.1 _ twi_546).1
theorem twn_546 {h : om_H} {m : Nat} (T : TW h m) : an h (fR h 546 m) = 8400 := (T.2.1 _ twi_546).2
theorem twi_550 : (550, 51, 8400) ∈ tw_arr := List.mem_of_getElem? (i := 21) rfl
/-- nodeB -/
theorem twk_550 {h : om_H} {m : Nat} (T : TW h m) : kd h (fR h 550 m) = 51 := (T.2.1 _ twi_550).1
theorem twn_550 {h : om_H} {m : Nat} (T : TW h m) : an h (fR h 550 m) = 8400 := (T.2.1 _ twi_550).2
theorem twi_554 : (554, 51, 8400) ∈ tw_arr := List.mem_of_getElem? (i := 22) rfl
/-- nodeC -/
theorem twk_554 {h : om_H} {m : Nat} (T : TW h m) : kd h (fR h 554 m) = 51 := (T.2.1 _ twi_554).1
theorem twn_554 {h : om_H} {m : Nat} (T : TW h m) : an h (fR h 554 m) = 8400 := (T.2.1 _ twi_554).2
theorem twi_558 : (558, 51, 8400) ∈ tw_arr := List.mem_of_getElem? (i := 23) rfl
/-- nodeD -/
theorem twk_558 {h : om_H} {m : Nat} (T : TW h m) : kd h (fR h 558 m) = 51 := (T.2.1 _ twi_558).1
theorem twn_558 {h : om_H} {m : Nat} (T : TW h m) : an h (fR h 558 m) = 8400 := (T.2.1 _ twi_558).2
theorem twi_562 : (562, 51, 8400) ∈ tw_arr := List.mem_of_getElem? (i := 24) rfl
/-- nodeNext -/
theorem twk_562 {h : om_H} {m : Nat} (T : TW h m) : kd h (fR h 562 m) = 51 := (T.2.1 _ twi_562).1
theorem twn_562 {h : om_H} {m : Nat} (T : TW h m) : an h (fR h 562 m) = 8400 := (T.2.1 _ twi_562).2
theorem twi_570 : (570, 51, 700) ∈ tw_arr := List.mem_of_getElem? (i := 25) rfl
/-- declKind -/
theorem twk_570 {h : om_H} {m : Nat} (T : TW h m) : kd h (fR h 570 m) = 51 := (T.2.1 _ twi_570).1
theorem twn_570 {h : om_H} {m : Nat} (T : TW h m) : an h (fR h 570 m) = 700 := (T.2.1 _ twi_570).2
theorem twi_574 : (574, 51, 700) ∈ tw_arr := List.mem_of_getElem? (i := 26) rfl
/-- declFirst -/
theorem twk_574 {h : om_H} {m : Nat} (T : TW h m) : kd h (fR h 574 m) = 51 := (T.2.1 _ twi_574).1
theorem twn_574 {h : om_H} {m : Nat} (T : TW h m) : an h (fR h 574 m) = 700 := (T.2.1 _ twi_574).2
theorem twi_578 : (578, 51, 700) ∈ tw_arr := List.mem_of_getElem? (i := 27) rfl
/-- declToken -/
theorem twk_578 {h : om_H} {m : Nat} (T : TW h m) : kd h (fR h 578 m) = 51 := (T.2.1 _ twi_578).1
theorem twn_578 {h : om_H} {m : Nat} (T : TW h m) : an h (fR h 578 m) = 700 := (T.2.1 _ twi_578).2
theorem twi_582 : (582, 51, 700) ∈ tw_arr := List.mem_of_getElem? (i := 28) rfl
/-- declA -/
theorem twk_582 {h : om_H} {m : Nat} (T : TW h m) : kd h (fR h 582 m) = 51 := (T.2.1 _ twi_582).1
theorem twn_582 {h : om_H} {m : Nat} (T : TW h m) : an h (fR h 582 m) = 700 := (T.2.1 _ twi_582).2
theorem twi_586 : (586, 51, 700) ∈ tw_arr := List.mem_of_getElem? (i := 29) rfl
/-- declB -/
theorem twk_586 {h : om_H} {m : Nat} (T : TW h m) : kd h (fR h 586 m) = 51 := (T.2.1 _ twi_586).1
theorem twn_586 {h : om_H} {m : Nat} (T : TW h m) : an h (fR h 586 m) = 700 := (T.2.1 _ twi_586).2
theorem twi_590 : (590, 51, 700) ∈ tw_arr := List.mem_of_getElem? (i := 30) rfl
/-- declC -/
theorem twk_590 {h : om_H} {m : Nat} (T : TW h m) : kd h (fR h 590 m) = 51 := (T.2.1 _ twi_590).1
theorem twn_590 {h : om_H} {m : Nat} (T : TW h m) : an h (fR h 590 m) = 700 := (T.2.1 _ twi_590).2
theorem twi_594 : (594, 51, 700) ∈ tw_arr := List.mem_of_getElem? (i := 31) rfl
/-- declAll -/
theorem twk_594 {h : om_H} {m : Nat} (T : TW h m) : kd h (fR h 594 m) = 51 := (T.2.1 _ twi_594).1
theorem twn_594 {h : om_H} {m : Nat} (T : TW h m) : an h (fR h 594 m) = 700 := (T.2.1 _ twi_594).2
theorem twi_598 : (598, 51, 700) ∈ tw_arr := List.mem_of_getElem? (i := 32) rfl
/-- declMany -/
theorem twk_598 {h : om_H} {m : Nat} (T : TW h m) : kd h (fR h 598 m) = 51 := (T.2.1 _ twi_598).1
theorem twn_598 {h : om_H} {m : Nat} (T : TW h m) : an h (fR h 598 m) = 700 := (T.2.1 _ twi_598).2
theorem twi_602 : (602, 51, 700) ∈ tw_arr := List.mem_of_getElem? (i := 33) rfl
/-- declList -/
theorem twk_602 {h : om_H} {m : Nat} (T : TW h m) : kd h (fR h 602 m) = 51 := (T.2.1 _ twi_602).1
theorem twn_602 {h : om_H} {m : Nat} (T : TW h m) : an h (fR h 602 m) = 700 := (T.2.1 _ twi_602).2
theorem twi_606 : (606, 51, 700) ∈ tw_arr := List.mem_of_getElem? (i := 34) rfl
/-- declGivens -/
theorem twk_606 {h : om_H} {m : Nat} (T : TW h m) : kd h (fR h 606 m) = 51 := (T.2.1 _ twi_606).1
theorem twn_606 {h : om_H} {m : Nat} (T : TW h m) : an h (fR h 606 m) = 700 := (T.2.1 _ twi_606).2
theorem twi_610 : (610, 51, 700) ∈ tw_arr := List.mem_of_getElem? (i := 35) rfl
/-- declFamily -/
theorem twk_610 {h : om_H} {m : Nat} (T : TW h m) : kd h (fR h 610 m) = 51 := (T.2.1 _ twi_610).1
theorem twn_610 {h : om_H} {m : Nat} (T : TW h m) : an h (fR h 610 m) = 700 := (T.2.1 _ twi_610).2
theorem twi_614 : (614, 51, 700) ∈ tw_arr := List.mem_of_getElem? (i := 36) rfl
/-- declFamilyType -/
theorem twk_614 {h : om_H} {m : Nat} (T : TW h m) : kd h (fR h 614 m) = 51 := (T.2.1 _ twi_614).1
theorem twn_614 {h : om_H} {m : Nat} (T : TW h m) : an h (fR h 614 m) = 700 := (T.2.1 _ twi_614).2
theorem twi_618 : (618, 51, 700) ∈ tw_arr := List.mem_of_getElem? (i := 37) rfl
/-- declType -/
theorem twk_618 {h : om_H} {m : Nat} (T : TW h m) : kd h (fR h 618 m) = 51 := (T.2.1 _ twi_618).1
theorem twn_618 {h : om_H} {m : Nat} (T : TW h m) : an h (fR h 618 m) = 700 := (T.2.1 _ twi_618).2
theorem twi_622 : (622, 51, 700) ∈ tw_arr := List.mem_of_getElem? (i := 38) rfl
/-- declEx -/
theorem twk_622 {h : om_H} {m : Nat} (T : TW h m) : kd h (fR h 622 m) = 51 := (T.2.1 _ twi_622).1
theorem twn_622 {h : om_H} {m : Nat} (T : TW h m) : an h (fR h 622 m) = 700 := (T.2.1 _ twi_622).2
theorem twi_630 : (630, 51, 2100) ∈ tw_arr := List.mem_of_getElem? (i := 39) rfl
/-- greatIs -/
theorem twk_630 {h : om_H} {m : Nat} (T : TW h m) : kd h (fR h 630 m) = 51 := (T.2.1 _ twi_630).1
theorem twn_630 {h : om_H} {m : Nat} (T : TW h m) : an h (fR h 630 m) = 2100 := (T.2.1 _ twi_630).2
theorem twi_634 : (634, 51, 2100) ∈ tw_arr := List.mem_of_getElem? (i := 40) rfl
/-- greatWhich -/
theorem twk_634 {h : om_H} {m : Nat} (T : TW h m) : kd h (fR h 634 m) = 51 := (T.2.1 _ twi_634).1
theorem twn_634 {h : om_H} {m : Nat} (T : TW h m) : an h (fR h 634 m) = 2100 := (T.2.1 _ twi_634).2
theorem twi_638 : (638, 51, 2100) ∈ tw_arr := List.mem_of_getElem? (i := 41) rfl
/-- termIs -/
theorem twk_638 {h : om_H} {m : Nat} (T : TW h m) : kd h (fR h 638 m) = 51 := (T.2.1 _ twi_638).1
theorem twn_638 {h : om_H} {m : Nat} (T : TW h m) : an h (fR h 638 m) = 2100 := (T.2.1 _ twi_638).2
theorem twi_642 : (642, 51, 2100) ∈ tw_arr := List.mem_of_getElem? (i := 42) rfl
/-- termWhich -/
theorem twk_642 {h : om_H} {m : Nat} (T : TW h m) : kd h (fR h 642 m) = 51 := (T.2.1 _ twi_642).1
theorem twn_642 {h : om_H} {m : Nat} (T : TW h m) : an h (fR h 642 m) = 2100 := (T.2.1 _ twi_642).2
theorem twi_658 : (658, 51, 8) ∈ tw_arr := List.mem_of_getElem? (i := 43) rfl
/-- classDecl -/
theorem twk_658 {h : om_H} {m : Nat} (T : TW h m) : kd h (fR h 658 m) = 51 := (T.2.1 _ twi_658).1
theorem twn_658 {h : om_H} {m : Nat} (T : TW h m) : an h (fR h 658 m) = 8 := (T.2.1 _ twi_658).2
theorem twi_662 : (662, 51, 8) ∈ tw_arr := List.mem_of_getElem? (i := 44) rfl
/-- className -/
theorem twk_662 {h : om_H} {m : Nat} (T : TW h m) : kd h (fR h 662 m) = 51 := (T.2.1 _ twi_662).1
theorem twn_662 {h : om_H} {m : Nat} (T : TW h m) : an h (fR h 662 m) = 8 := (T.2.1 _ twi_662).2
theorem twi_666 : (666, 51, 8) ∈ tw_arr := List.mem_of_getElem? (i := 45) rfl
/-- classOf -/
theorem twk_666 {h : om_H} {m : Nat} (T : TW h m) : kd h (fR h 666 m) = 51 := (T.2.1 _ twi_666).1
theorem twn_666 {h : om_H} {m : Nat} (T : TW h m) : an h (fR h 666 m) = 8 := (T.2.1 _ twi_666).2
theorem twi_670 : (670, 51, 8) ∈ tw_arr := List.mem_of_getElem? (i := 46) rfl
/-- classAbove -/
theorem twk_670 {h : om_H} {m : Nat} (T : TW h m) : kd h (fR h 670 m) = 51 := (T.2.1 _ twi_670).1
theorem twn_670 {h : om_H} {m : Nat} (T : TW h m) : an h (fR h 670 m) = 8 := (T.2.1 _ twi_670).2
theorem twi_674 : (674, 51, 8) ∈ tw_arr := List.mem_of_getElem? (i := 47) rfl
/-- classFamily -/
theorem twk_674 {h : om_H} {m : Nat} (T : TW h m) : kd h (fR h 674 m) = 51 := (T.2.1 _ twi_674).1
theorem twn_674 {h : om_H} {m : Nat} (T : TW h m) : an h (fR h 674 m) = 8 := (T.2.1 _ twi_674).2
theorem twi_678 : (678, 51, 8) ∈ tw_arr := List.mem_of_getElem? (i := 48) rfl
/-- methodMany -/
theorem twk_678 {h : om_H} {m : Nat} (T : TW h m) : kd h (fR h 678 m) = 51 := (T.2.1 _ twi_678).1
theorem twn_678 {h : om_H} {m : Nat} (T : TW h m) : an h (fR h 678 m) = 8 := (T.2.1 _ twi_678).2
theorem twi_682 : (682, 51, 32) ∈ tw_arr := List.mem_of_getElem? (i := 49) rfl
/-- methodName -/
theorem twk_682 {h : om_H} {m : Nat} (T : TW h m) : kd h (fR h 682 m) = 51 := (T.2.1 _ twi_682).1
theorem twn_682 {h : om_H} {m : Nat} (T : TW h m) : an h (fR h 682 m) = 32 := (T.2.1 _ twi_682).2
theorem twi_686 : (686, 51, 32) ∈ tw_arr := List.mem_of_getElem? (i := 50) rfl
/-- methodType -/
theorem twk_686 {h : om_H} {m : Nat} (T : TW h m) : kd h (fR h 686 m) = 51 := (T.2.1 _ twi_686).1
theorem twn_686 {h : om_H} {m : Nat} (T : TW h m) : an h (fR h 686 m) = 32 := (T.2.1 _ twi_686).2
theorem twi_690 : (690, 51, 20) ∈ tw_arr := List.mem_of_getElem? (i := 51) rfl
/-- instanceDecl -/
theorem twk_690 {h : om_H} {m : Nat} (T : TW h m) : kd h (fR h 690 m) = 51 := (T.2.1 _ twi_690).1
theorem twn_690 {h : om_H} {m : Nat} (T : TW h m) : an h (fR h 690 m) = 20 := (T.2.1 _ twi_690).2
theorem twi_694 : (694, 51, 20) ∈ tw_arr := List.mem_of_getElem? (i := 52) rfl
/-- instanceClass -/
theorem twk_694 {h : om_H} {m : Nat} (T : TW h m) : kd h (fR h 694 m) = 51 := (T.2.1 _ twi_694).1
theorem twn_694 {h : om_H} {m : Nat} (T : TW h m) : an h (fR h 694 m) = 20 := (T.2.1 _ twi_694).2
theorem twi_698 : (698, 51, 20) ∈ tw_arr := List.mem_of_getElem? (i := 53) rfl
/-- instanceCon -/
theorem twk_698 {h : om_H} {m : Nat} (T : TW h m) : kd h (fR h 698 m) = 51 := (T.2.1 _ twi_698).1
theorem twn_698 {h : om_H} {m : Nat} (T : TW h m) : an h (fR h 698 m) = 20 := (T.2.1 _ twi_698).2
theorem twi_702 : (702, 51, 20) ∈ tw_arr := List.mem_of_getElem? (i := 54) rfl
/-- headMany -/
theorem twk_702 {h : om_H} {m : Nat} (T : TW h m) : kd h (fR h 702 m) = 51 := (T.2.1 _ twi_702).1
theorem twn_702 {h : om_H} {m : Nat} (T : TW h m) : an h (fR h 702 m) = 20 := (T.2.1 _ twi_702).2
theorem twi_706 : (706, 51, 40) ∈ tw_arr := List.mem_of_getElem? (i := 55) rfl
/-- headName -/
theorem twk_706 {h : om_H} {m : Nat} (T : TW h m) : kd h (fR h 706 m) = 51 := (T.2.1 _ twi_706).1
theorem twn_706 {h : om_H} {m : Nat} (T : TW h m) : an h (fR h 706 m) = 40 := (T.2.1 _ twi_706).2
theorem twi_710 : (710, 51, 20) ∈ tw_arr := List.mem_of_getElem? (i := 56) rfl
/-- conditionMany -/
theorem twk_710 {h : om_H} {m : Nat} (T : TW h m) : kd h (fR h 710 m) = 51 := (T.2.1 _ twi_710).1
theorem twn_710 {h : om_H} {m : Nat} (T : TW h m) : an h (fR h 710 m) = 20 := (T.2.1 _ twi_710).2
theorem twi_714 : (714, 51, 80) ∈ tw_arr := List.mem_of_getElem? (i := 57) rfl
/-- conditionClass -/
theorem twk_714 {h : om_H} {m : Nat} (T : TW h m) : kd h (fR h 714 m) = 51 := (T.2.1 _ twi_714).1
theorem twn_714 {h : om_H} {m : Nat} (T : TW h m) : an h (fR h 714 m) = 80 := (T.2.1 _ twi_714).2
theorem twi_718 : (718, 51, 80) ∈ tw_arr := List.mem_of_getElem? (i := 58) rfl
/-- conditionName -/
theorem twk_718 {h : om_H} {m : Nat} (T : TW h m) : kd h (fR h 718 m) = 51 := (T.2.1 _ twi_718).1
theorem twn_718 {h : om_H} {m : Nat} (T : TW h m) : an h (fR h 718 m) = 80 := (T.2.1 _ twi_718).2
theorem twi_722 : (722, 51, 20) ∈ tw_arr := List.mem_of_getElem? (i := 59) rfl
/-- familyType -/
theorem twk_722 {h : om_H} {m : Nat} (T : TW h m) : kd h (fR h 722 m) = 51 := (T.2.1 _ twi_722).1
theorem twn_722 {h : om_H} {m : Nat} (T : TW h m) : an h (fR h 722 m) = 20 := (T.2.1 _ twi_722).2
theorem twi_726 : (726, 51, 80) ∈ tw_arr := List.mem_of_getElem? (i := 60) rfl
/-- lineEx -/
theorem twk_726 {h : om_H} {m : Nat} (T : TW h m) : kd h (fR h 726 m) = 51 := (T.2.1 _ twi_726).1
theorem twn_726 {h : om_H} {m : Nat} (T : TW h m) : an h (fR h 726 m) = 80 := (T.2.1 _ twi_726).2
theorem twi_730 : (730, 51, 24) ∈ tw_arr := List.mem_of_getElem? (i := 61) rfl
/-- functionDecl -/
theorem twk_730 {h : om_H} {m : Nat} (T : TW h m) : kd h (fR h 730 m) = 51 := (T.2.1 _ twi_730).1
theorem twn_730 {h : om_H} {m : Nat} (T : TW h m) : an h (fR h 730 m) = 24 := (T.2.1 _ twi_730).2
theorem twi_734 : (734, 51, 24) ∈ tw_arr := List.mem_of_getElem? (i := 62) rfl
/-- functionName -/
theorem twk_734 {h : om_H} {m : Nat} (T : TW h m) : kd h (fR h 734 m) = 51 := (T.2.1 _ twi_734).1
theorem twn_734 {h : om_H} {m : Nat} (T : TW h m) : an h (fR h 734 m) = 24 := (T.2.1 _ twi_734).2
theorem twi_738 : (738, 51, 24) ∈ tw_arr := List.mem_of_getElem? (i := 63) rfl
/-- allMany -/
theorem twk_738 {h : om_H} {m : Nat} (T : TW h m) : kd h (fR h 738 m) = 51 := (T.2.1 _ twi_738).1
theorem twn_738 {h : om_H} {m : Nat} (T : TW h m) : an h (fR h 738 m) = 24 := (T.2.1 _ twi_738).2
theorem twi_742 : (742, 51, 96) ∈ tw_arr := List.mem_of_getElem? (i := 64) rfl
/-- allName -/
theorem twk_742 {h : om_H} {m : Nat} (T : TW h m) : kd h (fR h 742 m) = 51 := (T.2.1 _ twi_742).1
theorem twn_742 {h : om_H} {m : Nat} (T : TW h m) : an h (fR h 742 m) = 96 := (T.2.1 _ twi_742).2
theorem twi_746 : (746, 51, 24) ∈ tw_arr := List.mem_of_getElem? (i := 65) rfl
/-- givenMany -/
theorem twk_746 {h : om_H} {m : Nat} (T : TW h m) : kd h (fR h 746 m) = 51 := (T.2.1 _ twi_746).1
theorem twn_746 {h : om_H} {m : Nat} (T : TW h m) : an h (fR h 746 m) = 24 := (T.2.1 _ twi_746).2
theorem twi_750 : (750, 51, 96) ∈ tw_arr := List.mem_of_getElem? (i := 66) rfl
/-- givenClass -/
theorem twk_750 {h : om_H} {m : Nat} (T : TW h m) : kd h (fR h 750 m) = 51 := (T.2.1 _ twi_750).1
theorem twn_750 {h : om_H} {m : Nat} (T : TW h m) : an h (fR h 750 m) = 96 := (T.2.1 _ twi_750).2
theorem twi_754 : (754, 51, 96) ∈ tw_arr := List.mem_of_getElem? (i := 67) rfl
/-- givenName -/
theorem twk_754 {h : om_H} {m : Nat} (T : TW h m) : kd h (fR h 754 m) = 51 := (T.2.1 _ twi_754).1
theorem twn_754 {h : om_H} {m : Nat} (T : TW h m) : an h (fR h 754 m) = 96 := (T.2.1 _ twi_754).2
theorem twi_758 : (758, 51, 96) ∈ tw_arr := List.mem_of_getElem? (i := 68) rfl
/-- givenType -/
theorem twk_758 {h : om_H} {m : Nat} (T : TW h m) : kd h (fR h 758 m) = 51 := (T.2.1 _ twi_758).1
theorem twn_758 {h : om_H} {m : Nat} (T : TW h m) : an h (fR h 758 m) = 96 := (T.2.1 _ twi_758).2
theorem twi_762 : (762, 51, 24) ∈ tw_arr := List.mem_of_getElem? (i := 69) rfl
/-- functionType -/
theorem twk_762 {h : om_H} {m : Nat} (T : TW h m) : kd h (fR h 762 m) = 51 := (T.2.1 _ twi_762).1
theorem twn_762 {h : om_H} {m : Nat} (T : TW h m) : an h (fR h 762 m) = 24 := (T.2.1 _ twi_762).2
theorem twi_770 : (770, 53, 2100) ∈ tw_arr := List.mem_of_getElem? (i := 70) rfl
/-- greatTold -/
theorem twk_770 {h : om_H} {m : Nat} (T : TW h m) : kd h (fR h 770 m) = 53 := (T.2.1 _ twi_770).1
theorem twn_770 {h : om_H} {m : Nat} (T : TW h m) : an h (fR h 770 m) = 2100 := (T.2.1 _ twi_770).2
theorem twi_774 : (774, 53, 2100) ∈ tw_arr := List.mem_of_getElem? (i := 71) rfl
/-- termTold -/
theorem twk_774 {h : om_H} {m : Nat} (T : TW h m) : kd h (fR h 774 m) = 53 := (T.2.1 _ twi_774).1
theorem twn_774 {h : om_H} {m : Nat} (T : TW h m) : an h (fR h 774 m) = 2100 := (T.2.1 _ twi_774).2
theorem twi_778 : (778, 51, 1100) ∈ tw_arr := List.mem_of_getElem? (i := 72) rfl
/-- scope -/
theorem twk_778 {h : om_H} {m : Nat} (T : TW h m) : kd h (fR h 778 m) = 51 := (T.2.1 _ twi_778).1
theorem twn_778 {h : om_H} {m : Nat} (T : TW h m) : an h (fR h 778 m) = 1100 := (T.2.1 _ twi_778).2
theorem twi_782 : (782, 51, 600) ∈ tw_arr := List.mem_of_getElem? (i := 73) rfl
/-- bound -/
theorem twk_782 {h : om_H} {m : Nat} (T : TW h m) : kd h (fR h 782 m) = 51 := (T.2.1 _ twi_782).1
theorem twn_782 {h : om_H} {m : Nat} (T : TW h m) : an h (fR h 782 m) = 600 := (T.2.1 _ twi_782).2
theorem twi_798 : (798, 51, 4) ∈ tw_arr := List.mem_of_getElem? (i := 74) rfl
/-- envClass -/
theorem twk_798 {h : om_H} {m : Nat} (T : TW h m) : kd h (fR h 798 m) = 51 := (T.2.1 _ twi_798).1
theorem twn_798 {h : om_H} {m : Nat} (T : TW h m) : an h (fR h 798 m) = 4 := (T.2.1 _ twi_798).2
theorem twi_802 : (802, 51, 4) ∈ tw_arr := List.mem_of_getElem? (i := 75) rfl
/-- envName -/
theorem twk_802 {h : om_H} {m : Nat} (T : TW h m) : kd h (fR h 802 m) = 51 := (T.2.1 _ twi_802).1
theorem twn_802 {h : om_H} {m : Nat} (T : TW h m) : an h (fR h 802 m) = 4 := (T.2.1 _ twi_802).2
theorem twi_806 : (806, 51, 4) ∈ tw_arr := List.mem_of_getElem? (i := 76) rfl
/-- envType -/
theorem twk_806 {h : om_H} {m : Nat} (T : TW h m) : kd h (fR h 806 m) = 51 := (T.2.1 _ twi_806).1
theorem twn_806 {h : om_H} {m : Nat} (T : TW h m) : an h (fR h 806 m) = 4 := (T.2.1 _ twi_806).2
theorem twi_830 : (830, 51, 4) ∈ tw_arr := List.mem_of_getElem? (i := 77) rfl
/-- putName -/
theorem twk_830 {h : om_H} {m : Nat} (T : TW h m) : kd h (fR h 830 m) = 51 := (T.2.1 _ twi_830).1
theorem twn_830 {h : om_H} {m : Nat} (T : TW h m) : an h (fR h 830 m) = 4 := (T.2.1 _ twi_830).2
theorem twi_834 : (834, 51, 4) ∈ tw_arr := List.mem_of_getElem? (i := 78) rfl
/-- putThing -/
theorem twk_834 {h : om_H} {m : Nat} (T : TW h m) : kd h (fR h 834 m) = 51 := (T.2.1 _ twi_834).1
theorem twn_834 {h : om_H} {m : Nat} (T : TW h m) : an h (fR h 834 m) = 4 := (T.2.1 _ twi_834).2
theorem twi_842 : (842, 51, 8400) ∈ tw_arr := List.mem_of_getElem? (i := 79) rfl
/-- nodeOf -/
theorem twk_842 {h : om_H} {m : Nat} (T : TW h m) : kd h (fR h 842 m) = 51 := (T.2.1 _ twi_842).1
theorem twn_842 {h : om_H} {m : Nat} (T : TW h m) : an h (fR h 842 m) = 8400 := (T.2.1 _ twi_842).2
theorem twi_846 : (846, 51, 8400) ∈ tw_arr := List.mem_of_getElem? (i := 80) rfl
/-- nodeCast -/
theorem twk_846 {h : om_H} {m : Nat} (T : TW h m) : kd h (fR h 846 m) = 51 := (T.2.1 _ twi_846).1
theorem twn_846 {h : om_H} {m : Nat} (T : TW h m) : an h (fR h 846 m) = 8400 := (T.2.1 _ twi_846).2
theorem twi_850 : (850, 51, 4200) ∈ tw_arr := List.mem_of_getElem? (i := 81) rfl
/-- spine -/
theorem twk_850 {h : om_H} {m : Nat} (T : TW h m) : kd h (fR h 850 m) = 51 := (T.2.1 _ twi_850).1
theorem twn_850 {h : om_H} {m : Nat} (T : TW h m) : an h (fR h 850 m) = 4200 := (T.2.1 _ twi_850).2
theorem twi_854 : (854, 51, 600) ∈ tw_arr := List.mem_of_getElem? (i := 82) rfl
/-- boundType -/
theorem twk_854 {h : om_H} {m : Nat} (T : TW h m) : kd h (fR h 854 m) = 51 := (T.2.1 _ twi_854).1
theorem twn_854 {h : om_H} {m : Nat} (T : TW h m) : an h (fR h 854 m) = 600 := (T.2.1 _ twi_854).2
theorem twi_878 : (878, 51, 7) ∈ tw_arr := List.mem_of_getElem? (i := 83) rfl
/-- alwaysType -/
theorem twk_878 {h : om_H} {m : Nat} (T : TW h m) : kd h (fR h 878 m) = 51 := (T.2.1 _ twi_878).1
theorem twn_878 {h : om_H} {m : Nat} (T : TW h m) : an h (fR h 878 m) = 7 := (T.2.1 _ twi_878).2
theorem twi_894 : (894, 50, 80400) ∈ tw_arr := List.mem_of_getElem? (i := 84) rfl
/-- terms -/
theorem twk_894 {h : om_H} {m : Nat} (T : TW h m) : kd h (fR h 894 m) = 50 := (T.2.1 _ twi_894).1
theorem twn_894 {h : om_H} {m : Nat} (T : TW h m) : an h (fR h 894 m) = 80400 := (T.2.1 _ twi_894).2
theorem twi_898 : (898, 51, 125) ∈ tw_arr := List.mem_of_getElem? (i := 85) rfl
/-- termStart -/
theorem twk_898 {h : om_H} {m : Nat} (T : TW h m) : kd h (fR h 898 m) = 51 := (T.2.1 _ twi_898).1
theorem twn_898 {h : om_H} {m : Nat} (T : TW h m) : an h (fR h 898 m) = 125 := (T.2.1 _ twi_898).2
theorem twi_902 : (902, 51, 125) ∈ tw_arr := List.mem_of_getElem? (i := 86) rfl
/-- termSize -/
theorem twk_902 {h : om_H} {m : Nat} (T : TW h m) : kd h (fR h 902 m) = 51 := (T.2.1 _ twi_902).1
theorem twn_902 {h : om_H} {m : Nat} (T : TW h m) : an h (fR h 902 m) = 125 := (T.2.1 _ twi_902).2
theorem twi_914 : (914, 51, 4100) ∈ tw_arr := List.mem_of_getElem? (i := 87) rfl
/-- aroundOf -/
theorem twk_914 {h : om_H} {m : Nat} (T : TW h m) : kd h (fR h 914 m) = 51 := (T.2.1 _ twi_914).1
theorem twn_914 {h : om_H} {m : Nat} (T : TW h m) : an h (fR h 914 m) = 4100 := (T.2.1 _ twi_914).2
theorem twi_918 : (918, 51, 4100) ∈ tw_arr := List.mem_of_getElem? (i := 88) rfl
/-- deepOf -/
theorem twk_918 {h : om_H} {m : Nat} (T : TW h m) : kd h (fR h 918 m) = 51 := (T.2.1 _ twi_918).1
theorem twn_918 {h : om_H} {m : Nat} (T : TW h m) : an h (fR h 918 m) = 4100 := (T.2.1 _ twi_918).2
theorem twi_922 : (922, 52, 4100) ∈ tw_arr := List.mem_of_getElem? (i := 89) rfl
/-- boundTo -/
theorem twk_922 {h : om_H} {m : Nat} (T : TW h m) : kd h (fR h 922 m) = 52 := (T.2.1 _ twi_922).1
theorem twn_922 {h : om_H} {m : Nat} (T : TW h m) : an h (fR h 922 m) = 4100 := (T.2.1 _ twi_922).2
theorem twi_930 : (930, 52, 4100) ∈ tw_arr := List.mem_of_getElem? (i := 90) rfl
/-- cellOne -/
theorem twk_930 {h : om_H} {m : Nat} (T : TW h m) : kd h (fR h 930 m) = 52 := (T.2.1 _ twi_930).1
theorem twn_930 {h : om_H} {m : Nat} (T : TW h m) : an h (fR h 930 m) = 4100 := (T.2.1 _ twi_930).2
theorem twi_934 : (934, 52, 4100) ∈ tw_arr := List.mem_of_getElem? (i := 91) rfl
/-- cellTwo -/
theorem twk_934 {h : om_H} {m : Nat} (T : TW h m) : kd h (fR h 934 m) = 52 := (T.2.1 _ twi_934).1
theorem twn_934 {h : om_H} {m : Nat} (T : TW h m) : an h (fR h 934 m) = 4100 := (T.2.1 _ twi_934).2
theorem twi_938 : (938, 51, 4100) ∈ tw_arr := List.mem_of_getElem? (i := 92) rfl
/-- cellNode -/
theorem twk_938 {h : om_H} {m : Nat} (T : TW h m) : kd h (fR h 938 m) = 51 := (T.2.1 _ twi_938).1
theorem twn_938 {h : om_H} {m : Nat} (T : TW h m) : an h (fR h 938 m) = 4100 := (T.2.1 _ twi_938).2
theorem twi_942 : (942, 51, 4100) ∈ tw_arr := List.mem_of_getElem? (i := 93) rfl
/-- cellEnv -/
theorem twk_942 {h : om_H} {m : Nat} (T : TW h m) : kd h (fR h 942 m) = 51 := (T.2.1 _ twi_942).1
theorem twn_942 {h : om_H} {m : Nat} (T : TW h m) : an h (fR h 942 m) = 4100 := (T.2.1 _ twi_942).2
theorem twi_946 : (946, 51, 4100) ∈ tw_arr := List.mem_of_getElem? (i := 94) rfl
/-- cellOwner -/
theorem twk_946 {h : om_H} {m : Nat} (T : TW h m) : kd h (fR h 946 m) = 51 := (T.2.1 _ twi_946).1
theorem twn_946 {h : om_H} {m : Nat} (T : TW h m) : an h (fR h 946 m) = 4100 := (T.2.1 _ twi_946).2
theorem twi_950 : (950, 52, 4100) ∈ tw_arr := List.mem_of_getElem? (i := 95) rfl
/-- cellRow -/
theorem twk_950 {h : om_H} {m : Nat} (T : TW h m) : kd h (fR h 950 m) = 52 := (T.2.1 _ twi_950).1
theorem twn_950 {h : om_H} {m : Nat} (T : TW h m) : an h (fR h 950 m) = 4100 := (T.2.1 _ twi_950).2
theorem twi_958 : (958, 51, 4100) ∈ tw_arr := List.mem_of_getElem? (i := 96) rfl
/-- dictionaryOf -/
theorem twk_958 {h : om_H} {m : Nat} (T : TW h m) : kd h (fR h 958 m) = 51 := (T.2.1 _ twi_958).1
theorem twn_958 {h : om_H} {m : Nat} (T : TW h m) : an h (fR h 958 m) = 4100 := (T.2.1 _ twi_958).2
theorem twi_962 : (962, 52, 4100) ∈ tw_arr := List.mem_of_getElem? (i := 97) rfl
/-- dictionaryRow -/
theorem twk_962 {h : om_H} {m : Nat} (T : TW h m) : kd h (fR h 962 m) = 52 := (T.2.1 _ twi_962).1
theorem twn_962 {h : om_H} {m : Nat} (T : TW h m) : an h (fR h 962 m) = 4100 := (T.2.1 _ twi_962).2
theorem twi_970 : (970, 51, 300) ∈ tw_arr := List.mem_of_getElem? (i := 98) rfl
/-- frameKind -/
theorem twk_970 {h : om_H} {m : Nat} (T : TW h m) : kd h (fR h 970 m) = 51 := (T.2.1 _ twi_970).1
theorem twn_970 {h : om_H} {m : Nat} (T : TW h m) : an h (fR h 970 m) = 300 := (T.2.1 _ twi_970).2
theorem twi_974 : (974, 51, 300) ∈ tw_arr := List.mem_of_getElem? (i := 99) rfl
/-- frameNode -/
theorem twk_974 {h : om_H} {m : Nat} (T : TW h m) : kd h (fR h 974 m) = 51 := (T.2.1 _ twi_974).1
theorem twn_974 {h : om_H} {m : Nat} (T : TW h m) : an h (fR h 974 m) = 300 := (T.2.1 _ twi_974).2
theorem twi_978 : (978, 51, 300) ∈ tw_arr := List.mem_of_getElem? (i := 100) rfl
/-- frameEnv -/
theorem twk_978 {h : om_H} {m : Nat} (T : TW h m) : kd h (fR h 978 m) = 51 := (T.2.1 _ twi_978).1
theorem twn_978 {h : om_H} {m : Nat} (T : TW h m) : an h (fR h 978 m) = 300 := (T.2.1 _ twi_978).2
theorem twi_982 : (982, 51, 300) ∈ tw_arr := List.mem_of_getElem? (i := 101) rfl
/-- frameOwner -/
theorem twk_982 {h : om_H} {m : Nat} (T : TW h m) : kd h (fR h 982 m) = 51 := (T.2.1 _ twi_982).1
theorem twn_982 {h : om_H} {m : Nat} (T : TW h m) : an h (fR h 982 m) = 300 := (T.2.1 _ twi_982).2
theorem twi_986 : (986, 52, 300) ∈ tw_arr := List.mem_of_getElem? (i := 102) rfl
/-- frameThing -/
theorem twk_986 {h : om_H} {m : Nat} (T : TW h m) : kd h (fR h 986 m) = 52 := (T.2.1 _ twi_986).1
theorem twn_986 {h : om_H} {m : Nat} (T : TW h m) : an h (fR h 986 m) = 300 := (T.2.1 _ twi_986).2
theorem twi_990 : (990, 52, 300) ∈ tw_arr := List.mem_of_getElem? (i := 103) rfl
/-- frameRow -/
theorem twk_990 {h : om_H} {m : Nat} (T : TW h m) : kd h (fR h 990 m) = 52 := (T.2.1 _ twi_990).1
theorem twn_990 {h : om_H} {m : Nat} (T : TW h m) : an h (fR h 990 m) = 300 := (T.2.1 _ twi_990).2
theorem twi_1018 : (1018, 50, 400) ∈ tw_arr := List.mem_of_getElem? (i := 104) rfl
/-- showing -/
theorem twk_1018 {h : om_H} {m : Nat} (T : TW h m) : kd h (fR h 1018 m) = 50 := (T.2.1 _ twi_1018).1
theorem twn_1018 {h : om_H} {m : Nat} (T : TW h m) : an h (fR h 1018 m) = 400 := (T.2.1 _ twi_1018).2
theorem twi_1042 : (1042, 51, 33600) ∈ tw_arr := List.mem_of_getElem? (i := 105) rfl
/-- givenAsOf -/
theorem twk_1042 {h : om_H} {m : Nat} (T : TW h m) : kd h (fR h 1042 m) = 51 := (T.2.1 _ twi_1042).1
theorem twn_1042 {h : om_H} {m : Nat} (T : TW h m) : an h (fR h 1042 m) = 33600 := (T.2.1 _ twi_1042).2
theorem twi_1046 : (1046, 51, 33600) ∈ tw_arr := List.mem_of_getElem? (i := 106) rfl
/-- givenOut -/
theorem twk_1046 {h : om_H} {m : Nat} (T : TW h m) : kd h (fR h 1046 m) = 51 := (T.2.1 _ twi_1046).1
theorem twn_1046 {h : om_H} {m : Nat} (T : TW h m) : an h (fR h 1046 m) = 33600 := (T.2.1 _ twi_1046).2
theorem twi_1054 : (1054, 51, 16000) ∈ tw_arr := List.mem_of_getElem? (i := 107) rfl
/-- wantClass -/
theorem twk_1054 {h : om_H} {m : Nat} (T : TW h m) : kd h (fR h 1054 m) = 51 := (T.2.1 _ twi_1054).1
theorem twn_1054 {h : om_H} {m : Nat} (T : TW h m) : an h (fR h 1054 m) = 16000 := (T.2.1 _ twi_1054).2
theorem twi_1058 : (1058, 51, 16000) ∈ tw_arr := List.mem_of_getElem? (i := 108) rfl
/-- wantFrom -/
theorem twk_1058 {h : om_H} {m : Nat} (T : TW h m) : kd h (fR h 1058 m) = 51 := (T.2.1 _ twi_1058).1
theorem twn_1058 {h : om_H} {m : Nat} (T : TW h m) : an h (fR h 1058 m) = 16000 := (T.2.1 _ twi_1058).2
theorem twi_1062 : (1062, 51, 16000) ∈ tw_arr := List.mem_of_getElem? (i := 109) rfl
/-- wantInstance -/
theorem twk_1062 {h : om_H} {m : Nat} (T : TW h m) : kd h (fR h 1062 m) = 51 := (T.2.1 _ twi_1062).1
theorem twn_1062 {h : om_H} {m : Nat} (T : TW h m) : an h (fR h 1062 m) = 16000 := (T.2.1 _ twi_1062).2
theorem twi_1066 : (1066, 51, 16000) ∈ tw_arr := List.mem_of_getElem? (i := 110) rfl
/-- wantType -/
theorem twk_1066 {h : om_H} {m : Nat} (T : TW h m) : kd h (fR h 1066 m) = 51 := (T.2.1 _ twi_1066).1
theorem twn_1066 {h : om_H} {m : Nat} (T : TW h m) : an h (fR h 1066 m) = 16000 := (T.2.1 _ twi_1066).2
theorem twi_1070 : (1070, 51, 16000) ∈ tw_arr := List.mem_of_getElem? (i := 111) rfl
/-- wantOwner -/
theorem twk_1070 {h : om_H} {m : Nat} (T : TW h m) : kd h (fR h 1070 m) = 51 := (T.2.1 _ twi_1070).1
theorem twn_1070 {h : om_H} {m : Nat} (T : TW h m) : an h (fR h 1070 m) = 16000 := (T.2.1 _ twi_1070).2
theorem twi_1074 : (1074, 52, 16000) ∈ tw_arr := List.mem_of_getElem? (i := 112) rfl
/-- wantRow -/
theorem twk_1074 {h : om_H} {m : Nat} (T : TW h m) : kd h (fR h 1074 m) = 52 := (T.2.1 _ twi_1074).1
theorem twn_1074 {h : om_H} {m : Nat} (T : TW h m) : an h (fR h 1074 m) = 16000 := (T.2.1 _ twi_1074).2
theorem twi_1078 : (1078, 51, 16000) ∈ tw_arr := List.mem_of_getElem? (i := 113) rfl
/-- wantDone -/
theorem twk_1078 {h : om_H} {m : Nat} (T : TW h m) : kd h (fR h 1078 m) = 51 := (T.2.1 _ twi_1078).1
theorem twn_1078 {h : om_H} {m : Nat} (T : TW h m) : an h (fR h 1078 m) = 16000 := (T.2.1 _ twi_1078).2
theorem twi_1082 : (1082, 51, 64000) ∈ tw_arr := List.mem_of_getElem? (i := 114) rfl
/-- wantGot -/
theorem twk_1082 {h : om_H} {m : Nat} (T : TW h m) : kd h (fR h 1082 m) = 51 := (T.2.1 _ twi_1082).1
theorem twn_1082 {h : om_H} {m : Nat} (T : TW h m) : an h (fR h 1082 m) = 64000 := (T.2.1 _ twi_1082).2
