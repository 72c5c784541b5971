set_option maxRecDepth 100000
section LC2
variable {G : om_G} {h : om_H} {t : Nat} {S : List Int}
theorem c_isWord (T : tkT h t S) {q m : Nat} (hq : fI h 1136 t = (q : Int)) (hm : fI h 1140 t = (m : Int)) (hqm : q + m ≤ S.length) : C_14_isWord G t h = some (if wordK (((S.map u8).drop q).take m) = 2 then 0 else 1) := by
  have hi := fun (j : Nat) (b : List Int) (hb : om_sb[j]? = some b) => c_is (G := G) T hq hm hb hqm
  generalize ((S.map u8).drop q).take m = w at hi ⊢
  unfold C_14_isWord C_14_isWord_104
  rw [gd_pos T.1, hi 0 _ rfl, hi 1 _ rfl, hi 2 _ rfl, hi 3 _ rfl, hi 4 _ rfl, hi 5 _ rfl, hi 6 _ rfl, hi 7 _ rfl, hi 8 _ rfl, hi 9 _ rfl, hi 10 _ rfl]
  simp only [Option.bind_some, gd_pos T.1]
  unfold wordK
  by_cases c0 : w = [99, 108, 97, 115, 115]
  · subst c0; simp [gd_T]
  by_cases c1 : w = [105, 110, 115, 116, 97, 110, 99, 101]
  · subst c1; simp [gd_T]
  by_cases c2 : w = [116, 121, 112, 101]
  · subst c2; simp [gd_T]
  by_cases c3 : w = [102, 111, 114, 97, 108, 108]
  · subst c3; simp [gd_T]
  by_cases c4 : w = [105, 102]
  · subst c4; simp [gd_T]
  by_cases c5 : w = [116, 104, 101, 110]
  · subst c5; simp [gd_T]
  by_cases c6 : w = [101, 108, 115, 101]
  · subst c6; simp [gd_T]
  by_cases c7 : w = [108, 101, 116]
  · subst c7; simp [gd_T]
  by_cases c8 : w = [105, 110]
  · subst c8; simp [gd_T]
  by_cases c9 : w = [99, 97, 115, 101]
  · subst c9; simp [gd_T]
  by_cases c10 : w = [111, 102]
  · subst c10; simp [gd_T]
  simp [gd_T, c0, c1, c2, c3, c4, c5, c6, c7, c8, c9, c10]
theorem c_alpha (T : tkT h t S) : ∀ (L : List Int) (p : Nat), (S.map u8).drop p = L → p ≤ 2000 → om_loop (C_14_name_5s G t h) (p : Int) = some ((p + (L.takeWhile cAl).length : Nat) : Int)
  | [], p, e, b => by
    have e1 := drop_nil e
    refine om_loop_out ?_
    unfold C_14_name_5s
    rw [gd_pos T.1, c_at T p (by omega), e1.1]
    simp only [Option.bind_some, Option.getD_none, c_isSmall, c_isGreat, c_isDigit, gd_pos T.1]
    simp [cSm, cGr, cDg]
  | c :: r, p, e, b => by
    obtain ⟨e1, e2, e3⟩ := drop_cons e
    simp only [List.length_map] at e3
    have hS := T.2.1.2.2.1
    have hst : C_14_name_5s G t h (p : Int) = if cAl c then some (.inl ((p + 1 : Nat) : Int)) else some (.inr (p : Int)) := by
      unfold C_14_name_5s
      rw [gd_pos T.1, c_at T p (by omega), e1]
      simp only [Option.bind_some, Option.getD_some, c_isSmall, c_isGreat, c_isDigit, gd_pos T.1]
      rw [w32_s (by omega) (by omega)]
      unfold cAl
      cases cSm c <;> cases cGr c <;> cases cDg c <;> simp
    by_cases ca : cAl c = true
    · rw [if_pos ca] at hst
      rw [om_loop_in hst, c_alpha T r (p + 1) e2 (by omega), List.takeWhile_cons_of_pos ca, List.length_cons]
      congr 2
      omega
    · rw [if_neg ca] at hst
      rw [om_loop_out hst, List.takeWhile_cons_of_neg ca]
      rfl
theorem tw_len {p : Int → Bool} (L : List Int) : (L.takeWhile p).length ≤ L.length := (List.takeWhile_prefix p).length_le
theorem c_name (T : tkT h t S) {q : Nat} {c : Int} {r : List Int} (hq : fI h 1136 t = (q : Int)) (e : (S.map u8).drop q = c :: r) : C_14_name G t h = some (sR (sI h 1140 t (((c :: r).takeWhile cAl).length : Nat)) 1134 t (om_cA G (if 10 < ((c :: r).takeWhile cAl).length then 1 else if cGr c then 3 else if wordK ((c :: r).take ((c :: r).takeWhile cAl).length) = 2 then 2 else 6))) := by
  obtain ⟨e1, e2, e3⟩ := drop_cons e
  simp only [List.length_map] at e3
  have hS := T.2.1.2.2.1
  have hle := tw_len (p := cAl) (c :: r)
  have hlen : (c :: r).length = S.length - q := by rw [← e]; simp
  generalize hm : ((c :: r).takeWhile cAl).length = m at hle ⊢
  unfold C_14_name
  rw [gd_pos T.1, hq, c_alpha T (c :: r) q e (by omega), hm]
  simp only [Option.bind_some]
  have ew : w32 (((q + m : Nat) : Int) - (q : Int)) = (m : Int) := by rw [w32_s (by omega) (by omega)]; omega
  rw [ew, gd_pos T.1]
  have T1 : tkT (sI h 1140 t (m : Int)) t S := tkT_sI T (by decide)
  have h36 : fI (sI h 1140 t (m : Int)) 1136 t = (q : Int) := by rw [fI_ne (by decide)]; exact hq
  have h40 : fI (sI h 1140 t (m : Int)) 1140 t = (m : Int) := by rw [fI_eq]
  by_cases c1 : 10 < m
  · rw [if_neg (by omega), if_pos c1]
    unfold C_14_name_106
    rw [gd_pos T1.1]
  · rw [if_pos (by omega), if_neg c1]
    unfold C_14_name_70 C_14_name_106
    rw [gd_pos T1.1, h36, c_at T1 q (by omega), e1]
    simp only [Option.bind_some, Option.getD_some, c_isGreat, gd_pos T1.1]
    rw [c_isWord T1 h36 h40 (by omega), e]
    simp only [Option.bind_some]
    cases cGr c
    · by_cases c2 : wordK ((c :: r).take m) = 2 <;> simp [c2]
    · simp
/-- the number that digits tell -/
def numV (v : Int) (w : List Int) : Int := w.foldl (fun v c => 10 * v + (c - 48)) v
theorem c_digits {q : Nat} : ∀ (L : List Int) (k : Nat) (h : om_H) (v : Int), tkT h t S → fI h 1136 t = (q : Int) → fI h 1144 t = v → 0 ≤ v → (k ≤ 7 → v < (10 : Int) ^ k) → (S.map u8).drop (q + k) = L → q + k ≤ 2000 →
    ∃ v', om_loop (C_14_number_10s G t) (((q + k : Nat) : Int), h) = some (((q + k + (L.takeWhile cDg).length : Nat) : Int), sI h 1144 t v') ∧ (k + (L.takeWhile cDg).length ≤ 7 → v' = numV v (L.takeWhile cDg))
  | [], k, h, v, T, hq, hv, v0, v1, e, b => by
    have e1 := drop_nil e
    refine ⟨v, ?_, fun _ => rfl⟩
    rw [sI_id hv]
    refine om_loop_out ?_
    unfold C_14_number_10s
    simp only
    rw [gd_pos T.1, c_at T _ (by omega), e1.1]
    simp only [Option.bind_some, Option.getD_none, c_isDigit]
    simp [cDg]
  | c :: r, k, h, v, T, hq, hv, v0, v1, e, b => by
    obtain ⟨e1, e2, e3⟩ := drop_cons e
    simp only [List.length_map] at e3
    have hS := T.2.1.2.2.1
    by_cases cd : cDg c = true
    · have cd' := cd
      simp only [cDg, Bool.and_eq_true, decide_eq_true_eq] at cd'
      rw [List.takeWhile_cons_of_pos cd]
      by_cases c7 : k < 7
      · have hp : v < (10 : Int) ^ k := v1 (by omega)
        have hp6 : (10 : Int) ^ k ≤ 10 ^ 6 := by
          have := Nat.pow_le_pow_right (n := 10) (by omega) (show k ≤ 6 by omega)
          exact_mod_cast this
        have hst : C_14_number_10s G t (((q + k : Nat) : Int), h) = some (.inl (((q + (k + 1) : Nat) : Int), sI h 1144 t (10 * v + (c - 48)))) := by
          unfold C_14_number_10s
          simp only
          rw [gd_pos T.1, c_at T _ (by omega), e1]
          simp only [Option.bind_some, Option.getD_some, c_isDigit, cd, if_true]
          rw [if_neg (by decide), gd_pos T.1, hq, if_neg (by rw [w32_s (by omega) (by omega)]; omega), gd_pos T.1]
          rw [gd_pos T.1, hv, w32_s (x := 10 * v) (by omega) (by omega), w32_s (x := 10 * v + c) (by omega) (by omega), w32_s (by omega) (by omega), w32_s (by omega) (by omega)]
          congr 4
          omega
        have v2 : k + 1 ≤ 7 → 10 * v + (c - 48) < (10 : Int) ^ (k + 1) := by
          intro _
          rw [Int.pow_succ]
          omega
        obtain ⟨v', w1, w2⟩ := c_digits r (k + 1) (sI h 1144 t (10 * v + (c - 48))) (10 * v + (c - 48)) (tkT_sI T (by decide)) (by rw [fI_ne (by decide)]; exact hq) (by rw [fI_eq]) (by omega) v2 (by rw [← Nat.add_assoc]; exact e2) (by omega)
        refine ⟨v', ?_, fun hl => ?_⟩
        · rw [om_loop_in hst, w1, sI_sI, List.length_cons]
          congr 3
          omega
        · rw [List.length_cons] at hl
          rw [w2 (by omega)]
          rfl
      · have hst : C_14_number_10s G t (((q + k : Nat) : Int), h) = some (.inl (((q + (k + 1) : Nat) : Int), h)) := by
          unfold C_14_number_10s
          simp only
          rw [gd_pos T.1, c_at T _ (by omega), e1]
          simp only [Option.bind_some, Option.getD_some, c_isDigit, cd, if_true]
          rw [if_neg (by decide), gd_pos T.1, hq, if_pos (by rw [w32_s (by omega) (by omega)]; omega), w32_s (by omega) (by omega)]
          congr 4
        obtain ⟨v', w1, w2⟩ := c_digits r (k + 1) h v T hq hv v0 (fun z => absurd z (by omega)) (by rw [← Nat.add_assoc]; exact e2) (by omega)
        refine ⟨v', ?_, fun hl => ?_⟩
        · rw [om_loop_in hst, w1, List.length_cons]
          congr 3
          omega
        · rw [List.length_cons] at hl
          omega
    · refine ⟨v, ?_, fun _ => by rw [List.takeWhile_cons_of_neg cd]; rfl⟩
      rw [sI_id hv]
      refine om_loop_out ?_
      unfold C_14_number_10s
      simp only
      rw [gd_pos T.1, c_at T _ (by omega), e1, List.takeWhile_cons_of_neg cd]
      simp only [Option.bind_some, Option.getD_some, c_isDigit]
      simp [cd]
theorem c_number (T : tkT h t S) {q : Nat} {c : Int} {r : List Int} (hq : fI h 1136 t = (q : Int)) (e : (S.map u8).drop q = c :: r) : ∃ v, C_14_number G t h = some (sR (sI (sI h 1144 t v) 1140 t (((c :: r).takeWhile cDg).length : Nat)) 1134 t (om_cA G (if 6 < ((c :: r).takeWhile cDg).length || (1 < ((c :: r).takeWhile cDg).length && c == 48) then 1 else 4))) ∧ (((c :: r).takeWhile cDg).length ≤ 7 → v = numV 0 ((c :: r).takeWhile cDg)) := by
  obtain ⟨e1, e2, e3⟩ := drop_cons e
  simp only [List.length_map] at e3
  have hS := T.2.1.2.2.1
  have hle := tw_len (p := cDg) (c :: r)
  have hlen : (c :: r).length = S.length - q := by rw [← e]; simp
  obtain ⟨v, w1, w2⟩ := c_digits (G := G) (q := q) (c :: r) 0 (sI h 1144 t 0) 0 (tkT_sI T (by decide)) (by rw [fI_ne (by decide)]; exact hq) (by rw [fI_eq]) (by omega) (fun _ => by decide) e (by omega)
  refine ⟨v, ?_, fun hl => w2 (by omega)⟩
  generalize hm : ((c :: r).takeWhile cDg).length = m at hle w1 ⊢
  unfold C_14_number
  rw [gd_pos T.1, hq]
  have w1' : om_loop (C_14_number_10s G t) ((q : Int), sI h 1144 t 0) = some (((q + m : Nat) : Int), sI h 1144 t v) := by
    have := w1
    simp only [Nat.add_zero] at this
    rw [sI_sI] at this
    exact this
  rw [w1']
  simp only [Option.bind_some]
  have h36 : fI (sI h 1144 t v) 1136 t = (q : Int) := by rw [fI_ne (by decide)]; exact hq
  have T0 : tkT (sI h 1144 t v) t S := tkT_sI T (by decide)
  have T1 : tkT (sI (sI h 1144 t v) 1140 t (m : Int)) t S := tkT_sI T0 (by decide)
  have ew : w32 (((q + m : Nat) : Int) - (q : Int)) = (m : Int) := by rw [w32_s (by omega) (by omega)]; omega
  rw [gd_pos T0.1, h36, ew]
  by_cases c1 : 6 < m
  · rw [if_pos (by omega)]
    unfold C_14_number_108
    rw [gd_pos T1.1]
    simp [c1]
  · rw [if_neg (by omega)]
    unfold C_14_number_78 C_14_number_108
    rw [gd_pos T1.1, fI_eq]
    by_cases c2 : 1 < m
    · rw [if_neg (by omega), gd_pos T1.1, fI_ne (by decide), h36, c_at T1 q (by omega), e1]
      simp only [Option.bind_some, Option.getD_some, gd_pos T1.1]
      by_cases c3 : c = 48 <;> simp [c1, c2, c3]
    · rw [if_pos (by omega)]
      simp only [gd_pos T1.1]
      simp [c1, c2]
theorem c_signIs (T : tkT h t S) (c : Int) (c40 : c ≠ 40) : C_14_sign_84 G t c h = some (if cSg c then h else sR h 1134 t (om_cA G 1)) := by
  unfold C_14_sign_84 C_14_sign_179 cSg
  simp only [gd_pos T.1]
  by_cases c41 : c = 41
  · subst c41; simp
  by_cases c123 : c = 123
  · subst c123; simp
  by_cases c125 : c = 125
  · subst c125; simp
  by_cases c59 : c = 59
  · subst c59; simp
  by_cases c58 : c = 58
  · subst c58; simp
  by_cases c61 : c = 61
  · subst c61; simp
  by_cases c46 : c = 46
  · subst c46; simp
  by_cases c44 : c = 44
  · subst c44; simp
  by_cases c92 : c = 92
  · subst c92; simp
  by_cases c64 : c = 64
  · subst c64; simp
  by_cases c126 : c = 126
  · subst c126; simp
  by_cases c43 : c = 43
  · subst c43; simp
  by_cases c45 : c = 45
  · subst c45; simp
  by_cases c42 : c = 42
  · subst c42; simp
  by_cases c60 : c = 60
  · subst c60; simp
  simp [c40, c41, c123, c125, c59, c58, c61, c46, c44, c92, c64, c126, c43, c45, c42, c60]
theorem c_sign (T : tkT h t S) {q : Nat} {c : Int} {r : List Int} (hq : fI h 1136 t = (q : Int)) (e : (S.map u8).drop q = c :: r) (hc : cSm c = false ∧ cGr c = false ∧ cDg c = false) :
    C_14_sign G t c h = some (let h1 := sI (sI (sR h 1134 t (om_cA G 5)) 1144 t (if c = 61 ∧ r.head? = some 61 then 256 else if c = 45 ∧ r.head? = some 62 then 257 else c)) 1140 t ((tk (c :: r)).2 : Nat); if cSg c then h1 else sR h1 1134 t (om_cA G 1)) := by
  obtain ⟨e1, e2, e3⟩ := drop_cons e
  simp only [List.length_map] at e3
  have hS := T.2.1.2.2.1
  have hcr : 0 ≤ c ∧ c ≤ 255 := by
    rw [List.getElem?_map] at e1
    obtain ⟨x, hx1, hx2⟩ := Option.map_eq_some_iff.mp e1
    rw [← hx2]
    exact u8_r x
  have hd : ((S.map u8)[q + 1]?).getD (-1) = (r.head?).getD (-1) := by
    rw [← e2, List.head?_drop]
  have T1 : tkT (sR h 1134 t (om_cA G 5)) t S := tkT_sR T (by decide)
  unfold C_14_sign
  rw [gd_pos T.1, hq, w32_s (by omega) (by omega), show (q : Int) + 1 = ((q + 1 : Nat) : Int) by omega, c_at T (q + 1) (by omega), hd]
  simp only [Option.bind_some, gd_pos T.1]
  have e75 : ∀ (v : Int) (l : Int), C_14_sign_75 G t c t l (sI (sR h 1134 t (om_cA G 5)) 1144 t v) = some (if cSg c then sI (sI (sR h 1134 t (om_cA G 5)) 1144 t v) 1140 t l else sR (sI (sI (sR h 1134 t (om_cA G 5)) 1144 t v) 1140 t l) 1134 t (om_cA G 1)) := by
    intro v l
    have T2 : tkT (sI (sR h 1134 t (om_cA G 5)) 1144 t v) t S := tkT_sI T1 (by decide)
    have T3 : tkT (sI (sI (sR h 1134 t (om_cA G 5)) 1144 t v) 1140 t l) t S := tkT_sI T2 (by decide)
    unfold C_14_sign_75
    rw [gd_pos T2.1]
    by_cases c0 : c = 40
    · rw [if_pos c0]
      unfold C_14_sign_179
      simp [c0, cSg]
    · rw [if_neg c0, c_signIs T3 c c0]
  have e56 : ∀ (v : Int), C_14_sign_56 G t c t v (sR h 1134 t (om_cA G 5)) = C_14_sign_75 G t c t (if v ≤ 255 then 1 else 2) (sI (sR h 1134 t (om_cA G 5)) 1144 t v) := by
    intro v
    unfold C_14_sign_56
    rw [gd_pos ⟨T1.1, T1.1⟩, fI_eq]
    split <;> rfl
  have htk : (tk (c :: r)).2 = if (c = 45 ∧ r.head? = some 62) ∨ (c = 61 ∧ r.head? = some 61) then 2 else 1 := by
    unfold tk
    simp only [hc.1, hc.2.1, hc.2.2, Bool.or_self, Bool.false_eq_true, if_false]
    by_cases c1 : c = 45 ∧ r.head? = some 62
    · simp [c1]
    · by_cases c2 : c = 61 ∧ r.head? = some 61
      · simp [c2]
      · simp [c1, c2]
  unfold C_14_sign_25 C_14_sign_37
  have h61 : (r.head? = some 61) ↔ ((r.head?).getD (-1) = 61) := by cases r <;> simp
  have h62 : (r.head? = some 62) ↔ ((r.head?).getD (-1) = 62) := by cases r <;> simp
  simp only [e56, e75, htk, h61, h62]
  generalize (r.head?).getD (-1) = d
  by_cases c1 : c = 61
  · subst c1
    by_cases c2 : d = 61 <;> simp [c2]
  · by_cases c3 : c = 45
    · subst c3
      by_cases c2 : d = 62 <;> simp [c2]
    · simp [c1, c3, hcr.2]
end LC2
