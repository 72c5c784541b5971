set_option maxRecDepth 100000
/-! where the token behind a place begins; its kind and length; where the next one is looked for -/
def tq (U : List Int) (p : Nat) : Nat := p + ((U.drop p).takeWhile cSp).length
def tK (U : List Int) (p : Nat) : Int × Nat := tk (U.drop (tq U p))
def tn (U : List Int) (p : Nat) : Nat := tq U p + (tK U p).2
/-- of a kind the component's one -/
def kE (k : Int) : Nat := if k ≤ 4 then k.toNat else if k ≤ 15 then 6 else 5
/-- a Tokens object stands at the token behind a place -/
def tkA (G : om_G) (h : om_H) (t : Nat) (S : List Int) (p : Nat) : Prop :=
  tkT h t S ∧ fI h 1136 t = (tq (S.map u8) p : Int) ∧ fR h 1134 t = om_cA G (kE (tK (S.map u8) p).1) ∧ fI h 1140 t = (if (tK (S.map u8) p).1 = 0 then 1 else ((tK (S.map u8) p).2 : Int)) ∧
  fI h 1128 t = (if (tK (S.map u8) p).1 = 0 then (tq (S.map u8) p : Int) + 1 else (tn (S.map u8) p : Int)) ∧
  ((tK (S.map u8) p).1 = 16 → fI h 1144 t = 257) ∧ ((tK (S.map u8) p).1 = 17 → fI h 1144 t = 256) ∧ (18 ≤ (tK (S.map u8) p).1 → fI h 1144 t = (tK (S.map u8) p).1) ∧
  ((tK (S.map u8) p).1 = 4 → fI h 1144 t = numV 0 (((S.map u8).drop (tq (S.map u8) p)).take (tK (S.map u8) p).2))
theorem wordK_r (w : List Int) : wordK w = 2 ∨ (5 ≤ wordK w ∧ wordK w ≤ 15) := by
  unfold wordK
  repeat' (split; · omega)
  omega
theorem tq_le {U : List Int} {p : Nat} (h : p ≤ U.length) : tq U p ≤ U.length := by
  have := tw_len (p := cSp) (U.drop p)
  simp only [List.length_drop] at this
  unfold tq
  omega
theorem tk_le (L : List Int) : (tk L).2 ≤ L.length := by
  unfold tk
  cases L with
  | nil => simp
  | cons c r =>
    have h1 := tw_len (p := cAl) (c :: r)
    have h2 := tw_len (p := cDg) (c :: r)
    simp only
    split
    · exact h1
    · split
      · exact h2
      · split
        · rename_i q
          cases r with
          | nil => simp at q
          | cons d r => simp
        · split
          · rename_i q
            cases r with
            | nil => simp at q
            | cons d r => simp
          · simp
theorem tn_le {U : List Int} {p : Nat} (h : p ≤ U.length) : tn U p ≤ U.length := by
  have h1 := tq_le h
  have h2 := tk_le (U.drop (tq U p))
  simp only [List.length_drop] at h2
  unfold tn tK
  omega
theorem tk_sg {c : Int} {r : List Int} (hc : cSm c = false ∧ cGr c = false ∧ cDg c = false) : (tk (c :: r)).1 = if c = 45 ∧ r.head? = some 62 then 16 else if c = 61 ∧ r.head? = some 61 then 17 else if cSg c then c else 1 := by
  unfold tk
  simp only [hc.1, hc.2.1, hc.2.2, Bool.or_self, Bool.false_eq_true, if_false]
  by_cases c1 : c = 45 ∧ r.head? = some 62
  · simp [c1]
  · by_cases c2 : c = 61 ∧ r.head? = some 61
    · simp [c2]
    · simp [c1, c2]
theorem cSg_r {c : Int} (h : cSg c = true) : 40 ≤ c := by
  simp only [cSg, List.contains_eq_mem, List.mem_cons, List.not_mem_nil, or_false, decide_eq_true_eq] at h
  omega
theorem sg_val {c : Int} {r : List Int} (hc : cSm c = false ∧ cGr c = false ∧ cDg c = false) : ((tk (c :: r)).1 = 16 → (if c = 61 ∧ r.head? = some 61 then (256 : Int) else if c = 45 ∧ r.head? = some 62 then 257 else c) = 257) ∧ ((tk (c :: r)).1 = 17 → (if c = 61 ∧ r.head? = some 61 then (256 : Int) else if c = 45 ∧ r.head? = some 62 then 257 else c) = 256) ∧ (18 ≤ (tk (c :: r)).1 → (if c = 61 ∧ r.head? = some 61 then (256 : Int) else if c = 45 ∧ r.head? = some 62 then 257 else c) = (tk (c :: r)).1) ∧ (tk (c :: r)).1 ≠ 4 ∧ (tk (c :: r)).1 ≠ 0 := by
  rw [tk_sg hc]
  by_cases a1 : c = 45 ∧ r.head? = some 62
  · have a2 : ¬ (c = 61 ∧ r.head? = some 61) := by omega
    rw [if_pos a1, if_neg a2, if_pos a1]
    decide
  · by_cases a2 : c = 61 ∧ r.head? = some 61
    · rw [if_neg a1, if_pos a2, if_pos a2]
      decide
    · rw [if_neg a1, if_neg a2, if_neg a2, if_neg a1]
      cases hsg : cSg c
      · simp
      · have := cSg_r hsg
        simp
        omega
theorem tk_al {c : Int} {r : List Int} (cl : (cSm c || cGr c) = true) : tk (c :: r) = (if 10 < ((c :: r).takeWhile cAl).length then 1 else if cGr c then 3 else wordK ((c :: r).take ((c :: r).takeWhile cAl).length), ((c :: r).takeWhile cAl).length) := if_pos cl
theorem tk_dg {c : Int} {r : List Int} (cl : ¬ (cSm c || cGr c) = true) (cd : cDg c = true) : tk (c :: r) = (if 6 < ((c :: r).takeWhile cDg).length || (1 < ((c :: r).takeWhile cDg).length && c == 48) then 1 else 4, ((c :: r).takeWhile cDg).length) := (if_neg cl).trans (if_pos cd)
theorem cSg_r2 {c : Int} (h : cSg c = true) : c ≤ 126 := by
  simp only [cSg, List.contains_eq_mem, List.mem_cons, List.not_mem_nil, or_false, decide_eq_true_eq] at h
  omega
section LC3
variable {G : om_G} {h : om_H} {t : Nat} {S : List Int}
theorem c_115 (T : tkT h t S) {q m : Nat} (hq : fI h 1136 t = (q : Int)) (hm : fI h 1140 t = (m : Int)) (hb : q + m ≤ 100000) : C_14_advance_115 G t h = some (sI h 1128 t ((q + m : Nat) : Int)) := by
  unfold C_14_advance_115
  rw [gd_pos T.1, hq, hm, w32_s (by omega) (by omega)]
  rfl
/-- the next token -/
theorem c_adv (T : tkT h t S) {p : Nat} (hp : fI h 1128 t = (p : Int)) (hb : p ≤ S.length) : ∃ h', C_14_advance G t h = some h' ∧ tkA G h' t S p ∧ onlyT t h h' := by
  have hS := T.2.1.2.2.1
  have hq := tq_le (U := S.map u8) (p := p) (by simpa using hb)
  simp only [List.length_map] at hq
  have hsk := c_skip (G := G) _ p h T hp rfl (by omega)
  have hk : ((p + (((S.map u8).drop p).takeWhile cSp).length : Nat) : Int) = (tq (S.map u8) p : Int) := rfl
  rw [hk] at hsk
  have hKd : tK (S.map u8) p = tk ((S.map u8).drop (tq (S.map u8) p)) := rfl
  have hNd : tn (S.map u8) p = tq (S.map u8) p + (tK (S.map u8) p).2 := rfl
  generalize hqd : tq (S.map u8) p = q at hsk hq hKd hNd
  have hlt := tk_le ((S.map u8).drop q)
  simp only [List.length_drop, List.length_map] at hlt
  have T1 : tkT (sI h 1128 t (q : Int)) t S := tkT_sI T (by decide)
  have T2 : tkT (sI (sI h 1128 t (q : Int)) 1136 t (q : Int)) t S := tkT_sI T1 (by decide)
  have T3 : tkT (sI (sI (sI h 1128 t (q : Int)) 1136 t (q : Int)) 1140 t 1) t S := tkT_sI T2 (by decide)
  have O3 : onlyT t h (sI (sI (sI h 1128 t (q : Int)) 1136 t (q : Int)) 1140 t 1) := onlyT_sI (onlyT_sI (onlyT_sI (onlyT_refl t h) (by decide) (by decide)) (by decide) (by decide)) (by decide) (by decide)
  have h36 : fI (sI (sI (sI h 1128 t (q : Int)) 1136 t (q : Int)) 1140 t 1) 1136 t = (q : Int) := by rw [fI_ne (by decide), fI_eq]
  have h40 : fI (sI (sI (sI h 1128 t (q : Int)) 1136 t (q : Int)) 1140 t 1) 1140 t = ((1 : Nat) : Int) := by rw [fI_eq]; rfl
  unfold C_14_advance
  rw [hsk]
  simp only [Option.bind_some]
  rw [gd_pos T1.1, fI_eq, c_at T2 q (by omega)]
  simp only [Option.bind_some]
  unfold C_14_advance_55
  rw [gd_pos T2.1]
  generalize sI (sI (sI h 1128 t (q : Int)) 1136 t (q : Int)) 1140 t 1 = h3 at T3 O3 h36 h40
  cases e : (S.map u8).drop q with
  | nil =>
    have e1 := drop_nil e
    rw [e] at hKd
    have hK0 : tK (S.map u8) p = (0, 0) := hKd
    have T4 : tkT (sR h3 1134 t (om_cA G 0)) t S := tkT_sR T3 (by decide)
    rw [e1.1]
    simp only [Option.getD_none]
    rw [if_neg (by decide)]
    unfold C_14_advance_65
    rw [gd_pos T3.1, c_115 T4 h36 h40 (by omega)]
    refine ⟨_, rfl, ?_, onlyT_sI (onlyT_sR O3 (by decide)) (by decide) (by decide)⟩
    unfold tkA
    rw [hqd, hK0]
    refine ⟨tkT_sI T4 (by decide), ?_, ?_, ?_, ?_, fun z => absurd z (by decide), fun z => absurd z (by decide), fun z => absurd z (by decide), fun z => absurd z (by decide)⟩
    · rw [fI_ne (by decide)]; exact h36
    · exact fR_eq
    · rw [fI_ne (by decide)]; exact h40
    · rw [fI_eq]; rfl
  | cons c r =>
    obtain ⟨e1, e2, e3⟩ := drop_cons e
    simp only [List.length_map] at e3
    have hcr : 0 ≤ c ∧ c ≤ 255 := by
      rw [List.getElem?_map] at e1
      obtain ⟨x, hx1, hx2⟩ := Option.map_eq_some_iff.mp e1
      rw [← hx2]
      exact u8_r x
    rw [e] at hKd hlt
    rw [e1]
    simp only [Option.getD_some]
    rw [if_pos hcr.1]
    unfold C_14_advance_75
    simp only [c_isSmall, c_isGreat, c_isDigit, Option.bind_some]
    by_cases cl : (cSm c || cGr c) = true
    · have hgo : C_14_advance_89 G t h3 = some (sI (sR (sI h3 1140 t (((c :: r).takeWhile cAl).length : Nat)) 1134 t (om_cA G (if 10 < ((c :: r).takeWhile cAl).length then 1 else if cGr c then 3 else if wordK ((c :: r).take ((c :: r).takeWhile cAl).length) = 2 then 2 else 6))) 1128 t ((q + ((c :: r).takeWhile cAl).length : Nat) : Int)) := by
        have hl := tw_len (p := cAl) (c :: r)
        have hlen : (c :: r).length = S.length - q := by rw [← e]; simp
        unfold C_14_advance_89
        rw [gd_pos T3.1, c_name T3 h36 e]
        simp only [Option.bind_some]
        exact c_115 (tkT_sR (tkT_sI T3 (by decide)) (by decide)) (by rw [fI_sR, fI_ne (by decide)]; exact h36) (by rw [fI_sR, fI_eq]) (by omega)
      have hK : tK (S.map u8) p = (if 10 < ((c :: r).takeWhile cAl).length then 1 else if cGr c then 3 else wordK ((c :: r).take ((c :: r).takeWhile cAl).length), ((c :: r).takeWhile cAl).length) := by rw [hKd]; exact tk_al cl
      have hsel : (if (if cSm c = true then (1 : Int) else 0) ≠ 0 then C_14_advance_89 G t h3 else if (if cGr c = true then (1 : Int) else 0) = 0 then if (if cDg c = true then (1 : Int) else 0) = 0 then gd (kd h3 t = 15) ((C_14_sign G t c h3).bind fun p4 => C_14_advance_115 G t p4) else gd (kd h3 t = 15) ((C_14_number G t h3).bind fun p5 => C_14_advance_115 G t p5) else C_14_advance_89 G t h3) = C_14_advance_89 G t h3 := by
        cases hs : cSm c
        · cases hg : cGr c
          · rw [hs, hg] at cl; cases cl
          · simp
        · simp
      rw [hsel, hgo]
      refine ⟨_, rfl, ?_, onlyT_sI (onlyT_sR (onlyT_sI O3 (by decide) (by decide)) (by decide)) (by decide) (by decide)⟩
      have hw := wordK_r ((c :: r).take ((c :: r).takeWhile cAl).length)
      unfold tkA
      rw [hNd, hqd, hK]
      generalize ((c :: r).takeWhile cAl).length = m at hw ⊢
      generalize wordK ((c :: r).take m) = w at hw ⊢
      refine ⟨tkT_sI (tkT_sR (tkT_sI T3 (by decide)) (by decide)) (by decide), ?_, ?_, ?_, ?_, ?_, ?_, ?_, ?_⟩
      · rw [fI_ne (by decide), fI_sR, fI_ne (by decide)]; exact h36
      · rw [fR_sI, fR_eq]
        congr 1
        simp only
        split
        · rfl
        · split
          · rfl
          · unfold kE
            rcases hw with hw | hw
            · rw [if_pos hw, hw]; rfl
            · rw [if_neg (by omega), if_neg (by omega), if_pos hw.2]
      · rw [fI_ne (by decide), fI_sR, fI_eq, if_neg]; simp only; split; · decide
        split; · decide
        omega
      · rw [fI_eq, if_neg]
        simp only; split; · decide
        split; · decide
        omega
      · intro z; exfalso; simp only at z; split at z; · omega
        split at z; · omega
        omega
      · intro z; exfalso; simp only at z; split at z; · omega
        split at z; · omega
        omega
      · intro z; exfalso; simp only at z; split at z; · omega
        split at z; · omega
        omega
      · intro z; exfalso; simp only at z; split at z; · omega
        split at z; · omega
        omega
    · have cl' : cSm c = false ∧ cGr c = false := by simpa using cl
      simp only [cl'.1, cl'.2, Bool.false_eq_true, if_false, ne_eq, not_true_eq_false, if_true]
      cases cd : cDg c
      · simp only [Bool.false_eq_true, if_false, if_true]
        rw [gd_pos T3.1, c_sign T3 h36 e ⟨cl'.1, cl'.2, cd⟩]
        simp only [Option.bind_some]
        have hK1 := tk_sg (c := c) (r := r) ⟨cl'.1, cl'.2, cd⟩
        have hK2 : tK (S.map u8) p = ((tk (c :: r)).1, (tk (c :: r)).2) := hKd
        generalize hv : (if c = 61 ∧ r.head? = some 61 then (256 : Int) else if c = 45 ∧ r.head? = some 62 then 257 else c) = v
        have T5 : tkT (sI (sI (sR h3 1134 t (om_cA G 5)) 1144 t v) 1140 t ((tk (c :: r)).2 : Nat)) t S := tkT_sI (tkT_sI (tkT_sR T3 (by decide)) (by decide)) (by decide)
        have O5 : onlyT t h (sI (sI (sR h3 1134 t (om_cA G 5)) 1144 t v) 1140 t ((tk (c :: r)).2 : Nat)) := onlyT_sI (onlyT_sI (onlyT_sR O3 (by decide)) (by decide) (by decide)) (by decide) (by decide)
        have g36 : fI (sI (sI (sR h3 1134 t (om_cA G 5)) 1144 t v) 1140 t ((tk (c :: r)).2 : Nat)) 1136 t = (q : Int) := by rw [fI_ne (by decide), fI_ne (by decide), fI_sR]; exact h36
        have g40 : fI (sI (sI (sR h3 1134 t (om_cA G 5)) 1144 t v) 1140 t ((tk (c :: r)).2 : Nat)) 1140 t = ((tk (c :: r)).2 : Nat) := fI_eq
        have g44 : fI (sI (sI (sR h3 1134 t (om_cA G 5)) 1144 t v) 1140 t ((tk (c :: r)).2 : Nat)) 1144 t = v := by rw [fI_ne (by decide), fI_eq]
        have g34 : fR (sI (sI (sR h3 1134 t (om_cA G 5)) 1144 t v) 1140 t ((tk (c :: r)).2 : Nat)) 1134 t = om_cA G 5 := by rw [fR_sI, fR_sI, fR_eq]
        generalize sI (sI (sR h3 1134 t (om_cA G 5)) 1144 t v) 1140 t ((tk (c :: r)).2 : Nat) = h5 at T5 O5 g36 g40 g44 g34
        have hend : ∀ h6 E, tkT h6 t S → onlyT t h h6 → fI h6 1136 t = (q : Int) → fI h6 1140 t = ((tk (c :: r)).2 : Nat) → fI h6 1144 t = v → fR h6 1134 t = om_cA G E → E = kE (tk (c :: r)).1 → ∃ h', C_14_advance_115 G t h6 = some h' ∧ tkA G h' t S p ∧ onlyT t h h' := by
          intro h6 E T6 O6 k1 k2 k3 k4 k5
          rw [c_115 T6 k1 k2 (by omega)]
          refine ⟨_, rfl, ?_, onlyT_sI O6 (by decide) (by decide)⟩
          have sv := sg_val (c := c) (r := r) ⟨cl'.1, cl'.2, cd⟩
          rw [hv] at sv
          unfold tkA
          rw [hNd, hqd, hK2]
          simp only
          refine ⟨tkT_sI T6 (by decide), by rw [fI_ne (by decide)]; exact k1, by rw [fR_sI, k4, k5], by rw [fI_ne (by decide), if_neg sv.2.2.2.2]; exact k2, by rw [fI_eq, if_neg sv.2.2.2.2], ?_, ?_, ?_, fun z => absurd z sv.2.2.2.1⟩
          · intro z; rw [fI_ne (by decide), k3]; exact sv.1 z
          · intro z; rw [fI_ne (by decide), k3]; exact sv.2.1 z
          · intro z; rw [fI_ne (by decide), k3]; exact sv.2.2.1 z
        by_cases hsg : cSg c = true
        · rw [if_pos hsg]
          refine hend h5 5 T5 O5 g36 g40 g44 g34 ?_
          have := cSg_r hsg
          rw [hK1]
          unfold kE
          by_cases a1 : c = 45 ∧ r.head? = some 62
          · rw [if_pos a1]; rfl
          · rw [if_neg a1]
            by_cases a2 : c = 61 ∧ r.head? = some 61
            · rw [if_pos a2]; rfl
            · rw [if_neg a2, if_pos hsg, if_neg (by omega), if_neg (by omega)]
        · rw [if_neg hsg]
          refine hend (sR h5 1134 t (om_cA G 1)) 1 (tkT_sR T5 (by decide)) (onlyT_sR O5 (by decide)) g36 g40 g44 fR_eq ?_
          have a1 : ¬ (c = 45 ∧ r.head? = some 62) := fun z => hsg (by rw [z.1]; decide)
          have a2 : ¬ (c = 61 ∧ r.head? = some 61) := fun z => hsg (by rw [z.1]; decide)
          rw [hK1, if_neg a1, if_neg a2, if_neg hsg]
          rfl
      · simp only [if_true, Int.one_ne_zero, if_false]
        obtain ⟨v, n1, n2⟩ := c_number (G := G) T3 h36 e
        have hl := tw_len (p := cDg) (c :: r)
        have hlen : (c :: r).length = S.length - q := by rw [← e]; simp
        have hK : tK (S.map u8) p = (if 6 < ((c :: r).takeWhile cDg).length || (1 < ((c :: r).takeWhile cDg).length && c == 48) then 1 else 4, ((c :: r).takeWhile cDg).length) := by rw [hKd]; exact tk_dg cl cd
        have htake : (c :: r).take ((c :: r).takeWhile cDg).length = (c :: r).takeWhile cDg := (List.prefix_iff_eq_take.mp (List.takeWhile_prefix cDg)).symm
        rw [gd_pos T3.1, n1]
        simp only [Option.bind_some]
        rw [c_115 (tkT_sR (tkT_sI (tkT_sI T3 (by decide)) (by decide)) (by decide)) (q := q) (m := ((c :: r).takeWhile cDg).length) (by rw [fI_sR, fI_ne (by decide), fI_ne (by decide)]; exact h36) (by rw [fI_sR, fI_eq]) (by omega)]
        refine ⟨_, rfl, ?_, onlyT_sI (onlyT_sR (onlyT_sI (onlyT_sI O3 (by decide) (by decide)) (by decide) (by decide)) (by decide)) (by decide) (by decide)⟩
        unfold tkA
        rw [hNd, hqd, hK, e]
        simp only
        rw [htake]
        generalize hb2 : (decide (6 < ((c :: r).takeWhile cDg).length) || (decide (1 < ((c :: r).takeWhile cDg).length) && c == 48)) = b at *
        refine ⟨tkT_sI (tkT_sR (tkT_sI (tkT_sI T3 (by decide)) (by decide)) (by decide)) (by decide), ?_, ?_, ?_, ?_, ?_, ?_, ?_, ?_⟩
        · rw [fI_ne (by decide), fI_sR, fI_ne (by decide), fI_ne (by decide)]; exact h36
        · rw [fR_sI, fR_eq]; cases b <;> rfl
        · rw [fI_ne (by decide), fI_sR, fI_eq, if_neg (by cases b <;> decide)]
        · rw [fI_eq, if_neg (by cases b <;> decide)]
        · cases b <;> simp
        · cases b <;> simp
        · cases b <;> simp
        · intro z
          rw [fI_ne (by decide), fI_sR, fI_ne (by decide), fI_eq]
          refine n2 ?_
          cases b
          · have : ¬ 6 < ((c :: r).takeWhile cDg).length := by intro z; simp [z] at hb2
            omega
          · simp at z
end LC3
