set_option maxRecDepth 100000
/-! WORDS of the grammar in the component -/
def wkT : List (Int × List Int) := [(5, [99, 108, 97, 115, 115]), (6, [105, 110, 115, 116, 97, 110, 99, 101]), (7, [116, 121, 112, 101]), (8, [102, 111, 114, 97, 108, 108]), (9, [105, 102]), (10, [116, 104, 101, 110]), (11, [101, 108, 115, 101]), (12, [108, 101, 116]), (13, [105, 110]), (14, [99, 97, 115, 101]), (15, [111, 102])]
theorem wk_iff {w : List Int} : ∀ p ∈ wkT, (wordK w = p.1 ↔ w = p.2) := by
  intro p hp
  constructor
  · intro e
    have key : wordK w = 2 ∨ (wordK w, w) ∈ wkT := by
      unfold wordK
      repeat' (split; · rename_i q; right; rw [q]; simp [wkT])
      left; rfl
    have h2 : wordK w ≠ 2 := by
      rw [e]
      simp only [wkT, List.mem_cons, List.not_mem_nil, or_false] at hp
      rcases hp with rfl | rfl | rfl | rfl | rfl | rfl | rfl | rfl | rfl | rfl | rfl <;> decide
    rcases key with key | key
    · exact absurd key h2
    · rw [e] at key
      simp only [wkT, List.mem_cons, List.not_mem_nil, or_false] at hp key
      rcases hp with rfl | rfl | rfl | rfl | rfl | rfl | rfl | rfl | rfl | rfl | rfl <;> simpa using key
  · intro e
    rw [e]
    simp only [wkT, List.mem_cons, List.not_mem_nil, or_false] at hp
    rcases hp with rfl | rfl | rfl | rfl | rfl | rfl | rfl | rfl | rfl | rfl | rfl <;> decide
theorem tk_word {L : List Int} (h : 5 ≤ (tk L).1 ∧ (tk L).1 ≤ 15) : (tk L).1 = wordK (L.take (tk L).2) := by
  cases L with
  | nil => simp [tk] at h
  | cons c r =>
    by_cases cl : (cSm c || cGr c) = true
    · rw [tk_al cl] at h ⊢
      simp only at h ⊢
      split at h
      · omega
      · rename_i h1
        split at h
        · omega
        · rename_i h2
          rw [if_neg h1, if_neg h2]
    · by_cases cd : cDg c = true
      · rw [tk_dg cl cd] at h
        simp only at h
        split at h <;> omega
      · have hc : cSm c = false ∧ cGr c = false ∧ cDg c = false := by
          simp only [Bool.or_eq_true, not_or, Bool.not_eq_true] at cl cd
          exact ⟨cl.1, cl.2, cd⟩
        rw [tk_sg hc] at h
        split at h
        · omega
        · split at h
          · omega
          · split at h
            · rename_i q; have := cSg_r q; omega
            · omega
theorem u8_map {L : List Int} (h : ∀ x ∈ L, 0 ≤ x ∧ x ≤ 255) : L.map u8 = L := by
  induction L with
  | nil => rfl
  | cons x r ih =>
    simp only [List.map_cons, List.cons.injEq]
    refine ⟨?_, ih (fun y hy => h y (by simp [hy]))⟩
    have := h x (by simp)
    unfold u8; omega
theorem u8_u8 (x : Int) : u8 (u8 x) = u8 x := by unfold u8; omega
/-- raw bytes against plain ASCII ones -/
theorem u8_raw {L M : List Int} (hL : ∀ x ∈ L, -128 ≤ x ∧ x ≤ 127) (hM : ∀ x ∈ M, 0 ≤ x ∧ x ≤ 127) : L.map u8 = M ↔ L = M := by
  constructor
  · intro e
    subst e
    have : ∀ x ∈ L, u8 x = x := by
      intro x hx
      have h1 := hL x hx
      have h2 := hM (u8 x) (List.mem_map_of_mem hx)
      unfold u8 at *; omega
    calc L = L.map id := (List.map_id L).symm
      _ = L.map u8 := List.map_congr_left (fun x hx => (this x hx).symm)
  · intro e
    rw [e]
    exact u8_map (fun x hx => by have := hM x hx; omega)
section LW5
variable {G : om_G} {h : om_H} {t : Nat} {S : List Int} {i : Nat} {n : Int}
theorem tokw_u8 (S : List Int) (i : Nat) : ((S.map u8).drop (tokq S i)).take (tokn S i) = (tokw S i).map u8 := by
  unfold tokw tokq tokn
  rw [← List.map_drop, ← List.map_take]
theorem Cst_bytes (H : Cst G h t S i n) : ∀ x ∈ tokw S i, -128 ≤ x ∧ x ≤ 127 := fun x hx => H.1.1.2.1.2.2.2.2 x (List.mem_of_mem_drop (List.mem_of_mem_take hx))
theorem c_isS (H : Cst G h t S i n) (hk : tokk S i ≠ 0) {j : Nat} {bs : List Int} (hb : om_sb[j]? = some bs) : C_14_is G t j h = some (if tokw S i = bs then 1 else 0) := by
  have hm := om_sb_r bs (List.mem_of_getElem? hb)
  rw [c_is H.1.1 (Cst_q H) (Cst_n H hk) hb (tok_le S i), tokw_u8]
  have := u8_raw (Cst_bytes H) hm
  by_cases c : tokw S i = bs
  · rw [if_pos c, if_pos (this.mpr c)]
  · rw [if_neg c, if_neg (fun z => c (this.mp z))]
theorem c_isWord2 (hG : om_okG G) (H : Cst G h t S i n) {j : Nat} {kk : Int} {bs : List Int} (hb : om_sb[j]? = some bs) (hk : (kk, bs) ∈ wkT) : C_14_isWord_2 G t j h = some (if tokk S i = kk then 1 else 0) := by
  have hr := tokk_r S i
  have h6 := kE_6 hr.1
  have hK := Cst_kind hG H (e := 6) (by decide)
  have hkk : 5 ≤ kk ∧ kk ≤ 15 := by
    simp only [wkT, List.mem_cons, List.not_mem_nil, or_false, Prod.mk.injEq] at hk
    omega
  unfold C_14_isWord_2 C_14_isWord_2_23
  rw [gd_pos (Cst_kd H), gd_pos (Cst_kd H)]
  by_cases c : 5 ≤ tokk S i ∧ tokk S i ≤ 15
  · rw [if_neg (fun z => z (hK.mpr (h6.mpr c))), c_isS H (by omega) hb]
    simp only [Option.bind_some]
    have e : tokk S i = wordK (((S.map u8).drop (tokq S i)).take (tokn S i)) := tk_word c
    rw [tokw_u8] at e
    have hw := wk_iff (w := (tokw S i).map u8) (kk, bs) hk
    have hm := om_sb_r bs (List.mem_of_getElem? hb)
    have h8 := u8_raw (Cst_bytes H) hm
    by_cases c2 : tokw S i = bs
    · rw [if_pos c2, if_neg (by decide), gd_pos (.inr trivial), if_pos (by rw [e]; exact hw.mpr (h8.mpr c2))]
    · rw [if_neg c2, if_pos rfl, gd_pos (.inl trivial), if_neg]
      intro z
      rw [e] at z
      exact c2 (h8.mp (hw.mp z))
  · rw [if_pos (fun z => c (h6.mp (hK.mp z))), gd_pos (.inl rfl), if_neg (by omega)]
theorem c_passes (hG : om_okG G) (H : Cst G h t S i n) {j : Nat} {kk : Int} {bs : List Int} (hb : om_sb[j]? = some bs) (hk : (kk, bs) ∈ wkT) :
    (tokk S i = kk → ∃ h', C_14_passes G t j h = some (1, h') ∧ Cst G h' t S (i + 1) n ∧ onlyT t h h') ∧ (tokk S i ≠ kk → C_14_passes G t j h = some (0, h)) := by
  have hkk : 5 ≤ kk ∧ kk ≤ 15 := by
    simp only [wkT, List.mem_cons, List.not_mem_nil, or_false, Prod.mk.injEq] at hk
    omega
  unfold C_14_passes C_14_passes_14
  rw [gd_pos (Cst_kd H), c_isWord2 hG H hb hk]
  simp only [Option.bind_some]
  refine ⟨fun c => ?_, fun c => ?_⟩
  · obtain ⟨h', e1, e2, e3⟩ := c_next H (by omega)
    refine ⟨h', ?_, e2, e3⟩
    rw [if_pos c, if_neg (by decide), gd_pos (Cst_kd H), e1]
    simp only [Option.bind_some]
    exact gd_pos (by simp)
  · rw [if_neg c, if_pos rfl, gd_pos (.inl rfl)]
theorem c_need3 (hG : om_okG G) (H : Cst G h t S i n) {j : Nat} {kk : Int} {bs : List Int} (hb : om_sb[j]? = some bs) (hk : (kk, bs) ∈ wkT) :
    (tokk S i = kk → ∃ h', C_14_need_3 G t j h = some (.inr (), h') ∧ Cst G h' t S (i + 1) n ∧ onlyT t h h') ∧ (tokk S i ≠ kk → ∃ a h', C_14_need_3 G t j h = some (.inl a, h') ∧ thr t S i h h' a) := by
  obtain ⟨p1, p2⟩ := c_passes hG H hb hk
  unfold C_14_need_3
  rw [gd_pos (Cst_kd H)]
  refine ⟨fun c => ?_, fun c => ?_⟩
  · obtain ⟨h', e1, e2, e3⟩ := p1 c
    refine ⟨h', ?_, e2, e3⟩
    rw [e1]
    simp
  · obtain ⟨h', e1, e2, e3, e4, e5, e6⟩ := c_wrong H
    refine ⟨hz h, h', ?_, e2, e4, by omega, by omega⟩
    rw [p2 c]
    simp only [Option.bind_some]
    rw [if_neg (by simp), gd_pos (Cst_kd H), e1]
    simp only [Option.bind_some]
    rw [gd_pos e4.2.2.2]
/-- a name that has to be just this -/
theorem c_needName (hG : om_okG G) (H : Cst G h t S i n) {j : Nat} {bs : List Int} (hb : om_sb[j]? = some bs) :
    (tokk S i = 2 ∧ tokw S i = bs → ∃ h', C_14_needName G t j h = some (.inr (), h') ∧ Cst G h' t S (i + 1) n ∧ onlyT t h h') ∧ (¬ (tokk S i = 2 ∧ tokw S i = bs) → ∃ a h', C_14_needName G t j h = some (.inl a, h') ∧ thr t S i h h' a) := by
  have hK := Cst_kind hG H (e := 2) (by decide)
  have hs := kE_s (tokk_r S i).1 (e := 2) (by omega)
  obtain ⟨h1, e1, e2, e3, e4, e5, e6⟩ := c_wrong H
  have hw : C_14_needName_18 G t h = some (.inl (hz h), h1) := by
    unfold C_14_needName_18
    rw [gd_pos (Cst_kd H), e1]
    simp only [Option.bind_some]
    rw [gd_pos e4.2.2.2]
  unfold C_14_needName
  rw [gd_pos (Cst_kd H), gd_pos (Cst_kd H), hw]
  refine ⟨fun ⟨c1, c2⟩ => ?_, fun c => ?_⟩
  · obtain ⟨h', f1, f2, f3⟩ := c_next H (by omega)
    refine ⟨h', ?_, f2, f3⟩
    rw [if_neg (fun z => z (hK.mpr (hs.mpr c1))), c_isS H (by omega) hb, if_pos c2]
    simp only [Option.bind_some]
    rw [if_pos (by decide), gd_pos (Cst_kd H), f1]
    rfl
  · refine ⟨hz h, h1, ?_, e2, e4, by omega, by omega⟩
    by_cases c1 : tokk S i = 2
    · rw [if_neg (fun z => z (hK.mpr (hs.mpr c1))), c_isS H (by omega) hb, if_neg (fun z => c ⟨c1, z⟩)]
      simp
    · rw [if_pos (fun z => c1 (hs.mp (hK.mp z)))]
theorem c_isAtom (hG : om_okG G) (H : Cst G h t S i n) : C_0_isAtom G t h = some (if tokk S i = 2 ∨ tokk S i = 4 ∨ tokk S i = 40 then 1 else 0) := by
  have h2 := Cst_kind hG H (e := 2) (by decide)
  have h4 := Cst_kind hG H (e := 4) (by decide)
  have s2 := kE_s (tokk_r S i).1 (e := 2) (by decide)
  have s4 := kE_s (tokk_r S i).1 (e := 4) (by decide)
  unfold C_0_isAtom C_0_isAtom_34
  rw [gd_pos (Cst_kd H), gd_pos (Cst_kd H), gd_pos (Cst_kd H), c_isSign hG H (v := 40) (.inr (.inr (by omega)))]
  rw [show sc 40 = 40 from by decide]
  by_cases c2 : tokk S i = 2
  · rw [if_pos (h2.mpr (s2.mpr c2)), gd_pos (.inr rfl), if_pos (.inl c2)]
  · rw [if_neg (fun z => c2 (s2.mp (h2.mp z)))]
    by_cases c4 : tokk S i = 4
    · rw [if_pos (h4.mpr (s4.mpr c4)), gd_pos (.inr rfl), if_pos (.inr (.inl c4))]
    · rw [if_neg (fun z => c4 (s4.mp (h4.mp z)))]
      simp only [Option.bind_some]
      by_cases c40 : tokk S i = 40
      · rw [if_pos c40, if_neg (by decide), gd_pos (.inr trivial), if_pos (.inr (.inr c40))]
      · rw [if_neg c40, if_pos rfl, gd_pos (.inl trivial), if_neg (by omega)]
theorem tk_dig {L : List Int} (h : (tk L).1 = 4) : ∀ x ∈ L.take (tk L).2, 48 ≤ x ∧ x ≤ 57 := by
  cases L with
  | nil => simp [tk] at h
  | cons c r =>
    by_cases cl : (cSm c || cGr c) = true
    · rw [tk_al cl] at h
      simp only at h
      have := wordK_r ((c :: r).take ((c :: r).takeWhile cAl).length)
      split at h
      · omega
      · split at h <;> omega
    · by_cases cd : cDg c = true
      · rw [tk_dg cl cd]
        simp only
        intro x hx
        have e : (c :: r).take ((c :: r).takeWhile cDg).length = (c :: r).takeWhile cDg := by
          have := List.prefix_iff_eq_take.mp (List.takeWhile_prefix (l := c :: r) cDg)
          exact this.symm
        rw [e] at hx
        have hq : cDg x = true := by
          have := List.all_takeWhile (p := cDg) (l := c :: r)
          exact List.all_eq_true.mp this x hx
        unfold cDg at hq
        simpa using hq
      · have hc : cSm c = false ∧ cGr c = false ∧ cDg c = false := by
          simp only [Bool.or_eq_true, not_or, Bool.not_eq_true] at cl cd
          exact ⟨cl.1, cl.2, cd⟩
        rw [tk_sg hc] at h
        split at h
        · omega
        · split at h
          · omega
          · split at h
            · rename_i q; have := cSg_r q; omega
            · omega
/-- the value of a number -/
theorem c_numV (H : Cst G h t S i n) (hk : tokk S i = 4) : fI h 1144 t = numV 0 (tokw S i) := by
  have a4 : tokk S i = 4 → fI h 1144 t = numV 0 (((S.map u8).drop (tokq S i)).take (tokn S i)) := H.1.2.2.2.2.2.2.2.2
  rw [a4 hk, tokw_u8]
  have d : ∀ x ∈ (tokw S i).map u8, 48 ≤ x ∧ x ≤ 57 := by
    rw [← tokw_u8]
    exact tk_dig hk
  rw [(u8_raw (Cst_bytes H) (fun x hx => by have := d x hx; omega)).mp rfl |>.symm]
end LW5
