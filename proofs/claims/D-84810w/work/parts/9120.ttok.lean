set_option maxRecDepth 100000
/-! THE TWIN's TOKENS -/
/-- the text in work -/
def txT (σ : tS) (S : List Int) : Prop := gs σ 420 = (S.length : Int) ∧ S.length ≤ 2000 ∧ (∀ (i : Nat) (x : Int), S[i]? = some x → ga σ 406 i = x) ∧ ∀ x ∈ S, -128 ≤ x ∧ x ≤ 127
section LT1
variable {σ : tS} {S : List Int}
theorem t_b (T : txT σ S) (p : Nat) : T_b (p : Int) σ = some (((S.map u8)[p]?).getD 0) := by
  obtain ⟨n, x3, x4, x5⟩ := T
  unfold T_b
  rw [n]
  by_cases c : p < S.length
  · rw [if_neg (by omega), if_pos ⟨by omega, by omega⟩]
    have e : S[p]? = some S[p] := List.getElem?_eq_getElem c
    have m := x5 S[p] (List.getElem_mem c)
    rw [show ((p : Int)).toNat = p by omega, x4 p _ e, u8_eq m.1 m.2]
    simp [c]
  · rw [if_pos (by omega)]
    simp [c]
theorem t_isSmall (c : Int) : T_isSmall c = some (if cSm c then 1 else 0) := by
  unfold T_isSmall T_isSmall_16 T_isSmall_17 cSm
  by_cases c1 : c < 97
  · rw [if_pos c1]; simp; omega
  · by_cases c2 : 122 < c
    · rw [if_neg c1, if_pos c2]; simp; omega
    · rw [if_neg c1, if_neg c2]; simp; omega
theorem t_isBig (c : Int) : T_isBig c = some (if cGr c then 1 else 0) := by
  unfold T_isBig T_isBig_16 T_isBig_17 cGr
  by_cases c1 : c < 65
  · rw [if_pos c1]; simp; omega
  · by_cases c2 : 90 < c
    · rw [if_neg c1, if_pos c2]; simp; omega
    · rw [if_neg c1, if_neg c2]; simp; omega
theorem t_isDigit (c : Int) : T_isDigit c = some (if cDg c then 1 else 0) := by
  unfold T_isDigit T_isDigit_16 T_isDigit_17 cDg
  by_cases c1 : c < 48
  · rw [if_pos c1]; simp; omega
  · by_cases c2 : 57 < c
    · rw [if_neg c1, if_pos c2]; simp; omega
    · rw [if_neg c1, if_neg c2]; simp; omega
theorem t_alpha (T : txT σ S) (l1 l2 : Int) : ∀ (L : List Int) (p : Nat), (S.map u8).drop p = L → p ≤ 2000 → om_loop (T_scan_52s l1 l2 σ) (p : Int) = some ((p + (L.takeWhile cAl).length : Nat) : Int)
  | [], p, e, b => by
    have e1 := drop_nil e
    refine om_loop_out ?_
    unfold T_scan_52s
    rw [t_b T p, e1.1]
    simp only [Option.bind_some, Option.getD_none, t_isSmall, t_isBig, t_isDigit]
    simp [cSm, cGr, cDg]
  | c :: r, p, e, b => by
    obtain ⟨e1, e2, e3⟩ := drop_cons e
    simp only [List.length_map] at e3
    have hS := T.2.1
    have hst : T_scan_52s l1 l2 σ (p : Int) = if cAl c then some (.inl ((p + 1 : Nat) : Int)) else some (.inr (p : Int)) := by
      unfold T_scan_52s
      rw [t_b T p, e1]
      simp only [Option.bind_some, Option.getD_some, t_isSmall, t_isBig, t_isDigit]
      rw [w32_s (by omega) (by omega)]
      unfold cAl
      cases cSm c <;> cases cGr c <;> cases cDg c <;> simp
    by_cases ca : cAl c = true
    · rw [if_pos ca] at hst
      rw [om_loop_in hst, t_alpha T l1 l2 r (p + 1) e2 (by omega), List.takeWhile_cons_of_pos ca, List.length_cons]
      congr 2
      omega
    · rw [if_neg ca] at hst
      rw [om_loop_out hst, List.takeWhile_cons_of_neg ca]
      rfl
theorem t_digits (T : txT σ S) (l1 l2 : Int) : ∀ (L : List Int) (p : Nat), (S.map u8).drop p = L → p ≤ 2000 → om_loop (T_scan_142s l1 l2 σ) (p : Int) = some ((p + (L.takeWhile cDg).length : Nat) : Int)
  | [], p, e, b => by
    have e1 := drop_nil e
    refine om_loop_out ?_
    unfold T_scan_142s
    rw [t_b T p, e1.1]
    simp only [Option.bind_some, Option.getD_none, t_isDigit]
    simp [cDg]
  | c :: r, p, e, b => by
    obtain ⟨e1, e2, e3⟩ := drop_cons e
    simp only [List.length_map] at e3
    have hS := T.2.1
    have hst : T_scan_142s l1 l2 σ (p : Int) = if cDg c then some (.inl ((p + 1 : Nat) : Int)) else some (.inr (p : Int)) := by
      unfold T_scan_142s
      rw [t_b T p, e1]
      simp only [Option.bind_some, Option.getD_some, t_isDigit]
      rw [w32_s (by omega) (by omega)]
      cases cDg c <;> simp
    by_cases ca : cDg c = true
    · rw [if_pos ca] at hst
      rw [om_loop_in hst, t_digits T l1 l2 r (p + 1) e2 (by omega), List.takeWhile_cons_of_pos ca, List.length_cons]
      congr 2
      omega
    · rw [if_neg ca] at hst
      rw [om_loop_out hst, List.takeWhile_cons_of_neg ca]
      rfl
/-! words as numbers -/
def val8 (v : Int) (w : List Int) : Int := w.foldl (fun v c => 256 * v + c) v
theorem k8 : ((Int32.ofInt 8).toInt64 &&& 63) = 8 := by decide
theorem shl8_or {n b : Nat} (b1 : b < 256) (h1 : 256 * n + b < 9223372036854775808) : or64 (shl64 (n : Int) 8) (b : Int) = 256 * (n : Int) + (b : Int) := by
  unfold or64 shl64
  rw [k8]
  have e1 : (Int64.ofInt (n : Int) <<< (8 : Int64)).toBitVec = BitVec.ofNat 64 (256 * n) := by
    rw [Int64.toBitVec_shiftLeft, Int64.toBitVec_ofInt, BitVec.ofInt_natCast]
    apply BitVec.eq_of_toNat_eq
    have e8 : BitVec.smod (8 : Int64).toBitVec 64 = 8#64 := by decide
    rw [e8, BitVec.shiftLeft_eq', BitVec.toNat_shiftLeft, BitVec.toNat_ofNat, BitVec.toNat_ofNat, Nat.shiftLeft_eq, show 8 % 2 ^ 64 = 8 from rfl, BitVec.toNat_ofNat]
    omega
  have e2 : (Int64.ofInt (n : Int) <<< (8 : Int64)).toInt = (256 * n : Nat) := by
    show (Int64.ofInt (n : Int) <<< (8 : Int64)).toBitVec.toInt = _
    rw [e1, BitVec.toInt_eq_toNat_of_lt (by rw [BitVec.toNat_ofNat]; omega), BitVec.toNat_ofNat]
    omega
  rw [e2]
  show (Int64.ofInt ((256 * n : Nat) : Int) ||| Int64.ofInt (b : Int)).toBitVec.toInt = _
  have e3 : (Int64.ofInt ((256 * n : Nat) : Int) ||| Int64.ofInt (b : Int)).toBitVec = BitVec.ofNat 64 (256 * n + b) := by
    rw [Int64.toBitVec_or, Int64.toBitVec_ofInt, Int64.toBitVec_ofInt, BitVec.ofInt_natCast, BitVec.ofInt_natCast]
    apply BitVec.eq_of_toNat_eq
    have := Nat.shiftLeft_add_eq_or_of_lt (i := 8) (b := b) b1 n
    rw [Nat.shiftLeft_eq] at this
    rw [BitVec.toNat_or, BitVec.toNat_ofNat, BitVec.toNat_ofNat, BitVec.toNat_ofNat, Nat.mod_eq_of_lt (by omega), Nat.mod_eq_of_lt (by omega), Nat.mod_eq_of_lt (by omega)]
    rw [show 256 * n = n * 2 ^ 8 by omega, ← this]
  rw [e3, BitVec.toInt_eq_toNat_of_lt (by rw [BitVec.toNat_ofNat]; omega), BitVec.toNat_ofNat, Nat.mod_eq_of_lt (by omega)]
  omega
theorem t_isThe_loop (T : txT σ S) {q n : Nat} (l3 : Int) (hn : n ≤ 8) (hqn : q + n ≤ S.length) : ∀ (L : List Int) (k : Nat) (v : Int), ((S.map u8).drop (q + k)).take (n - k) = L → k + L.length = n → 0 ≤ v → (v + 1) * 256 ^ L.length ≤ 9223372036854775808 → om_loop (T_isThe_14s (q : Int) (n : Int) l3 σ) (v, (k : Int)) = some (val8 v L)
  | [], k, v, e, hk, v0, hv => by
    refine om_loop_out ?_
    unfold T_isThe_14s
    simp only [List.length_nil] at hk
    rw [if_pos (by simp only; omega)]
    rfl
  | c :: r, k, v, e, hk, v0, hv => by
    have hS := T.2.1
    simp only [List.length_cons] at hk hv
    have hlt : q + k < (S.map u8).length := by simp; omega
    have e0 : (S.map u8).drop (q + k) = (S.map u8)[q + k] :: (S.map u8).drop (q + (k + 1)) := by rw [List.drop_eq_getElem_cons hlt]; simp [Nat.add_assoc]
    rw [e0, show n - k = (n - (k + 1)) + 1 by omega, List.take_succ_cons] at e
    injection e with e1 e2
    have hc : 0 ≤ c ∧ c ≤ 255 := by rw [← e1, List.getElem_map]; exact u8_r _
    have hpow : (1 : Int) ≤ 256 ^ r.length := Int.pow_pos (by omega)
    have hmul : (256 * v + c + 1) * 256 ^ r.length ≤ (v + 1) * 256 ^ (r.length + 1) := by
      have hq : (v + 1) * (256 ^ r.length * 256) = (256 * v + 256) * 256 ^ r.length := by rw [Int.mul_comm (256 ^ r.length) 256, ← Int.mul_assoc, Int.mul_comm (v + 1) 256, Int.mul_add, Int.mul_one]
      rw [Int.pow_succ, hq]
      exact Int.mul_le_mul_of_nonneg_right (by omega) (by omega)
    have hs : 256 * v + c + 1 ≤ 9223372036854775808 := by
      have h1 : (256 * v + c + 1) * 1 ≤ (256 * v + c + 1) * 256 ^ r.length := Int.mul_le_mul_of_nonneg_left hpow (by omega)
      omega
    have hst : T_isThe_14s (q : Int) (n : Int) l3 σ (v, (k : Int)) = some (.inl (256 * v + c, ((k + 1 : Nat) : Int))) := by
      unfold T_isThe_14s
      simp only
      rw [if_neg (by omega), w32_s (by omega) (by omega), show (q : Int) + (k : Int) = ((q + k : Nat) : Int) by omega, t_b T, List.getElem?_eq_getElem hlt, e1]
      simp only [Option.getD_some, Option.bind_some]
      have := shl8_or (n := v.toNat) (b := c.toNat) (by omega) (by omega)
      rw [show ((v.toNat : Nat) : Int) = v by omega, show ((c.toNat : Nat) : Int) = c by omega] at this
      rw [this, w32_s (by omega) (by omega)]
      rfl
    rw [om_loop_in hst, t_isThe_loop T l3 hn hqn r (k + 1) (256 * v + c) (by rw [← Nat.add_assoc]; exact (by rw [← Nat.add_assoc] at e2; exact e2)) (by omega) (by omega) (by omega)]
    rfl
theorem val8_inj : ∀ {L M : List Int}, (∀ x ∈ L, 1 ≤ x ∧ x ≤ 255) → (∀ x ∈ M, 1 ≤ x ∧ x ≤ 255) → L.foldr (fun c v => 256 * v + c) 0 = M.foldr (fun c v => 256 * v + c) (0 : Int) → L = M := by
  have nn : ∀ {L : List Int}, (∀ x ∈ L, 1 ≤ x ∧ x ≤ 255) → 0 ≤ L.foldr (fun c v => 256 * v + c) (0 : Int) := by
    intro L
    induction L with
    | nil => intro _; exact Int.le_refl _
    | cons c r ih =>
      intro h
      have h1 := ih (fun x hx => h x (List.mem_cons_of_mem _ hx))
      have h2 := h c List.mem_cons_self
      simp only [List.foldr_cons]
      omega
  intro L
  induction L with
  | nil =>
    intro M _ h e
    cases M with
    | nil => rfl
    | cons d s =>
      have h1 := nn (fun x hx => h x (List.mem_cons_of_mem _ hx))
      have h2 := h d List.mem_cons_self
      simp only [List.foldr_cons, List.foldr_nil] at e
      omega
  | cons c r ih =>
    intro M hL hM e
    have a1 := nn (fun x hx => hL x (List.mem_cons_of_mem _ hx))
    have a2 := hL c List.mem_cons_self
    cases M with
    | nil =>
      simp only [List.foldr_cons, List.foldr_nil] at e
      omega
    | cons d s =>
      have b1 := nn (fun x hx => hM x (List.mem_cons_of_mem _ hx))
      have b2 := hM d List.mem_cons_self
      simp only [List.foldr_cons] at e
      have : c = d := by omega
      subst this
      rw [ih (fun x hx => hL x (List.mem_cons_of_mem _ hx)) (fun x hx => hM x (List.mem_cons_of_mem _ hx)) (by omega)]
theorem val8_eq {L M : List Int} (hL : ∀ x ∈ L, 1 ≤ x ∧ x ≤ 255) (hM : ∀ x ∈ M, 1 ≤ x ∧ x ≤ 255) : val8 0 L = val8 0 M ↔ L = M := by
  refine ⟨fun e => ?_, fun e => by rw [e]⟩
  unfold val8 at e
  rw [List.foldl_eq_foldr_reverse, List.foldl_eq_foldr_reverse] at e
  exact List.reverse_inj.mp (val8_inj (fun x hx => hL x (List.mem_reverse.mp hx)) (fun x hx => hM x (List.mem_reverse.mp hx)) e)
theorem t_isThe (T : txT σ S) {q n : Nat} {w : Int} {M L : List Int} (hqn : q + n ≤ S.length) (hL : ((S.map u8).drop q).take n = L) (hr : ∀ x ∈ L, 1 ≤ x ∧ x ≤ 127) (hM : ∀ x ∈ M, 1 ≤ x ∧ x ≤ 255) (hw : w = val8 0 M) (hm : M.length ≤ 8) : T_isThe (q : Int) (n : Int) w σ = some (if L = M then 1 else 0) := by
  have hlen : L.length = n := by rw [← hL]; simp; omega
  unfold T_isThe
  by_cases c : n ≤ 8
  · have hl : om_loop (T_isThe_14s (q : Int) (n : Int) w σ) (0, 0) = some (val8 0 L) := by
      by_cases c8 : n = 8
      · cases L with
        | nil => simp at hlen; omega
        | cons a r =>
          have hS := T.2.1
          have ha := hr a List.mem_cons_self
          simp only [List.length_cons] at hlen
          have hlt : q < (S.map u8).length := by simp; omega
          have e0 : (S.map u8).drop q = (S.map u8)[q] :: (S.map u8).drop (q + 1) := List.drop_eq_getElem_cons hlt
          have hL2 := hL
          rw [e0, show n = (n - 1) + 1 by omega, List.take_succ_cons] at hL2
          injection hL2 with e1 e2
          have hst : T_isThe_14s (q : Int) (n : Int) w σ (0, 0) = some (.inl (a, ((1 : Nat) : Int))) := by
            unfold T_isThe_14s
            simp only
            rw [if_neg (by omega), w32_s (by omega) (by omega), show (q : Int) + 0 = (q : Int) by omega, t_b T, List.getElem?_eq_getElem hlt, e1]
            simp only [Option.getD_some, Option.bind_some]
            have := shl8_or (n := 0) (b := a.toNat) (by omega) (by omega)
            rw [show ((a.toNat : Nat) : Int) = a by omega] at this
            rw [show (0 : Int) = ((0 : Nat) : Int) from rfl, this, w32_s (by omega) (by omega)]
            simp
          have hr7 : r.length = 7 := by omega
          rw [om_loop_in hst, t_isThe_loop T w c hqn r 1 a (by simpa using e2) (by omega) (by omega) (by rw [hr7]; omega)]
          simp [val8]
      · have := t_isThe_loop T w c hqn L 0 0 (by simpa using hL) (by omega) (by omega) (by
          have h7 : (256 : Int) ^ L.length ≤ 256 ^ 7 := by
            have := Nat.pow_le_pow_right (n := 256) (by omega) (show L.length ≤ 7 by omega)
            exact_mod_cast this
          have e7 : (256 : Int) ^ 7 = 72057594037927936 := by decide
          omega)
        exact this
    rw [if_pos (by omega), hl]
    simp only [Option.bind_some]
    have hiff := val8_eq (L := L) (M := M) (fun x hx => ⟨(hr x hx).1, by have := (hr x hx).2; omega⟩) hM
    unfold T_isThe_55
    rw [hw]
    by_cases e : L = M
    · rw [if_neg (fun z => z (hiff.mpr e)), if_pos e]; rfl
    · rw [if_pos (fun z => e (hiff.mp z)), if_neg e]; rfl
  · rw [if_neg (by omega), if_neg]
    intro z
    rw [z] at hlen
    omega
theorem t_wordKind (T : txT σ S) {q n : Nat} {L : List Int} (hqn : q + n ≤ S.length) (hL : ((S.map u8).drop q).take n = L) (hr : ∀ x ∈ L, 1 ≤ x ∧ x ≤ 127) : T_wordKind (q : Int) (n : Int) σ = some (wordK L) := by
  have hi := fun (w : Int) (M : List Int) (hM : ∀ x ∈ M, 1 ≤ x ∧ x ≤ 255) (hw : w = val8 0 M) (hm : M.length ≤ 8) => t_isThe T hqn hL hr hM hw hm
  unfold T_wordKind wordK
  rw [hi _ [99, 108, 97, 115, 115] (by decide) (by decide) (by decide)]
  simp only [Option.bind_some]
  by_cases c0 : L = [99, 108, 97, 115, 115]
  · simp [c0]
  simp only [c0, if_false, if_true]
  rw [hi _ [105, 110, 115, 116, 97, 110, 99, 101] (by decide) (by decide) (by decide)]
  simp only [Option.bind_some]
  by_cases c1 : L = [105, 110, 115, 116, 97, 110, 99, 101]
  · simp [c1]
  simp only [c1, if_false, if_true]
  rw [hi _ [116, 121, 112, 101] (by decide) (by decide) (by decide)]
  simp only [Option.bind_some]
  by_cases c2 : L = [116, 121, 112, 101]
  · simp [c2]
  simp only [c2, if_false, if_true]
  rw [hi _ [102, 111, 114, 97, 108, 108] (by decide) (by decide) (by decide)]
  simp only [Option.bind_some]
  by_cases c3 : L = [102, 111, 114, 97, 108, 108]
  · simp [c3]
  simp only [c3, if_false, if_true]
  rw [hi _ [105, 102] (by decide) (by decide) (by decide)]
  simp only [Option.bind_some]
  by_cases c4 : L = [105, 102]
  · simp [c4]
  simp only [c4, if_false, if_true]
  rw [hi _ [116, 104, 101, 110] (by decide) (by decide) (by decide)]
  simp only [Option.bind_some]
  by_cases c5 : L = [116, 104, 101, 110]
  · simp [c5]
  simp only [c5, if_false, if_true]
  rw [hi _ [101, 108, 115, 101] (by decide) (by decide) (by decide)]
  simp only [Option.bind_some]
  by_cases c6 : L = [101, 108, 115, 101]
  · simp [c6]
  simp only [c6, if_false, if_true]
  rw [hi _ [108, 101, 116] (by decide) (by decide) (by decide)]
  simp only [Option.bind_some]
  by_cases c7 : L = [108, 101, 116]
  · simp [c7]
  simp only [c7, if_false, if_true]
  rw [hi _ [105, 110] (by decide) (by decide) (by decide)]
  simp only [Option.bind_some]
  by_cases c8 : L = [105, 110]
  · simp [c8]
  simp only [c8, if_false, if_true]
  rw [hi _ [99, 97, 115, 101] (by decide) (by decide) (by decide)]
  simp only [Option.bind_some]
  by_cases c9 : L = [99, 97, 115, 101]
  · simp [c9]
  simp only [c9, if_false, if_true]
  rw [hi _ [111, 102] (by decide) (by decide) (by decide)]
  simp only [Option.bind_some]
  by_cases c10 : L = [111, 102]
  · simp [c10]
  simp only [c10, if_false, if_true]
end LT1
