set_option maxRecDepth 100000
/-! NUMBERS ARE TOLD, in both -/
theorem div32_n {a b : Nat} (ha : a ≤ 2147483647) (hb : b ≤ 2147483647) : div32 (a : Int) (b : Int) = ((a / b : Nat) : Int) := by
  unfold div32
  have e1 : (Int32.ofInt (a : Int)).toInt = (a : Int) := w32_s (by omega) (by omega)
  have e2 : (Int32.ofInt (b : Int)).toInt = (b : Int) := w32_s (by omega) (by omega)
  have e3 : (a : Int) / (b : Int) = ((a / b : Nat) : Int) := rfl
  have le := Nat.div_le_self a b
  rw [Int32.toInt_div, e1, e2, Int.tdiv_eq_ediv_of_nonneg (by omega), e3]
  clear e3
  generalize a / b = q at le ⊢
  exact bmod32 (by omega) (by omega)
theorem rem32_10 {a : Nat} (ha : a ≤ 2147483647) : rem32 (a : Int) 10 = ((a % 10 : Nat) : Int) := by
  unfold rem32
  have e1 : (Int32.ofInt (a : Int)).toInt = (a : Int) := w32_s (by omega) (by omega)
  have e2 : (Int32.ofInt 10).toInt = 10 := by decide
  have e3 : (Int32.ofInt (a : Int) / Int32.ofInt 10).toInt = (a : Int) / 10 := by
    rw [Int32.toInt_div, e1, e2, Int.tdiv_eq_ediv_of_nonneg (by omega)]
    exact bmod32 (by omega) (by omega)
  rw [Int32.toInt_sub, Int32.toInt_mul, e1, e2, e3, bmod32 (x := (a : Int) / 10 * 10) (by omega) (by omega), bmod32 (by omega) (by omega)]
  omega
theorem numBD_s {f v : Nat} : numBD (f + 1) v = if v ≤ 9 then [((48 + v % 10 : Nat) : Int)] else numBD f (v / 10) ++ [((48 + v % 10 : Nat) : Int)] := rfl
theorem numBD_len : ∀ {f v : Nat}, (numBD f v).length ≤ f
  | 0, v => Nat.le_refl _
  | f + 1, v => by
    rw [numBD_s]
    split
    · simp
    · have := numBD_len (f := f) (v := v / 10)
      rw [List.length_append, List.length_singleton]
      omega
section LN1
variable {σ : tS} {t : Nat}
theorem w48 {v : Nat} : w32 (48 + ((v % 10 : Nat) : Int)) = ((48 + v % 10 : Nat) : Int) := by rw [w32_s (by omega) (by omega)]; omega
theorem t_sayNumD : ∀ (f v : Nat) (σ : tS) (t : Nat), 0 < f → v < 10 ^ f → v ≤ 2147483647 → SkT σ t → t + f < 1900000000 → T_sayNumberD f (v : Int) σ = some (sayL (numBD f v) σ)
  | 0, _, _, _, h, _, _, _, _ => by omega
  | f + 1, v, σ, t, _, hv, hm, S, ht => by
    show T_sayNumberB (T_sayNumberD f) (v : Int) σ = _
    unfold T_sayNumberB T_sayNumber_14
    rw [numBD_s]
    by_cases c : v ≤ 9
    · rw [if_pos (by omega), if_pos c, rem32_10 hm, w48, t_say S, Option.bind_some]
      rfl
    · have hp : v < 10 ^ f * 10 := by rw [← Nat.pow_succ]; exact hv
      have hf : 0 < f := Nat.pos_of_ne_zero (fun z => by rw [z] at hp; simp at hp; omega)
      rw [if_neg (by omega), if_neg c, show (10 : Int) = ((10 : Nat) : Int) from rfl, div32_n hm (by omega), t_sayNumD f (v / 10) σ t hf (by omega) (by omega) S (by omega), Option.bind_some]
      have S' := sayL_t (L := numBD f (v / 10)) S (by have := numBD_len (f := f) (v := v / 10); omega)
      rw [show ((10 : Nat) : Int) = 10 from rfl, rem32_10 hm, w48, t_say S', Option.bind_some, sayL_app]
      rfl
theorem t_sayNum {v : Nat} (hv : v ≤ 2147483647) (S : SkT σ t) (ht : t + 12 < 1900000000) : T_sayNumber (v : Int) σ = some (sayL (numB v) σ) := t_sayNumD 12 v σ t (by decide) (by omega) hv S ht
end LN1
/-- digits, from the highest -/
def dgB : Nat → Nat → List Int
  | 0, v => [((48 + v % 10 : Nat) : Int)]
  | k + 1, v => ((48 + v / 10 ^ (k + 1) % 10 : Nat) : Int) :: dgB k v
theorem dgB_c {k v : Nat} : dgB (k + 1) v = ((48 + v / 10 ^ (k + 1) % 10 : Nat) : Int) :: dgB k v := rfl
theorem dv10 {v k : Nat} : v / 10 / 10 ^ k = v / 10 ^ (k + 1) := by rw [Nat.div_div_eq_div_mul, Nat.pow_succ, Nat.mul_comm]
theorem dgB_sn : ∀ {k v : Nat}, dgB (k + 1) v = dgB k (v / 10) ++ [((48 + v % 10 : Nat) : Int)]
  | 0, v => by
    rw [dgB_c]
    show _ = [((48 + v / 10 % 10 : Nat) : Int)] ++ _
    rw [Nat.zero_add, Nat.pow_one]
    rfl
  | k + 1, v => by
    rw [dgB_c, dgB_sn (k := k), dgB_c, dv10]
    rfl
theorem numBD_dg : ∀ {k f v : Nat}, k < f → v / 10 ^ k ≤ 9 → (k = 0 ∨ 9 < v / 10 ^ (k - 1)) → numBD f v = dgB k v
  | 0, f + 1, v, _, h, _ => by
    rw [Nat.pow_zero, Nat.div_one] at h
    rw [numBD_s, if_pos h]
    rfl
  | k + 1, f + 1, v, hk, h, c => by
    have c' : 9 < v / 10 ^ k := c.resolve_left (by omega)
    have hv : ¬ v ≤ 9 := fun z => by
      have := Nat.div_le_self v (10 ^ k)
      omega
    rw [numBD_s, if_neg hv, dgB_sn, numBD_dg (k := k) (by omega) (by rw [dv10]; exact h) ?_]
    by_cases k0 : k = 0
    · exact .inl k0
    · refine .inr ?_
      rw [dv10, show k - 1 + 1 = k by omega]
      exact c'
  | _, 0, _, h, _, _ => by omega
section LN2
variable {G : om_G} {s : Nat} {h : om_H}
theorem c_num1 {v : Nat} (hv : v ≤ 2147483647) : ∀ (d i : Nat), i + d = 10 → (i = 0 ∨ 9 < v / 10 ^ (i - 1)) → ∃ k, om_loop (C_7_number_2s G s (v : Int) h) ((10 ^ i : Nat) : Int) = some ((10 ^ k : Nat) : Int) ∧ k ≤ 9 ∧ v / 10 ^ k ≤ 9 ∧ (k = 0 ∨ 9 < v / 10 ^ (k - 1))
  | 0, i, e, c => by
    have i10 : i = 10 := by omega
    rw [i10] at c
    have : 9 < v / 10 ^ 9 := c.resolve_left (by omega)
    omega
  | d + 1, i, e, c => by
    have p0 : 0 < 10 ^ i := Nat.pow_pos (by decide)
    have p9 : 10 ^ i ≤ 1000000000 := by
      have := Nat.pow_le_pow_right (show 0 < 10 by decide) (show i ≤ 9 by omega)
      omega
    have dv := div32_n hv (show 10 ^ i ≤ 2147483647 by omega)
    by_cases q : v / 10 ^ i ≤ 9
    · refine ⟨i, om_loop_out ?_, by omega, q, c⟩
      unfold C_7_number_2s
      rw [gd_pos (by omega), dv, if_pos (by omega)]
    · have le : v / 10 ^ i ≤ v / 10 ^ i := Nat.le_refl _
      have mul : 10 * 10 ^ i ≤ v := by
        have h1 : 10 ≤ v / 10 ^ i := by omega
        exact (Nat.le_div_iff_mul_le p0).mp h1
      have st : C_7_number_2s G s (v : Int) h ((10 ^ i : Nat) : Int) = some (.inl ((10 ^ (i + 1) : Nat) : Int)) := by
        unfold C_7_number_2s
        rw [gd_pos (by omega), dv, if_neg (by omega), w32_s (by omega) (by omega), Nat.pow_succ]
        push_cast
        rfl
      obtain ⟨k, k1, k2⟩ := c_num1 hv d (i + 1) (by omega) (.inr (by rw [Nat.add_sub_cancel]; omega))
      exact ⟨k, by rw [om_loop_in st]; exact k1, k2⟩
theorem c_num2 {v : Nat} (hv : v ≤ 2147483647) : ∀ (k : Nat) (h : om_H), k ≤ 9 → kd h s = 8 → om_loop (C_7_number_18s G s (v : Int)) (((10 ^ k : Nat) : Int), h) = some (putL s (dgB k v) h)
  | k, h, hk, k8 => by
    have p0 : 0 < 10 ^ k := Nat.pow_pos (by decide)
    have p9 : 10 ^ k ≤ 1000000000 := by
      have := Nat.pow_le_pow_right (show 0 < 10 by decide) hk
      omega
    have dv := div32_n hv (show 10 ^ k ≤ 2147483647 by omega)
    have le := Nat.div_le_self v (10 ^ k)
    have d10 := div32_n (a := 10 ^ k) (b := 10) (by omega) (by omega)
    have st : C_7_number_18s G s (v : Int) (((10 ^ k : Nat) : Int), h) = some (.inl (((10 ^ k / 10 : Nat) : Int), put1 s h ((48 + v / 10 ^ k % 10 : Nat) : Int))) := by
      unfold C_7_number_18s
      simp only
      rw [if_neg (by omega), gd_pos ⟨by omega, k8⟩, dv, rem32_10 (by omega), w48, c_put1 k8, Option.bind_some, show (10 : Int) = ((10 : Nat) : Int) from rfl, d10]
    rw [om_loop_in st]
    have k1 : kd (put1 s h ((48 + v / 10 ^ k % 10 : Nat) : Int)) s = 8 := by rw [(put1_hK.2 s).1]; exact k8
    match k, hk, k1 with
    | 0, _, k1 =>
      have e0 : 10 ^ 0 / 10 = 0 := by decide
      rw [e0]
      refine om_loop_out ?_
      unfold C_7_number_18s
      simp only
      rw [if_pos (by omega)]
      show some (Sum.inr (put1 s h _)) = some (Sum.inr (put1 s h _))
      rw [Nat.pow_zero, Nat.div_one]
    | k + 1, hk, k1 =>
      have e1 : 10 ^ (k + 1) / 10 = 10 ^ k := by rw [Nat.pow_succ, Nat.mul_div_cancel _ (by decide)]
      rw [e1, c_num2 hv k _ (by omega) k1]
      rfl
/-- a number, in the component -/
theorem c_numT {v : Nat} (hv : v ≤ 2147483647) (k8 : kd h s = 8) : C_7_number G s (v : Int) h = some (putL s (numB v) h) := by
  obtain ⟨k, k1, k2, k3, k4⟩ := c_num1 (G := G) (s := s) (h := h) hv 10 0 rfl (.inl rfl)
  have k1' : om_loop (C_7_number_2s G s (v : Int) h) 1 = some ((10 ^ k : Nat) : Int) := k1
  unfold C_7_number
  rw [k1', Option.bind_some, c_num2 hv k h k2 k8, Option.bind_some]
  unfold numB
  rw [numBD_dg (by omega) k3 k4]
end LN2
