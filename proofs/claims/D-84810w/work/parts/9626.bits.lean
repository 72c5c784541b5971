set_option maxRecDepth 100000
/-! BITS OF LONGS (printed by tools/mkbits.py) -/
theorem u64_nat {x : Int} (h : lR x) : ((Int64.ofInt x).toBitVec.toNat : Int) = if x < 0 then x + 18446744073709551616 else x := by
  unfold lR at h
  rw [Int64.toBitVec_ofInt, BitVec.toNat_ofInt]
  have e : ((2 ^ 64 : Nat) : Int) = 18446744073709551616 := by decide
  rw [e]
  split
  · omega
  · omega
theorem i64_of (z : Int64) : z.toInt = if z.toBitVec.toNat < 9223372036854775808 then (z.toBitVec.toNat : Int) else (z.toBitVec.toNat : Int) - 18446744073709551616 := by
  show z.toBitVec.toInt = _
  rw [BitVec.toInt_eq_toNat_cond]
  have e : ((2 ^ 64 : Nat) : Int) = 18446744073709551616 := by decide
  have e2 : (2 ^ 64 : Nat) = 18446744073709551616 := by decide
  rw [e, e2]
  split
  · rename_i c
    rw [if_pos (by omega)]
  · rename_i c
    rw [if_neg (by omega)]
theorem or_3 {x k : Int} (hx : lR x) (hm : x % 8 = 0) (h0 : 0 ≤ k) (hk : k < 8) : or64 x k = x + k := by
  unfold or64
  rw [i64_of, Int64.toBitVec_or, BitVec.toNat_or]
  have hk' : lR k := by unfold lR; omega
  have a1 := u64_nat hx
  have a2 := u64_nat hk'
  unfold lR at hx
  generalize (Int64.ofInt x).toBitVec.toNat = a at a1 ⊢
  generalize (Int64.ofInt k).toBitVec.toNat = b at a2 ⊢
  rw [if_neg (by omega)] at a2
  have am : a % 8 = 0 := by
    split at a1
    · omega
    · omega
  have key : a ||| b = a + b := by
    have e := Nat.shiftLeft_add_eq_or_of_lt (i := 3) (b := b) (by show b < 2 ^ 3; omega) (a / 8)
    rw [Nat.shiftLeft_eq] at e
    have e3 : (2 ^ 3 : Nat) = 8 := by decide
    have e2 : a / 8 * 2 ^ 3 = a := by
      rw [e3]
      exact Nat.div_mul_cancel (Nat.dvd_of_mod_eq_zero am)
    rw [e2] at e
    exact e.symm
  rw [key]
  split at a1
  · split
    · omega
    · omega
  · split
    · omega
    · omega
theorem or_12 {x k : Int} (hx : lR x) (hm : x % 4096 = 0) (h0 : 0 ≤ k) (hk : k < 4096) : or64 x k = x + k := by
  unfold or64
  rw [i64_of, Int64.toBitVec_or, BitVec.toNat_or]
  have hk' : lR k := by unfold lR; omega
  have a1 := u64_nat hx
  have a2 := u64_nat hk'
  unfold lR at hx
  generalize (Int64.ofInt x).toBitVec.toNat = a at a1 ⊢
  generalize (Int64.ofInt k).toBitVec.toNat = b at a2 ⊢
  rw [if_neg (by omega)] at a2
  have am : a % 4096 = 0 := by
    split at a1
    · omega
    · omega
  have key : a ||| b = a + b := by
    have e := Nat.shiftLeft_add_eq_or_of_lt (i := 12) (b := b) (by show b < 2 ^ 12; omega) (a / 4096)
    rw [Nat.shiftLeft_eq] at e
    have e3 : (2 ^ 12 : Nat) = 4096 := by decide
    have e2 : a / 4096 * 2 ^ 12 = a := by
      rw [e3]
      exact Nat.div_mul_cancel (Nat.dvd_of_mod_eq_zero am)
    rw [e2] at e
    exact e.symm
  rw [key]
  split at a1
  · split
    · omega
    · omega
  · split
    · omega
    · omega
theorem or_24 {x k : Int} (hx : lR x) (hm : x % 16777216 = 0) (h0 : 0 ≤ k) (hk : k < 16777216) : or64 x k = x + k := by
  unfold or64
  rw [i64_of, Int64.toBitVec_or, BitVec.toNat_or]
  have hk' : lR k := by unfold lR; omega
  have a1 := u64_nat hx
  have a2 := u64_nat hk'
  unfold lR at hx
  generalize (Int64.ofInt x).toBitVec.toNat = a at a1 ⊢
  generalize (Int64.ofInt k).toBitVec.toNat = b at a2 ⊢
  rw [if_neg (by omega)] at a2
  have am : a % 16777216 = 0 := by
    split at a1
    · omega
    · omega
  have key : a ||| b = a + b := by
    have e := Nat.shiftLeft_add_eq_or_of_lt (i := 24) (b := b) (by show b < 2 ^ 24; omega) (a / 16777216)
    rw [Nat.shiftLeft_eq] at e
    have e3 : (2 ^ 24 : Nat) = 16777216 := by decide
    have e2 : a / 16777216 * 2 ^ 24 = a := by
      rw [e3]
      exact Nat.div_mul_cancel (Nat.dvd_of_mod_eq_zero am)
    rw [e2] at e
    exact e.symm
  rw [key]
  split at a1
  · split
    · omega
    · omega
  · split
    · omega
    · omega
theorem or_36 {x k : Int} (hx : lR x) (hm : x % 68719476736 = 0) (h0 : 0 ≤ k) (hk : k < 68719476736) : or64 x k = x + k := by
  unfold or64
  rw [i64_of, Int64.toBitVec_or, BitVec.toNat_or]
  have hk' : lR k := by unfold lR; omega
  have a1 := u64_nat hx
  have a2 := u64_nat hk'
  unfold lR at hx
  generalize (Int64.ofInt x).toBitVec.toNat = a at a1 ⊢
  generalize (Int64.ofInt k).toBitVec.toNat = b at a2 ⊢
  rw [if_neg (by omega)] at a2
  have am : a % 68719476736 = 0 := by
    split at a1
    · omega
    · omega
  have key : a ||| b = a + b := by
    have e := Nat.shiftLeft_add_eq_or_of_lt (i := 36) (b := b) (by show b < 2 ^ 36; omega) (a / 68719476736)
    rw [Nat.shiftLeft_eq] at e
    have e3 : (2 ^ 36 : Nat) = 68719476736 := by decide
    have e2 : a / 68719476736 * 2 ^ 36 = a := by
      rw [e3]
      exact Nat.div_mul_cancel (Nat.dvd_of_mod_eq_zero am)
    rw [e2] at e
    exact e.symm
  rw [key]
  split at a1
  · split
    · omega
    · omega
  · split
    · omega
    · omega
theorem or_32 {x k : Int} (hx : lR x) (hm : x % 4294967296 = 0) (h0 : 0 ≤ k) (hk : k < 4294967296) : or64 x k = x + k := by
  unfold or64
  rw [i64_of, Int64.toBitVec_or, BitVec.toNat_or]
  have hk' : lR k := by unfold lR; omega
  have a1 := u64_nat hx
  have a2 := u64_nat hk'
  unfold lR at hx
  generalize (Int64.ofInt x).toBitVec.toNat = a at a1 ⊢
  generalize (Int64.ofInt k).toBitVec.toNat = b at a2 ⊢
  rw [if_neg (by omega)] at a2
  have am : a % 4294967296 = 0 := by
    split at a1
    · omega
    · omega
  have key : a ||| b = a + b := by
    have e := Nat.shiftLeft_add_eq_or_of_lt (i := 32) (b := b) (by show b < 2 ^ 32; omega) (a / 4294967296)
    rw [Nat.shiftLeft_eq] at e
    have e3 : (2 ^ 32 : Nat) = 4294967296 := by decide
    have e2 : a / 4294967296 * 2 ^ 32 = a := by
      rw [e3]
      exact Nat.div_mul_cancel (Nat.dvd_of_mod_eq_zero am)
    rw [e2] at e
    exact e.symm
  rw [key]
  split at a1
  · split
    · omega
    · omega
  · split
    · omega
    · omega
theorem ks_0 : ((Int32.ofInt 0).toInt64 &&& 63) = 0 := by decide
theorem shl_0 {x : Int} (hx : lR x) (h : lR (1 * x)) : shl64 x 0 = 1 * x := by
  unfold shl64
  rw [ks_0, i64_of, Int64.toBitVec_shiftLeft]
  have e8 : BitVec.smod (0 : Int64).toBitVec 64 = 0#64 := by decide
  rw [e8, BitVec.shiftLeft_eq', BitVec.toNat_shiftLeft, BitVec.toNat_ofNat, Nat.shiftLeft_eq]
  have a1 := u64_nat hx
  unfold lR at hx h
  generalize (Int64.ofInt x).toBitVec.toNat = a at a1 ⊢
  have e1 : 0 % 2 ^ 64 = 0 := by decide
  rw [e1]
  have e2 : (2 ^ 64 : Nat) = 18446744073709551616 := by decide
  have e3 : (2 ^ 0 : Nat) = 1 := by decide
  rw [e2, e3]
  split at a1
  · split
    · omega
    · omega
  · split
    · omega
    · omega
theorem shr_0 {x : Int} (hx : lR x) : shr64 x 0 = x / 1 := by
  unfold shr64
  rw [ks_0]
  show (Int64.ofInt x >>> (0 : Int64)).toBitVec.toInt = _
  rw [Int64.toBitVec_shiftRight]
  have e8 : BitVec.smod (0 : Int64).toBitVec 64 = 0#64 := by decide
  rw [e8]
  show ((Int64.ofInt x).toBitVec.sshiftRight 0).toInt = _
  rw [BitVec.toInt_sshiftRight, Int.shiftRight_eq_div_pow]
  have e : (Int64.ofInt x).toBitVec.toInt = x := by
    show (Int64.ofInt x).toInt = x
    exact w64_id hx
  rw [e]
  rfl
theorem ks_3 : ((Int32.ofInt 3).toInt64 &&& 63) = 3 := by decide
theorem shl_3 {x : Int} (hx : lR x) (h : lR (8 * x)) : shl64 x 3 = 8 * x := by
  unfold shl64
  rw [ks_3, i64_of, Int64.toBitVec_shiftLeft]
  have e8 : BitVec.smod (3 : Int64).toBitVec 64 = 3#64 := by decide
  rw [e8, BitVec.shiftLeft_eq', BitVec.toNat_shiftLeft, BitVec.toNat_ofNat, Nat.shiftLeft_eq]
  have a1 := u64_nat hx
  unfold lR at hx h
  generalize (Int64.ofInt x).toBitVec.toNat = a at a1 ⊢
  have e1 : 3 % 2 ^ 64 = 3 := by decide
  rw [e1]
  have e2 : (2 ^ 64 : Nat) = 18446744073709551616 := by decide
  have e3 : (2 ^ 3 : Nat) = 8 := by decide
  rw [e2, e3]
  split at a1
  · split
    · omega
    · omega
  · split
    · omega
    · omega
theorem shr_3 {x : Int} (hx : lR x) : shr64 x 3 = x / 8 := by
  unfold shr64
  rw [ks_3]
  show (Int64.ofInt x >>> (3 : Int64)).toBitVec.toInt = _
  rw [Int64.toBitVec_shiftRight]
  have e8 : BitVec.smod (3 : Int64).toBitVec 64 = 3#64 := by decide
  rw [e8]
  show ((Int64.ofInt x).toBitVec.sshiftRight 3).toInt = _
  rw [BitVec.toInt_sshiftRight, Int.shiftRight_eq_div_pow]
  have e : (Int64.ofInt x).toBitVec.toInt = x := by
    show (Int64.ofInt x).toInt = x
    exact w64_id hx
  rw [e]
  rfl
theorem ks_12 : ((Int32.ofInt 12).toInt64 &&& 63) = 12 := by decide
theorem shl_12 {x : Int} (hx : lR x) (h : lR (4096 * x)) : shl64 x 12 = 4096 * x := by
  unfold shl64
  rw [ks_12, i64_of, Int64.toBitVec_shiftLeft]
  have e8 : BitVec.smod (12 : Int64).toBitVec 64 = 12#64 := by decide
  rw [e8, BitVec.shiftLeft_eq', BitVec.toNat_shiftLeft, BitVec.toNat_ofNat, Nat.shiftLeft_eq]
  have a1 := u64_nat hx
  unfold lR at hx h
  generalize (Int64.ofInt x).toBitVec.toNat = a at a1 ⊢
  have e1 : 12 % 2 ^ 64 = 12 := by decide
  rw [e1]
  have e2 : (2 ^ 64 : Nat) = 18446744073709551616 := by decide
  have e3 : (2 ^ 12 : Nat) = 4096 := by decide
  rw [e2, e3]
  split at a1
  · split
    · omega
    · omega
  · split
    · omega
    · omega
theorem shr_12 {x : Int} (hx : lR x) : shr64 x 12 = x / 4096 := by
  unfold shr64
  rw [ks_12]
  show (Int64.ofInt x >>> (12 : Int64)).toBitVec.toInt = _
  rw [Int64.toBitVec_shiftRight]
  have e8 : BitVec.smod (12 : Int64).toBitVec 64 = 12#64 := by decide
  rw [e8]
  show ((Int64.ofInt x).toBitVec.sshiftRight 12).toInt = _
  rw [BitVec.toInt_sshiftRight, Int.shiftRight_eq_div_pow]
  have e : (Int64.ofInt x).toBitVec.toInt = x := by
    show (Int64.ofInt x).toInt = x
    exact w64_id hx
  rw [e]
  rfl
theorem ks_24 : ((Int32.ofInt 24).toInt64 &&& 63) = 24 := by decide
theorem shl_24 {x : Int} (hx : lR x) (h : lR (16777216 * x)) : shl64 x 24 = 16777216 * x := by
  unfold shl64
  rw [ks_24, i64_of, Int64.toBitVec_shiftLeft]
  have e8 : BitVec.smod (24 : Int64).toBitVec 64 = 24#64 := by decide
  rw [e8, BitVec.shiftLeft_eq', BitVec.toNat_shiftLeft, BitVec.toNat_ofNat, Nat.shiftLeft_eq]
  have a1 := u64_nat hx
  unfold lR at hx h
  generalize (Int64.ofInt x).toBitVec.toNat = a at a1 ⊢
  have e1 : 24 % 2 ^ 64 = 24 := by decide
  rw [e1]
  have e2 : (2 ^ 64 : Nat) = 18446744073709551616 := by decide
  have e3 : (2 ^ 24 : Nat) = 16777216 := by decide
  rw [e2, e3]
  split at a1
  · split
    · omega
    · omega
  · split
    · omega
    · omega
theorem shr_24 {x : Int} (hx : lR x) : shr64 x 24 = x / 16777216 := by
  unfold shr64
  rw [ks_24]
  show (Int64.ofInt x >>> (24 : Int64)).toBitVec.toInt = _
  rw [Int64.toBitVec_shiftRight]
  have e8 : BitVec.smod (24 : Int64).toBitVec 64 = 24#64 := by decide
  rw [e8]
  show ((Int64.ofInt x).toBitVec.sshiftRight 24).toInt = _
  rw [BitVec.toInt_sshiftRight, Int.shiftRight_eq_div_pow]
  have e : (Int64.ofInt x).toBitVec.toInt = x := by
    show (Int64.ofInt x).toInt = x
    exact w64_id hx
  rw [e]
  rfl
theorem ks_36 : ((Int32.ofInt 36).toInt64 &&& 63) = 36 := by decide
theorem shl_36 {x : Int} (hx : lR x) (h : lR (68719476736 * x)) : shl64 x 36 = 68719476736 * x := by
  unfold shl64
  rw [ks_36, i64_of, Int64.toBitVec_shiftLeft]
  have e8 : BitVec.smod (36 : Int64).toBitVec 64 = 36#64 := by decide
  rw [e8, BitVec.shiftLeft_eq', BitVec.toNat_shiftLeft, BitVec.toNat_ofNat, Nat.shiftLeft_eq]
  have a1 := u64_nat hx
  unfold lR at hx h
  generalize (Int64.ofInt x).toBitVec.toNat = a at a1 ⊢
  have e1 : 36 % 2 ^ 64 = 36 := by decide
  rw [e1]
  have e2 : (2 ^ 64 : Nat) = 18446744073709551616 := by decide
  have e3 : (2 ^ 36 : Nat) = 68719476736 := by decide
  rw [e2, e3]
  split at a1
  · split
    · omega
    · omega
  · split
    · omega
    · omega
theorem shr_36 {x : Int} (hx : lR x) : shr64 x 36 = x / 68719476736 := by
  unfold shr64
  rw [ks_36]
  show (Int64.ofInt x >>> (36 : Int64)).toBitVec.toInt = _
  rw [Int64.toBitVec_shiftRight]
  have e8 : BitVec.smod (36 : Int64).toBitVec 64 = 36#64 := by decide
  rw [e8]
  show ((Int64.ofInt x).toBitVec.sshiftRight 36).toInt = _
  rw [BitVec.toInt_sshiftRight, Int.shiftRight_eq_div_pow]
  have e : (Int64.ofInt x).toBitVec.toInt = x := by
    show (Int64.ofInt x).toInt = x
    exact w64_id hx
  rw [e]
  rfl
theorem ks_32 : ((Int32.ofInt 32).toInt64 &&& 63) = 32 := by decide
theorem shl_32 {x : Int} (hx : lR x) (h : lR (4294967296 * x)) : shl64 x 32 = 4294967296 * x := by
  unfold shl64
  rw [ks_32, i64_of, Int64.toBitVec_shiftLeft]
  have e8 : BitVec.smod (32 : Int64).toBitVec 64 = 32#64 := by decide
  rw [e8, BitVec.shiftLeft_eq', BitVec.toNat_shiftLeft, BitVec.toNat_ofNat, Nat.shiftLeft_eq]
  have a1 := u64_nat hx
  unfold lR at hx h
  generalize (Int64.ofInt x).toBitVec.toNat = a at a1 ⊢
  have e1 : 32 % 2 ^ 64 = 32 := by decide
  rw [e1]
  have e2 : (2 ^ 64 : Nat) = 18446744073709551616 := by decide
  have e3 : (2 ^ 32 : Nat) = 4294967296 := by decide
  rw [e2, e3]
  split at a1
  · split
    · omega
    · omega
  · split
    · omega
    · omega
theorem shr_32 {x : Int} (hx : lR x) : shr64 x 32 = x / 4294967296 := by
  unfold shr64
  rw [ks_32]
  show (Int64.ofInt x >>> (32 : Int64)).toBitVec.toInt = _
  rw [Int64.toBitVec_shiftRight]
  have e8 : BitVec.smod (32 : Int64).toBitVec 64 = 32#64 := by decide
  rw [e8]
  show ((Int64.ofInt x).toBitVec.sshiftRight 32).toInt = _
  rw [BitVec.toInt_sshiftRight, Int.shiftRight_eq_div_pow]
  have e : (Int64.ofInt x).toBitVec.toInt = x := by
    show (Int64.ofInt x).toInt = x
    exact w64_id hx
  rw [e]
  rfl
theorem and_3 {x : Int} (hx : lR x) : and64 x 7 = x % 8 := by
  unfold and64
  rw [i64_of, Int64.toBitVec_and, BitVec.toNat_and]
  have hk' : lR 7 := by unfold lR; omega
  have a1 := u64_nat hx
  have a2 := u64_nat hk'
  unfold lR at hx
  generalize (Int64.ofInt x).toBitVec.toNat = a at a1 ⊢
  generalize (Int64.ofInt 7).toBitVec.toNat = b at a2 ⊢
  rw [if_neg (by omega)] at a2
  have eb : b = 2 ^ 3 - 1 := by omega
  rw [eb, Nat.and_two_pow_sub_one_eq_mod]
  have e3 : (2 ^ 3 : Nat) = 8 := by decide
  rw [e3]
  split at a1
  · split
    · omega
    · omega
  · split
    · omega
    · omega
theorem and_12 {x : Int} (hx : lR x) : and64 x 4095 = x % 4096 := by
  unfold and64
  rw [i64_of, Int64.toBitVec_and, BitVec.toNat_and]
  have hk' : lR 4095 := by unfold lR; omega
  have a1 := u64_nat hx
  have a2 := u64_nat hk'
  unfold lR at hx
  generalize (Int64.ofInt x).toBitVec.toNat = a at a1 ⊢
  generalize (Int64.ofInt 4095).toBitVec.toNat = b at a2 ⊢
  rw [if_neg (by omega)] at a2
  have eb : b = 2 ^ 12 - 1 := by omega
  rw [eb, Nat.and_two_pow_sub_one_eq_mod]
  have e3 : (2 ^ 12 : Nat) = 4096 := by decide
  rw [e3]
  split at a1
  · split
    · omega
    · omega
  · split
    · omega
    · omega
theorem and_32 {x : Int} (hx : lR x) : and64 x 4294967295 = x % 4294967296 := by
  unfold and64
  rw [i64_of, Int64.toBitVec_and, BitVec.toNat_and]
  have hk' : lR 4294967295 := by unfold lR; omega
  have a1 := u64_nat hx
  have a2 := u64_nat hk'
  unfold lR at hx
  generalize (Int64.ofInt x).toBitVec.toNat = a at a1 ⊢
  generalize (Int64.ofInt 4294967295).toBitVec.toNat = b at a2 ⊢
  rw [if_neg (by omega)] at a2
  have eb : b = 2 ^ 32 - 1 := by omega
  rw [eb, Nat.and_two_pow_sub_one_eq_mod]
  have e3 : (2 ^ 32 : Nat) = 4294967296 := by decide
  rw [e3]
  split at a1
  · split
    · omega
    · omega
  · split
    · omega
    · omega
theorem or_cm (x y : Int) : or64 x y = or64 y x := by
  unfold or64
  rw [Int64.or_comm]
theorem l2i_w (x : Int) : l2i x = w32 x := by
  unfold l2i w32
  rw [Int64.toInt32_ofInt]
