set_option maxRecDepth 100000
/-! numbers -/
theorem i32_lt {x y : Int} (hx : iR x) (hy : iR y) : Int32.ofInt x < Int32.ofInt y ↔ x < y := by rw [Int32.lt_iff_toInt_lt, toInt_of32 hx, toInt_of32 hy]
theorem i32_le {x y : Int} (hx : iR x) (hy : iR y) : Int32.ofInt x ≤ Int32.ofInt y ↔ x ≤ y := by rw [Int32.le_iff_toInt_le, toInt_of32 hx, toInt_of32 hy]
theorem i32_eq {x y : Int} (hx : iR x) (hy : iR y) : Int32.ofInt x = Int32.ofInt y ↔ x = y := ⟨fun q => by rw [← toInt_of32 hx, ← toInt_of32 hy, q], fun q => by rw [q]⟩
theorem i64_lt {x y : Int} (hx : lR x) (hy : lR y) : Int64.ofInt x < Int64.ofInt y ↔ x < y := by rw [Int64.lt_iff_toInt_lt, toInt_of64 hx, toInt_of64 hy]
theorem i64_eq {x y : Int} (hx : lR x) (hy : lR y) : Int64.ofInt x = Int64.ofInt y ↔ x = y := ⟨fun q => by rw [← toInt_of64 hx, ← toInt_of64 hy, q], fun q => by rw [q]⟩
theorem iR_0 : iR 0 := by unfold iR; omega
theorem lR_0 : lR 0 := by unfold lR; omega
theorem of32 (z : Int32) : Int32.ofInt z.toInt = z := Int32.ofInt_toInt z
theorem of64 (z : Int64) : Int64.ofInt z.toInt = z := Int64.ofInt_toInt z
theorem iR_to (z : Int32) : iR z.toInt := by
  have := iR_w32 z.toInt
  unfold w32 at this
  rwa [of32] at this
theorem lR_to (z : Int64) : lR z.toInt := by
  have := lR_w64 z.toInt
  unfold w64 at this
  rwa [of64] at this
/-! bits, by the machine's own words -/
def and32 (x y : Int) : Int := (Int32.ofInt x &&& Int32.ofInt y).toInt
def or32 (x y : Int) : Int := (Int32.ofInt x ||| Int32.ofInt y).toInt
def xor32 (x y : Int) : Int := (Int32.ofInt x ^^^ Int32.ofInt y).toInt
def shl32 (x y : Int) : Int := (Int32.ofInt x <<< (Int32.ofInt y &&& 31)).toInt
def shr32 (x y : Int) : Int := (Int32.ofInt x >>> (Int32.ofInt y &&& 31)).toInt
def ushr32 (x y : Int) : Int := (((Int32.ofInt x).toUInt32 >>> ((Int32.ofInt y).toUInt32 &&& Int32.toUInt32 31)).toInt32).toInt
def div32 (x y : Int) : Int := (Int32.ofInt x / Int32.ofInt y).toInt
def rem32 (x y : Int) : Int := (Int32.ofInt x - Int32.ofInt x / Int32.ofInt y * Int32.ofInt y).toInt
def and64 (x y : Int) : Int := (Int64.ofInt x &&& Int64.ofInt y).toInt
def or64 (x y : Int) : Int := (Int64.ofInt x ||| Int64.ofInt y).toInt
def shl64 (x y : Int) : Int := (Int64.ofInt x <<< ((Int32.ofInt y).toInt64 &&& 63)).toInt
def shr64 (x y : Int) : Int := (Int64.ofInt x >>> ((Int32.ofInt y).toInt64 &&& 63)).toInt
def div64 (x y : Int) : Int := (Int64.ofInt x / Int64.ofInt y).toInt
def rem64 (x y : Int) : Int := (Int64.ofInt x - Int64.ofInt x / Int64.ofInt y * Int64.ofInt y).toInt
def b8 (x : Int) : Int := ((Int32.ofInt x).toInt8.toInt32).toInt
def c16 (x : Int) : Int := (((Int32.ofInt x).toUInt32 % 65536).toInt32).toInt
def l2i (x : Int) : Int := ((Int64.ofInt x).toInt32).toInt
theorem i2l_ok {x : Int} (h : iR x) : (Int32.ofInt x).toInt64 = Int64.ofInt x := by
  apply Int64.toInt_inj.mp
  rw [Int32.toInt_toInt64, toInt_of32 h, toInt_of64]
  unfold iR at h
  unfold lR
  omega
theorem lR_of {x : Int} (h : iR x) : lR x := by
  unfold iR at h
  unfold lR
  omega
theorem om_t1 {a : om_V} {st : List om_V} (V : ∀ v ∈ a :: st, om_okV v) : ∀ v ∈ st, om_okV v := fun v hv => V v (List.mem_cons_of_mem _ hv)
theorem om_h1 {a : om_V} {st : List om_V} (V : ∀ v ∈ a :: st, om_okV v) : om_okV a := V a List.mem_cons_self
theorem om_c1 {a : om_V} {st : List om_V} (ha : om_okV a) (V : ∀ v ∈ st, om_okV v) : ∀ v ∈ a :: st, om_okV v := fun v hv => by
  rcases List.mem_cons.mp hv with rfl | hv
  · exact ha
  · exact V v hv
/-- a reference as the kit has it -/
def om_o (G : om_G) (a : Nat) : Option Nat := match a with
  | 0 => none
  | a + 1 => some (om_ra G (a + 1))
theorem om_o_rv {G : om_G} (a : Nat) : om_rv G a = va_rf (om_o G a) := by cases a <;> rfl
theorem om_o_inj {G : om_G} {a b : Nat} : om_o G a = om_o G b ↔ a = b := by
  refine ⟨fun q => ?_, fun q => by rw [q]⟩
  cases a with
  | zero => cases b with
    | zero => rfl
    | succ b => cases q
  | succ a => cases b with
    | zero => cases q
    | succ b => exact om_ra_inj (by omega) (by omega) (Option.some.inj q)
theorem om_cat1R {G : om_G} (x : Nat) : (om_tv G (vR x)).category = 1 := by cases x <;> rfl
section OM3
variable {G : om_G} {d : Nat} {M : om_M} {pc : Nat} {ls : List (Option om_V)} {st : List om_V} {h : om_H} {Q : om_O → Prop}
theorem ok_iadd {x y : Int} (hd : decode M.2.1 pc = .ok (.iadd, 1)) (k : OK G d M (pc + 1) ls (vI (w32 (x + y)) :: st) h Q) : OK G d M pc ls (vI y :: vI x :: st) h Q := by
  refine ok_st ?_ k (fun p l e R s m args below meth c H locs la cells slots Q' X L hR V kk => ?_)
  · exact fun V => om_c1 (iR_w32 _) (om_t1 (om_t1 V.2.1))
  · refine lv_iadd X.1 X.2.1 hd ?_
    have e : Int32.ofInt (w32 (x + y)) = Int32.ofInt x + Int32.ofInt y := by rw [ofInt_w32, Int32.ofInt_add]
    rw [← e]
    exact kk
theorem ok_isub {x y : Int} (hd : decode M.2.1 pc = .ok (.isub, 1)) (k : OK G d M (pc + 1) ls (vI (w32 (x - y)) :: st) h Q) : OK G d M pc ls (vI y :: vI x :: st) h Q := by
  refine ok_st ?_ k (fun p l e R s m args below meth c H locs la cells slots Q' X L hR V kk => ?_)
  · exact fun V => om_c1 (iR_w32 _) (om_t1 (om_t1 V.2.1))
  · refine lv_isub X.1 X.2.1 hd ?_
    have e : Int32.ofInt (w32 (x - y)) = Int32.ofInt x - Int32.ofInt y := by rw [ofInt_w32, Int32.ofInt_sub]
    rw [← e]
    exact kk
theorem ok_imul {x y : Int} (hd : decode M.2.1 pc = .ok (.imul, 1)) (k : OK G d M (pc + 1) ls (vI (w32 (x * y)) :: st) h Q) : OK G d M pc ls (vI y :: vI x :: st) h Q := by
  refine ok_st ?_ k (fun p l e R s m args below meth c H locs la cells slots Q' X L hR V kk => ?_)
  · exact fun V => om_c1 (iR_w32 _) (om_t1 (om_t1 V.2.1))
  · refine lv_imul X.1 X.2.1 hd ?_
    have e : Int32.ofInt (w32 (x * y)) = Int32.ofInt x * Int32.ofInt y := by rw [ofInt_w32, Int32.ofInt_mul]
    rw [← e]
    exact kk
theorem ok_iand {x y : Int} (hd : decode M.2.1 pc = .ok (.iand, 1)) (k : OK G d M (pc + 1) ls (vI (and32 x y) :: st) h Q) : OK G d M pc ls (vI y :: vI x :: st) h Q := by
  refine ok_st ?_ k (fun p l e R s m args below meth c H locs la cells slots Q' X L hR V kk => ?_)
  · exact fun V => om_c1 (iR_to _) (om_t1 (om_t1 V.2.1))
  · refine lv_iand X.1 X.2.1 hd ?_
    have e : Int32.ofInt (and32 x y) = Int32.ofInt x &&& Int32.ofInt y := by exact of32 _
    rw [← e]
    exact kk
theorem ok_ior {x y : Int} (hd : decode M.2.1 pc = .ok (.ior, 1)) (k : OK G d M (pc + 1) ls (vI (or32 x y) :: st) h Q) : OK G d M pc ls (vI y :: vI x :: st) h Q := by
  refine ok_st ?_ k (fun p l e R s m args below meth c H locs la cells slots Q' X L hR V kk => ?_)
  · exact fun V => om_c1 (iR_to _) (om_t1 (om_t1 V.2.1))
  · refine lv_ior X.1 X.2.1 hd ?_
    have e : Int32.ofInt (or32 x y) = Int32.ofInt x ||| Int32.ofInt y := by exact of32 _
    rw [← e]
    exact kk
theorem ok_ixor {x y : Int} (hd : decode M.2.1 pc = .ok (.ixor, 1)) (k : OK G d M (pc + 1) ls (vI (xor32 x y) :: st) h Q) : OK G d M pc ls (vI y :: vI x :: st) h Q := by
  refine ok_st ?_ k (fun p l e R s m args below meth c H locs la cells slots Q' X L hR V kk => ?_)
  · exact fun V => om_c1 (iR_to _) (om_t1 (om_t1 V.2.1))
  · refine lv_ixor X.1 X.2.1 hd ?_
    have e : Int32.ofInt (xor32 x y) = Int32.ofInt x ^^^ Int32.ofInt y := by exact of32 _
    rw [← e]
    exact kk
theorem ok_ishl {x y : Int} (hd : decode M.2.1 pc = .ok (.ishl, 1)) (k : OK G d M (pc + 1) ls (vI (shl32 x y) :: st) h Q) : OK G d M pc ls (vI y :: vI x :: st) h Q := by
  refine ok_st ?_ k (fun p l e R s m args below meth c H locs la cells slots Q' X L hR V kk => ?_)
  · exact fun V => om_c1 (iR_to _) (om_t1 (om_t1 V.2.1))
  · refine lv_ishl X.1 X.2.1 hd ?_
    have e : Int32.ofInt (shl32 x y) = Int32.ofInt x <<< (Int32.ofInt y &&& 31) := by exact of32 _
    rw [← e]
    exact kk
theorem ok_ishr {x y : Int} (hd : decode M.2.1 pc = .ok (.ishr, 1)) (k : OK G d M (pc + 1) ls (vI (shr32 x y) :: st) h Q) : OK G d M pc ls (vI y :: vI x :: st) h Q := by
  refine ok_st ?_ k (fun p l e R s m args below meth c H locs la cells slots Q' X L hR V kk => ?_)
  · exact fun V => om_c1 (iR_to _) (om_t1 (om_t1 V.2.1))
  · refine lv_ishr X.1 X.2.1 hd ?_
    have e : Int32.ofInt (shr32 x y) = Int32.ofInt x >>> (Int32.ofInt y &&& 31) := by exact of32 _
    rw [← e]
    exact kk
theorem ok_iushr {x y : Int} (hd : decode M.2.1 pc = .ok (.iushr, 1)) (k : OK G d M (pc + 1) ls (vI (ushr32 x y) :: st) h Q) : OK G d M pc ls (vI y :: vI x :: st) h Q := by
  refine ok_st ?_ k (fun p l e R s m args below meth c H locs la cells slots Q' X L hR V kk => ?_)
  · exact fun V => om_c1 (iR_to _) (om_t1 (om_t1 V.2.1))
  · refine lv_iushr (v := Int32.ofInt (ushr32 x y)) X.1 X.2.1 hd (of32 _).symm ?_
    exact kk
theorem ok_idiv {x y : Int} (hd : decode M.2.1 pc = .ok (.idiv, 1)) (hne : y ≠ 0) (k : OK G d M (pc + 1) ls (vI (div32 x y) :: st) h Q) : OK G d M pc ls (vI y :: vI x :: st) h Q := by
  refine ok_st ?_ k (fun p l e R s m args below meth c H locs la cells slots Q' X L hR V kk => ?_)
  · exact fun V => om_c1 (iR_to _) (om_t1 (om_t1 V.2.1))
  · refine lv_idiv X.1 X.2.1 hd (fun q => hne ((i32_eq (om_h1 V.2.1) iR_0).mp q)) ?_
    have e : Int32.ofInt (div32 x y) = Int32.ofInt x / Int32.ofInt y := by exact of32 _
    rw [← e]
    exact kk
theorem ok_irem {x y : Int} (hd : decode M.2.1 pc = .ok (.irem, 1)) (hne : y ≠ 0) (k : OK G d M (pc + 1) ls (vI (rem32 x y) :: st) h Q) : OK G d M pc ls (vI y :: vI x :: st) h Q := by
  refine ok_st ?_ k (fun p l e R s m args below meth c H locs la cells slots Q' X L hR V kk => ?_)
  · exact fun V => om_c1 (iR_to _) (om_t1 (om_t1 V.2.1))
  · refine lv_irem X.1 X.2.1 hd (fun q => hne ((i32_eq (om_h1 V.2.1) iR_0).mp q)) ?_
    have e : Int32.ofInt (rem32 x y) = Int32.ofInt x - Int32.ofInt x / Int32.ofInt y * Int32.ofInt y := by exact of32 _
    rw [← e]
    exact kk
theorem ok_ldiv {x y : Int} (hd : decode M.2.1 pc = .ok (.ldiv, 1)) (hne : y ≠ 0) (k : OK G d M (pc + 1) ls (vL (div64 x y) :: st) h Q) : OK G d M pc ls (vL y :: vL x :: st) h Q := by
  refine ok_st ?_ k (fun p l e R s m args below meth c H locs la cells slots Q' X L hR V kk => ?_)
  · exact fun V => om_c1 (lR_to _) (om_t1 (om_t1 V.2.1))
  · refine lv_ldiv X.1 X.2.1 hd (fun q => hne ((i64_eq (om_h1 V.2.1) lR_0).mp q)) ?_
    have e : Int64.ofInt (div64 x y) = Int64.ofInt x / Int64.ofInt y := by exact of64 _
    rw [← e]
    exact kk
theorem ok_lrem {x y : Int} (hd : decode M.2.1 pc = .ok (.lrem, 1)) (hne : y ≠ 0) (k : OK G d M (pc + 1) ls (vL (rem64 x y) :: st) h Q) : OK G d M pc ls (vL y :: vL x :: st) h Q := by
  refine ok_st ?_ k (fun p l e R s m args below meth c H locs la cells slots Q' X L hR V kk => ?_)
  · exact fun V => om_c1 (lR_to _) (om_t1 (om_t1 V.2.1))
  · refine lv_lrem X.1 X.2.1 hd (fun q => hne ((i64_eq (om_h1 V.2.1) lR_0).mp q)) ?_
    have e : Int64.ofInt (rem64 x y) = Int64.ofInt x - Int64.ofInt x / Int64.ofInt y * Int64.ofInt y := by exact of64 _
    rw [← e]
    exact kk
theorem ok_ladd {x y : Int} (hd : decode M.2.1 pc = .ok (.ladd, 1)) (k : OK G d M (pc + 1) ls (vL (w64 (x + y)) :: st) h Q) : OK G d M pc ls (vL y :: vL x :: st) h Q := by
  refine ok_st ?_ k (fun p l e R s m args below meth c H locs la cells slots Q' X L hR V kk => ?_)
  · exact fun V => om_c1 (lR_w64 _) (om_t1 (om_t1 V.2.1))
  · refine lv_ladd X.1 X.2.1 hd ?_
    have e : Int64.ofInt (w64 (x + y)) = Int64.ofInt x + Int64.ofInt y := by rw [ofInt_w64, Int64.ofInt_add]
    rw [← e]
    exact kk
theorem ok_lsub {x y : Int} (hd : decode M.2.1 pc = .ok (.lsub, 1)) (k : OK G d M (pc + 1) ls (vL (w64 (x - y)) :: st) h Q) : OK G d M pc ls (vL y :: vL x :: st) h Q := by
  refine ok_st ?_ k (fun p l e R s m args below meth c H locs la cells slots Q' X L hR V kk => ?_)
  · exact fun V => om_c1 (lR_w64 _) (om_t1 (om_t1 V.2.1))
  · refine lv_lsub X.1 X.2.1 hd ?_
    have e : Int64.ofInt (w64 (x - y)) = Int64.ofInt x - Int64.ofInt y := by rw [ofInt_w64, Int64.ofInt_sub]
    rw [← e]
    exact kk
theorem ok_lmul {x y : Int} (hd : decode M.2.1 pc = .ok (.lmul, 1)) (k : OK G d M (pc + 1) ls (vL (w64 (x * y)) :: st) h Q) : OK G d M pc ls (vL y :: vL x :: st) h Q := by
  refine ok_st ?_ k (fun p l e R s m args below meth c H locs la cells slots Q' X L hR V kk => ?_)
  · exact fun V => om_c1 (lR_w64 _) (om_t1 (om_t1 V.2.1))
  · refine lv_lmul X.1 X.2.1 hd ?_
    have e : Int64.ofInt (w64 (x * y)) = Int64.ofInt x * Int64.ofInt y := by rw [ofInt_w64, Int64.ofInt_mul]
    rw [← e]
    exact kk
theorem ok_land {x y : Int} (hd : decode M.2.1 pc = .ok (.land, 1)) (k : OK G d M (pc + 1) ls (vL (and64 x y) :: st) h Q) : OK G d M pc ls (vL y :: vL x :: st) h Q := by
  refine ok_st ?_ k (fun p l e R s m args below meth c H locs la cells slots Q' X L hR V kk => ?_)
  · exact fun V => om_c1 (lR_to _) (om_t1 (om_t1 V.2.1))
  · refine lv_land X.1 X.2.1 hd ?_
    have e : Int64.ofInt (and64 x y) = Int64.ofInt x &&& Int64.ofInt y := by exact of64 _
    rw [← e]
    exact kk
theorem ok_lor {x y : Int} (hd : decode M.2.1 pc = .ok (.lor, 1)) (k : OK G d M (pc + 1) ls (vL (or64 x y) :: st) h Q) : OK G d M pc ls (vL y :: vL x :: st) h Q := by
  refine ok_st ?_ k (fun p l e R s m args below meth c H locs la cells slots Q' X L hR V kk => ?_)
  · exact fun V => om_c1 (lR_to _) (om_t1 (om_t1 V.2.1))
  · refine lv_lor X.1 X.2.1 hd ?_
    have e : Int64.ofInt (or64 x y) = Int64.ofInt x ||| Int64.ofInt y := by exact of64 _
    rw [← e]
    exact kk
theorem ok_ineg {x : Int} (hd : decode M.2.1 pc = .ok (.ineg, 1)) (k : OK G d M (pc + 1) ls (vI (w32 (-x)) :: st) h Q) : OK G d M pc ls (vI x :: st) h Q := by
  refine ok_st ?_ k (fun p l e R s m args below meth c H locs la cells slots Q' X L hR V kk => ?_)
  · exact fun V => om_c1 (iR_w32 _) (om_t1 V.2.1)
  · refine lv_ineg X.1 X.2.1 hd ?_
    have e : Int32.ofInt (w32 (-x)) = -Int32.ofInt x := by rw [ofInt_w32, Int32.ofInt_neg]
    rw [← e]
    exact kk
theorem ok_lneg {x : Int} (hd : decode M.2.1 pc = .ok (.lneg, 1)) (k : OK G d M (pc + 1) ls (vL (w64 (-x)) :: st) h Q) : OK G d M pc ls (vL x :: st) h Q := by
  refine ok_st ?_ k (fun p l e R s m args below meth c H locs la cells slots Q' X L hR V kk => ?_)
  · exact fun V => om_c1 (lR_w64 _) (om_t1 V.2.1)
  · refine lv_lneg X.1 X.2.1 hd ?_
    have e : Int64.ofInt (w64 (-x)) = -Int64.ofInt x := by rw [ofInt_w64, Int64.ofInt_neg]
    rw [← e]
    exact kk
theorem ok_lshl {x y : Int} (hd : decode M.2.1 pc = .ok (.lshl, 1)) (k : OK G d M (pc + 1) ls (vL (shl64 x y) :: st) h Q) : OK G d M pc ls (vI y :: vL x :: st) h Q := by
  refine ok_st ?_ k (fun p l e R s m args below meth c H locs la cells slots Q' X L hR V kk => ?_)
  · exact fun V => om_c1 (lR_to _) (om_t1 (om_t1 V.2.1))
  · refine lv_lshl (v := Int64.ofInt (shl64 x y)) X.1 X.2.1 hd (of64 _).symm ?_
    exact kk
theorem ok_lshr {x y : Int} (hd : decode M.2.1 pc = .ok (.lshr, 1)) (k : OK G d M (pc + 1) ls (vL (shr64 x y) :: st) h Q) : OK G d M pc ls (vI y :: vL x :: st) h Q := by
  refine ok_st ?_ k (fun p l e R s m args below meth c H locs la cells slots Q' X L hR V kk => ?_)
  · exact fun V => om_c1 (lR_to _) (om_t1 (om_t1 V.2.1))
  · refine lv_lshr (v := Int64.ofInt (shr64 x y)) X.1 X.2.1 hd (of64 _).symm ?_
    exact kk
theorem ok_i2l {x : Int} (hd : decode M.2.1 pc = .ok (.i2l, 1)) (k : OK G d M (pc + 1) ls (vL x :: st) h Q) : OK G d M pc ls (vI x :: st) h Q := by
  refine ok_st ?_ k (fun p l e R s m args below meth c H locs la cells slots Q' X L hR V kk => ?_)
  · exact fun V => om_c1 (lR_of (om_h1 V.2.1)) (om_t1 V.2.1)
  · exact lv_i2l X.1 X.2.1 hd (i2l_ok (om_h1 V.2.1)) kk
theorem ok_l2i {x : Int} (hd : decode M.2.1 pc = .ok (.l2i, 1)) (k : OK G d M (pc + 1) ls (vI (l2i x) :: st) h Q) : OK G d M pc ls (vL x :: st) h Q := by
  refine ok_st ?_ k (fun p l e R s m args below meth c H locs la cells slots Q' X L hR V kk => ?_)
  · exact fun V => om_c1 (iR_to _) (om_t1 V.2.1)
  · refine lv_l2i (v := Int32.ofInt (l2i x)) X.1 X.2.1 hd (of32 _).symm ?_
    exact kk
theorem ok_i2b {x : Int} (hd : decode M.2.1 pc = .ok (.i2b, 1)) (k : OK G d M (pc + 1) ls (vI (b8 x) :: st) h Q) : OK G d M pc ls (vI x :: st) h Q := by
  refine ok_st ?_ k (fun p l e R s m args below meth c H locs la cells slots Q' X L hR V kk => ?_)
  · exact fun V => om_c1 (iR_to _) (om_t1 V.2.1)
  · refine lv_i2b (v := Int32.ofInt (b8 x)) X.1 X.2.1 hd (of32 _).symm ?_
    exact kk
theorem ok_i2c {x : Int} (hd : decode M.2.1 pc = .ok (.i2c, 1)) (k : OK G d M (pc + 1) ls (vI (c16 x) :: st) h Q) : OK G d M pc ls (vI x :: st) h Q := by
  refine ok_st ?_ k (fun p l e R s m args below meth c H locs la cells slots Q' X L hR V kk => ?_)
  · exact fun V => om_c1 (iR_to _) (om_t1 V.2.1)
  · refine lv_i2c (v := Int32.ofInt (c16 x)) X.1 X.2.1 hd (of32 _).symm ?_
    exact kk
theorem ok_iconst {n : Int} (hd : decode M.2.1 pc = .ok (.iconst n, 1)) (hv : iR n) (k : OK G d M (pc + 1) ls (vI n :: st) h Q) : OK G d M pc ls (st) h Q := by
  refine ok_st ?_ k (fun p l e R s m args below meth c H locs la cells slots Q' X L hR V kk => ?_)
  · exact fun V => om_c1 hv V.2.1
  · exact lv_iconst X.1 X.2.1 hd rfl kk
theorem ok_bipush {n v : Int} (hd : decode M.2.1 pc = .ok (.bipush n, 2)) (hv : (Int8.ofInt n).toInt32 = Int32.ofInt v) (hr : iR v) (k : OK G d M (pc + 2) ls (vI v :: st) h Q) : OK G d M pc ls (st) h Q := by
  refine ok_st ?_ k (fun p l e R s m args below meth c H locs la cells slots Q' X L hR V kk => ?_)
  · exact fun V => om_c1 hr V.2.1
  · exact lv_bipush X.1 X.2.1 hd hv kk
theorem ok_sipush {n v : Int} (hd : decode M.2.1 pc = .ok (.sipush n, 3)) (hv : (Int16.ofInt n).toInt32 = Int32.ofInt v) (hr : iR v) (k : OK G d M (pc + 3) ls (vI v :: st) h Q) : OK G d M pc ls (st) h Q := by
  refine ok_st ?_ k (fun p l e R s m args below meth c H locs la cells slots Q' X L hR V kk => ?_)
  · exact fun V => om_c1 hr V.2.1
  · exact lv_sipush X.1 X.2.1 hd hv kk
theorem ok_lconst {n : Fin 2} {v : Int} (hd : decode M.2.1 pc = .ok (.lconst n, 1)) (hv : Int64.ofNat (n : Nat) = Int64.ofInt v) (hr : lR v) (k : OK G d M (pc + 1) ls (vL v :: st) h Q) : OK G d M pc ls (st) h Q := by
  refine ok_st ?_ k (fun p l e R s m args below meth c H locs la cells slots Q' X L hR V kk => ?_)
  · exact fun V => om_c1 hr V.2.1
  · exact lv_lconst X.1 X.2.1 hd hv kk
theorem ok_null  (hd : decode M.2.1 pc = .ok (.aconst_null, 1)) (k : OK G d M (pc + 1) ls (vR 0 :: st) h Q) : OK G d M pc ls (st) h Q := by
  refine ok_st ?_ k (fun p l e R s m args below meth c H locs la cells slots Q' X L hR V kk => ?_)
  · exact fun V => om_c1 (show om_okV (vR 0) from trivial) V.2.1
  · exact lv_null X.1 X.2.1 hd kk
theorem ok_dupI {x : Int} (hd : decode M.2.1 pc = .ok (.dup, 1)) (k : OK G d M (pc + 1) ls (vI x :: vI x :: st) h Q) : OK G d M pc ls (vI x :: st) h Q := by
  refine ok_st ?_ k (fun p l e R s m args below meth c H locs la cells slots Q' X L hR V kk => ?_)
  · exact fun V => om_c1 (om_h1 V.2.1) V.2.1
  · exact lv_dup X.1 X.2.1 hd rfl kk
theorem ok_popI {x : Int} (hd : decode M.2.1 pc = .ok (.pop, 1)) (k : OK G d M (pc + 1) ls (st) h Q) : OK G d M pc ls (vI x :: st) h Q := by
  refine ok_st ?_ k (fun p l e R s m args below meth c H locs la cells slots Q' X L hR V kk => ?_)
  · exact fun V => om_t1 V.2.1
  · exact lv_pop X.1 X.2.1 hd rfl kk
theorem ok_dup_x1I {x : Int} {y : Nat} (hd : decode M.2.1 pc = .ok (.dup_x1, 1)) (k : OK G d M (pc + 1) ls (vI x :: vR y :: vI x :: st) h Q) : OK G d M pc ls (vI x :: vR y :: st) h Q := by
  refine ok_st ?_ k (fun p l e R s m args below meth c H locs la cells slots Q' X L hR V kk => ?_)
  · exact fun V => om_c1 (om_h1 V.2.1) (om_c1 (om_h1 (om_t1 V.2.1)) (om_c1 (om_h1 V.2.1) (om_t1 (om_t1 V.2.1))))
  · exact lv_dup_x1 X.1 X.2.1 hd rfl (om_cat1R y) kk
theorem ok_dupR {x : Nat} (hd : decode M.2.1 pc = .ok (.dup, 1)) (k : OK G d M (pc + 1) ls (vR x :: vR x :: st) h Q) : OK G d M pc ls (vR x :: st) h Q := by
  refine ok_st ?_ k (fun p l e R s m args below meth c H locs la cells slots Q' X L hR V kk => ?_)
  · exact fun V => om_c1 (om_h1 V.2.1) V.2.1
  · exact lv_dup X.1 X.2.1 hd (om_cat1R x) kk
theorem ok_popR {x : Nat} (hd : decode M.2.1 pc = .ok (.pop, 1)) (k : OK G d M (pc + 1) ls (st) h Q) : OK G d M pc ls (vR x :: st) h Q := by
  refine ok_st ?_ k (fun p l e R s m args below meth c H locs la cells slots Q' X L hR V kk => ?_)
  · exact fun V => om_t1 V.2.1
  · exact lv_pop X.1 X.2.1 hd (om_cat1R x) kk
theorem ok_dup_x1R {x : Nat} {y : Nat} (hd : decode M.2.1 pc = .ok (.dup_x1, 1)) (k : OK G d M (pc + 1) ls (vR x :: vR y :: vR x :: st) h Q) : OK G d M pc ls (vR x :: vR y :: st) h Q := by
  refine ok_st ?_ k (fun p l e R s m args below meth c H locs la cells slots Q' X L hR V kk => ?_)
  · exact fun V => om_c1 (om_h1 V.2.1) (om_c1 (om_h1 (om_t1 V.2.1)) (om_c1 (om_h1 V.2.1) (om_t1 (om_t1 V.2.1))))
  · exact lv_dup_x1 X.1 X.2.1 hd (om_cat1R x) (om_cat1R y) kk
theorem ok_dup2 {x : Int} {y : Nat} (hd : decode M.2.1 pc = .ok (.dup2, 1)) (k : OK G d M (pc + 1) ls (vI x :: vR y :: vI x :: vR y :: st) h Q) : OK G d M pc ls (vI x :: vR y :: st) h Q := by
  refine ok_st ?_ k (fun p l e R s m args below meth c H locs la cells slots Q' X L hR V kk => ?_)
  · exact fun V => om_c1 (om_h1 V.2.1) (om_c1 (om_h1 (om_t1 V.2.1)) V.2.1)
  · exact lv_dup2_11 X.1 X.2.1 hd rfl (om_cat1R y) kk
theorem ok_iload_n {n : Fin 4} {x : Int} (hd : decode M.2.1 pc = .ok (.iload_n n, 1)) (hl : ls[(n : Nat)]? = some (some (vI x))) (k : OK G d M (pc + 1) ls (vI x :: st) h Q) : OK G d M pc ls st h Q := by
  refine ok_st ?_ k (fun p l e R s m args below meth c H locs la cells slots Q' X L hR V kk => ?_)
  · exact fun V => om_c1 (V.at hl) V.2.1
  exact lv_iload_n X.1 X.2.1 hd rfl (L.get hl) kk
theorem ok_iload {n : Nat} {x : Int} (hd : decode M.2.1 pc = .ok (.iload n, 2)) (hl : ls[n]? = some (some (vI x))) (k : OK G d M (pc + 2) ls (vI x :: st) h Q) : OK G d M pc ls st h Q := by
  refine ok_st ?_ k (fun p l e R s m args below meth c H locs la cells slots Q' X L hR V kk => ?_)
  · exact fun V => om_c1 (V.at hl) V.2.1
  exact lv_iload X.1 X.2.1 hd (L.get hl) kk
theorem ok_lload_n {n : Fin 4} {x : Int} (hd : decode M.2.1 pc = .ok (.lload_n n, 1)) (hl : ls[(n : Nat)]? = some (some (vL x))) (k : OK G d M (pc + 1) ls (vL x :: st) h Q) : OK G d M pc ls st h Q := by
  refine ok_st ?_ k (fun p l e R s m args below meth c H locs la cells slots Q' X L hR V kk => ?_)
  · exact fun V => om_c1 (V.at hl) V.2.1
  exact lv_lload_n X.1 X.2.1 hd rfl (L.get hl) kk
theorem ok_lload {n : Nat} {x : Int} (hd : decode M.2.1 pc = .ok (.lload n, 2)) (hl : ls[n]? = some (some (vL x))) (k : OK G d M (pc + 2) ls (vL x :: st) h Q) : OK G d M pc ls st h Q := by
  refine ok_st ?_ k (fun p l e R s m args below meth c H locs la cells slots Q' X L hR V kk => ?_)
  · exact fun V => om_c1 (V.at hl) V.2.1
  exact lv_lload X.1 X.2.1 hd (L.get hl) kk
theorem ok_aload_n {n : Fin 4} {x : Nat} (hd : decode M.2.1 pc = .ok (.aload_n n, 1)) (hl : ls[(n : Nat)]? = some (some (vR x))) (k : OK G d M (pc + 1) ls (vR x :: st) h Q) : OK G d M pc ls st h Q := by
  refine ok_st ?_ k (fun p l e R s m args below meth c H locs la cells slots Q' X L hR V kk => ?_)
  · exact fun V => om_c1 (V.at hl) V.2.1
  cases x with
  | zero => exact lv_aload_nN X.1 X.2.1 hd rfl (L.get hl) kk
  | succ x => exact lv_aload_n X.1 X.2.1 hd rfl (L.get hl) kk
theorem ok_aload {n : Nat} {x : Nat} (hd : decode M.2.1 pc = .ok (.aload n, 2)) (hl : ls[n]? = some (some (vR x))) (k : OK G d M (pc + 2) ls (vR x :: st) h Q) : OK G d M pc ls st h Q := by
  refine ok_st ?_ k (fun p l e R s m args below meth c H locs la cells slots Q' X L hR V kk => ?_)
  · exact fun V => om_c1 (V.at hl) V.2.1
  cases x with
  | zero => exact lv_aloadN X.1 X.2.1 hd (L.get hl) kk
  | succ x => exact lv_aload X.1 X.2.1 hd (L.get hl) kk
def om_kl (ls : List (Option om_V)) (i : Nat) : List (Option om_V) := match i with
  | 0 => ls
  | j + 1 => match ls[j]? with
    | some (some (.inr (.inl _))) => ls.set j none
    | _ => ls
/-- a value of one word is stored; of two -/
def lset (ls : List (Option om_V)) (i : Nat) (v : om_V) : List (Option om_V) := (om_kl ls i).set i (some v)
def lset2 (ls : List (Option om_V)) (i : Nat) (v : om_V) : List (Option om_V) := ((om_kl ls i).set i (some v)).set (i + 1) none
theorem om_kl_len (ls : List (Option om_V)) (i : Nat) : (om_kl ls i).length = ls.length := by
  unfold om_kl
  split
  · rfl
  · split
    · simp
    · rfl
theorem om_kl_get0 {ls : List (Option om_V)} {i j : Nat} {v : om_V} (h : (om_kl ls i)[j]? = some (some v)) : ls[j]? = some (some v) := by
  unfold om_kl at h
  split at h
  · exact h
  · rename_i i' n
    split at h
    · rename_i x hx
      by_cases c : n = j
      · subst c
        rw [List.getElem?_set_self (List.getElem?_eq_some_iff.mp hx).1] at h
        cases h
      · rw [List.getElem?_set_ne c] at h
        exact h
    · exact h
theorem om_kl_get {ls : List (Option om_V)} {i j : Nat} {v : om_V} (h : (om_kl ls i)[j]? = some (some v)) : ls[j]? = some (some v) ∧ ¬ (j + 1 = i ∧ (om_tv G v).category = 2) := by
  unfold om_kl at h
  split at h
  · exact ⟨h, fun q => by omega⟩
  · rename_i i' n
    split at h
    · rename_i x hx
      by_cases c : n = j
      · subst c
        rw [List.getElem?_set_self (List.getElem?_eq_some_iff.mp hx).1] at h
        cases h
      · rw [List.getElem?_set_ne c] at h
        exact ⟨h, fun q => by omega⟩
    · rename_i hx
      refine ⟨h, fun q => ?_⟩
      have e : j = n := by omega
      subst e
      rcases v with x | x | x
      · exact absurd q.2 (by simp [om_tv, Value.category])
      · exact hx x h
      · exact absurd q.2 (by rw [show (om_tv G (vR x)).category = 1 from om_cat1R x]; decide)
theorem om_st1 {la : Array Slot} {n i : Nat} {v : om_V} {ls' : List (Option om_V)} {la' : Array Slot} (hL : om_L G n ls la) (hs : lset ls i v = ls') (hl : lv_has la' n ((i, om_tv G v) :: (om_as G ls).filter (fun q => !(q.1 == i) && !(q.1 + 1 == i && q.2.category == 2)))) : om_L G n ls' la' := by
  refine ⟨⟨hl.1, hl.2.1, fun q hq => ?_⟩, by rw [← hs]; unfold lset; rw [List.length_set, om_kl_len]; exact hL.2⟩
  obtain ⟨u, h1, h2⟩ := om_as_mem.mp (show (q.1, q.2) ∈ om_as G ls' from hq)
  apply hl.2.2 q
  rw [← hs] at h1
  unfold lset at h1
  by_cases c : q.1 = i
  · rw [c] at h1
    by_cases b : i < (om_kl ls i).length
    · rw [List.getElem?_set_self b] at h1
      obtain ⟨rfl⟩ : v = u := by simpa using h1
      exact List.mem_cons.mpr (Or.inl (Prod.ext c h2))
    · rw [List.getElem?_eq_none (by simp; omega)] at h1
      cases h1
  · rw [List.getElem?_set_ne (Ne.symm c)] at h1
    obtain ⟨g1, g2⟩ := om_kl_get h1
    refine List.mem_cons.mpr (Or.inr (List.mem_filter.mpr ⟨om_as_mem.mpr ⟨u, g1, h2⟩, ?_⟩))
    have k1 : (q.1 == i) = false := by simpa using c
    rw [k1]
    rw [h2]
    by_cases k2 : q.1 + 1 = i
    · have k3 : ¬ (om_tv G u).category = 2 := fun z => g2 ⟨k2, z⟩
      simp [k2, k3]
    · simp [k2]
theorem om_store1 {la : Array Slot} {n i : Nat} {v : om_V} {ls' : List (Option om_V)} (hL : om_L G n ls la) (hn : i < n) (hc : (om_tv G v).category = 1) (hs : lset ls i v = ls') : ∃ la', storeLocals la i (om_tv G v) = some la' ∧ om_L G n ls' la' := by
  obtain ⟨la', e1, e2⟩ := lv_store1 hL.1 hn hc
  exact ⟨la', e1, om_st1 hL hs e2⟩
theorem om_store2 {la : Array Slot} {n i : Nat} {v : om_V} {ls' : List (Option om_V)} (hL : om_L G n ls la) (hn : i + 1 < n) (hc : (om_tv G v).category = 2) (hs : lset2 ls i v = ls') : ∃ la', storeLocals la i (om_tv G v) = some la' ∧ om_L G n ls' la' := by
  obtain ⟨la', e1, e2, e3, e4⟩ := lv_store2 hL.1 hn hc
  refine ⟨la', e1, ⟨e2, e3, fun q hq => ?_⟩, by rw [← hs]; unfold lset2; rw [List.length_set, List.length_set, om_kl_len]; exact hL.2⟩
  obtain ⟨u, h1, h2⟩ := om_as_mem.mp (show (q.1, q.2) ∈ om_as G ls' from hq)
  apply e4 q
  rw [← hs] at h1
  unfold lset2 at h1
  by_cases c2 : q.1 = i + 1
  · rw [c2] at h1
    by_cases b : i + 1 < ((om_kl ls i).set i (some v)).length
    · rw [List.getElem?_set_self b] at h1
      cases h1
    · rw [List.getElem?_eq_none (by simp at b ⊢; omega)] at h1
      cases h1
  rw [List.getElem?_set_ne (Ne.symm c2)] at h1
  by_cases c : q.1 = i
  · rw [c] at h1
    by_cases b : i < (om_kl ls i).length
    · rw [List.getElem?_set_self b] at h1
      obtain ⟨rfl⟩ : v = u := by simpa using h1
      exact List.mem_cons.mpr (Or.inl (Prod.ext c h2))
    · rw [List.getElem?_eq_none (by simp; omega)] at h1
      cases h1
  · rw [List.getElem?_set_ne (Ne.symm c)] at h1
    obtain ⟨g1, g2⟩ := om_kl_get h1
    refine List.mem_cons.mpr (Or.inr (List.mem_filter.mpr ⟨om_as_mem.mpr ⟨u, g1, h2⟩, ?_⟩))
    have k1 : (q.1 == i) = false := by simpa using c
    have k4 : (q.1 == i + 1) = false := by simpa using c2
    rw [k1, k4, h2]
    by_cases k2 : q.1 + 1 = i
    · have k3 : ¬ (om_tv G u).category = 2 := fun z => g2 ⟨k2, z⟩
      simp [k2, k3]
    · simp [k2]
theorem om_set_ok {i : Nat} {v : om_V} (h1 : ∀ u, some u ∈ ls → om_okV u) (hv : om_okV v) : ∀ u, some u ∈ lset ls i v → om_okV u := by
  intro u hu
  unfold lset at hu
  obtain ⟨j, hj⟩ := List.getElem?_of_mem hu
  by_cases c : i = j
  · subst c
    by_cases b : i < (om_kl ls i).length
    · rw [List.getElem?_set_self b] at hj
      obtain ⟨rfl⟩ : v = u := by simpa using hj
      exact hv
    · rw [List.getElem?_eq_none (by simp; omega)] at hj
      cases hj
  · rw [List.getElem?_set_ne c] at hj
    exact h1 u (List.mem_of_getElem? (om_kl_get0 hj))
theorem om_set2_ok {i : Nat} {v : om_V} (h1 : ∀ u, some u ∈ ls → om_okV u) (hv : om_okV v) : ∀ u, some u ∈ lset2 ls i v → om_okV u := by
  intro u hu
  unfold lset2 at hu
  obtain ⟨j, hj⟩ := List.getElem?_of_mem hu
  by_cases c : i + 1 = j
  · subst c
    by_cases b : i + 1 < ((om_kl ls i).set i (some v)).length
    · rw [List.getElem?_set_self b] at hj
      cases hj
    · rw [List.getElem?_eq_none (by simp at b ⊢; omega)] at hj
      cases hj
  · rw [List.getElem?_set_ne c] at hj
    exact om_set_ok (i := i) h1 hv u (List.mem_of_getElem? hj)
theorem ok_istore_n {n : Fin 4} {x : Int} {ls' : List (Option om_V)} (hd : decode M.2.1 pc = .ok (.istore_n n, 1)) (hn : (n : Nat) < M.2.2.1) (hs : lset ls (n : Nat) (vI x) = ls') (k : OK G d M (pc + 1) ls' st h Q) : OK G d M pc ls (vI x :: st) h Q := by
  refine ok_step (fun V => ⟨V.1, om_t1 V.2.1, by rw [← hs]; exact om_set_ok V.2.2 (om_h1 V.2.1)⟩) (Nat.le_refl _) (Nat.le_refl _) k (fun p l e R s m args below meth c H locs la u0 Q' V C _ _ kk => ?_)
  obtain ⟨X, -, -, -, hR, hlo, hL⟩ := C
  obtain ⟨la', e', h'⟩ := om_store1 (v := vI x) hL hn rfl hs
  intro T hT S
  obtain ⟨t, a, b⟩ := kk H locs la' hR hlo h' T hT S
  refine ⟨t, ?_, b⟩
  have hxx := X.1
  have hbb := X.2.1
  have e2 : storeLocals la (n : Nat) (.int (Int32.ofInt x)) = some la' := e'
  show Steps p.tables e below (T.setTop (F0 m pc la (.int (Int32.ofInt x) :: st.map (om_tv G)))) t
  jvm_step S.here [S.here.top, ↓top_set S.here.top, hxx, hbb, hd, e2]
  exact a
theorem ok_istore {n : Nat} {x : Int} {ls' : List (Option om_V)} (hd : decode M.2.1 pc = .ok (.istore n, 2)) (hn : n < M.2.2.1) (hs : lset ls n (vI x) = ls') (k : OK G d M (pc + 2) ls' st h Q) : OK G d M pc ls (vI x :: st) h Q := by
  refine ok_step (fun V => ⟨V.1, om_t1 V.2.1, by rw [← hs]; exact om_set_ok V.2.2 (om_h1 V.2.1)⟩) (Nat.le_refl _) (Nat.le_refl _) k (fun p l e R s m args below meth c H locs la u0 Q' V C _ _ kk => ?_)
  obtain ⟨X, -, -, -, hR, hlo, hL⟩ := C
  obtain ⟨la', e', h'⟩ := om_store1 (v := vI x) hL hn rfl hs
  intro T hT S
  obtain ⟨t, a, b⟩ := kk H locs la' hR hlo h' T hT S
  refine ⟨t, ?_, b⟩
  have hxx := X.1
  have hbb := X.2.1
  have e2 : storeLocals la n (.int (Int32.ofInt x)) = some la' := e'
  show Steps p.tables e below (T.setTop (F0 m pc la (.int (Int32.ofInt x) :: st.map (om_tv G)))) t
  jvm_step S.here [S.here.top, ↓top_set S.here.top, hxx, hbb, hd, e2]
  exact a
theorem ok_lstore_n {n : Fin 4} {x : Int} {ls' : List (Option om_V)} (hd : decode M.2.1 pc = .ok (.lstore_n n, 1)) (hn : (n : Nat) + 1 < M.2.2.1) (hs : lset2 ls (n : Nat) (vL x) = ls') (k : OK G d M (pc + 1) ls' st h Q) : OK G d M pc ls (vL x :: st) h Q := by
  refine ok_step (fun V => ⟨V.1, om_t1 V.2.1, by rw [← hs]; exact om_set2_ok V.2.2 (om_h1 V.2.1)⟩) (Nat.le_refl _) (Nat.le_refl _) k (fun p l e R s m args below meth c H locs la u0 Q' V C _ _ kk => ?_)
  obtain ⟨X, -, -, -, hR, hlo, hL⟩ := C
  obtain ⟨la', e', h'⟩ := om_store2 (v := vL x) hL hn rfl hs
  intro T hT S
  obtain ⟨t, a, b⟩ := kk H locs la' hR hlo h' T hT S
  refine ⟨t, ?_, b⟩
  have hxx := X.1
  have hbb := X.2.1
  have e2 : storeLocals la (n : Nat) (.long (Int64.ofInt x)) = some la' := e'
  show Steps p.tables e below (T.setTop (F0 m pc la (.long (Int64.ofInt x) :: st.map (om_tv G)))) t
  jvm_step S.here [S.here.top, ↓top_set S.here.top, hxx, hbb, hd, e2]
  exact a
theorem ok_lstore {n : Nat} {x : Int} {ls' : List (Option om_V)} (hd : decode M.2.1 pc = .ok (.lstore n, 2)) (hn : n + 1 < M.2.2.1) (hs : lset2 ls n (vL x) = ls') (k : OK G d M (pc + 2) ls' st h Q) : OK G d M pc ls (vL x :: st) h Q := by
  refine ok_step (fun V => ⟨V.1, om_t1 V.2.1, by rw [← hs]; exact om_set2_ok V.2.2 (om_h1 V.2.1)⟩) (Nat.le_refl _) (Nat.le_refl _) k (fun p l e R s m args below meth c H locs la u0 Q' V C _ _ kk => ?_)
  obtain ⟨X, -, -, -, hR, hlo, hL⟩ := C
  obtain ⟨la', e', h'⟩ := om_store2 (v := vL x) hL hn rfl hs
  intro T hT S
  obtain ⟨t, a, b⟩ := kk H locs la' hR hlo h' T hT S
  refine ⟨t, ?_, b⟩
  have hxx := X.1
  have hbb := X.2.1
  have e2 : storeLocals la n (.long (Int64.ofInt x)) = some la' := e'
  show Steps p.tables e below (T.setTop (F0 m pc la (.long (Int64.ofInt x) :: st.map (om_tv G)))) t
  jvm_step S.here [S.here.top, ↓top_set S.here.top, hxx, hbb, hd, e2]
  exact a
theorem ok_astore_n {n : Fin 4} {x : Nat} {ls' : List (Option om_V)} (hd : decode M.2.1 pc = .ok (.astore_n n, 1)) (hn : (n : Nat) < M.2.2.1) (hs : lset ls (n : Nat) (vR x) = ls') (k : OK G d M (pc + 1) ls' st h Q) : OK G d M pc ls (vR x :: st) h Q := by
  refine ok_step (fun V => ⟨V.1, om_t1 V.2.1, by rw [← hs]; exact om_set_ok V.2.2 (om_h1 V.2.1)⟩) (Nat.le_refl _) (Nat.le_refl _) k (fun p l e R s m args below meth c H locs la u0 Q' V C _ _ kk => ?_)
  obtain ⟨X, -, -, -, hR, hlo, hL⟩ := C
  obtain ⟨la', e', h'⟩ := om_store1 (v := vR x) hL hn (om_cat1R x) hs
  intro T hT S
  obtain ⟨t, a, b⟩ := kk H locs la' hR hlo h' T hT S
  refine ⟨t, ?_, b⟩
  have hxx := X.1
  have hbb := X.2.1
  cases x with
  | zero =>
    have e2 : storeLocals la (n : Nat) .null = some la' := e'
    show Steps p.tables e below (T.setTop (F0 m pc la (.null :: st.map (om_tv G)))) t
    jvm_step S.here [S.here.top, ↓top_set S.here.top, hxx, hbb, hd, e2]
    exact ⟨rfl, a⟩
  | succ r =>
    have e2 : storeLocals la (n : Nat) (.ref (om_ra G (r + 1))) = some la' := e'
    show Steps p.tables e below (T.setTop (F0 m pc la (.ref (om_ra G (r + 1)) :: st.map (om_tv G)))) t
    jvm_step S.here [S.here.top, ↓top_set S.here.top, hxx, hbb, hd, e2]
    exact ⟨rfl, a⟩
theorem ok_astore {n : Nat} {x : Nat} {ls' : List (Option om_V)} (hd : decode M.2.1 pc = .ok (.astore n, 2)) (hn : n < M.2.2.1) (hs : lset ls n (vR x) = ls') (k : OK G d M (pc + 2) ls' st h Q) : OK G d M pc ls (vR x :: st) h Q := by
  refine ok_step (fun V => ⟨V.1, om_t1 V.2.1, by rw [← hs]; exact om_set_ok V.2.2 (om_h1 V.2.1)⟩) (Nat.le_refl _) (Nat.le_refl _) k (fun p l e R s m args below meth c H locs la u0 Q' V C _ _ kk => ?_)
  obtain ⟨X, -, -, -, hR, hlo, hL⟩ := C
  obtain ⟨la', e', h'⟩ := om_store1 (v := vR x) hL hn (om_cat1R x) hs
  intro T hT S
  obtain ⟨t, a, b⟩ := kk H locs la' hR hlo h' T hT S
  refine ⟨t, ?_, b⟩
  have hxx := X.1
  have hbb := X.2.1
  cases x with
  | zero =>
    have e2 : storeLocals la n .null = some la' := e'
    show Steps p.tables e below (T.setTop (F0 m pc la (.null :: st.map (om_tv G)))) t
    jvm_step S.here [S.here.top, ↓top_set S.here.top, hxx, hbb, hd, e2]
    exact ⟨rfl, a⟩
  | succ r =>
    have e2 : storeLocals la n (.ref (om_ra G (r + 1))) = some la' := e'
    show Steps p.tables e below (T.setTop (F0 m pc la (.ref (om_ra G (r + 1)) :: st.map (om_tv G)))) t
    jvm_step S.here [S.here.top, ↓top_set S.here.top, hxx, hbb, hd, e2]
    exact ⟨rfl, a⟩
theorem ok_iinc {i : Nat} {n : Int} {x : Int} {ls' : List (Option om_V)} (hd : decode M.2.1 pc = .ok (.iinc i n, 3)) (hl : ls[i]? = some (some (vI x))) (hn : i < M.2.2.1) (hs : lset ls i (vI (w32 (x + n))) = ls') (k : OK G d M (pc + 3) ls' st h Q) : OK G d M pc ls st h Q := by
  refine ok_step (fun V => ⟨V.1, V.2.1, by rw [← hs]; exact om_set_ok V.2.2 (iR_w32 _)⟩) (Nat.le_refl _) (Nat.le_refl _) k (fun p l e R s m args below meth c H locs la u0 Q' V C _ _ kk => ?_)
  obtain ⟨X, -, -, -, hR, hlo, hL⟩ := C
  obtain ⟨j, hj⟩ := List.getElem?_of_mem (om_as_mem.mpr ⟨_, hl, rfl⟩)
  refine lv_iinc (v := Int32.ofInt (w32 (x + n))) X.1 X.2.1 hd hL.1 hj (by rw [ofInt_w32, Int32.ofInt_add]) hn rfl (fun la' h' => ?_)
  exact kk H locs la' hR hlo (om_st1 hL hs h')
theorem ok_if_eq {x : Int} {off : Int} {tgt : Nat} (hd : decode M.2.1 pc = .ok (.ifCond .eq off, 3)) (ht : (pc : Int) + off = (tgt : Int)) (kt : x = 0 → OK G d M tgt ls st h Q) (kf : x ≠ 0 → OK G d M (pc + 3) ls st h Q) : OK G d M pc ls (vI x :: st) h Q := by
  by_cases q : x = 0
  · refine ok_st (fun V => om_t1 V.2.1) (kt q) (fun p l e R s m args below meth c H locs la cells slots Q' X L hR V kk => ?_)
    exact lv_if_eq X.1 X.2.1 hd ht (fun _ => kk) (fun z => absurd ((i32_eq (om_h1 V.2.1) iR_0).mpr q) z)
  · refine ok_st (fun V => om_t1 V.2.1) (kf (by omega)) (fun p l e R s m args below meth c H locs la cells slots Q' X L hR V kk => ?_)
    exact lv_if_eq X.1 X.2.1 hd ht (fun z => absurd ((i32_eq (om_h1 V.2.1) iR_0).mp z) q) (fun _ => kk)
theorem ok_if_ne {x : Int} {off : Int} {tgt : Nat} (hd : decode M.2.1 pc = .ok (.ifCond .ne off, 3)) (ht : (pc : Int) + off = (tgt : Int)) (kt : x ≠ 0 → OK G d M tgt ls st h Q) (kf : x = 0 → OK G d M (pc + 3) ls st h Q) : OK G d M pc ls (vI x :: st) h Q := by
  by_cases q : x ≠ 0
  · refine ok_st (fun V => om_t1 V.2.1) (kt q) (fun p l e R s m args below meth c H locs la cells slots Q' X L hR V kk => ?_)
    exact lv_if_ne X.1 X.2.1 hd ht (fun _ => kk) (fun z => absurd ((i32_eq (om_h1 V.2.1) iR_0).mp z) q)
  · refine ok_st (fun V => om_t1 V.2.1) (kf (by omega)) (fun p l e R s m args below meth c H locs la cells slots Q' X L hR V kk => ?_)
    exact lv_if_ne X.1 X.2.1 hd ht (fun z => absurd ((i32_eq (om_h1 V.2.1) iR_0).mpr (by omega)) z) (fun _ => kk)
theorem ok_if_lt {x : Int} {off : Int} {tgt : Nat} (hd : decode M.2.1 pc = .ok (.ifCond .lt off, 3)) (ht : (pc : Int) + off = (tgt : Int)) (kt : x < 0 → OK G d M tgt ls st h Q) (kf : 0 ≤ x → OK G d M (pc + 3) ls st h Q) : OK G d M pc ls (vI x :: st) h Q := by
  by_cases q : x < 0
  · refine ok_st (fun V => om_t1 V.2.1) (kt q) (fun p l e R s m args below meth c H locs la cells slots Q' X L hR V kk => ?_)
    exact lv_if_lt X.1 X.2.1 hd ht (fun _ => kk) (fun z => absurd ((i32_lt (om_h1 V.2.1) iR_0).mpr q) z)
  · refine ok_st (fun V => om_t1 V.2.1) (kf (by omega)) (fun p l e R s m args below meth c H locs la cells slots Q' X L hR V kk => ?_)
    exact lv_if_lt X.1 X.2.1 hd ht (fun z => absurd ((i32_lt (om_h1 V.2.1) iR_0).mp z) q) (fun _ => kk)
theorem ok_if_ge {x : Int} {off : Int} {tgt : Nat} (hd : decode M.2.1 pc = .ok (.ifCond .ge off, 3)) (ht : (pc : Int) + off = (tgt : Int)) (kt : 0 ≤ x → OK G d M tgt ls st h Q) (kf : x < 0 → OK G d M (pc + 3) ls st h Q) : OK G d M pc ls (vI x :: st) h Q := by
  by_cases q : 0 ≤ x
  · refine ok_st (fun V => om_t1 V.2.1) (kt q) (fun p l e R s m args below meth c H locs la cells slots Q' X L hR V kk => ?_)
    exact lv_if_ge X.1 X.2.1 hd ht (fun _ => kk) (fun z => absurd ((i32_le iR_0 (om_h1 V.2.1)).mpr q) z)
  · refine ok_st (fun V => om_t1 V.2.1) (kf (by omega)) (fun p l e R s m args below meth c H locs la cells slots Q' X L hR V kk => ?_)
    exact lv_if_ge X.1 X.2.1 hd ht (fun z => absurd ((i32_le iR_0 (om_h1 V.2.1)).mp z) q) (fun _ => kk)
theorem ok_if_gt {x : Int} {off : Int} {tgt : Nat} (hd : decode M.2.1 pc = .ok (.ifCond .gt off, 3)) (ht : (pc : Int) + off = (tgt : Int)) (kt : 0 < x → OK G d M tgt ls st h Q) (kf : x ≤ 0 → OK G d M (pc + 3) ls st h Q) : OK G d M pc ls (vI x :: st) h Q := by
  by_cases q : 0 < x
  · refine ok_st (fun V => om_t1 V.2.1) (kt q) (fun p l e R s m args below meth c H locs la cells slots Q' X L hR V kk => ?_)
    exact lv_if_gt X.1 X.2.1 hd ht (fun _ => kk) (fun z => absurd ((i32_lt iR_0 (om_h1 V.2.1)).mpr q) z)
  · refine ok_st (fun V => om_t1 V.2.1) (kf (by omega)) (fun p l e R s m args below meth c H locs la cells slots Q' X L hR V kk => ?_)
    exact lv_if_gt X.1 X.2.1 hd ht (fun z => absurd ((i32_lt iR_0 (om_h1 V.2.1)).mp z) q) (fun _ => kk)
theorem ok_if_le {x : Int} {off : Int} {tgt : Nat} (hd : decode M.2.1 pc = .ok (.ifCond .le off, 3)) (ht : (pc : Int) + off = (tgt : Int)) (kt : x ≤ 0 → OK G d M tgt ls st h Q) (kf : 0 < x → OK G d M (pc + 3) ls st h Q) : OK G d M pc ls (vI x :: st) h Q := by
  by_cases q : x ≤ 0
  · refine ok_st (fun V => om_t1 V.2.1) (kt q) (fun p l e R s m args below meth c H locs la cells slots Q' X L hR V kk => ?_)
    exact lv_if_le X.1 X.2.1 hd ht (fun _ => kk) (fun z => absurd ((i32_le (om_h1 V.2.1) iR_0).mpr q) z)
  · refine ok_st (fun V => om_t1 V.2.1) (kf (by omega)) (fun p l e R s m args below meth c H locs la cells slots Q' X L hR V kk => ?_)
    exact lv_if_le X.1 X.2.1 hd ht (fun z => absurd ((i32_le (om_h1 V.2.1) iR_0).mp z) q) (fun _ => kk)
theorem ok_icmp_eq {x y : Int} {off : Int} {tgt : Nat} (hd : decode M.2.1 pc = .ok (.if_icmp .eq off, 3)) (ht : (pc : Int) + off = (tgt : Int)) (kt : x = y → OK G d M tgt ls st h Q) (kf : x ≠ y → OK G d M (pc + 3) ls st h Q) : OK G d M pc ls (vI y :: vI x :: st) h Q := by
  by_cases q : x = y
  · refine ok_st (fun V => om_t1 (om_t1 V.2.1)) (kt q) (fun p l e R s m args below meth c H locs la cells slots Q' X L hR V kk => ?_)
    exact lv_icmp_eq X.1 X.2.1 hd ht (fun _ => kk) (fun z => absurd ((i32_eq (om_h1 (om_t1 V.2.1)) (om_h1 V.2.1)).mpr q) z)
  · refine ok_st (fun V => om_t1 (om_t1 V.2.1)) (kf (by omega)) (fun p l e R s m args below meth c H locs la cells slots Q' X L hR V kk => ?_)
    exact lv_icmp_eq X.1 X.2.1 hd ht (fun z => absurd ((i32_eq (om_h1 (om_t1 V.2.1)) (om_h1 V.2.1)).mp z) q) (fun _ => kk)
theorem ok_icmp_ne {x y : Int} {off : Int} {tgt : Nat} (hd : decode M.2.1 pc = .ok (.if_icmp .ne off, 3)) (ht : (pc : Int) + off = (tgt : Int)) (kt : x ≠ y → OK G d M tgt ls st h Q) (kf : x = y → OK G d M (pc + 3) ls st h Q) : OK G d M pc ls (vI y :: vI x :: st) h Q := by
  by_cases q : x ≠ y
  · refine ok_st (fun V => om_t1 (om_t1 V.2.1)) (kt q) (fun p l e R s m args below meth c H locs la cells slots Q' X L hR V kk => ?_)
    exact lv_icmp_ne X.1 X.2.1 hd ht (fun _ => kk) (fun z => absurd ((i32_eq (om_h1 (om_t1 V.2.1)) (om_h1 V.2.1)).mp z) q)
  · refine ok_st (fun V => om_t1 (om_t1 V.2.1)) (kf (by omega)) (fun p l e R s m args below meth c H locs la cells slots Q' X L hR V kk => ?_)
    exact lv_icmp_ne X.1 X.2.1 hd ht (fun z => absurd ((i32_eq (om_h1 (om_t1 V.2.1)) (om_h1 V.2.1)).mpr (by omega)) z) (fun _ => kk)
theorem ok_icmp_lt {x y : Int} {off : Int} {tgt : Nat} (hd : decode M.2.1 pc = .ok (.if_icmp .lt off, 3)) (ht : (pc : Int) + off = (tgt : Int)) (kt : x < y → OK G d M tgt ls st h Q) (kf : y ≤ x → OK G d M (pc + 3) ls st h Q) : OK G d M pc ls (vI y :: vI x :: st) h Q := by
  by_cases q : x < y
  · refine ok_st (fun V => om_t1 (om_t1 V.2.1)) (kt q) (fun p l e R s m args below meth c H locs la cells slots Q' X L hR V kk => ?_)
    exact lv_icmp_lt X.1 X.2.1 hd ht (fun _ => kk) (fun z => absurd ((i32_lt (om_h1 (om_t1 V.2.1)) (om_h1 V.2.1)).mpr q) z)
  · refine ok_st (fun V => om_t1 (om_t1 V.2.1)) (kf (by omega)) (fun p l e R s m args below meth c H locs la cells slots Q' X L hR V kk => ?_)
    exact lv_icmp_lt X.1 X.2.1 hd ht (fun z => absurd ((i32_lt (om_h1 (om_t1 V.2.1)) (om_h1 V.2.1)).mp z) q) (fun _ => kk)
theorem ok_icmp_ge {x y : Int} {off : Int} {tgt : Nat} (hd : decode M.2.1 pc = .ok (.if_icmp .ge off, 3)) (ht : (pc : Int) + off = (tgt : Int)) (kt : y ≤ x → OK G d M tgt ls st h Q) (kf : x < y → OK G d M (pc + 3) ls st h Q) : OK G d M pc ls (vI y :: vI x :: st) h Q := by
  by_cases q : y ≤ x
  · refine ok_st (fun V => om_t1 (om_t1 V.2.1)) (kt q) (fun p l e R s m args below meth c H locs la cells slots Q' X L hR V kk => ?_)
    exact lv_icmp_ge X.1 X.2.1 hd ht (fun _ => kk) (fun z => absurd ((i32_le (om_h1 V.2.1) (om_h1 (om_t1 V.2.1))).mpr q) z)
  · refine ok_st (fun V => om_t1 (om_t1 V.2.1)) (kf (by omega)) (fun p l e R s m args below meth c H locs la cells slots Q' X L hR V kk => ?_)
    exact lv_icmp_ge X.1 X.2.1 hd ht (fun z => absurd ((i32_le (om_h1 V.2.1) (om_h1 (om_t1 V.2.1))).mp z) q) (fun _ => kk)
theorem ok_icmp_gt {x y : Int} {off : Int} {tgt : Nat} (hd : decode M.2.1 pc = .ok (.if_icmp .gt off, 3)) (ht : (pc : Int) + off = (tgt : Int)) (kt : y < x → OK G d M tgt ls st h Q) (kf : x ≤ y → OK G d M (pc + 3) ls st h Q) : OK G d M pc ls (vI y :: vI x :: st) h Q := by
  by_cases q : y < x
  · refine ok_st (fun V => om_t1 (om_t1 V.2.1)) (kt q) (fun p l e R s m args below meth c H locs la cells slots Q' X L hR V kk => ?_)
    exact lv_icmp_gt X.1 X.2.1 hd ht (fun _ => kk) (fun z => absurd ((i32_lt (om_h1 V.2.1) (om_h1 (om_t1 V.2.1))).mpr q) z)
  · refine ok_st (fun V => om_t1 (om_t1 V.2.1)) (kf (by omega)) (fun p l e R s m args below meth c H locs la cells slots Q' X L hR V kk => ?_)
    exact lv_icmp_gt X.1 X.2.1 hd ht (fun z => absurd ((i32_lt (om_h1 V.2.1) (om_h1 (om_t1 V.2.1))).mp z) q) (fun _ => kk)
theorem ok_icmp_le {x y : Int} {off : Int} {tgt : Nat} (hd : decode M.2.1 pc = .ok (.if_icmp .le off, 3)) (ht : (pc : Int) + off = (tgt : Int)) (kt : x ≤ y → OK G d M tgt ls st h Q) (kf : y < x → OK G d M (pc + 3) ls st h Q) : OK G d M pc ls (vI y :: vI x :: st) h Q := by
  by_cases q : x ≤ y
  · refine ok_st (fun V => om_t1 (om_t1 V.2.1)) (kt q) (fun p l e R s m args below meth c H locs la cells slots Q' X L hR V kk => ?_)
    exact lv_icmp_le X.1 X.2.1 hd ht (fun _ => kk) (fun z => absurd ((i32_le (om_h1 (om_t1 V.2.1)) (om_h1 V.2.1)).mpr q) z)
  · refine ok_st (fun V => om_t1 (om_t1 V.2.1)) (kf (by omega)) (fun p l e R s m args below meth c H locs la cells slots Q' X L hR V kk => ?_)
    exact lv_icmp_le X.1 X.2.1 hd ht (fun z => absurd ((i32_le (om_h1 (om_t1 V.2.1)) (om_h1 V.2.1)).mp z) q) (fun _ => kk)
theorem ok_acmp_eq {x y : Nat} {off : Int} {tgt : Nat} (hd : decode M.2.1 pc = .ok (.if_acmp .eq off, 3)) (ht : (pc : Int) + off = (tgt : Int)) (kt : x = y → OK G d M tgt ls st h Q) (kf : x ≠ y → OK G d M (pc + 3) ls st h Q) : OK G d M pc ls (vR y :: vR x :: st) h Q := by
  by_cases q : x = y
  · refine ok_st (fun V => om_t1 (om_t1 V.2.1)) (kt q) (fun p l e R s m args below meth c H locs la cells slots Q' X L hR V kk => ?_)
    show W p l e R s m args below meth c H locs cells slots Q' (F0 m pc la (om_rv G y :: om_rv G x :: st.map (om_tv G)))
    rw [om_o_rv, om_o_rv]
    exact lv_acmp_eq X.1 X.2.1 hd ht (fun _ => kk) (fun z => absurd (om_o_inj.mpr q) z)
  · refine ok_st (fun V => om_t1 (om_t1 V.2.1)) (kf (by omega)) (fun p l e R s m args below meth c H locs la cells slots Q' X L hR V kk => ?_)
    show W p l e R s m args below meth c H locs cells slots Q' (F0 m pc la (om_rv G y :: om_rv G x :: st.map (om_tv G)))
    rw [om_o_rv, om_o_rv]
    exact lv_acmp_eq X.1 X.2.1 hd ht (fun z => absurd (om_o_inj.mp z) q) (fun _ => kk)
theorem ok_acmp_ne {x y : Nat} {off : Int} {tgt : Nat} (hd : decode M.2.1 pc = .ok (.if_acmp .ne off, 3)) (ht : (pc : Int) + off = (tgt : Int)) (kt : x ≠ y → OK G d M tgt ls st h Q) (kf : x = y → OK G d M (pc + 3) ls st h Q) : OK G d M pc ls (vR y :: vR x :: st) h Q := by
  by_cases q : x ≠ y
  · refine ok_st (fun V => om_t1 (om_t1 V.2.1)) (kt q) (fun p l e R s m args below meth c H locs la cells slots Q' X L hR V kk => ?_)
    show W p l e R s m args below meth c H locs cells slots Q' (F0 m pc la (om_rv G y :: om_rv G x :: st.map (om_tv G)))
    rw [om_o_rv, om_o_rv]
    exact lv_acmp_ne X.1 X.2.1 hd ht (fun _ => kk) (fun z => absurd (om_o_inj.mp z) q)
  · refine ok_st (fun V => om_t1 (om_t1 V.2.1)) (kf (by omega)) (fun p l e R s m args below meth c H locs la cells slots Q' X L hR V kk => ?_)
    show W p l e R s m args below meth c H locs cells slots Q' (F0 m pc la (om_rv G y :: om_rv G x :: st.map (om_tv G)))
    rw [om_o_rv, om_o_rv]
    exact lv_acmp_ne X.1 X.2.1 hd ht (fun z => absurd (om_o_inj.mpr (by omega)) z) (fun _ => kk)
theorem ok_ifnull {x : Nat} {off : Int} {tgt : Nat} (hd : decode M.2.1 pc = .ok (.ifnull off, 3)) (ht : (pc : Int) + off = (tgt : Int)) (kt : x = 0 → OK G d M tgt ls st h Q) (kf : x ≠ 0 → OK G d M (pc + 3) ls st h Q) : OK G d M pc ls (vR x :: st) h Q := by
  cases x with
  | zero =>
    refine ok_st (fun V => om_t1 V.2.1) (kt rfl) (fun p l e R s m args below meth c H locs la cells slots Q' X L hR V kk => ?_)
    exact lv_ifnullN X.1 X.2.1 hd ht kk
  | succ x =>
    refine ok_st (fun V => om_t1 V.2.1) (kf (by omega)) (fun p l e R s m args below meth c H locs la cells slots Q' X L hR V kk => ?_)
    exact lv_ifnull X.1 X.2.1 hd kk
theorem ok_ifnonnull {x : Nat} {off : Int} {tgt : Nat} (hd : decode M.2.1 pc = .ok (.ifnonnull off, 3)) (ht : (pc : Int) + off = (tgt : Int)) (kt : x ≠ 0 → OK G d M tgt ls st h Q) (kf : x = 0 → OK G d M (pc + 3) ls st h Q) : OK G d M pc ls (vR x :: st) h Q := by
  cases x with
  | zero =>
    refine ok_st (fun V => om_t1 V.2.1) (kf rfl) (fun p l e R s m args below meth c H locs la cells slots Q' X L hR V kk => ?_)
    exact lv_ifnonnullN X.1 X.2.1 hd kk
  | succ x =>
    refine ok_st (fun V => om_t1 V.2.1) (kt (by omega)) (fun p l e R s m args below meth c H locs la cells slots Q' X L hR V kk => ?_)
    exact lv_ifnonnull X.1 X.2.1 hd ht kk
theorem ok_goto {off : Int} {tgt : Nat} (hd : decode M.2.1 pc = .ok (.goto off, 3)) (ht : (pc : Int) + off = (tgt : Int)) (k : OK G d M tgt ls st h Q) : OK G d M pc ls st h Q := by
  refine ok_st (fun V => V.2.1) k (fun p l e R s m args below meth c H locs la cells slots Q' X L hR V kk => ?_)
  exact lv_goto X.1 X.2.1 hd ht kk
theorem ok_tableOut {dflt lo hi : Int} {offs : Array Int} {len : Nat} {x : Int} {tgt : Nat} (hd : decode M.2.1 pc = .ok (.tableswitch dflt lo hi offs, len)) (h0 : x < lo ∨ hi < x) (ht : (pc : Int) + dflt = (tgt : Int)) (k : OK G d M tgt ls st h Q) : OK G d M pc ls (vI x :: st) h Q := by
  refine ok_st (fun V => om_t1 V.2.1) k (fun p l e R s m args below meth c H locs la cells slots Q' X L hR V kk => ?_)
  exact lv_tableOut X.1 X.2.1 hd (by rw [toInt_of32 (om_h1 V.2.1)]; exact h0) ht kk
theorem ok_tableIn {dflt lo hi : Int} {offs : Array Int} {len : Nat} {x : Int} {off : Int} {tgt : Nat} (hd : decode M.2.1 pc = .ok (.tableswitch dflt lo hi offs, len)) (v : Int) (hv : x = v) (h1 : ¬ v < lo) (h2 : ¬ hi < v) (ho : offs[(v - lo).toNat]? = some off) (ht : (pc : Int) + off = (tgt : Int)) (k : OK G d M tgt ls st h Q) : OK G d M pc ls (vI x :: st) h Q := by
  subst hv
  refine ok_st (fun V => om_t1 V.2.1) k (fun p l e R s m args below meth c H locs la cells slots Q' X L hR V kk => ?_)
  have e := toInt_of32 (om_h1 V.2.1)
  exact lv_tableIn X.1 X.2.1 hd (by rw [e]; exact h1) (by rw [e]; exact h2) (by rw [e]; exact ho) ht kk
theorem ok_lookup {dflt : Int} {ps : Array (Int × Int)} {len : Nat} {x : Int} {off : Int} {tgt : Nat} (hd : decode M.2.1 pc = .ok (.lookupswitch dflt ps, len)) (hp : (ps.toList.zip (ps.toList.drop 1)).all (fun (a, next) => a.1 < next.1) = true) (ho : Op.lookupswitch.offset ps.toList dflt x = off) (ht : (pc : Int) + off = (tgt : Int)) (k : OK G d M tgt ls st h Q) : OK G d M pc ls (vI x :: st) h Q := by
  refine ok_st (fun V => om_t1 V.2.1) k (fun p l e R s m args below meth c H locs la cells slots Q' X L hR V kk => ?_)
  exact lv_lookup X.1 X.2.1 hd hp (by rw [toInt_of32 (om_h1 V.2.1)]; exact ho) ht kk
theorem ok_castNull {index : Nat} (hd : decode M.2.1 pc = .ok (.checkcast index, 3)) (k : OK G d M (pc + 3) ls (vR 0 :: st) h Q) : OK G d M pc ls (vR 0 :: st) h Q := by
  refine ok_st (fun V => V.2.1) k (fun p l e R s m args below meth c H locs la cells slots Q' X L hR V kk => ?_)
  exact lv_castN X.1 X.2.1 hd kk
theorem ok_instNull {index : Nat} (hd : decode M.2.1 pc = .ok (.instanceof index, 3)) (k : OK G d M (pc + 3) ls (vI 0 :: st) h Q) : OK G d M pc ls (vR 0 :: st) h Q := by
  refine ok_st (fun V => om_c1 (a := vI 0) iR_0 (om_t1 V.2.1)) k (fun p l e R s m args below meth c H locs la cells slots Q' X L hR V kk => ?_)
  exact lv_instN X.1 X.2.1 hd kk
end OM3
