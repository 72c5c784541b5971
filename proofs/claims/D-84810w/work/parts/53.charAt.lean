set_option maxRecDepth 100000
section OM55
variable {G : om_G} {d : Nat} {h : om_H} {Q : om_O → Prop}
theorem c_J4_checkIndex {i n : Int} (hG : om_okG G) (hd : 1 ≤ d) (h0 : 0 ≤ i) (h1 : i < n) (q : Q (.inl none, h)) : OK G d m_J4_checkIndex 0 [some (vI i), some (vI n)] [] h Q := by
  refine ok_iload_n dJ4_checkIndex_0 rfl ?_
  refine ok_iload_n dJ4_checkIndex_1 rfl ?_
  refine ok_getsq dJ4_checkIndex_2 q890 (om_cA G 1004) (om_s1004 hG) ?_
  refine ok_callS (d' := d - 1) (Q1 := fun O => O = (.inl (some (vI i)), h)) (As := [vI i, vI n, vR (om_cA G 1004)]) (rest := []) dJ4_checkIndex_5 ml_J4_1059 mw_J6_checkIndex rfl q893 rfl (Nat.le_of_ble_eq_true rfl) (Nat.le_of_ble_eq_true rfl) (om_o0 rfl) (c_J6_checkIndex h0 h1 rfl) (by omega) (fun O hO => ?_)
  subst hO
  exact ok_fewer (ls' := [none, none]) trivial (b_J4_checkIndex_8 q)
theorem c_isLatin1 {j : Nat} {b : List Int} (hG : om_okG G) (hj : om_sb[j]? = some b) (q : Q (.inl (some (vI 1)), h)) : OK G d m_J4_isLatin1 0 [some (vR (om_cA G (100 + j)))] [] h Q := by
  have hlt := om_sb_lt hj
  refine b_J4_isLatin1_0 hG (fun z => by omega) (fun _ => ?_)
  refine ok_aload_n dJ4_isLatin1_6 rfl ?_
  refine ok_getC (w := vI 0) dJ4_isLatin1_7 q4526 (om_cA_0 hG (by omega)) (fun s hs => ((hG.1 s hs).2.2.2.1 j b hj).2.1) ⟨by decide, by decide⟩ ?_
  refine ok_if_ne (tgt := 17) dJ4_isLatin1_10 (by decide) (fun z => absurd rfl z) (fun _ => ?_)
  exact ok_fewer (ls' := [none]) trivial (b_J4_isLatin1_13 (b_J4_isLatin1_18 q (.inr rfl)))
theorem om_ch : ∀ n : Nat, n < 128 → c16 (and32 (n : Int) 255) = (n : Int) ∧ narrow .char (.int (Int32.ofInt (n : Int))) = .int (Int32.ofInt (n : Int)) := by decide +kernel
theorem om_ch' {x : Int} (h0 : 0 ≤ x) (h1 : x ≤ 127) : c16 (and32 x 255) = x ∧ narrow .char (.int (Int32.ofInt x)) = .int (Int32.ofInt x) := by
  obtain ⟨n, rfl⟩ := Int.eq_ofNat_of_zero_le h0
  exact om_ch n (by omega)
theorem c_J5_charAt {j : Nat} {b : List Int} {i x : Int} (hG : om_okG G) (hd : 2 ≤ d) (hj : om_sb[j]? = some b) (h0 : 0 ≤ i) (hx : b[i.toNat]? = some x) (q : Q (.inl (some (vI x)), h)) : OK G d m_J5_charAt 0 [some (vR (om_cA G (200 + j))), some (vI i)] [] h Q := by
  have hlt := om_sb_lt hj
  have hl := om_len_S hj
  have hb := om_byte_S hj x (List.mem_of_getElem? hx)
  have hi := (List.getElem?_eq_some_iff.mp hx).1
  have hT : ∀ s, om_K G s → va_T .byte (om_ra G (om_cA G (200 + j))) b.length (fun i => .int (Int32.ofInt (b.getD i 0))) (om_Aa G) s (om_H0 G) := fun s hs => ((hG.1 s hs).2.2.2.1 j b hj).2.2.2
  refine ok_iload_n dJ5_charAt_0 rfl ?_
  refine ok_aload_n dJ5_charAt_1 rfl ?_
  refine ok_alenC dJ5_charAt_2 (om_cA_0 hG (by omega)) hT (by omega) ?_
  refine ok_callS (d' := d - 1) (Q1 := fun O => O = (.inl none, h)) (As := [vI i, vI (b.length : Int)]) (rest := []) dJ5_charAt_3 ml_J5_9 mw_J4_checkIndex rfl q888 rfl (Nat.le_of_ble_eq_true rfl) (Nat.le_of_ble_eq_true rfl) (om_o0 rfl) (c_J4_checkIndex hG (by omega) h0 (by omega) rfl) (by omega) (fun O hO => ?_)
  subst hO
  refine ok_aload_n dJ5_charAt_6 rfl ?_
  refine ok_iload_n dJ5_charAt_7 rfl ?_
  have e : b.getD i.toNat 0 = x := by rw [List.getD_eq_getElem?_getD, hx]; rfl
  refine ok_baldC (f := fun i => b.getD i 0) dJ5_charAt_8 (om_cA_0 hG (by omega)) hT h0 (by omega) (by rw [e]; constructor <;> omega) ?_
  rw [e]
  refine ok_sipush (v := 255) dJ5_charAt_9 (by decide) ⟨by decide, by decide⟩ ?_
  refine ok_iand dJ5_charAt_12 ?_
  refine ok_i2c dJ5_charAt_13 ?_
  have e2 := om_ch' hb.1 hb.2
  rw [e2.1]
  exact ok_nret dJ5_charAt_14 rfl e2.2 q
/-- a String constant's char -/
theorem c_charAt {j : Nat} {b : List Int} {i x : Int} (hG : om_okG G) (hd : 3 ≤ d) (hj : om_sb[j]? = some b) (h0 : 0 ≤ i) (hx : b[i.toNat]? = some x) (q : Q (.inl (some (vI x)), h)) : OK G d m_J4_charAt 0 [some (vR (om_cA G (100 + j))), some (vI i)] [] h Q := by
  have hlt := om_sb_lt hj
  have hb := om_byte_S hj x (List.mem_of_getElem? hx)
  refine b_J4_charAt_0 (d' := d - 1) (Q1 := fun O => O = (.inl (some (vI 1)), h)) (hcal := c_isLatin1 hG hj rfl) (hdd := by omega) (c1 := om_Rc_S hG hj) (k := fun O hO => ?_)
  subst hO
  refine b_J4_charAt_4 (fun z => by omega) (fun _ => ?_)
  refine ok_aload_n dJ4_charAt_7 rfl ?_
  refine ok_getC (w := vR (om_cA G (200 + j))) dJ4_charAt_8 q4525 (om_cA_0 hG (by omega)) (fun s hs => by rw [om_tvR hG (by omega)]; exact ((hG.1 s hs).2.2.2.1 j b hj).2.2.1) trivial ?_
  refine ok_iload_n dJ4_charAt_11 rfl ?_
  refine ok_callS (d' := d - 1) (Q1 := fun O => O = (.inl (some (vI x)), h)) (As := [vR (om_cA G (200 + j)), vI i]) (rest := []) dJ4_charAt_12 ml_J4_495 mw_J5_charAt rfl q885 rfl (Nat.le_of_ble_eq_true rfl) (Nat.le_of_ble_eq_true rfl) (om_o0 rfl) (c_J5_charAt hG (by omega) hj h0 hx rfl) (by omega) (fun O hO => ?_)
  subst hO
  exact ok_nret dJ4_charAt_15 rfl (om_ch' hb.1 hb.2).2 q
end OM55
