set_option maxRecDepth 100000
/-! STRINGS, ENUMS, INTEGERS, FAULTS: the JDK's own methods on constants -/
section OM52
variable {G : om_G} {d : Nat} {h : om_H} {Q : om_O → Prop}
theorem om_tvR (hG : om_okG G) {i : Nat} (hi : i < 1000) : om_tv G (vR (om_cA G i)) = .ref (om_ca G i) := om_rv_ne (om_cA_0 hG hi)
theorem om_sb_lt {j : Nat} {b : List Int} (hj : om_sb[j]? = some b) : j < 55 := (List.getElem?_eq_some_iff.mp hj).1
theorem c_coder {j : Nat} {b : List Int} (hG : om_okG G) (hj : om_sb[j]? = some b) (q : Q (.inl (some (vI 0)), h)) : OK G d m_J4_coder 0 [some (vR (om_cA G (100 + j)))] [] h Q := by
  have hlt := om_sb_lt hj
  refine b_J4_coder_0 hG (fun z => by omega) (fun _ => ?_)
  refine ok_aload_n dJ4_coder_6 rfl ?_
  refine ok_getC (w := vI 0) dJ4_coder_7 q4526 (om_cA_0 hG (by omega)) (fun s hs => ((hG.1 s hs).2.2.2.1 j b hj).2.1) ⟨by decide, by decide⟩ ?_
  refine ok_goto (tgt := 14) dJ4_coder_10 (by decide) ?_
  exact ok_nret dJ4_coder_14 rfl (by decide) q
theorem om_Rc_S {j : Nat} {b : List Int} (hG : om_okG G) (hj : om_sb[j]? = some b) : om_Rc G h (om_cA G (100 + j)) "java/lang/String" := by
  have hlt := om_sb_lt hj
  exact om_Rc_c (om_cA_0 hG (by omega)) (fun s hs => ((hG.1 s hs).2.2.2.1 j b hj).1)
theorem om_len_S {j : Nat} {b : List Int} (hj : om_sb[j]? = some b) : b.length ≤ 100 := by
  have h1 : ∀ c ∈ om_sb, c.length ≤ 100 := by decide
  exact h1 b (List.mem_of_getElem? hj)
theorem om_byte_S {j : Nat} {b : List Int} (hj : om_sb[j]? = some b) : ∀ x ∈ b, 0 ≤ x ∧ x ≤ 127 := by
  have h1 : ∀ c ∈ om_sb, ∀ x ∈ c, 0 ≤ x ∧ x ≤ 127 := by decide
  exact h1 b (List.mem_of_getElem? hj)
/-- a String constant's length -/
theorem c_length {j : Nat} {b : List Int} (hG : om_okG G) (hd : 1 ≤ d) (hj : om_sb[j]? = some b) (q : Q (.inl (some (vI b.length)), h)) : OK G d m_J4_length 0 [some (vR (om_cA G (100 + j)))] [] h Q := by
  have hlt := om_sb_lt hj
  have hl := om_len_S hj
  refine ok_aload_n dJ4_length_0 rfl ?_
  refine ok_getC (w := vR (om_cA G (200 + j))) dJ4_length_1 q4525 (om_cA_0 hG (by omega)) (fun s hs => by rw [om_tvR hG (by omega)]; exact ((hG.1 s hs).2.2.2.1 j b hj).2.2.1) trivial ?_
  refine ok_alenC dJ4_length_4 (om_cA_0 hG (by omega)) (fun s hs => ((hG.1 s hs).2.2.2.1 j b hj).2.2.2) (by omega) ?_
  refine ok_aload_n dJ4_length_5 rfl ?_
  refine ok_callR (d' := d - 1) (Q1 := fun O => O = (.inl (some (vI 0)), h)) (As := []) (rest := [vI (b.length : Int)]) dJ4_length_6 ml_J4_335 mw_J4_coder rfl q871 q872 (om_Rc_S hG hj) rfl (Nat.le_of_ble_eq_true rfl) (Nat.le_of_ble_eq_true rfl) (om_o0 rfl) (c_coder hG hj rfl) (by omega) (fun O hO => ?_)
  subst hO
  refine ok_ishr dJ4_length_9 ?_
  refine ok_iret dJ4_length_10 rfl ?_
  have e : shr32 (b.length : Int) 0 = (b.length : Int) := by
    unfold shr32
    have k := pk_shrN (n := b.length) (by omega) (Int32.ofInt 0 &&& 31) 0 (by decide)
    have e : Int32.ofInt (b.length : Int) = nI b.length := rfl
    rw [e, k, nI_toInt (by omega)]
    simp
  rw [e]
  exact q
end OM52
