set_option maxRecDepth 100000
section OM53
variable {G : om_G} {d : Nat} {h : om_H} {Q : om_O → Prop}
theorem c_ordinal {i : Nat} {q : String × String × String × Int} (hG : om_okG G) (hi : om_en[i]? = some q) (w : Q (.inl (some (vI q.2.2.2)), h)) : OK G d m_J3_ordinal 0 [some (vR (om_cA G i))] [] h Q := by
  have hlt : i < 26 := (List.getElem?_eq_some_iff.mp hi).1
  have hr : ∀ c ∈ om_en, -2147483648 ≤ c.2.2.2 ∧ c.2.2.2 ≤ 2147483647 := by decide
  refine ok_aload_n dJ3_ordinal_0 rfl ?_
  refine ok_getC (w := vI q.2.2.2) dJ3_ordinal_1 q4527 (om_cA_0 hG (by omega)) (fun s hs => ((hG.1 s hs).2.1 i q hi).2.2) (hr q (List.mem_of_getElem? hi)) ?_
  exact ok_iret dJ3_ordinal_4 rfl w
theorem c_valueOf {v : Int} (hG : om_okG G) (h0 : -128 ≤ v) (h1 : v ≤ 127) (q : Q (.inl (some (vR (om_cA G (300 + (v + 128).toNat)))), h)) : OK G d m_J15_valueOf 0 [some (vI v)] [] h Q := by
  refine b_J15_valueOf_0 (fun z => by omega) (fun _ => b_J15_valueOf_6 hG (fun z => by omega) (fun _ => ?_))
  refine ok_gets (w := vR (om_cA G 602)) dJ15_valueOf_13 (Or.inl q1889) (om_kz_cache hG) trivial ?_
  refine ok_iload_n dJ15_valueOf_16 rfl ?_
  refine ok_sipush (v := 128) dJ15_valueOf_17 (by decide) ⟨by decide, by decide⟩ ?_
  refine ok_iadd dJ15_valueOf_20 ?_
  rw [w32_eq (by omega) (by omega)]
  refine ok_aaldC (N := 256) (f := fun j => om_cA G (300 + j)) dJ15_valueOf_21 (om_cA_0 hG (by omega)) (fun s hs => (hG.1 s hs).2.2.2.2.1.2.2.1) (by omega) (by omega) (om_cA_0 hG (by omega)) ?_
  exact ok_aret dJ15_valueOf_22 rfl rfl q
theorem c_intValue {j : Nat} (hG : om_okG G) (hj : j < 256) (q : Q (.inl (some (vI ((j : Int) - 128))), h)) : OK G d m_J15_intValue 0 [some (vR (om_cA G (300 + j)))] [] h Q := by
  refine ok_aload_n dJ15_intValue_0 rfl ?_
  refine ok_getC (w := vI ((j : Int) - 128)) dJ15_intValue_1 q1900 (om_cA_0 hG (by omega)) (fun s hs => ?_) (show iR _ from by unfold iR; omega) ?_
  · have hk := (hG.1 s hs).2.2.2.2.1.2.2.2.2 j hj
    have e : Int32.ofInt ((j : Int) - 128) = vb_c j := by
      unfold vb_c
      rw [Int32.ofInt_sub]
      rfl
    show va_OF _ _ _ (.int (Int32.ofInt ((j : Int) - 128))) _ _ _ _
    rw [e]
    exact hk
  · exact ok_iret dJ15_intValue_4 rfl q
end OM53
