set_option maxRecDepth 100000
theorem dJ0_init_0 : decode cJ0_init 0 = .ok (.aload_n 0, 1) := by decide +kernel
theorem dJ0_init_1 : decode cJ0_init 1 = .ok (.invokespecial 1, 3) := by decide +kernel
theorem dJ0_init_4 : decode cJ0_init 4 = .ok (.return_, 1) := by decide +kernel
theorem b_J0_init_0 {G : om_G} {d : Nat} {h : om_H} {Q : om_O → Prop} {l0 : Nat} (c1 : l0 ≠ 0) (hd2 : 1 ≤ d) (q : Q (.inl none, h)) : OK G d m_J0_init 0 [some (vR l0)] [] h Q := by
  refine ok_aload_n dJ0_init_0 rfl ?_
  refine ok_rng (fun V => ?_)
  refine ok_objInit dJ0_init_1 q347 q321 q322 c1 (Nat.le_of_ble_eq_true rfl) hd2 ?_
  exact ok_vret dJ0_init_4 rfl q
theorem dJ1_init_0 : decode cJ1_init 0 = .ok (.aload_n 0, 1) := by decide +kernel
theorem dJ1_init_1 : decode cJ1_init 1 = .ok (.invokespecial 1, 3) := by decide +kernel
theorem dJ1_init_4 : decode cJ1_init 4 = .ok (.aload_n 0, 1) := by decide +kernel
theorem dJ1_init_5 : decode cJ1_init 5 = .ok (.iconst 0, 1) := by decide +kernel
theorem dJ1_init_6 : decode cJ1_init 6 = .ok (.putfield 7, 3) := by decide +kernel
theorem dJ1_init_9 : decode cJ1_init 9 = .ok (.return_, 1) := by decide +kernel
theorem b_J1_init_0 {G : om_G} {d d' : Nat} {h : om_H} {Q Q1 : om_O → Prop} {l0 : Nat} (hcal : OK G d' m_J0_init 0 [some (vR l0)] [] h Q1) (hdd : d' + 1 ≤ d) (k : ∀ O, Q1 O → om_next G d m_J1_init 4 [some (vR l0)] [] Q O) (c1 : kd h l0 = 41) : OK G d m_J1_init 0 [some (vR l0)] [] h Q := by
  refine ok_aload_n dJ1_init_0 rfl ?_
  refine ok_rng (fun V => ?_)
  exact ok_callI (As := []) (rest := []) dJ1_init_1 ml_J1_1 mw_J0_init rfl rfl rfl rfl q345 (om_ne0 V c1) rfl (Nat.le_of_ble_eq_true rfl) (Nat.le_of_ble_eq_true rfl) (om_o0 rfl) hcal hdd k
theorem b_J1_init_4 {G : om_G} {d : Nat} {h : om_H} {Q : om_O → Prop} {l0 : Nat} (c1 : kd h l0 = 41) (q : Q (.inl none, sI h 1720 l0 0)) : OK G d m_J1_init 4 [some (vR l0)] [] h Q := by
  refine ok_aload_n dJ1_init_4 rfl ?_
  refine ok_iconst dJ1_init_5 ⟨by decide, by decide⟩ ?_
  refine ok_putI dJ1_init_6 fp_J1_7 (fun h => by cases h) (by decide) c1 ?_
  exact ok_vret dJ1_init_9 rfl q
theorem dJ2_init_0 : decode cJ2_init 0 = .ok (.aload_n 0, 1) := by decide +kernel
theorem dJ2_init_1 : decode cJ2_init 1 = .ok (.invokespecial 1, 3) := by decide +kernel
theorem dJ2_init_4 : decode cJ2_init 4 = .ok (.aload_n 0, 1) := by decide +kernel
theorem dJ2_init_5 : decode cJ2_init 5 = .ok (.getstatic 39, 3) := by decide +kernel
theorem dJ2_init_8 : decode cJ2_init 8 = .ok (.putfield 9, 3) := by decide +kernel
theorem dJ2_init_11 : decode cJ2_init 11 = .ok (.return_, 1) := by decide +kernel
theorem b_J2_init_0 {G : om_G} {d d' : Nat} {h : om_H} {Q Q1 : om_O → Prop} {l0 : Nat} (hcal : OK G d' m_J1_init 0 [some (vR l0)] [] h Q1) (hdd : d' + 1 ≤ d) (k : ∀ O, Q1 O → om_next G d m_J2_init 4 [some (vR l0)] [] Q O) (c1 : kd h l0 = 41) : OK G d m_J2_init 0 [some (vR l0)] [] h Q := by
  refine ok_aload_n dJ2_init_0 rfl ?_
  refine ok_rng (fun V => ?_)
  exact ok_callI (As := []) (rest := []) dJ2_init_1 ml_J2_1 mw_J1_init rfl rfl rfl rfl q342 (om_ne0 V c1) rfl (Nat.le_of_ble_eq_true rfl) (Nat.le_of_ble_eq_true rfl) (om_o0 rfl) hcal hdd k
theorem b_J2_init_4 {G : om_G} {d : Nat} {h : om_H} {Q : om_O → Prop} {l0 : Nat} (hG : om_okG G) (c1 : kd h l0 = 41) (q : Q (.inl none, sR h 1726 l0 (om_cA G 600))) : OK G d m_J2_init 4 [some (vR l0)] [] h Q := by
  refine ok_aload_n dJ2_init_4 rfl ?_
  refine ok_gets (w := vR (om_cA G 600)) dJ2_init_5 (Or.inl q348) (om_kz600 hG) trivial ?_
  refine ok_putR dJ2_init_8 fp_J2_9 (fun h => by cases h) (by decide) c1 ?_
  exact ok_vret dJ2_init_11 rfl q
theorem dJ2_clear_0 : decode cJ2_clear 0 = .ok (.aload_n 0, 1) := by decide +kernel
theorem dJ2_clear_1 : decode cJ2_clear 1 = .ok (.dup, 1) := by decide +kernel
theorem dJ2_clear_2 : decode cJ2_clear 2 = .ok (.getfield 63, 3) := by decide +kernel
theorem dJ2_clear_5 : decode cJ2_clear 5 = .ok (.iconst 1, 1) := by decide +kernel
theorem dJ2_clear_6 : decode cJ2_clear 6 = .ok (.iadd, 1) := by decide +kernel
theorem dJ2_clear_7 : decode cJ2_clear 7 = .ok (.putfield 63, 3) := by decide +kernel
theorem dJ2_clear_10 : decode cJ2_clear 10 = .ok (.aload_n 0, 1) := by decide +kernel
theorem dJ2_clear_11 : decode cJ2_clear 11 = .ok (.getfield 9, 3) := by decide +kernel
theorem dJ2_clear_14 : decode cJ2_clear 14 = .ok (.astore_n 1, 1) := by decide +kernel
theorem dJ2_clear_15 : decode cJ2_clear 15 = .ok (.aload_n 0, 1) := by decide +kernel
theorem dJ2_clear_16 : decode cJ2_clear 16 = .ok (.getfield 48, 3) := by decide +kernel
theorem dJ2_clear_19 : decode cJ2_clear 19 = .ok (.istore_n 2, 1) := by decide +kernel
theorem dJ2_clear_20 : decode cJ2_clear 20 = .ok (.aload_n 0, 1) := by decide +kernel
theorem dJ2_clear_21 : decode cJ2_clear 21 = .ok (.iconst 0, 1) := by decide +kernel
theorem dJ2_clear_22 : decode cJ2_clear 22 = .ok (.dup_x1, 1) := by decide +kernel
theorem dJ2_clear_23 : decode cJ2_clear 23 = .ok (.putfield 48, 3) := by decide +kernel
theorem dJ2_clear_26 : decode cJ2_clear 26 = .ok (.istore_n 3, 1) := by decide +kernel
theorem dJ2_clear_27 : decode cJ2_clear 27 = .ok (.iload_n 3, 1) := by decide +kernel
theorem dJ2_clear_28 : decode cJ2_clear 28 = .ok (.iload_n 2, 1) := by decide +kernel
theorem dJ2_clear_29 : decode cJ2_clear 29 = .ok (.if_icmp .ge 13, 3) := by decide +kernel
theorem dJ2_clear_32 : decode cJ2_clear 32 = .ok (.aload_n 1, 1) := by decide +kernel
theorem dJ2_clear_33 : decode cJ2_clear 33 = .ok (.iload_n 3, 1) := by decide +kernel
theorem dJ2_clear_34 : decode cJ2_clear 34 = .ok (.aconst_null, 1) := by decide +kernel
theorem dJ2_clear_35 : decode cJ2_clear 35 = .ok (.aastore, 1) := by decide +kernel
theorem dJ2_clear_36 : decode cJ2_clear 36 = .ok (.iinc 3 1, 3) := by decide +kernel
theorem dJ2_clear_39 : decode cJ2_clear 39 = .ok (.goto (-12), 3) := by decide +kernel
theorem dJ2_clear_42 : decode cJ2_clear 42 = .ok (.return_, 1) := by decide +kernel
theorem b_J2_clear_0 {G : om_G} {d : Nat} {h : om_H} {Q : om_O → Prop} {l0 : Nat} (c1 : kd h l0 = 41) (k : OK G d m_J2_clear 27 [none, some (vR (fR h 1726 l0)), some (vI (fI h 1728 l0)), some (vI 0)] [] (sI (sI h 1720 l0 (w32 ((fI h 1720 l0) + 1))) 1728 l0 0) Q) : OK G d m_J2_clear 0 [some (vR l0), none, none, none] [] h Q := by
  refine ok_aload_n dJ2_clear_0 rfl ?_
  refine ok_dupR dJ2_clear_1 ?_
  refine ok_getI dJ2_clear_2 fl_J2_63 (by decide) c1 ?_
  refine ok_iconst dJ2_clear_5 ⟨by decide, by decide⟩ ?_
  refine ok_iadd dJ2_clear_6 ?_
  refine ok_putI dJ2_clear_7 fp_J2_63 (fun h => by cases h) (by decide) c1 ?_
  refine ok_aload_n dJ2_clear_10 rfl ?_
  refine ok_getR dJ2_clear_11 fl_J2_9 (by decide) c1 ?_
  refine ok_astore_n (ls' := [some (vR l0), some (vR (fR h 1726 l0)), none, none]) dJ2_clear_14 (by decide) rfl ?_
  refine ok_aload_n dJ2_clear_15 rfl ?_
  refine ok_getI dJ2_clear_16 fl_J2_48 (by decide) c1 ?_
  refine ok_istore_n (ls' := [some (vR l0), some (vR (fR h 1726 l0)), some (vI (fI h 1728 l0)), none]) dJ2_clear_19 (by decide) rfl ?_
  refine ok_aload_n dJ2_clear_20 rfl ?_
  refine ok_iconst dJ2_clear_21 ⟨by decide, by decide⟩ ?_
  refine ok_dup_x1I dJ2_clear_22 ?_
  refine ok_putI dJ2_clear_23 fp_J2_48 (fun h => by cases h) (by decide) c1 ?_
  refine ok_istore_n (ls' := [some (vR l0), some (vR (fR h 1726 l0)), some (vI (fI h 1728 l0)), some (vI 0)]) dJ2_clear_26 (by decide) rfl ?_
  exact ok_fewer (ls' := [none, some (vR (fR h 1726 l0)), some (vI (fI h 1728 l0)), some (vI 0)]) ⟨rfl, rfl, rfl, trivial⟩ k
theorem b_J2_clear_27 {G : om_G} {d : Nat} {h : om_H} {Q : om_O → Prop} {l1 : Nat} {l2 : Int} {l3 : Int} (kt : l2 ≤ l3 → OK G d m_J2_clear 42 [none, none, none, none] [] h Q) (kf : l3 < l2 → OK G d m_J2_clear 32 [none, some (vR l1), some (vI l2), some (vI l3)] [] h Q) : OK G d m_J2_clear 27 [none, some (vR l1), some (vI l2), some (vI l3)] [] h Q := by
  refine ok_iload_n dJ2_clear_27 rfl ?_
  refine ok_iload_n dJ2_clear_28 rfl ?_
  exact ok_icmp_ge dJ2_clear_29 (by decide) (fun q => ok_fewer (ls' := [none, none, none, none]) trivial (kt q)) kf
theorem b_J2_clear_32 {G : om_G} {d : Nat} {h : om_H} {Q : om_O → Prop} {l1 : Nat} {l2 : Int} {l3 : Int} (hG : om_okG G) (c1 : kd h l1 = 61) (c2 : 0 ≤ l3) (c3 : l3 < an h l1) (k : OK G d m_J2_clear 27 [none, some (vR l1), some (vI l2), some (vI (w32 (l3 + 1)))] [] (pR h l1 l3.toNat 0) Q) : OK G d m_J2_clear 32 [none, some (vR l1), some (vI l2), some (vI l3)] [] h Q := by
  refine ok_aload_n dJ2_clear_32 rfl ?_
  refine ok_iload_n dJ2_clear_33 rfl ?_
  refine ok_null dJ2_clear_34 ?_
  refine ok_aastO hG dJ2_clear_35 c1 (Or.inl rfl) c2 c3 ?_
  refine ok_iinc (ls' := [none, some (vR l1), some (vI l2), some (vI (w32 (l3 + 1)))]) dJ2_clear_36 rfl (by decide) rfl ?_
  refine ok_goto (tgt := 27) dJ2_clear_39 (by decide) ?_
  exact k
theorem b_J2_clear_42 {G : om_G} {d : Nat} {h : om_H} {Q : om_O → Prop} (q : Q (.inl none, h)) : OK G d m_J2_clear 42 [none, none, none, none] [] h Q := by
  exact ok_vret dJ2_clear_42 rfl q
theorem dJ2_add_0 : decode cJ2_add 0 = .ok (.aload_n 0, 1) := by decide +kernel
theorem dJ2_add_1 : decode cJ2_add 1 = .ok (.dup, 1) := by decide +kernel
theorem dJ2_add_2 : decode cJ2_add 2 = .ok (.getfield 63, 3) := by decide +kernel
theorem dJ2_add_5 : decode cJ2_add 5 = .ok (.iconst 1, 1) := by decide +kernel
theorem dJ2_add_6 : decode cJ2_add 6 = .ok (.iadd, 1) := by decide +kernel
theorem dJ2_add_7 : decode cJ2_add 7 = .ok (.putfield 63, 3) := by decide +kernel
theorem dJ2_add_10 : decode cJ2_add 10 = .ok (.aload_n 0, 1) := by decide +kernel
theorem dJ2_add_11 : decode cJ2_add 11 = .ok (.aload_n 1, 1) := by decide +kernel
theorem dJ2_add_12 : decode cJ2_add 12 = .ok (.aload_n 0, 1) := by decide +kernel
theorem dJ2_add_13 : decode cJ2_add 13 = .ok (.getfield 9, 3) := by decide +kernel
theorem dJ2_add_16 : decode cJ2_add 16 = .ok (.aload_n 0, 1) := by decide +kernel
theorem dJ2_add_17 : decode cJ2_add 17 = .ok (.getfield 48, 3) := by decide +kernel
theorem dJ2_add_20 : decode cJ2_add 20 = .ok (.invokevirtual 131, 3) := by decide +kernel
theorem dJ2_add_23 : decode cJ2_add 23 = .ok (.iconst 1, 1) := by decide +kernel
theorem dJ2_add_24 : decode cJ2_add 24 = .ok (.ireturn, 1) := by decide +kernel
theorem b_J2_add_0 {G : om_G} {d d' : Nat} {h : om_H} {Q Q1 : om_O → Prop} {l0 : Nat} {l1 : Nat} (c1 : kd h l0 = 41) (hcal : OK G d' m_J2_add_2 0 [some (vR l0), some (vR l1), some (vR (fR h 1726 l0)), some (vI (fI h 1728 l0))] [] (sI h 1720 l0 (w32 ((fI h 1720 l0) + 1))) Q1) (hdd : d' + 1 ≤ d) (k : ∀ O, Q1 O → om_next G d m_J2_add 23 [none, none] [] Q O) : OK G d m_J2_add 0 [some (vR l0), some (vR l1)] [] h Q := by
  refine ok_aload_n dJ2_add_0 rfl ?_
  refine ok_dupR dJ2_add_1 ?_
  refine ok_getI dJ2_add_2 fl_J2_63 (by decide) c1 ?_
  refine ok_iconst dJ2_add_5 ⟨by decide, by decide⟩ ?_
  refine ok_iadd dJ2_add_6 ?_
  refine ok_putI dJ2_add_7 fp_J2_63 (fun h => by cases h) (by decide) c1 ?_
  refine ok_aload_n dJ2_add_10 rfl ?_
  refine ok_aload_n dJ2_add_11 rfl ?_
  refine ok_aload_n dJ2_add_12 rfl ?_
  refine ok_getR dJ2_add_13 fl_J2_9 (by decide) c1 ?_
  refine ok_aload_n dJ2_add_16 rfl ?_
  refine ok_getI dJ2_add_17 fl_J2_48 (by decide) c1 ?_
  exact ok_callR (As := [vR l1, vR (fR h 1726 l0), vI (fI h 1728 l0)]) (rest := []) dJ2_add_20 ml_J2_131 mw_J2_add_2 rfl q1112 qs10 (om_Rc_k (kc := 40) rfl c1) rfl (Nat.le_of_ble_eq_true rfl) (Nat.le_of_ble_eq_true rfl) (om_o0 rfl) hcal hdd (fun O hO => om_next_fewer (ls' := [none, none]) trivial (k O hO))
theorem b_J2_add_23 {G : om_G} {d : Nat} {h : om_H} {Q : om_O → Prop} (q : Q (.inl (some (vI 1)), h)) : OK G d m_J2_add 23 [none, none] [] h Q := by
  refine ok_iconst dJ2_add_23 ⟨by decide, by decide⟩ ?_
  exact ok_zret dJ2_add_24 rfl (by decide) q
theorem dJ2_add_2_0 : decode cJ2_add_2 0 = .ok (.iload_n 3, 1) := by decide +kernel
theorem dJ2_add_2_1 : decode cJ2_add_2 1 = .ok (.aload_n 2, 1) := by decide +kernel
theorem dJ2_add_2_2 : decode cJ2_add_2 2 = .ok (.arraylength, 1) := by decide +kernel
theorem dJ2_add_2_3 : decode cJ2_add_2 3 = .ok (.if_icmp .ne 8, 3) := by decide +kernel
theorem dJ2_add_2_6 : decode cJ2_add_2 6 = .ok (.aload_n 0, 1) := by decide +kernel
theorem dJ2_add_2_7 : decode cJ2_add_2 7 = .ok (.invokevirtual 129, 3) := by decide +kernel
theorem dJ2_add_2_10 : decode cJ2_add_2 10 = .ok (.astore_n 2, 1) := by decide +kernel
theorem dJ2_add_2_11 : decode cJ2_add_2 11 = .ok (.aload_n 2, 1) := by decide +kernel
theorem dJ2_add_2_12 : decode cJ2_add_2 12 = .ok (.iload_n 3, 1) := by decide +kernel
theorem dJ2_add_2_13 : decode cJ2_add_2 13 = .ok (.aload_n 1, 1) := by decide +kernel
theorem dJ2_add_2_14 : decode cJ2_add_2 14 = .ok (.aastore, 1) := by decide +kernel
theorem dJ2_add_2_15 : decode cJ2_add_2 15 = .ok (.aload_n 0, 1) := by decide +kernel
theorem dJ2_add_2_16 : decode cJ2_add_2 16 = .ok (.iload_n 3, 1) := by decide +kernel
theorem dJ2_add_2_17 : decode cJ2_add_2 17 = .ok (.iconst 1, 1) := by decide +kernel
theorem dJ2_add_2_18 : decode cJ2_add_2 18 = .ok (.iadd, 1) := by decide +kernel
theorem dJ2_add_2_19 : decode cJ2_add_2 19 = .ok (.putfield 48, 3) := by decide +kernel
theorem dJ2_add_2_22 : decode cJ2_add_2 22 = .ok (.return_, 1) := by decide +kernel
theorem b_J2_add_2_0 {G : om_G} {d : Nat} {h : om_H} {Q : om_O → Prop} {l0 : Nat} {l1 : Nat} {l2 : Nat} {l3 : Int} (c1 : kd h l2 = 61) (kt : l3 ≠ ((an h l2 : Int)) → OK G d m_J2_add_2 11 [some (vR l0), some (vR l1), some (vR l2), some (vI l3)] [] h Q) (kf : l3 = ((an h l2 : Int)) → OK G d m_J2_add_2 6 [some (vR l0), some (vR l1), none, some (vI l3)] [] h Q) : OK G d m_J2_add_2 0 [some (vR l0), some (vR l1), some (vR l2), some (vI l3)] [] h Q := by
  refine ok_iload_n dJ2_add_2_0 rfl ?_
  refine ok_aload_n dJ2_add_2_1 rfl ?_
  refine ok_alen dJ2_add_2_2 (om_akd c1 (by decide)) ?_
  exact ok_icmp_ne dJ2_add_2_3 (by decide) kt (fun q => ok_fewer (ls' := [some (vR l0), some (vR l1), none, some (vI l3)]) ⟨rfl, rfl, rfl, trivial⟩ (kf q))
theorem b_J2_add_2_6 {G : om_G} {d d' : Nat} {h : om_H} {Q Q1 : om_O → Prop} {l0 : Nat} {l1 : Nat} {l3 : Int} (hcal : OK G d' m_J2_grow 0 [some (vR l0)] [] h Q1) (hdd : d' + 1 ≤ d) (k : ∀ O, Q1 O → om_next G d m_J2_add_2 10 [some (vR l0), some (vR l1), none, some (vI l3)] [] Q O) (c1 : kd h l0 = 41) : OK G d m_J2_add_2 6 [some (vR l0), some (vR l1), none, some (vI l3)] [] h Q := by
  refine ok_aload_n dJ2_add_2_6 rfl ?_
  exact ok_callR (As := []) (rest := []) dJ2_add_2_7 ml_J2_129 mw_J2_grow rfl q1116 qs11 (om_Rc_k (kc := 40) rfl c1) rfl (Nat.le_of_ble_eq_true rfl) (Nat.le_of_ble_eq_true rfl) (om_o0 rfl) hcal hdd k
theorem b_J2_add_2_10 {G : om_G} {d : Nat} {h : om_H} {Q : om_O → Prop} {l0 : Nat} {l1 : Nat} {l3 : Int} {s0 : Nat} (k : OK G d m_J2_add_2 11 [some (vR l0), some (vR l1), some (vR s0), some (vI l3)] [] h Q) : OK G d m_J2_add_2 10 [some (vR l0), some (vR l1), none, some (vI l3)] [vR s0] h Q := by
  refine ok_astore_n (ls' := [some (vR l0), some (vR l1), some (vR s0), some (vI l3)]) dJ2_add_2_10 (by decide) rfl ?_
  exact k
theorem b_J2_add_2_11 {G : om_G} {d : Nat} {h : om_H} {Q : om_O → Prop} {l0 : Nat} {l1 : Nat} {l2 : Nat} {l3 : Int} (hG : om_okG G) (c1 : kd h l2 = 61) (c2 : 0 ≤ l3) (c3 : l3 < an h l2) (c4 : om_obj G h l1) (c5 : kd h l0 = 41) (q : Q (.inl none, sI (pR h l2 l3.toNat l1) 1728 l0 (w32 (l3 + 1)))) : OK G d m_J2_add_2 11 [some (vR l0), some (vR l1), some (vR l2), some (vI l3)] [] h Q := by
  refine ok_aload_n dJ2_add_2_11 rfl ?_
  refine ok_iload_n dJ2_add_2_12 rfl ?_
  refine ok_aload_n dJ2_add_2_13 rfl ?_
  refine ok_aastO hG dJ2_add_2_14 c1 c4 c2 c3 ?_
  refine ok_aload_n dJ2_add_2_15 rfl ?_
  refine ok_iload_n dJ2_add_2_16 rfl ?_
  refine ok_iconst dJ2_add_2_17 ⟨by decide, by decide⟩ ?_
  refine ok_iadd dJ2_add_2_18 ?_
  refine ok_putI dJ2_add_2_19 fp_J2_48 (fun h => by cases h) (by decide) c5 ?_
  exact ok_vret dJ2_add_2_22 rfl q
theorem dJ2_grow_0 : decode cJ2_grow 0 = .ok (.aload_n 0, 1) := by decide +kernel
theorem dJ2_grow_1 : decode cJ2_grow 1 = .ok (.aload_n 0, 1) := by decide +kernel
theorem dJ2_grow_2 : decode cJ2_grow 2 = .ok (.getfield 48, 3) := by decide +kernel
theorem dJ2_grow_5 : decode cJ2_grow 5 = .ok (.iconst 1, 1) := by decide +kernel
theorem dJ2_grow_6 : decode cJ2_grow 6 = .ok (.iadd, 1) := by decide +kernel
theorem dJ2_grow_7 : decode cJ2_grow 7 = .ok (.invokevirtual 69, 3) := by decide +kernel
theorem dJ2_grow_10 : decode cJ2_grow 10 = .ok (.areturn, 1) := by decide +kernel
theorem b_J2_grow_0 {G : om_G} {d d' : Nat} {h : om_H} {Q Q1 : om_O → Prop} {l0 : Nat} (c1 : kd h l0 = 41) (hcal : OK G d' m_J2_grow_2 0 [some (vR l0), some (vI (w32 ((fI h 1728 l0) + 1))), none, none] [] h Q1) (hdd : d' + 1 ≤ d) (k : ∀ O, Q1 O → om_next G d m_J2_grow 10 [none] [] Q O) : OK G d m_J2_grow 0 [some (vR l0)] [] h Q := by
  refine ok_aload_n dJ2_grow_0 rfl ?_
  refine ok_aload_n dJ2_grow_1 rfl ?_
  refine ok_getI dJ2_grow_2 fl_J2_48 (by decide) c1 ?_
  refine ok_iconst dJ2_grow_5 ⟨by decide, by decide⟩ ?_
  refine ok_iadd dJ2_grow_6 ?_
  exact ok_callR (As := [vI (w32 ((fI h 1728 l0) + 1))]) (rest := []) dJ2_grow_7 ml_J2_69 mw_J2_grow_2 rfl q1120 qs12 (om_Rc_k (kc := 40) rfl c1) rfl (Nat.le_of_ble_eq_true rfl) (Nat.le_of_ble_eq_true rfl) (om_o0 rfl) hcal hdd (fun O hO => om_next_fewer (ls' := [none]) trivial (k O hO))
theorem b_J2_grow_10 {G : om_G} {d : Nat} {h : om_H} {Q : om_O → Prop} {s0 : Nat} (q : Q (.inl (some (vR s0)), h)) : OK G d m_J2_grow 10 [none] [vR s0] h Q := by
  exact ok_aret dJ2_grow_10 rfl rfl q
theorem dJ2_grow_2_0 : decode cJ2_grow_2 0 = .ok (.aload_n 0, 1) := by decide +kernel
theorem dJ2_grow_2_1 : decode cJ2_grow_2 1 = .ok (.getfield 9, 3) := by decide +kernel
theorem dJ2_grow_2_4 : decode cJ2_grow_2 4 = .ok (.arraylength, 1) := by decide +kernel
theorem dJ2_grow_2_5 : decode cJ2_grow_2 5 = .ok (.istore_n 2, 1) := by decide +kernel
theorem dJ2_grow_2_6 : decode cJ2_grow_2 6 = .ok (.iload_n 2, 1) := by decide +kernel
theorem dJ2_grow_2_7 : decode cJ2_grow_2 7 = .ok (.ifCond .gt 13, 3) := by decide +kernel
theorem dJ2_grow_2_10 : decode cJ2_grow_2 10 = .ok (.aload_n 0, 1) := by decide +kernel
theorem dJ2_grow_2_11 : decode cJ2_grow_2 11 = .ok (.getfield 9, 3) := by decide +kernel
theorem dJ2_grow_2_14 : decode cJ2_grow_2 14 = .ok (.getstatic 39, 3) := by decide +kernel
theorem dJ2_grow_2_17 : decode cJ2_grow_2 17 = .ok (.if_acmp .eq 28, 3) := by decide +kernel
theorem dJ2_grow_2_20 : decode cJ2_grow_2 20 = .ok (.iload_n 2, 1) := by decide +kernel
theorem dJ2_grow_2_21 : decode cJ2_grow_2 21 = .ok (.iload_n 1, 1) := by decide +kernel
theorem dJ2_grow_2_22 : decode cJ2_grow_2 22 = .ok (.iload_n 2, 1) := by decide +kernel
theorem dJ2_grow_2_23 : decode cJ2_grow_2 23 = .ok (.isub, 1) := by decide +kernel
theorem dJ2_grow_2_24 : decode cJ2_grow_2 24 = .ok (.iload_n 2, 1) := by decide +kernel
theorem dJ2_grow_2_25 : decode cJ2_grow_2 25 = .ok (.iconst 1, 1) := by decide +kernel
theorem dJ2_grow_2_26 : decode cJ2_grow_2 26 = .ok (.ishr, 1) := by decide +kernel
theorem dJ2_grow_2_27 : decode cJ2_grow_2 27 = .ok (.invokestatic 73, 3) := by decide +kernel
theorem dJ2_grow_2_30 : decode cJ2_grow_2 30 = .ok (.istore_n 3, 1) := by decide +kernel
theorem dJ2_grow_2_31 : decode cJ2_grow_2 31 = .ok (.aload_n 0, 1) := by decide +kernel
theorem dJ2_grow_2_32 : decode cJ2_grow_2 32 = .ok (.aload_n 0, 1) := by decide +kernel
theorem dJ2_grow_2_33 : decode cJ2_grow_2 33 = .ok (.getfield 9, 3) := by decide +kernel
theorem dJ2_grow_2_36 : decode cJ2_grow_2 36 = .ok (.iload_n 3, 1) := by decide +kernel
theorem dJ2_grow_2_37 : decode cJ2_grow_2 37 = .ok (.invokestatic 66, 3) := by decide +kernel
theorem dJ2_grow_2_40 : decode cJ2_grow_2 40 = .ok (.dup_x1, 1) := by decide +kernel
theorem dJ2_grow_2_41 : decode cJ2_grow_2 41 = .ok (.putfield 9, 3) := by decide +kernel
theorem dJ2_grow_2_44 : decode cJ2_grow_2 44 = .ok (.areturn, 1) := by decide +kernel
theorem dJ2_grow_2_45 : decode cJ2_grow_2 45 = .ok (.aload_n 0, 1) := by decide +kernel
theorem dJ2_grow_2_46 : decode cJ2_grow_2 46 = .ok (.bipush 10, 2) := by decide +kernel
theorem dJ2_grow_2_48 : decode cJ2_grow_2 48 = .ok (.iload_n 1, 1) := by decide +kernel
theorem dJ2_grow_2_49 : decode cJ2_grow_2 49 = .ok (.invokestatic 79, 3) := by decide +kernel
theorem dJ2_grow_2_52 : decode cJ2_grow_2 52 = .ok (.anewarray 7, 3) := by decide +kernel
theorem dJ2_grow_2_55 : decode cJ2_grow_2 55 = .ok (.dup_x1, 1) := by decide +kernel
theorem dJ2_grow_2_56 : decode cJ2_grow_2 56 = .ok (.putfield 9, 3) := by decide +kernel
theorem dJ2_grow_2_59 : decode cJ2_grow_2 59 = .ok (.areturn, 1) := by decide +kernel
theorem b_J2_grow_2_0 {G : om_G} {d : Nat} {h : om_H} {Q : om_O → Prop} {l0 : Nat} {l1 : Int} (c1 : kd h l0 = 41) (c2 : kd h (fR h 1726 l0) = 61) (kt : 0 < ((an h (fR h 1726 l0) : Int)) → OK G d m_J2_grow_2 20 [some (vR l0), some (vI l1), some (vI ((an h (fR h 1726 l0) : Int))), none] [] h Q) (kf : ((an h (fR h 1726 l0) : Int)) ≤ 0 → OK G d m_J2_grow_2 10 [some (vR l0), some (vI l1), some (vI ((an h (fR h 1726 l0) : Int))), none] [] h Q) : OK G d m_J2_grow_2 0 [some (vR l0), some (vI l1), none, none] [] h Q := by
  refine ok_aload_n dJ2_grow_2_0 rfl ?_
  refine ok_getR dJ2_grow_2_1 fl_J2_9 (by decide) c1 ?_
  refine ok_alen dJ2_grow_2_4 (om_akd c2 (by decide)) ?_
  refine ok_istore_n (ls' := [some (vR l0), some (vI l1), some (vI ((an h (fR h 1726 l0) : Int))), none]) dJ2_grow_2_5 (by decide) rfl ?_
  refine ok_iload_n dJ2_grow_2_6 rfl ?_
  exact ok_if_gt dJ2_grow_2_7 (by decide) kt kf
theorem b_J2_grow_2_10 {G : om_G} {d : Nat} {h : om_H} {Q : om_O → Prop} {l0 : Nat} {l1 : Int} {l2 : Int} (hG : om_okG G) (c1 : kd h l0 = 41) (kt : (fR h 1726 l0) = (om_cA G 600) → OK G d m_J2_grow_2 45 [some (vR l0), some (vI l1), none, none] [] h Q) (kf : (fR h 1726 l0) ≠ (om_cA G 600) → OK G d m_J2_grow_2 20 [some (vR l0), some (vI l1), some (vI l2), none] [] h Q) : OK G d m_J2_grow_2 10 [some (vR l0), some (vI l1), some (vI l2), none] [] h Q := by
  refine ok_aload_n dJ2_grow_2_10 rfl ?_
  refine ok_getR dJ2_grow_2_11 fl_J2_9 (by decide) c1 ?_
  refine ok_gets (w := vR (om_cA G 600)) dJ2_grow_2_14 (Or.inl q348) (om_kz600 hG) trivial ?_
  exact ok_acmp_eq dJ2_grow_2_17 (by decide) (fun q => ok_fewer (ls' := [some (vR l0), some (vI l1), none, none]) ⟨rfl, rfl, trivial⟩ (kt q)) kf
theorem b_J2_grow_2_20 {G : om_G} {d d' : Nat} {h : om_H} {Q Q1 : om_O → Prop} {l0 : Nat} {l1 : Int} {l2 : Int} (hcal : OK G d' m_J11_newLength 0 [some (vI l2), some (vI (w32 (l1 - l2))), some (vI (shr32 l2 1)), none] [] h Q1) (hdd : d' + 1 ≤ d) (k : ∀ O, Q1 O → om_next G d m_J2_grow_2 30 [some (vR l0), none, none, none] [] Q O) : OK G d m_J2_grow_2 20 [some (vR l0), some (vI l1), some (vI l2), none] [] h Q := by
  refine ok_iload_n dJ2_grow_2_20 rfl ?_
  refine ok_iload_n dJ2_grow_2_21 rfl ?_
  refine ok_iload_n dJ2_grow_2_22 rfl ?_
  refine ok_isub dJ2_grow_2_23 ?_
  refine ok_iload_n dJ2_grow_2_24 rfl ?_
  refine ok_iconst dJ2_grow_2_25 ⟨by decide, by decide⟩ ?_
  refine ok_ishr dJ2_grow_2_26 ?_
  exact ok_callS (As := [vI l2, vI (w32 (l1 - l2)), vI (shr32 l2 1)]) (rest := []) dJ2_grow_2_27 ml_J2_73 mw_J11_newLength rfl q1123 rfl (Nat.le_of_ble_eq_true rfl) (Nat.le_of_ble_eq_true rfl) (om_o0 rfl) hcal hdd (fun O hO => om_next_fewer (ls' := [some (vR l0), none, none, none]) ⟨rfl, trivial⟩ (k O hO))
theorem b_J2_grow_2_30 {G : om_G} {d d' : Nat} {h : om_H} {Q Q1 : om_O → Prop} {l0 : Nat} {s0 : Int} (c1 : kd h l0 = 41) (hcal : OK G d' m_J13_copyOf 0 [some (vR (fR h 1726 l0)), some (vI s0)] [] h Q1) (hdd : d' + 1 ≤ d) (k : ∀ O, Q1 O → om_next G d m_J2_grow_2 40 [none, none, none, none] [vR l0] Q O) : OK G d m_J2_grow_2 30 [some (vR l0), none, none, none] [vI s0] h Q := by
  refine ok_istore_n (ls' := [some (vR l0), none, none, some (vI s0)]) dJ2_grow_2_30 (by decide) rfl ?_
  refine ok_aload_n dJ2_grow_2_31 rfl ?_
  refine ok_aload_n dJ2_grow_2_32 rfl ?_
  refine ok_getR dJ2_grow_2_33 fl_J2_9 (by decide) c1 ?_
  refine ok_iload_n dJ2_grow_2_36 rfl ?_
  exact ok_callS (As := [vR (fR h 1726 l0), vI s0]) (rest := [vR l0]) dJ2_grow_2_37 ml_J2_66 mw_J13_copyOf rfl q1133 rfl (Nat.le_of_ble_eq_true rfl) (Nat.le_of_ble_eq_true rfl) (om_o0 rfl) hcal hdd (fun O hO => om_next_fewer (ls' := [none, none, none, none]) trivial (k O hO))
theorem b_J2_grow_2_40 {G : om_G} {d : Nat} {h : om_H} {Q : om_O → Prop} {s0 : Nat} {s1 : Nat} (c1 : kd h s0 = 41) (q : Q (.inl (some (vR s1)), sR h 1726 s0 s1)) : OK G d m_J2_grow_2 40 [none, none, none, none] [vR s1, vR s0] h Q := by
  refine ok_dup_x1R dJ2_grow_2_40 ?_
  refine ok_putR dJ2_grow_2_41 fp_J2_9 (fun h => by cases h) (by decide) c1 ?_
  exact ok_aret dJ2_grow_2_44 rfl rfl q
theorem b_J2_grow_2_45 {G : om_G} {d : Nat} {h : om_H} {Q : om_O → Prop} {l0 : Nat} {l1 : Int} (hd1 : 1 ≤ d) (c2 : 0 ≤ if 10 < l1 then l1 else 10) (c3 : (if 10 < l1 then l1 else 10).toNat * 4 ≤ 536870912) (c4 : kd (nA h 61 (if 10 < l1 then l1 else 10).toNat) l0 = 41) (q : Q (.inl (some (vR (hz h))), sR (nA h 61 (if 10 < l1 then l1 else 10).toNat) 1726 l0 (hz h))) : OK G d m_J2_grow_2 45 [some (vR l0), some (vI l1), none, none] [] h Q := by
  refine ok_aload_n dJ2_grow_2_45 rfl ?_
  refine ok_bipush (v := 10) dJ2_grow_2_46 (by decide) ⟨by decide, by decide⟩ ?_
  refine ok_iload_n dJ2_grow_2_48 rfl ?_
  refine ok_mmax dJ2_grow_2_49 q1197 (Nat.le_of_ble_eq_true rfl) hd1 ?_
  refine ok_anew (kk0 := 61) dJ2_grow_2_52 rfl q1198 q1189 c2 c3 ?_
  refine ok_dup_x1R dJ2_grow_2_55 ?_
  refine ok_putR dJ2_grow_2_56 fp_J2_9 (fun h => by cases h) (by decide) c4 ?_
  exact ok_aret dJ2_grow_2_59 rfl rfl q
theorem dJ2_size_0 : decode cJ2_size 0 = .ok (.aload_n 0, 1) := by decide +kernel
theorem dJ2_size_1 : decode cJ2_size 1 = .ok (.getfield 48, 3) := by decide +kernel
theorem dJ2_size_4 : decode cJ2_size 4 = .ok (.ireturn, 1) := by decide +kernel
theorem b_J2_size_0 {G : om_G} {d : Nat} {h : om_H} {Q : om_O → Prop} {l0 : Nat} (c1 : kd h l0 = 41) (q : Q (.inl (some (vI (fI h 1728 l0))), h)) : OK G d m_J2_size 0 [some (vR l0)] [] h Q := by
  refine ok_aload_n dJ2_size_0 rfl ?_
  refine ok_getI dJ2_size_1 fl_J2_48 (by decide) c1 ?_
  exact ok_iret dJ2_size_4 rfl q
theorem dJ2_init_2_0 : decode cJ2_init_2 0 = .ok (.aload_n 0, 1) := by decide +kernel
theorem dJ2_init_2_1 : decode cJ2_init_2 1 = .ok (.invokespecial 1, 3) := by decide +kernel
theorem dJ2_init_2_4 : decode cJ2_init_2 4 = .ok (.iload_n 1, 1) := by decide +kernel
theorem dJ2_init_2_5 : decode cJ2_init_2 5 = .ok (.ifCond .le 14, 3) := by decide +kernel
theorem dJ2_init_2_8 : decode cJ2_init_2 8 = .ok (.aload_n 0, 1) := by decide +kernel
theorem dJ2_init_2_9 : decode cJ2_init_2 9 = .ok (.iload_n 1, 1) := by decide +kernel
theorem dJ2_init_2_10 : decode cJ2_init_2 10 = .ok (.anewarray 7, 3) := by decide +kernel
theorem dJ2_init_2_13 : decode cJ2_init_2 13 = .ok (.putfield 9, 3) := by decide +kernel
theorem dJ2_init_2_16 : decode cJ2_init_2 16 = .ok (.goto 44, 3) := by decide +kernel
theorem dJ2_init_2_19 : decode cJ2_init_2 19 = .ok (.iload_n 1, 1) := by decide +kernel
theorem dJ2_init_2_20 : decode cJ2_init_2 20 = .ok (.ifCond .ne 13, 3) := by decide +kernel
theorem dJ2_init_2_23 : decode cJ2_init_2 23 = .ok (.aload_n 0, 1) := by decide +kernel
theorem dJ2_init_2_24 : decode cJ2_init_2 24 = .ok (.getstatic 15, 3) := by decide +kernel
theorem dJ2_init_2_27 : decode cJ2_init_2 27 = .ok (.putfield 9, 3) := by decide +kernel
theorem dJ2_init_2_30 : decode cJ2_init_2 30 = .ok (.goto 30, 3) := by decide +kernel
theorem dJ2_init_2_33 : decode cJ2_init_2 33 = .ok (.new 18, 3) := by decide +kernel
theorem dJ2_init_2_36 : decode cJ2_init_2 36 = .ok (.dup, 1) := by decide +kernel
theorem dJ2_init_2_37 : decode cJ2_init_2 37 = .ok (.new 20, 3) := by decide +kernel
theorem dJ2_init_2_40 : decode cJ2_init_2 40 = .ok (.dup, 1) := by decide +kernel
theorem dJ2_init_2_41 : decode cJ2_init_2 41 = .ok (.invokespecial 22, 3) := by decide +kernel
theorem dJ2_init_2_44 : decode cJ2_init_2 44 = .ok (.ldc 23, 2) := by decide +kernel
theorem dJ2_init_2_46 : decode cJ2_init_2 46 = .ok (.invokevirtual 25, 3) := by decide +kernel
theorem dJ2_init_2_49 : decode cJ2_init_2 49 = .ok (.iload_n 1, 1) := by decide +kernel
theorem dJ2_init_2_50 : decode cJ2_init_2 50 = .ok (.invokevirtual 29, 3) := by decide +kernel
theorem dJ2_init_2_53 : decode cJ2_init_2 53 = .ok (.invokevirtual 32, 3) := by decide +kernel
theorem dJ2_init_2_56 : decode cJ2_init_2 56 = .ok (.invokespecial 36, 3) := by decide +kernel
theorem dJ2_init_2_59 : decode cJ2_init_2 59 = .ok (.athrow, 1) := by decide +kernel
theorem dJ2_init_2_60 : decode cJ2_init_2 60 = .ok (.return_, 1) := by decide +kernel
theorem b_J2_init_2_0 {G : om_G} {d d' : Nat} {h : om_H} {Q Q1 : om_O → Prop} {l0 : Nat} {l1 : Int} (hcal : OK G d' m_J1_init 0 [some (vR l0)] [] h Q1) (hdd : d' + 1 ≤ d) (k : ∀ O, Q1 O → om_next G d m_J2_init_2 4 [some (vR l0), some (vI l1)] [] Q O) (c1 : kd h l0 = 41) : OK G d m_J2_init_2 0 [some (vR l0), some (vI l1)] [] h Q := by
  refine ok_aload_n dJ2_init_2_0 rfl ?_
  refine ok_rng (fun V => ?_)
  exact ok_callI (As := []) (rest := []) dJ2_init_2_1 ml_J2_1 mw_J1_init rfl rfl rfl rfl q342 (om_ne0 V c1) rfl (Nat.le_of_ble_eq_true rfl) (Nat.le_of_ble_eq_true rfl) (om_o0 rfl) hcal hdd k
theorem b_J2_init_2_4 {G : om_G} {d : Nat} {h : om_H} {Q : om_O → Prop} {l0 : Nat} {l1 : Int} (kt : l1 ≤ 0 → OK G d m_J2_init_2 19 [some (vR l0), some (vI l1)] [] h Q) (kf : 0 < l1 → OK G d m_J2_init_2 8 [some (vR l0), some (vI l1)] [] h Q) : OK G d m_J2_init_2 4 [some (vR l0), some (vI l1)] [] h Q := by
  refine ok_iload_n dJ2_init_2_4 rfl ?_
  exact ok_if_le dJ2_init_2_5 (by decide) kt kf
theorem b_J2_init_2_8 {G : om_G} {d : Nat} {h : om_H} {Q : om_O → Prop} {l0 : Nat} {l1 : Int} (c1 : 0 ≤ l1) (c2 : l1.toNat * 4 ≤ 536870912) (c3 : kd (nA h 61 l1.toNat) l0 = 41) (k : OK G d m_J2_init_2 60 [none, none] [] (sR (nA h 61 l1.toNat) 1726 l0 (hz h)) Q) : OK G d m_J2_init_2 8 [some (vR l0), some (vI l1)] [] h Q := by
  refine ok_aload_n dJ2_init_2_8 rfl ?_
  refine ok_iload_n dJ2_init_2_9 rfl ?_
  refine ok_anew (kk0 := 61) dJ2_init_2_10 rfl q1198 q1189 c1 c2 ?_
  refine ok_putR dJ2_init_2_13 fp_J2_9 (fun h => by cases h) (by decide) c3 ?_
  refine ok_goto (tgt := 60) dJ2_init_2_16 (by decide) ?_
  exact ok_fewer (ls' := [none, none]) trivial k
theorem b_J2_init_2_19 {G : om_G} {d : Nat} {h : om_H} {Q : om_O → Prop} {l0 : Nat} {l1 : Int} (kt : l1 ≠ 0 → OK G d m_J2_init_2 33 [none, some (vI l1)] [] h Q) (kf : l1 = 0 → OK G d m_J2_init_2 23 [some (vR l0), none] [] h Q) : OK G d m_J2_init_2 19 [some (vR l0), some (vI l1)] [] h Q := by
  refine ok_iload_n dJ2_init_2_19 rfl ?_
  exact ok_if_ne dJ2_init_2_20 (by decide) (fun q => ok_fewer (ls' := [none, some (vI l1)]) ⟨rfl, trivial⟩ (kt q)) (fun q => ok_fewer (ls' := [some (vR l0), none]) ⟨rfl, trivial⟩ (kf q))
theorem b_J2_init_2_60 {G : om_G} {d : Nat} {h : om_H} {Q : om_O → Prop} (q : Q (.inl none, h)) : OK G d m_J2_init_2 60 [none, none] [] h Q := by
  exact ok_vret dJ2_init_2_60 rfl q
theorem dJ2_get_0 : decode cJ2_get 0 = .ok (.iload_n 1, 1) := by decide +kernel
theorem dJ2_get_1 : decode cJ2_get 1 = .ok (.aload_n 0, 1) := by decide +kernel
theorem dJ2_get_2 : decode cJ2_get 2 = .ok (.getfield 48, 3) := by decide +kernel
theorem dJ2_get_5 : decode cJ2_get 5 = .ok (.invokestatic 118, 3) := by decide +kernel
theorem dJ2_get_8 : decode cJ2_get 8 = .ok (.pop, 1) := by decide +kernel
theorem dJ2_get_9 : decode cJ2_get 9 = .ok (.aload_n 0, 1) := by decide +kernel
theorem dJ2_get_10 : decode cJ2_get 10 = .ok (.iload_n 1, 1) := by decide +kernel
theorem dJ2_get_11 : decode cJ2_get 11 = .ok (.invokevirtual 123, 3) := by decide +kernel
theorem dJ2_get_14 : decode cJ2_get 14 = .ok (.areturn, 1) := by decide +kernel
theorem b_J2_get_0 {G : om_G} {d d' : Nat} {h : om_H} {Q Q1 : om_O → Prop} {l0 : Nat} {l1 : Int} (c1 : kd h l0 = 41) (hcal : OK G d' m_J16_checkIndex 0 [some (vI l1), some (vI (fI h 1728 l0))] [] h Q1) (hdd : d' + 1 ≤ d) (k : ∀ O, Q1 O → om_next G d m_J2_get 8 [some (vR l0), some (vI l1)] [] Q O) : OK G d m_J2_get 0 [some (vR l0), some (vI l1)] [] h Q := by
  refine ok_iload_n dJ2_get_0 rfl ?_
  refine ok_aload_n dJ2_get_1 rfl ?_
  refine ok_getI dJ2_get_2 fl_J2_48 (by decide) c1 ?_
  exact ok_callS (As := [vI l1, vI (fI h 1728 l0)]) (rest := []) dJ2_get_5 ml_J2_118 mw_J16_checkIndex rfl q1988 rfl (Nat.le_of_ble_eq_true rfl) (Nat.le_of_ble_eq_true rfl) (om_o0 rfl) hcal hdd k
theorem b_J2_get_8 {G : om_G} {d d' : Nat} {h : om_H} {Q Q1 : om_O → Prop} {l0 : Nat} {l1 : Int} {s0 : Int} (hcal : OK G d' m_J2_elementData 0 [some (vR l0), some (vI l1)] [] h Q1) (hdd : d' + 1 ≤ d) (k : ∀ O, Q1 O → om_next G d m_J2_get 14 [none, none] [] Q O) (c1 : kd h l0 = 41) : OK G d m_J2_get 8 [some (vR l0), some (vI l1)] [vI s0] h Q := by
  refine ok_popI dJ2_get_8 ?_
  refine ok_aload_n dJ2_get_9 rfl ?_
  refine ok_iload_n dJ2_get_10 rfl ?_
  exact ok_callR (As := [vI l1]) (rest := []) dJ2_get_11 ml_J2_123 mw_J2_elementData rfl q1992 q1993 (om_Rc_k (kc := 40) rfl c1) rfl (Nat.le_of_ble_eq_true rfl) (Nat.le_of_ble_eq_true rfl) (om_o0 rfl) hcal hdd (fun O hO => om_next_fewer (ls' := [none, none]) trivial (k O hO))
theorem b_J2_get_14 {G : om_G} {d : Nat} {h : om_H} {Q : om_O → Prop} {s0 : Nat} (q : Q (.inl (some (vR s0)), h)) : OK G d m_J2_get 14 [none, none] [vR s0] h Q := by
  exact ok_aret dJ2_get_14 rfl rfl q
theorem dJ2_elementData_0 : decode cJ2_elementData 0 = .ok (.aload_n 0, 1) := by decide +kernel
theorem dJ2_elementData_1 : decode cJ2_elementData 1 = .ok (.getfield 9, 3) := by decide +kernel
theorem dJ2_elementData_4 : decode cJ2_elementData 4 = .ok (.iload_n 1, 1) := by decide +kernel
theorem dJ2_elementData_5 : decode cJ2_elementData 5 = .ok (.aaload, 1) := by decide +kernel
theorem dJ2_elementData_6 : decode cJ2_elementData 6 = .ok (.areturn, 1) := by decide +kernel
theorem b_J2_elementData_0 {G : om_G} {d : Nat} {h : om_H} {Q : om_O → Prop} {l0 : Nat} {l1 : Int} (c1 : kd h l0 = 41) (c2 : kd h (fR h 1726 l0) = 61) (c3 : 0 ≤ l1) (c4 : l1 < an h (fR h 1726 l0)) (q : Q (.inl (some (vR (aR h (fR h 1726 l0) l1.toNat))), h)) : OK G d m_J2_elementData 0 [some (vR l0), some (vI l1)] [] h Q := by
  refine ok_aload_n dJ2_elementData_0 rfl ?_
  refine ok_getR dJ2_elementData_1 fl_J2_9 (by decide) c1 ?_
  refine ok_iload_n dJ2_elementData_4 rfl ?_
  refine ok_aald dJ2_elementData_5 (om_akd c2 (by decide)) c3 c4 ?_
  exact ok_aret dJ2_elementData_6 rfl rfl q
theorem dJ2_remove_0 : decode cJ2_remove 0 = .ok (.iload_n 1, 1) := by decide +kernel
theorem dJ2_remove_1 : decode cJ2_remove 1 = .ok (.aload_n 0, 1) := by decide +kernel
theorem dJ2_remove_2 : decode cJ2_remove 2 = .ok (.getfield 48, 3) := by decide +kernel
theorem dJ2_remove_5 : decode cJ2_remove 5 = .ok (.invokestatic 118, 3) := by decide +kernel
theorem dJ2_remove_8 : decode cJ2_remove 8 = .ok (.pop, 1) := by decide +kernel
theorem dJ2_remove_9 : decode cJ2_remove 9 = .ok (.aload_n 0, 1) := by decide +kernel
theorem dJ2_remove_10 : decode cJ2_remove 10 = .ok (.getfield 9, 3) := by decide +kernel
theorem dJ2_remove_13 : decode cJ2_remove 13 = .ok (.astore_n 2, 1) := by decide +kernel
theorem dJ2_remove_14 : decode cJ2_remove 14 = .ok (.aload_n 2, 1) := by decide +kernel
theorem dJ2_remove_15 : decode cJ2_remove 15 = .ok (.iload_n 1, 1) := by decide +kernel
theorem dJ2_remove_16 : decode cJ2_remove 16 = .ok (.aaload, 1) := by decide +kernel
theorem dJ2_remove_17 : decode cJ2_remove 17 = .ok (.astore_n 3, 1) := by decide +kernel
theorem dJ2_remove_18 : decode cJ2_remove 18 = .ok (.aload_n 0, 1) := by decide +kernel
theorem dJ2_remove_19 : decode cJ2_remove 19 = .ok (.aload_n 2, 1) := by decide +kernel
theorem dJ2_remove_20 : decode cJ2_remove 20 = .ok (.iload_n 1, 1) := by decide +kernel
theorem dJ2_remove_21 : decode cJ2_remove 21 = .ok (.invokevirtual 144, 3) := by decide +kernel
theorem dJ2_remove_24 : decode cJ2_remove 24 = .ok (.aload_n 3, 1) := by decide +kernel
theorem dJ2_remove_25 : decode cJ2_remove 25 = .ok (.areturn, 1) := by decide +kernel
theorem b_J2_remove_0 {G : om_G} {d d' : Nat} {h : om_H} {Q Q1 : om_O → Prop} {l0 : Nat} {l1 : Int} (c1 : kd h l0 = 41) (hcal : OK G d' m_J16_checkIndex 0 [some (vI l1), some (vI (fI h 1728 l0))] [] h Q1) (hdd : d' + 1 ≤ d) (k : ∀ O, Q1 O → om_next G d m_J2_remove 8 [some (vR l0), some (vI l1), none, none] [] Q O) : OK G d m_J2_remove 0 [some (vR l0), some (vI l1), none, none] [] h Q := by
  refine ok_iload_n dJ2_remove_0 rfl ?_
  refine ok_aload_n dJ2_remove_1 rfl ?_
  refine ok_getI dJ2_remove_2 fl_J2_48 (by decide) c1 ?_
  exact ok_callS (As := [vI l1, vI (fI h 1728 l0)]) (rest := []) dJ2_remove_5 ml_J2_118 mw_J16_checkIndex rfl q1988 rfl (Nat.le_of_ble_eq_true rfl) (Nat.le_of_ble_eq_true rfl) (om_o0 rfl) hcal hdd k
theorem b_J2_remove_8 {G : om_G} {d d' : Nat} {h : om_H} {Q Q1 : om_O → Prop} {l0 : Nat} {l1 : Int} {s0 : Int} (c1 : kd h l0 = 41) (c2 : kd h (fR h 1726 l0) = 61) (c3 : 0 ≤ l1) (c4 : l1 < an h (fR h 1726 l0)) (hcal : OK G d' m_J2_fastRemove 0 [some (vR l0), some (vR (fR h 1726 l0)), some (vI l1), none] [] h Q1) (hdd : d' + 1 ≤ d) (k : ∀ O, Q1 O → om_next G d m_J2_remove 24 [none, none, none, some (vR (aR h (fR h 1726 l0) l1.toNat))] [] Q O) : OK G d m_J2_remove 8 [some (vR l0), some (vI l1), none, none] [vI s0] h Q := by
  refine ok_popI dJ2_remove_8 ?_
  refine ok_aload_n dJ2_remove_9 rfl ?_
  refine ok_getR dJ2_remove_10 fl_J2_9 (by decide) c1 ?_
  refine ok_astore_n (ls' := [some (vR l0), some (vI l1), some (vR (fR h 1726 l0)), none]) dJ2_remove_13 (by decide) rfl ?_
  refine ok_aload_n dJ2_remove_14 rfl ?_
  refine ok_iload_n dJ2_remove_15 rfl ?_
  refine ok_aald dJ2_remove_16 (om_akd c2 (by decide)) c3 c4 ?_
  refine ok_astore_n (ls' := [some (vR l0), some (vI l1), some (vR (fR h 1726 l0)), some (vR (aR h (fR h 1726 l0) l1.toNat))]) dJ2_remove_17 (by decide) rfl ?_
  refine ok_aload_n dJ2_remove_18 rfl ?_
  refine ok_aload_n dJ2_remove_19 rfl ?_
  refine ok_iload_n dJ2_remove_20 rfl ?_
  exact ok_callR (As := [vR (fR h 1726 l0), vI l1]) (rest := []) dJ2_remove_21 ml_J2_144 mw_J2_fastRemove rfl q2260 qs26 (om_Rc_k (kc := 40) rfl c1) rfl (Nat.le_of_ble_eq_true rfl) (Nat.le_of_ble_eq_true rfl) (om_o0 rfl) hcal hdd (fun O hO => om_next_fewer (ls' := [none, none, none, some (vR (aR h (fR h 1726 l0) l1.toNat))]) ⟨rfl, trivial⟩ (k O hO))
theorem b_J2_remove_24 {G : om_G} {d : Nat} {h : om_H} {Q : om_O → Prop} {l3 : Nat} (q : Q (.inl (some (vR l3)), h)) : OK G d m_J2_remove 24 [none, none, none, some (vR l3)] [] h Q := by
  refine ok_aload_n dJ2_remove_24 rfl ?_
  exact ok_aret dJ2_remove_25 rfl rfl q
theorem dJ2_fastRemove_0 : decode cJ2_fastRemove 0 = .ok (.aload_n 0, 1) := by decide +kernel
theorem dJ2_fastRemove_1 : decode cJ2_fastRemove 1 = .ok (.dup, 1) := by decide +kernel
theorem dJ2_fastRemove_2 : decode cJ2_fastRemove 2 = .ok (.getfield 63, 3) := by decide +kernel
theorem dJ2_fastRemove_5 : decode cJ2_fastRemove 5 = .ok (.iconst 1, 1) := by decide +kernel
theorem dJ2_fastRemove_6 : decode cJ2_fastRemove 6 = .ok (.iadd, 1) := by decide +kernel
theorem dJ2_fastRemove_7 : decode cJ2_fastRemove 7 = .ok (.putfield 63, 3) := by decide +kernel
theorem dJ2_fastRemove_10 : decode cJ2_fastRemove 10 = .ok (.aload_n 0, 1) := by decide +kernel
theorem dJ2_fastRemove_11 : decode cJ2_fastRemove 11 = .ok (.getfield 48, 3) := by decide +kernel
theorem dJ2_fastRemove_14 : decode cJ2_fastRemove 14 = .ok (.iconst 1, 1) := by decide +kernel
theorem dJ2_fastRemove_15 : decode cJ2_fastRemove 15 = .ok (.isub, 1) := by decide +kernel
theorem dJ2_fastRemove_16 : decode cJ2_fastRemove 16 = .ok (.dup, 1) := by decide +kernel
theorem dJ2_fastRemove_17 : decode cJ2_fastRemove 17 = .ok (.istore_n 3, 1) := by decide +kernel
theorem dJ2_fastRemove_18 : decode cJ2_fastRemove 18 = .ok (.iload_n 2, 1) := by decide +kernel
theorem dJ2_fastRemove_19 : decode cJ2_fastRemove 19 = .ok (.if_icmp .le 15, 3) := by decide +kernel
theorem dJ2_fastRemove_22 : decode cJ2_fastRemove 22 = .ok (.aload_n 1, 1) := by decide +kernel
theorem dJ2_fastRemove_23 : decode cJ2_fastRemove 23 = .ok (.iload_n 2, 1) := by decide +kernel
theorem dJ2_fastRemove_24 : decode cJ2_fastRemove 24 = .ok (.iconst 1, 1) := by decide +kernel
theorem dJ2_fastRemove_25 : decode cJ2_fastRemove 25 = .ok (.iadd, 1) := by decide +kernel
theorem dJ2_fastRemove_26 : decode cJ2_fastRemove 26 = .ok (.aload_n 1, 1) := by decide +kernel
theorem dJ2_fastRemove_27 : decode cJ2_fastRemove 27 = .ok (.iload_n 2, 1) := by decide +kernel
theorem dJ2_fastRemove_28 : decode cJ2_fastRemove 28 = .ok (.iload_n 3, 1) := by decide +kernel
theorem dJ2_fastRemove_29 : decode cJ2_fastRemove 29 = .ok (.iload_n 2, 1) := by decide +kernel
theorem dJ2_fastRemove_30 : decode cJ2_fastRemove 30 = .ok (.isub, 1) := by decide +kernel
theorem dJ2_fastRemove_31 : decode cJ2_fastRemove 31 = .ok (.invokestatic 112, 3) := by decide +kernel
theorem dJ2_fastRemove_34 : decode cJ2_fastRemove 34 = .ok (.aload_n 1, 1) := by decide +kernel
theorem dJ2_fastRemove_35 : decode cJ2_fastRemove 35 = .ok (.aload_n 0, 1) := by decide +kernel
theorem dJ2_fastRemove_36 : decode cJ2_fastRemove 36 = .ok (.iload_n 3, 1) := by decide +kernel
theorem dJ2_fastRemove_37 : decode cJ2_fastRemove 37 = .ok (.dup_x1, 1) := by decide +kernel
theorem dJ2_fastRemove_38 : decode cJ2_fastRemove 38 = .ok (.putfield 48, 3) := by decide +kernel
theorem dJ2_fastRemove_41 : decode cJ2_fastRemove 41 = .ok (.aconst_null, 1) := by decide +kernel
theorem dJ2_fastRemove_42 : decode cJ2_fastRemove 42 = .ok (.aastore, 1) := by decide +kernel
theorem dJ2_fastRemove_43 : decode cJ2_fastRemove 43 = .ok (.return_, 1) := by decide +kernel
theorem b_J2_fastRemove_0 {G : om_G} {d : Nat} {h : om_H} {Q : om_O → Prop} {l0 : Nat} {l1 : Nat} {l2 : Int} (c1 : kd h l0 = 41) (kt : (w32 ((fI h 1728 l0) - 1)) ≤ l2 → OK G d m_J2_fastRemove 34 [some (vR l0), some (vR l1), none, some (vI (w32 ((fI h 1728 l0) - 1)))] [] (sI h 1720 l0 (w32 ((fI h 1720 l0) + 1))) Q) (kf : l2 < (w32 ((fI h 1728 l0) - 1)) → OK G d m_J2_fastRemove 22 [some (vR l0), some (vR l1), some (vI l2), some (vI (w32 ((fI h 1728 l0) - 1)))] [] (sI h 1720 l0 (w32 ((fI h 1720 l0) + 1))) Q) : OK G d m_J2_fastRemove 0 [some (vR l0), some (vR l1), some (vI l2), none] [] h Q := by
  refine ok_aload_n dJ2_fastRemove_0 rfl ?_
  refine ok_dupR dJ2_fastRemove_1 ?_
  refine ok_getI dJ2_fastRemove_2 fl_J2_63 (by decide) c1 ?_
  refine ok_iconst dJ2_fastRemove_5 ⟨by decide, by decide⟩ ?_
  refine ok_iadd dJ2_fastRemove_6 ?_
  refine ok_putI dJ2_fastRemove_7 fp_J2_63 (fun h => by cases h) (by decide) c1 ?_
  refine ok_aload_n dJ2_fastRemove_10 rfl ?_
  refine ok_getI dJ2_fastRemove_11 fl_J2_48 (by decide) c1 ?_
  refine ok_iconst dJ2_fastRemove_14 ⟨by decide, by decide⟩ ?_
  refine ok_isub dJ2_fastRemove_15 ?_
  refine ok_dupI dJ2_fastRemove_16 ?_
  refine ok_istore_n (ls' := [some (vR l0), some (vR l1), some (vI l2), some (vI (w32 ((fI h 1728 l0) - 1)))]) dJ2_fastRemove_17 (by decide) rfl ?_
  refine ok_iload_n dJ2_fastRemove_18 rfl ?_
  exact ok_icmp_le dJ2_fastRemove_19 (by decide) (fun q => ok_fewer (ls' := [some (vR l0), some (vR l1), none, some (vI (w32 ((fI h 1728 l0) - 1)))]) ⟨rfl, rfl, rfl, trivial⟩ (kt q)) kf
theorem b_J2_fastRemove_34 {G : om_G} {d : Nat} {h : om_H} {Q : om_O → Prop} {l0 : Nat} {l1 : Nat} {l3 : Int} (hG : om_okG G) (c1 : kd h l0 = 41) (c2 : kd h l1 = 61) (c3 : 0 ≤ l3) (c4 : l3 < an h l1) (q : Q (.inl none, pR (sI h 1728 l0 l3) l1 l3.toNat 0)) : OK G d m_J2_fastRemove 34 [some (vR l0), some (vR l1), none, some (vI l3)] [] h Q := by
  refine ok_aload_n dJ2_fastRemove_34 rfl ?_
  refine ok_aload_n dJ2_fastRemove_35 rfl ?_
  refine ok_iload_n dJ2_fastRemove_36 rfl ?_
  refine ok_dup_x1I dJ2_fastRemove_37 ?_
  refine ok_putI dJ2_fastRemove_38 fp_J2_48 (fun h => by cases h) (by decide) c1 ?_
  refine ok_null dJ2_fastRemove_41 ?_
  refine ok_aastO hG dJ2_fastRemove_42 c2 (Or.inl rfl) c3 c4 ?_
  exact ok_vret dJ2_fastRemove_43 rfl q
theorem dJ2_isEmpty_0 : decode cJ2_isEmpty 0 = .ok (.aload_n 0, 1) := by decide +kernel
theorem dJ2_isEmpty_1 : decode cJ2_isEmpty 1 = .ok (.getfield 48, 3) := by decide +kernel
theorem dJ2_isEmpty_4 : decode cJ2_isEmpty 4 = .ok (.ifCond .ne 7, 3) := by decide +kernel
theorem dJ2_isEmpty_7 : decode cJ2_isEmpty 7 = .ok (.iconst 1, 1) := by decide +kernel
theorem dJ2_isEmpty_8 : decode cJ2_isEmpty 8 = .ok (.goto 4, 3) := by decide +kernel
theorem dJ2_isEmpty_11 : decode cJ2_isEmpty 11 = .ok (.iconst 0, 1) := by decide +kernel
theorem dJ2_isEmpty_12 : decode cJ2_isEmpty 12 = .ok (.ireturn, 1) := by decide +kernel
theorem b_J2_isEmpty_0 {G : om_G} {d : Nat} {h : om_H} {Q : om_O → Prop} {l0 : Nat} (c1 : kd h l0 = 41) (kt : (fI h 1728 l0) ≠ 0 → OK G d m_J2_isEmpty 11 [none] [] h Q) (kf : (fI h 1728 l0) = 0 → OK G d m_J2_isEmpty 7 [none] [] h Q) : OK G d m_J2_isEmpty 0 [some (vR l0)] [] h Q := by
  refine ok_aload_n dJ2_isEmpty_0 rfl ?_
  refine ok_getI dJ2_isEmpty_1 fl_J2_48 (by decide) c1 ?_
  exact ok_if_ne dJ2_isEmpty_4 (by decide) (fun q => ok_fewer (ls' := [none]) trivial (kt q)) (fun q => ok_fewer (ls' := [none]) trivial (kf q))
theorem b_J2_isEmpty_7 {G : om_G} {d : Nat} {h : om_H} {Q : om_O → Prop} (k : OK G d m_J2_isEmpty 12 [none] [vI 1] h Q) : OK G d m_J2_isEmpty 7 [none] [] h Q := by
  refine ok_iconst dJ2_isEmpty_7 ⟨by decide, by decide⟩ ?_
  refine ok_goto (tgt := 12) dJ2_isEmpty_8 (by decide) ?_
  exact k
theorem b_J2_isEmpty_11 {G : om_G} {d : Nat} {h : om_H} {Q : om_O → Prop} (k : OK G d m_J2_isEmpty 12 [none] [vI 0] h Q) : OK G d m_J2_isEmpty 11 [none] [] h Q := by
  refine ok_iconst dJ2_isEmpty_11 ⟨by decide, by decide⟩ ?_
  exact k
theorem b_J2_isEmpty_12 {G : om_G} {d : Nat} {h : om_H} {Q : om_O → Prop} {s0 : Int} (q : Q (.inl (some (vI s0)), h)) (c1 : s0 = 0 ∨ s0 = 1) : OK G d m_J2_isEmpty 12 [none] [vI s0] h Q := by
  exact ok_zret dJ2_isEmpty_12 rfl c1 q
theorem dJ3_ordinal_0 : decode cJ3_ordinal 0 = .ok (.aload_n 0, 1) := by decide +kernel
theorem dJ3_ordinal_1 : decode cJ3_ordinal 1 = .ok (.getfield 7, 3) := by decide +kernel
theorem dJ3_ordinal_4 : decode cJ3_ordinal 4 = .ok (.ireturn, 1) := by decide +kernel
theorem dJ4_length_0 : decode cJ4_length 0 = .ok (.aload_n 0, 1) := by decide +kernel
theorem dJ4_length_1 : decode cJ4_length 1 = .ok (.getfield 9, 3) := by decide +kernel
theorem dJ4_length_4 : decode cJ4_length 4 = .ok (.arraylength, 1) := by decide +kernel
theorem dJ4_length_5 : decode cJ4_length 5 = .ok (.aload_n 0, 1) := by decide +kernel
theorem dJ4_length_6 : decode cJ4_length 6 = .ok (.invokevirtual 335, 3) := by decide +kernel
theorem dJ4_length_9 : decode cJ4_length 9 = .ok (.ishr, 1) := by decide +kernel
theorem dJ4_length_10 : decode cJ4_length 10 = .ok (.ireturn, 1) := by decide +kernel
theorem b_J4_length_9 {G : om_G} {d : Nat} {h : om_H} {Q : om_O → Prop} {s0 : Int} {s1 : Int} (q : Q (.inl (some (vI (shr32 s0 s1))), h)) : OK G d m_J4_length 9 [none] [vI s1, vI s0] h Q := by
  refine ok_ishr dJ4_length_9 ?_
  exact ok_iret dJ4_length_10 rfl q
theorem dJ4_coder_0 : decode cJ4_coder 0 = .ok (.getstatic 38, 3) := by decide +kernel
theorem dJ4_coder_3 : decode cJ4_coder 3 = .ok (.ifCond .eq 10, 3) := by decide +kernel
theorem dJ4_coder_6 : decode cJ4_coder 6 = .ok (.aload_n 0, 1) := by decide +kernel
theorem dJ4_coder_7 : decode cJ4_coder 7 = .ok (.getfield 15, 3) := by decide +kernel
theorem dJ4_coder_10 : decode cJ4_coder 10 = .ok (.goto 4, 3) := by decide +kernel
theorem dJ4_coder_13 : decode cJ4_coder 13 = .ok (.iconst 1, 1) := by decide +kernel
theorem dJ4_coder_14 : decode cJ4_coder 14 = .ok (.ireturn, 1) := by decide +kernel
theorem b_J4_coder_0 {G : om_G} {d : Nat} {h : om_H} {Q : om_O → Prop} {l0 : Nat} (hG : om_okG G) (kt : (1 : Int) = 0 → OK G d m_J4_coder 13 [none] [] h Q) (kf : (1 : Int) ≠ 0 → OK G d m_J4_coder 6 [some (vR l0)] [] h Q) : OK G d m_J4_coder 0 [some (vR l0)] [] h Q := by
  refine ok_gets (w := vI 1) dJ4_coder_0 (Or.inl q874) (om_kz_comp hG) ⟨by decide, by decide⟩ ?_
  exact ok_if_eq dJ4_coder_3 (by decide) (fun q => ok_fewer (ls' := [none]) trivial (kt q)) kf
theorem b_J4_coder_13 {G : om_G} {d : Nat} {h : om_H} {Q : om_O → Prop} (k : OK G d m_J4_coder 14 [none] [vI 1] h Q) : OK G d m_J4_coder 13 [none] [] h Q := by
  refine ok_iconst dJ4_coder_13 ⟨by decide, by decide⟩ ?_
  exact k
theorem b_J4_coder_14 {G : om_G} {d : Nat} {h : om_H} {Q : om_O → Prop} {s0 : Int} (q : Q (.inl (some (vI s0)), h)) (c1 : narrow .byte (.int (Int32.ofInt s0)) = .int (Int32.ofInt s0)) : OK G d m_J4_coder 14 [none] [vI s0] h Q := by
  exact ok_nret dJ4_coder_14 rfl c1 q
theorem dJ4_charAt_0 : decode cJ4_charAt 0 = .ok (.aload_n 0, 1) := by decide +kernel
theorem dJ4_charAt_1 : decode cJ4_charAt 1 = .ok (.invokevirtual 492, 3) := by decide +kernel
theorem dJ4_charAt_4 : decode cJ4_charAt 4 = .ok (.ifCond .eq 12, 3) := by decide +kernel
theorem dJ4_charAt_7 : decode cJ4_charAt 7 = .ok (.aload_n 0, 1) := by decide +kernel
theorem dJ4_charAt_8 : decode cJ4_charAt 8 = .ok (.getfield 9, 3) := by decide +kernel
theorem dJ4_charAt_11 : decode cJ4_charAt 11 = .ok (.iload_n 1, 1) := by decide +kernel
theorem dJ4_charAt_12 : decode cJ4_charAt 12 = .ok (.invokestatic 495, 3) := by decide +kernel
theorem dJ4_charAt_15 : decode cJ4_charAt 15 = .ok (.ireturn, 1) := by decide +kernel
theorem dJ4_charAt_16 : decode cJ4_charAt 16 = .ok (.aload_n 0, 1) := by decide +kernel
theorem dJ4_charAt_17 : decode cJ4_charAt 17 = .ok (.getfield 9, 3) := by decide +kernel
theorem dJ4_charAt_20 : decode cJ4_charAt 20 = .ok (.iload_n 1, 1) := by decide +kernel
theorem dJ4_charAt_21 : decode cJ4_charAt 21 = .ok (.invokestatic 498, 3) := by decide +kernel
theorem dJ4_charAt_24 : decode cJ4_charAt 24 = .ok (.ireturn, 1) := by decide +kernel
theorem b_J4_charAt_0 {G : om_G} {d d' : Nat} {h : om_H} {Q Q1 : om_O → Prop} {l0 : Nat} {l1 : Int} (hcal : OK G d' m_J4_isLatin1 0 [some (vR l0)] [] h Q1) (hdd : d' + 1 ≤ d) (k : ∀ O, Q1 O → om_next G d m_J4_charAt 4 [some (vR l0), some (vI l1)] [] Q O) (c1 : om_Rc G h l0 "java/lang/String") : OK G d m_J4_charAt 0 [some (vR l0), some (vI l1)] [] h Q := by
  refine ok_aload_n dJ4_charAt_0 rfl ?_
  exact ok_callR (As := []) (rest := []) dJ4_charAt_1 ml_J4_492 mw_J4_isLatin1 rfl q881 q882 c1 rfl (Nat.le_of_ble_eq_true rfl) (Nat.le_of_ble_eq_true rfl) (om_o0 rfl) hcal hdd k
theorem b_J4_charAt_4 {G : om_G} {d : Nat} {h : om_H} {Q : om_O → Prop} {l0 : Nat} {l1 : Int} {s0 : Int} (kt : s0 = 0 → OK G d m_J4_charAt 16 [some (vR l0), some (vI l1)] [] h Q) (kf : s0 ≠ 0 → OK G d m_J4_charAt 7 [some (vR l0), some (vI l1)] [] h Q) : OK G d m_J4_charAt 4 [some (vR l0), some (vI l1)] [vI s0] h Q := by
  exact ok_if_eq dJ4_charAt_4 (by decide) kt kf
theorem b_J4_charAt_15 {G : om_G} {d : Nat} {h : om_H} {Q : om_O → Prop} {s0 : Int} (q : Q (.inl (some (vI s0)), h)) (c1 : narrow .char (.int (Int32.ofInt s0)) = .int (Int32.ofInt s0)) : OK G d m_J4_charAt 15 [none, none] [vI s0] h Q := by
  exact ok_nret dJ4_charAt_15 rfl c1 q
theorem b_J4_charAt_24 {G : om_G} {d : Nat} {h : om_H} {Q : om_O → Prop} {s0 : Int} (q : Q (.inl (some (vI s0)), h)) (c1 : narrow .char (.int (Int32.ofInt s0)) = .int (Int32.ofInt s0)) : OK G d m_J4_charAt 24 [none, none] [vI s0] h Q := by
  exact ok_nret dJ4_charAt_24 rfl c1 q
theorem dJ4_isLatin1_0 : decode cJ4_isLatin1 0 = .ok (.getstatic 38, 3) := by decide +kernel
theorem dJ4_isLatin1_3 : decode cJ4_isLatin1 3 = .ok (.ifCond .eq 14, 3) := by decide +kernel
theorem dJ4_isLatin1_6 : decode cJ4_isLatin1 6 = .ok (.aload_n 0, 1) := by decide +kernel
theorem dJ4_isLatin1_7 : decode cJ4_isLatin1 7 = .ok (.getfield 15, 3) := by decide +kernel
theorem dJ4_isLatin1_10 : decode cJ4_isLatin1 10 = .ok (.ifCond .ne 7, 3) := by decide +kernel
theorem dJ4_isLatin1_13 : decode cJ4_isLatin1 13 = .ok (.iconst 1, 1) := by decide +kernel
theorem dJ4_isLatin1_14 : decode cJ4_isLatin1 14 = .ok (.goto 4, 3) := by decide +kernel
theorem dJ4_isLatin1_17 : decode cJ4_isLatin1 17 = .ok (.iconst 0, 1) := by decide +kernel
theorem dJ4_isLatin1_18 : decode cJ4_isLatin1 18 = .ok (.ireturn, 1) := by decide +kernel
theorem b_J4_isLatin1_0 {G : om_G} {d : Nat} {h : om_H} {Q : om_O → Prop} {l0 : Nat} (hG : om_okG G) (kt : (1 : Int) = 0 → OK G d m_J4_isLatin1 17 [none] [] h Q) (kf : (1 : Int) ≠ 0 → OK G d m_J4_isLatin1 6 [some (vR l0)] [] h Q) : OK G d m_J4_isLatin1 0 [some (vR l0)] [] h Q := by
  refine ok_gets (w := vI 1) dJ4_isLatin1_0 (Or.inl q874) (om_kz_comp hG) ⟨by decide, by decide⟩ ?_
  exact ok_if_eq dJ4_isLatin1_3 (by decide) (fun q => ok_fewer (ls' := [none]) trivial (kt q)) kf
theorem b_J4_isLatin1_13 {G : om_G} {d : Nat} {h : om_H} {Q : om_O → Prop} (k : OK G d m_J4_isLatin1 18 [none] [vI 1] h Q) : OK G d m_J4_isLatin1 13 [none] [] h Q := by
  refine ok_iconst dJ4_isLatin1_13 ⟨by decide, by decide⟩ ?_
  refine ok_goto (tgt := 18) dJ4_isLatin1_14 (by decide) ?_
  exact k
theorem b_J4_isLatin1_17 {G : om_G} {d : Nat} {h : om_H} {Q : om_O → Prop} (k : OK G d m_J4_isLatin1 18 [none] [vI 0] h Q) : OK G d m_J4_isLatin1 17 [none] [] h Q := by
  refine ok_iconst dJ4_isLatin1_17 ⟨by decide, by decide⟩ ?_
  exact k
theorem b_J4_isLatin1_18 {G : om_G} {d : Nat} {h : om_H} {Q : om_O → Prop} {s0 : Int} (q : Q (.inl (some (vI s0)), h)) (c1 : s0 = 0 ∨ s0 = 1) : OK G d m_J4_isLatin1 18 [none] [vI s0] h Q := by
  exact ok_zret dJ4_isLatin1_18 rfl c1 q
theorem dJ4_checkIndex_0 : decode cJ4_checkIndex 0 = .ok (.iload_n 0, 1) := by decide +kernel
theorem dJ4_checkIndex_1 : decode cJ4_checkIndex 1 = .ok (.iload_n 1, 1) := by decide +kernel
theorem dJ4_checkIndex_2 : decode cJ4_checkIndex 2 = .ok (.getstatic 1053, 3) := by decide +kernel
theorem dJ4_checkIndex_5 : decode cJ4_checkIndex 5 = .ok (.invokestatic 1059, 3) := by decide +kernel
theorem dJ4_checkIndex_8 : decode cJ4_checkIndex 8 = .ok (.pop, 1) := by decide +kernel
theorem dJ4_checkIndex_9 : decode cJ4_checkIndex 9 = .ok (.return_, 1) := by decide +kernel
theorem b_J4_checkIndex_8 {G : om_G} {d : Nat} {h : om_H} {Q : om_O → Prop} {s0 : Int} (q : Q (.inl none, h)) : OK G d m_J4_checkIndex 8 [none, none] [vI s0] h Q := by
  refine ok_popI dJ4_checkIndex_8 ?_
  exact ok_vret dJ4_checkIndex_9 rfl q
theorem dJ5_charAt_0 : decode cJ5_charAt 0 = .ok (.iload_n 1, 1) := by decide +kernel
theorem dJ5_charAt_1 : decode cJ5_charAt 1 = .ok (.aload_n 0, 1) := by decide +kernel
theorem dJ5_charAt_2 : decode cJ5_charAt 2 = .ok (.arraylength, 1) := by decide +kernel
theorem dJ5_charAt_3 : decode cJ5_charAt 3 = .ok (.invokestatic 9, 3) := by decide +kernel
theorem dJ5_charAt_6 : decode cJ5_charAt 6 = .ok (.aload_n 0, 1) := by decide +kernel
theorem dJ5_charAt_7 : decode cJ5_charAt 7 = .ok (.iload_n 1, 1) := by decide +kernel
theorem dJ5_charAt_8 : decode cJ5_charAt 8 = .ok (.baload, 1) := by decide +kernel
theorem dJ5_charAt_9 : decode cJ5_charAt 9 = .ok (.sipush 255, 3) := by decide +kernel
theorem dJ5_charAt_12 : decode cJ5_charAt 12 = .ok (.iand, 1) := by decide +kernel
theorem dJ5_charAt_13 : decode cJ5_charAt 13 = .ok (.i2c, 1) := by decide +kernel
theorem dJ5_charAt_14 : decode cJ5_charAt 14 = .ok (.ireturn, 1) := by decide +kernel
theorem b_J5_charAt_0 {G : om_G} {d d' : Nat} {h : om_H} {Q Q1 : om_O → Prop} {l0 : Nat} {l1 : Int} (c1 : kd h l0 = 50) (hcal : OK G d' m_J4_checkIndex 0 [some (vI l1), some (vI ((an h l0 : Int)))] [] h Q1) (hdd : d' + 1 ≤ d) (k : ∀ O, Q1 O → om_next G d m_J5_charAt 6 [some (vR l0), some (vI l1)] [] Q O) : OK G d m_J5_charAt 0 [some (vR l0), some (vI l1)] [] h Q := by
  refine ok_iload_n dJ5_charAt_0 rfl ?_
  refine ok_aload_n dJ5_charAt_1 rfl ?_
  refine ok_alen dJ5_charAt_2 (om_akd c1 (by decide)) ?_
  exact ok_callS (As := [vI l1, vI ((an h l0 : Int))]) (rest := []) dJ5_charAt_3 ml_J5_9 mw_J4_checkIndex rfl q888 rfl (Nat.le_of_ble_eq_true rfl) (Nat.le_of_ble_eq_true rfl) (om_o0 rfl) hcal hdd k
theorem b_J5_charAt_6 {G : om_G} {d : Nat} {h : om_H} {Q : om_O → Prop} {l0 : Nat} {l1 : Int} (c1 : kd h l0 = 50) (c2 : 0 ≤ l1) (c3 : l1 < an h l0) (q : Q (.inl (some (vI (c16 (and32 (aI h l0 l1.toNat) 255)))), h)) (c4 : narrow .char (.int (Int32.ofInt (c16 (and32 (aI h l0 l1.toNat) 255)))) = .int (Int32.ofInt (c16 (and32 (aI h l0 l1.toNat) 255)))) : OK G d m_J5_charAt 6 [some (vR l0), some (vI l1)] [] h Q := by
  refine ok_aload_n dJ5_charAt_6 rfl ?_
  refine ok_iload_n dJ5_charAt_7 rfl ?_
  refine ok_bald dJ5_charAt_8 c1 c2 c3 ?_
  refine ok_sipush (v := 255) dJ5_charAt_9 (by decide) ⟨by decide, by decide⟩ ?_
  refine ok_iand dJ5_charAt_12 ?_
  refine ok_i2c dJ5_charAt_13 ?_
  exact ok_nret dJ5_charAt_14 rfl c4 q
theorem dJ6_checkIndex_0 : decode cJ6_checkIndex 0 = .ok (.iload_n 0, 1) := by decide +kernel
theorem dJ6_checkIndex_1 : decode cJ6_checkIndex 1 = .ok (.ifCond .lt 8, 3) := by decide +kernel
theorem dJ6_checkIndex_4 : decode cJ6_checkIndex 4 = .ok (.iload_n 0, 1) := by decide +kernel
theorem dJ6_checkIndex_5 : decode cJ6_checkIndex 5 = .ok (.iload_n 1, 1) := by decide +kernel
theorem dJ6_checkIndex_6 : decode cJ6_checkIndex 6 = .ok (.if_icmp .lt 10, 3) := by decide +kernel
theorem dJ6_checkIndex_9 : decode cJ6_checkIndex 9 = .ok (.aload_n 2, 1) := by decide +kernel
theorem dJ6_checkIndex_10 : decode cJ6_checkIndex 10 = .ok (.iload_n 0, 1) := by decide +kernel
theorem dJ6_checkIndex_11 : decode cJ6_checkIndex 11 = .ok (.iload_n 1, 1) := by decide +kernel
theorem dJ6_checkIndex_12 : decode cJ6_checkIndex 12 = .ok (.invokestatic 95, 3) := by decide +kernel
theorem dJ6_checkIndex_15 : decode cJ6_checkIndex 15 = .ok (.athrow, 1) := by decide +kernel
theorem dJ6_checkIndex_16 : decode cJ6_checkIndex 16 = .ok (.iload_n 0, 1) := by decide +kernel
theorem dJ6_checkIndex_17 : decode cJ6_checkIndex 17 = .ok (.ireturn, 1) := by decide +kernel
theorem b_J6_checkIndex_0 {G : om_G} {d : Nat} {h : om_H} {Q : om_O → Prop} {l0 : Int} {l1 : Int} {l2 : Nat} (kt : l0 < 0 → OK G d m_J6_checkIndex 9 [some (vI l0), some (vI l1), some (vR l2)] [] h Q) (kf : 0 ≤ l0 → OK G d m_J6_checkIndex 4 [some (vI l0), some (vI l1), some (vR l2)] [] h Q) : OK G d m_J6_checkIndex 0 [some (vI l0), some (vI l1), some (vR l2)] [] h Q := by
  refine ok_iload_n dJ6_checkIndex_0 rfl ?_
  exact ok_if_lt dJ6_checkIndex_1 (by decide) kt kf
theorem b_J6_checkIndex_4 {G : om_G} {d : Nat} {h : om_H} {Q : om_O → Prop} {l0 : Int} {l1 : Int} {l2 : Nat} (kt : l0 < l1 → OK G d m_J6_checkIndex 16 [some (vI l0), none, none] [] h Q) (kf : l1 ≤ l0 → OK G d m_J6_checkIndex 9 [some (vI l0), some (vI l1), some (vR l2)] [] h Q) : OK G d m_J6_checkIndex 4 [some (vI l0), some (vI l1), some (vR l2)] [] h Q := by
  refine ok_iload_n dJ6_checkIndex_4 rfl ?_
  refine ok_iload_n dJ6_checkIndex_5 rfl ?_
  exact ok_icmp_lt dJ6_checkIndex_6 (by decide) (fun q => ok_fewer (ls' := [some (vI l0), none, none]) ⟨rfl, trivial⟩ (kt q)) kf
theorem b_J6_checkIndex_16 {G : om_G} {d : Nat} {h : om_H} {Q : om_O → Prop} {l0 : Int} (q : Q (.inl (some (vI l0)), h)) : OK G d m_J6_checkIndex 16 [some (vI l0), none, none] [] h Q := by
  refine ok_iload_n dJ6_checkIndex_16 rfl ?_
  exact ok_iret dJ6_checkIndex_17 rfl q
theorem dJ8_init_0 : decode cJ8_init 0 = .ok (.aload_n 0, 1) := by decide +kernel
theorem dJ8_init_1 : decode cJ8_init 1 = .ok (.invokespecial 1, 3) := by decide +kernel
theorem dJ8_init_4 : decode cJ8_init 4 = .ok (.aload_n 0, 1) := by decide +kernel
theorem dJ8_init_5 : decode cJ8_init 5 = .ok (.aload_n 0, 1) := by decide +kernel
theorem dJ8_init_6 : decode cJ8_init 6 = .ok (.putfield 7, 3) := by decide +kernel
theorem dJ8_init_9 : decode cJ8_init 9 = .ok (.aload_n 0, 1) := by decide +kernel
theorem dJ8_init_10 : decode cJ8_init 10 = .ok (.getstatic 13, 3) := by decide +kernel
theorem dJ8_init_13 : decode cJ8_init 13 = .ok (.putfield 17, 3) := by decide +kernel
theorem dJ8_init_16 : decode cJ8_init 16 = .ok (.aload_n 0, 1) := by decide +kernel
theorem dJ8_init_17 : decode cJ8_init 17 = .ok (.getstatic 20, 3) := by decide +kernel
theorem dJ8_init_20 : decode cJ8_init 20 = .ok (.putfield 24, 3) := by decide +kernel
theorem dJ8_init_23 : decode cJ8_init 23 = .ok (.aload_n 0, 1) := by decide +kernel
theorem dJ8_init_24 : decode cJ8_init 24 = .ok (.invokevirtual 27, 3) := by decide +kernel
theorem dJ8_init_27 : decode cJ8_init 27 = .ok (.pop, 1) := by decide +kernel
theorem dJ8_init_28 : decode cJ8_init 28 = .ok (.return_, 1) := by decide +kernel
theorem b_J8_init_27 {G : om_G} {d : Nat} {h : om_H} {Q : om_O → Prop} {s0 : Nat} (q : Q (.inl none, h)) : OK G d m_J8_init 27 [none] [vR s0] h Q := by
  refine ok_popR dJ8_init_27 ?_
  exact ok_vret dJ8_init_28 rfl q
theorem dJ8_init_2_0 : decode cJ8_init_2 0 = .ok (.aload_n 0, 1) := by decide +kernel
theorem dJ8_init_2_1 : decode cJ8_init_2 1 = .ok (.invokespecial 1, 3) := by decide +kernel
theorem dJ8_init_2_4 : decode cJ8_init_2 4 = .ok (.aload_n 0, 1) := by decide +kernel
theorem dJ8_init_2_5 : decode cJ8_init_2 5 = .ok (.aload_n 0, 1) := by decide +kernel
theorem dJ8_init_2_6 : decode cJ8_init_2 6 = .ok (.putfield 7, 3) := by decide +kernel
theorem dJ8_init_2_9 : decode cJ8_init_2 9 = .ok (.aload_n 0, 1) := by decide +kernel
theorem dJ8_init_2_10 : decode cJ8_init_2 10 = .ok (.getstatic 13, 3) := by decide +kernel
theorem dJ8_init_2_13 : decode cJ8_init_2 13 = .ok (.putfield 17, 3) := by decide +kernel
theorem dJ8_init_2_16 : decode cJ8_init_2 16 = .ok (.aload_n 0, 1) := by decide +kernel
theorem dJ8_init_2_17 : decode cJ8_init_2 17 = .ok (.getstatic 20, 3) := by decide +kernel
theorem dJ8_init_2_20 : decode cJ8_init_2 20 = .ok (.putfield 24, 3) := by decide +kernel
theorem dJ8_init_2_23 : decode cJ8_init_2 23 = .ok (.iload 4, 2) := by decide +kernel
theorem dJ8_init_2_25 : decode cJ8_init_2 25 = .ok (.ifCond .eq 11, 3) := by decide +kernel
theorem dJ8_init_2_28 : decode cJ8_init_2 28 = .ok (.aload_n 0, 1) := by decide +kernel
theorem dJ8_init_2_29 : decode cJ8_init_2 29 = .ok (.invokevirtual 27, 3) := by decide +kernel
theorem dJ8_init_2_32 : decode cJ8_init_2 32 = .ok (.pop, 1) := by decide +kernel
theorem dJ8_init_2_33 : decode cJ8_init_2 33 = .ok (.goto 8, 3) := by decide +kernel
theorem dJ8_init_2_36 : decode cJ8_init_2 36 = .ok (.aload_n 0, 1) := by decide +kernel
theorem dJ8_init_2_37 : decode cJ8_init_2 37 = .ok (.aconst_null, 1) := by decide +kernel
theorem dJ8_init_2_38 : decode cJ8_init_2 38 = .ok (.putfield 17, 3) := by decide +kernel
theorem dJ8_init_2_41 : decode cJ8_init_2 41 = .ok (.aload_n 0, 1) := by decide +kernel
theorem dJ8_init_2_42 : decode cJ8_init_2 42 = .ok (.aload_n 1, 1) := by decide +kernel
theorem dJ8_init_2_43 : decode cJ8_init_2 43 = .ok (.putfield 31, 3) := by decide +kernel
theorem dJ8_init_2_46 : decode cJ8_init_2 46 = .ok (.aload_n 0, 1) := by decide +kernel
theorem dJ8_init_2_47 : decode cJ8_init_2 47 = .ok (.aload_n 2, 1) := by decide +kernel
theorem dJ8_init_2_48 : decode cJ8_init_2 48 = .ok (.putfield 7, 3) := by decide +kernel
theorem dJ8_init_2_51 : decode cJ8_init_2 51 = .ok (.iload_n 3, 1) := by decide +kernel
theorem dJ8_init_2_52 : decode cJ8_init_2 52 = .ok (.ifCond .ne 8, 3) := by decide +kernel
theorem dJ8_init_2_55 : decode cJ8_init_2 55 = .ok (.aload_n 0, 1) := by decide +kernel
theorem dJ8_init_2_56 : decode cJ8_init_2 56 = .ok (.aconst_null, 1) := by decide +kernel
theorem dJ8_init_2_57 : decode cJ8_init_2 57 = .ok (.putfield 24, 3) := by decide +kernel
theorem dJ8_init_2_60 : decode cJ8_init_2 60 = .ok (.return_, 1) := by decide +kernel
theorem b_J8_init_2_32 {G : om_G} {d : Nat} {h : om_H} {Q : om_O → Prop} {l0 : Nat} {l1 : Nat} {l2 : Nat} {l3 : Int} {s0 : Nat} (k : OK G d m_J8_init_2 41 [some (vR l0), some (vR l1), some (vR l2), some (vI l3), none] [] h Q) : OK G d m_J8_init_2 32 [some (vR l0), some (vR l1), some (vR l2), some (vI l3), none] [vR s0] h Q := by
  refine ok_popR dJ8_init_2_32 ?_
  refine ok_goto (tgt := 41) dJ8_init_2_33 (by decide) ?_
  exact k
theorem b_J8_init_2_36 {G : om_G} {d : Nat} {h : om_H} {Q : om_O → Prop} {l0 : Nat} {l1 : Nat} {l2 : Nat} {l3 : Int} (c1 : kd h l0 = 16) (k : OK G d m_J8_init_2 41 [some (vR l0), some (vR l1), some (vR l2), some (vI l3), none] [] (sR h 1158 l0 0) Q) : OK G d m_J8_init_2 36 [some (vR l0), some (vR l1), some (vR l2), some (vI l3), none] [] h Q := by
  refine ok_aload_n dJ8_init_2_36 rfl ?_
  refine ok_null dJ8_init_2_37 ?_
  refine ok_putR dJ8_init_2_38 fp_J8_17 (fun h => by cases h) (by decide) c1 ?_
  exact k
theorem b_J8_init_2_41 {G : om_G} {d : Nat} {h : om_H} {Q : om_O → Prop} {l0 : Nat} {l1 : Nat} {l2 : Nat} {l3 : Int} (c1 : kd h l0 = 16) (kt : l3 ≠ 0 → OK G d m_J8_init_2 60 [none, none, none, none, none] [] (sR (sR h 1166 l0 l1) 1154 l0 l2) Q) (kf : l3 = 0 → OK G d m_J8_init_2 55 [some (vR l0), none, none, none, none] [] (sR (sR h 1166 l0 l1) 1154 l0 l2) Q) : OK G d m_J8_init_2 41 [some (vR l0), some (vR l1), some (vR l2), some (vI l3), none] [] h Q := by
  refine ok_aload_n dJ8_init_2_41 rfl ?_
  refine ok_aload_n dJ8_init_2_42 rfl ?_
  refine ok_putR dJ8_init_2_43 fp_J8_31 (fun h => by cases h) (by decide) c1 ?_
  refine ok_aload_n dJ8_init_2_46 rfl ?_
  refine ok_aload_n dJ8_init_2_47 rfl ?_
  refine ok_putR dJ8_init_2_48 fp_J8_7 (fun h => by cases h) (by decide) c1 ?_
  refine ok_iload_n dJ8_init_2_51 rfl ?_
  exact ok_if_ne dJ8_init_2_52 (by decide) (fun q => ok_fewer (ls' := [none, none, none, none, none]) trivial (kt q)) (fun q => ok_fewer (ls' := [some (vR l0), none, none, none, none]) ⟨rfl, trivial⟩ (kf q))
theorem b_J8_init_2_55 {G : om_G} {d : Nat} {h : om_H} {Q : om_O → Prop} {l0 : Nat} (c1 : kd h l0 = 16) (k : OK G d m_J8_init_2 60 [none, none, none, none, none] [] (sR h 1162 l0 0) Q) : OK G d m_J8_init_2 55 [some (vR l0), none, none, none, none] [] h Q := by
  refine ok_aload_n dJ8_init_2_55 rfl ?_
  refine ok_null dJ8_init_2_56 ?_
  refine ok_putR dJ8_init_2_57 fp_J8_24 (fun h => by cases h) (by decide) c1 ?_
  exact ok_fewer (ls' := [none, none, none, none, none]) trivial k
theorem b_J8_init_2_60 {G : om_G} {d : Nat} {h : om_H} {Q : om_O → Prop} (q : Q (.inl none, h)) : OK G d m_J8_init_2 60 [none, none, none, none, none] [] h Q := by
  exact ok_vret dJ8_init_2_60 rfl q
theorem dJ9_init_0 : decode cJ9_init 0 = .ok (.aload_n 0, 1) := by decide +kernel
theorem dJ9_init_1 : decode cJ9_init 1 = .ok (.aload_n 1, 1) := by decide +kernel
theorem dJ9_init_2 : decode cJ9_init 2 = .ok (.aload_n 2, 1) := by decide +kernel
theorem dJ9_init_3 : decode cJ9_init 3 = .ok (.iload_n 3, 1) := by decide +kernel
theorem dJ9_init_4 : decode cJ9_init 4 = .ok (.iload 4, 2) := by decide +kernel
theorem dJ9_init_6 : decode cJ9_init 6 = .ok (.invokespecial 16, 3) := by decide +kernel
theorem dJ9_init_9 : decode cJ9_init 9 = .ok (.return_, 1) := by decide +kernel
theorem b_J9_init_0 {G : om_G} {d d' : Nat} {h : om_H} {Q Q1 : om_O → Prop} {l0 : Nat} {l1 : Nat} {l2 : Nat} {l3 : Int} {l4 : Int} (hcal : OK G d' m_J8_init_2 0 [some (vR l0), some (vR l1), some (vR l2), some (vI l3), some (vI l4)] [] h Q1) (hdd : d' + 1 ≤ d) (k : ∀ O, Q1 O → om_next G d m_J9_init 9 [none, none, none, none, none] [] Q O) (c1 : kd h l0 = 16) : OK G d m_J9_init 0 [some (vR l0), some (vR l1), some (vR l2), some (vI l3), some (vI l4)] [] h Q := by
  refine ok_aload_n dJ9_init_0 rfl ?_
  refine ok_aload_n dJ9_init_1 rfl ?_
  refine ok_aload_n dJ9_init_2 rfl ?_
  refine ok_iload_n dJ9_init_3 rfl ?_
  refine ok_iload dJ9_init_4 rfl ?_
  refine ok_rng (fun V => ?_)
  exact ok_callI (As := [vR l1, vR l2, vI l3, vI l4]) (rest := []) dJ9_init_6 ml_J9_16 mw_J8_init_2 rfl rfl rfl rfl q1047 (om_ne0 V c1) rfl (Nat.le_of_ble_eq_true rfl) (Nat.le_of_ble_eq_true rfl) (om_o0 rfl) hcal hdd (fun O hO => om_next_fewer (ls' := [none, none, none, none, none]) trivial (k O hO))
theorem b_J9_init_9 {G : om_G} {d : Nat} {h : om_H} {Q : om_O → Prop} (q : Q (.inl none, h)) : OK G d m_J9_init 9 [none, none, none, none, none] [] h Q := by
  exact ok_vret dJ9_init_9 rfl q
theorem dJ10_init_0 : decode cJ10_init 0 = .ok (.aload_n 0, 1) := by decide +kernel
theorem dJ10_init_1 : decode cJ10_init 1 = .ok (.aload_n 1, 1) := by decide +kernel
theorem dJ10_init_2 : decode cJ10_init 2 = .ok (.aload_n 2, 1) := by decide +kernel
theorem dJ10_init_3 : decode cJ10_init 3 = .ok (.iload_n 3, 1) := by decide +kernel
theorem dJ10_init_4 : decode cJ10_init 4 = .ok (.iload 4, 2) := by decide +kernel
theorem dJ10_init_6 : decode cJ10_init 6 = .ok (.invokespecial 16, 3) := by decide +kernel
theorem dJ10_init_9 : decode cJ10_init 9 = .ok (.return_, 1) := by decide +kernel
theorem b_J10_init_0 {G : om_G} {d d' : Nat} {h : om_H} {Q Q1 : om_O → Prop} {l0 : Nat} {l1 : Nat} {l2 : Nat} {l3 : Int} {l4 : Int} (hcal : OK G d' m_J9_init 0 [some (vR l0), some (vR l1), some (vR l2), some (vI l3), some (vI l4)] [] h Q1) (hdd : d' + 1 ≤ d) (k : ∀ O, Q1 O → om_next G d m_J10_init 9 [none, none, none, none, none] [] Q O) (c1 : kd h l0 = 16) : OK G d m_J10_init 0 [some (vR l0), some (vR l1), some (vR l2), some (vI l3), some (vI l4)] [] h Q := by
  refine ok_aload_n dJ10_init_0 rfl ?_
  refine ok_aload_n dJ10_init_1 rfl ?_
  refine ok_aload_n dJ10_init_2 rfl ?_
  refine ok_iload_n dJ10_init_3 rfl ?_
  refine ok_iload dJ10_init_4 rfl ?_
  refine ok_rng (fun V => ?_)
  exact ok_callI (As := [vR l1, vR l2, vI l3, vI l4]) (rest := []) dJ10_init_6 ml_J10_16 mw_J9_init rfl rfl rfl rfl q1044 (om_ne0 V c1) rfl (Nat.le_of_ble_eq_true rfl) (Nat.le_of_ble_eq_true rfl) (om_o0 rfl) hcal hdd (fun O hO => om_next_fewer (ls' := [none, none, none, none, none]) trivial (k O hO))
theorem b_J10_init_9 {G : om_G} {d : Nat} {h : om_H} {Q : om_O → Prop} (q : Q (.inl none, h)) : OK G d m_J10_init 9 [none, none, none, none, none] [] h Q := by
  exact ok_vret dJ10_init_9 rfl q
theorem dJ11_newLength_0 : decode cJ11_newLength 0 = .ok (.iload_n 0, 1) := by decide +kernel
theorem dJ11_newLength_1 : decode cJ11_newLength 1 = .ok (.iload_n 1, 1) := by decide +kernel
theorem dJ11_newLength_2 : decode cJ11_newLength 2 = .ok (.iload_n 2, 1) := by decide +kernel
theorem dJ11_newLength_3 : decode cJ11_newLength 3 = .ok (.invokestatic 194, 3) := by decide +kernel
theorem dJ11_newLength_6 : decode cJ11_newLength 6 = .ok (.iadd, 1) := by decide +kernel
theorem dJ11_newLength_7 : decode cJ11_newLength 7 = .ok (.istore_n 3, 1) := by decide +kernel
theorem dJ11_newLength_8 : decode cJ11_newLength 8 = .ok (.iconst 0, 1) := by decide +kernel
theorem dJ11_newLength_9 : decode cJ11_newLength 9 = .ok (.iload_n 3, 1) := by decide +kernel
theorem dJ11_newLength_10 : decode cJ11_newLength 10 = .ok (.if_icmp .ge 11, 3) := by decide +kernel
theorem dJ11_newLength_13 : decode cJ11_newLength 13 = .ok (.iload_n 3, 1) := by decide +kernel
theorem dJ11_newLength_14 : decode cJ11_newLength 14 = .ok (.ldc 200, 2) := by decide +kernel
theorem dJ11_newLength_16 : decode cJ11_newLength 16 = .ok (.if_icmp .gt 5, 3) := by decide +kernel
theorem dJ11_newLength_19 : decode cJ11_newLength 19 = .ok (.iload_n 3, 1) := by decide +kernel
theorem dJ11_newLength_20 : decode cJ11_newLength 20 = .ok (.ireturn, 1) := by decide +kernel
theorem dJ11_newLength_21 : decode cJ11_newLength 21 = .ok (.iload_n 0, 1) := by decide +kernel
theorem dJ11_newLength_22 : decode cJ11_newLength 22 = .ok (.iload_n 1, 1) := by decide +kernel
theorem dJ11_newLength_23 : decode cJ11_newLength 23 = .ok (.invokestatic 201, 3) := by decide +kernel
theorem dJ11_newLength_26 : decode cJ11_newLength 26 = .ok (.ireturn, 1) := by decide +kernel
theorem b_J11_newLength_0 {G : om_G} {d : Nat} {h : om_H} {Q : om_O → Prop} {l0 : Int} {l1 : Int} {l2 : Int} (hd1 : 1 ≤ d) (kt : (w32 (l0 + (if l1 < l2 then l2 else l1))) ≤ 0 → OK G d m_J11_newLength 21 [some (vI l0), some (vI l1), none, none] [] h Q) (kf : 0 < (w32 (l0 + (if l1 < l2 then l2 else l1))) → OK G d m_J11_newLength 13 [some (vI l0), some (vI l1), none, some (vI (w32 (l0 + (if l1 < l2 then l2 else l1))))] [] h Q) : OK G d m_J11_newLength 0 [some (vI l0), some (vI l1), some (vI l2), none] [] h Q := by
  refine ok_iload_n dJ11_newLength_0 rfl ?_
  refine ok_iload_n dJ11_newLength_1 rfl ?_
  refine ok_iload_n dJ11_newLength_2 rfl ?_
  refine ok_mmax dJ11_newLength_3 q1125 (Nat.le_of_ble_eq_true rfl) hd1 ?_
  refine ok_iadd dJ11_newLength_6 ?_
  refine ok_istore_n (ls' := [some (vI l0), some (vI l1), some (vI l2), some (vI (w32 (l0 + (if l1 < l2 then l2 else l1))))]) dJ11_newLength_7 (by decide) rfl ?_
  refine ok_iconst dJ11_newLength_8 ⟨by decide, by decide⟩ ?_
  refine ok_iload_n dJ11_newLength_9 rfl ?_
  exact ok_icmp_ge dJ11_newLength_10 (by decide) (fun q => ok_fewer (ls' := [some (vI l0), some (vI l1), none, none]) ⟨rfl, rfl, trivial⟩ (kt q)) (fun q => ok_fewer (ls' := [some (vI l0), some (vI l1), none, some (vI (w32 (l0 + (if l1 < l2 then l2 else l1))))]) ⟨rfl, rfl, rfl, trivial⟩ (kf q))
theorem b_J11_newLength_13 {G : om_G} {d : Nat} {h : om_H} {Q : om_O → Prop} {l0 : Int} {l1 : Int} {l3 : Int} (kt : 2147483639 < l3 → OK G d m_J11_newLength 21 [some (vI l0), some (vI l1), none, none] [] h Q) (kf : l3 ≤ 2147483639 → OK G d m_J11_newLength 19 [none, none, none, some (vI l3)] [] h Q) : OK G d m_J11_newLength 13 [some (vI l0), some (vI l1), none, some (vI l3)] [] h Q := by
  refine ok_iload_n dJ11_newLength_13 rfl ?_
  refine ok_ldc (x := 2147483639) dJ11_newLength_14 q1128 (by decide) ⟨by decide, by decide⟩ ?_
  exact ok_icmp_gt dJ11_newLength_16 (by decide) (fun q => ok_fewer (ls' := [some (vI l0), some (vI l1), none, none]) ⟨rfl, rfl, trivial⟩ (kt q)) (fun q => ok_fewer (ls' := [none, none, none, some (vI l3)]) ⟨rfl, trivial⟩ (kf q))
theorem b_J11_newLength_19 {G : om_G} {d : Nat} {h : om_H} {Q : om_O → Prop} {l3 : Int} (q : Q (.inl (some (vI l3)), h)) : OK G d m_J11_newLength 19 [none, none, none, some (vI l3)] [] h Q := by
  refine ok_iload_n dJ11_newLength_19 rfl ?_
  exact ok_iret dJ11_newLength_20 rfl q
theorem b_J11_newLength_21 {G : om_G} {d d' : Nat} {h : om_H} {Q Q1 : om_O → Prop} {l0 : Int} {l1 : Int} (hcal : OK G d' m_J11_hugeLength 0 [some (vI l0), some (vI l1), none] [] h Q1) (hdd : d' + 1 ≤ d) (k : ∀ O, Q1 O → om_next G d m_J11_newLength 26 [none, none, none, none] [] Q O) : OK G d m_J11_newLength 21 [some (vI l0), some (vI l1), none, none] [] h Q := by
  refine ok_iload_n dJ11_newLength_21 rfl ?_
  refine ok_iload_n dJ11_newLength_22 rfl ?_
  exact ok_callS (As := [vI l0, vI l1]) (rest := []) dJ11_newLength_23 ml_J11_201 mw_J11_hugeLength rfl q1130 rfl (Nat.le_of_ble_eq_true rfl) (Nat.le_of_ble_eq_true rfl) (om_o0 rfl) hcal hdd (fun O hO => om_next_fewer (ls' := [none, none, none, none]) trivial (k O hO))
theorem b_J11_newLength_26 {G : om_G} {d : Nat} {h : om_H} {Q : om_O → Prop} {s0 : Int} (q : Q (.inl (some (vI s0)), h)) : OK G d m_J11_newLength 26 [none, none, none, none] [vI s0] h Q := by
  exact ok_iret dJ11_newLength_26 rfl q
theorem dJ11_hugeLength_0 : decode cJ11_hugeLength 0 = .ok (.iload_n 0, 1) := by decide +kernel
theorem dJ11_hugeLength_1 : decode cJ11_hugeLength 1 = .ok (.iload_n 1, 1) := by decide +kernel
theorem dJ11_hugeLength_2 : decode cJ11_hugeLength 2 = .ok (.iadd, 1) := by decide +kernel
theorem dJ11_hugeLength_3 : decode cJ11_hugeLength 3 = .ok (.istore_n 2, 1) := by decide +kernel
theorem dJ11_hugeLength_4 : decode cJ11_hugeLength 4 = .ok (.iload_n 2, 1) := by decide +kernel
theorem dJ11_hugeLength_5 : decode cJ11_hugeLength 5 = .ok (.ifCond .ge 44, 3) := by decide +kernel
theorem dJ11_hugeLength_8 : decode cJ11_hugeLength 8 = .ok (.new 204, 3) := by decide +kernel
theorem dJ11_hugeLength_11 : decode cJ11_hugeLength 11 = .ok (.dup, 1) := by decide +kernel
theorem dJ11_hugeLength_12 : decode cJ11_hugeLength 12 = .ok (.new 89, 3) := by decide +kernel
theorem dJ11_hugeLength_15 : decode cJ11_hugeLength 15 = .ok (.dup, 1) := by decide +kernel
theorem dJ11_hugeLength_16 : decode cJ11_hugeLength 16 = .ok (.invokespecial 91, 3) := by decide +kernel
theorem dJ11_hugeLength_19 : decode cJ11_hugeLength 19 = .ok (.ldc 206, 2) := by decide +kernel
theorem dJ11_hugeLength_21 : decode cJ11_hugeLength 21 = .ok (.invokevirtual 94, 3) := by decide +kernel
theorem dJ11_hugeLength_24 : decode cJ11_hugeLength 24 = .ok (.iload_n 0, 1) := by decide +kernel
theorem dJ11_hugeLength_25 : decode cJ11_hugeLength 25 = .ok (.invokevirtual 98, 3) := by decide +kernel
theorem dJ11_hugeLength_28 : decode cJ11_hugeLength 28 = .ok (.ldc 208, 2) := by decide +kernel
theorem dJ11_hugeLength_30 : decode cJ11_hugeLength 30 = .ok (.invokevirtual 94, 3) := by decide +kernel
theorem dJ11_hugeLength_33 : decode cJ11_hugeLength 33 = .ok (.iload_n 1, 1) := by decide +kernel
theorem dJ11_hugeLength_34 : decode cJ11_hugeLength 34 = .ok (.invokevirtual 98, 3) := by decide +kernel
theorem dJ11_hugeLength_37 : decode cJ11_hugeLength 37 = .ok (.ldc 210, 2) := by decide +kernel
theorem dJ11_hugeLength_39 : decode cJ11_hugeLength 39 = .ok (.invokevirtual 94, 3) := by decide +kernel
theorem dJ11_hugeLength_42 : decode cJ11_hugeLength 42 = .ok (.invokevirtual 101, 3) := by decide +kernel
theorem dJ11_hugeLength_45 : decode cJ11_hugeLength 45 = .ok (.invokespecial 212, 3) := by decide +kernel
theorem dJ11_hugeLength_48 : decode cJ11_hugeLength 48 = .ok (.athrow, 1) := by decide +kernel
theorem dJ11_hugeLength_49 : decode cJ11_hugeLength 49 = .ok (.iload_n 2, 1) := by decide +kernel
theorem dJ11_hugeLength_50 : decode cJ11_hugeLength 50 = .ok (.ldc 200, 2) := by decide +kernel
theorem dJ11_hugeLength_52 : decode cJ11_hugeLength 52 = .ok (.if_icmp .gt 6, 3) := by decide +kernel
theorem dJ11_hugeLength_55 : decode cJ11_hugeLength 55 = .ok (.ldc 200, 2) := by decide +kernel
theorem dJ11_hugeLength_57 : decode cJ11_hugeLength 57 = .ok (.ireturn, 1) := by decide +kernel
theorem dJ11_hugeLength_58 : decode cJ11_hugeLength 58 = .ok (.iload_n 2, 1) := by decide +kernel
theorem dJ11_hugeLength_59 : decode cJ11_hugeLength 59 = .ok (.ireturn, 1) := by decide +kernel
theorem b_J11_hugeLength_0 {G : om_G} {d : Nat} {h : om_H} {Q : om_O → Prop} {l0 : Int} {l1 : Int} (kt : 0 ≤ (w32 (l0 + l1)) → OK G d m_J11_hugeLength 49 [none, none, some (vI (w32 (l0 + l1)))] [] h Q) (kf : (w32 (l0 + l1)) < 0 → OK G d m_J11_hugeLength 8 [some (vI l0), some (vI l1), none] [] h Q) : OK G d m_J11_hugeLength 0 [some (vI l0), some (vI l1), none] [] h Q := by
  refine ok_iload_n dJ11_hugeLength_0 rfl ?_
  refine ok_iload_n dJ11_hugeLength_1 rfl ?_
  refine ok_iadd dJ11_hugeLength_2 ?_
  refine ok_istore_n (ls' := [some (vI l0), some (vI l1), some (vI (w32 (l0 + l1)))]) dJ11_hugeLength_3 (by decide) rfl ?_
  refine ok_iload_n dJ11_hugeLength_4 rfl ?_
  exact ok_if_ge dJ11_hugeLength_5 (by decide) (fun q => ok_fewer (ls' := [none, none, some (vI (w32 (l0 + l1)))]) ⟨rfl, trivial⟩ (kt q)) (fun q => ok_fewer (ls' := [some (vI l0), some (vI l1), none]) ⟨rfl, rfl, trivial⟩ (kf q))
theorem b_J11_hugeLength_49 {G : om_G} {d : Nat} {h : om_H} {Q : om_O → Prop} {l2 : Int} (kt : 2147483639 < l2 → OK G d m_J11_hugeLength 58 [none, none, some (vI l2)] [] h Q) (kf : l2 ≤ 2147483639 → OK G d m_J11_hugeLength 55 [none, none, none] [] h Q) : OK G d m_J11_hugeLength 49 [none, none, some (vI l2)] [] h Q := by
  refine ok_iload_n dJ11_hugeLength_49 rfl ?_
  refine ok_ldc (x := 2147483639) dJ11_hugeLength_50 q1128 (by decide) ⟨by decide, by decide⟩ ?_
  exact ok_icmp_gt dJ11_hugeLength_52 (by decide) kt (fun q => ok_fewer (ls' := [none, none, none]) trivial (kf q))
theorem b_J11_hugeLength_55 {G : om_G} {d : Nat} {h : om_H} {Q : om_O → Prop} (q : Q (.inl (some (vI 2147483639)), h)) : OK G d m_J11_hugeLength 55 [none, none, none] [] h Q := by
  refine ok_ldc (x := 2147483639) dJ11_hugeLength_55 q1128 (by decide) ⟨by decide, by decide⟩ ?_
  exact ok_iret dJ11_hugeLength_57 rfl q
theorem b_J11_hugeLength_58 {G : om_G} {d : Nat} {h : om_H} {Q : om_O → Prop} {l2 : Int} (q : Q (.inl (some (vI l2)), h)) : OK G d m_J11_hugeLength 58 [none, none, some (vI l2)] [] h Q := by
  refine ok_iload_n dJ11_hugeLength_58 rfl ?_
  exact ok_iret dJ11_hugeLength_59 rfl q
theorem dJ12_max_0 : decode cJ12_max 0 = .ok (.iload_n 0, 1) := by decide +kernel
theorem dJ12_max_1 : decode cJ12_max 1 = .ok (.iload_n 1, 1) := by decide +kernel
theorem dJ12_max_2 : decode cJ12_max 2 = .ok (.if_icmp .lt 7, 3) := by decide +kernel
theorem dJ12_max_5 : decode cJ12_max 5 = .ok (.iload_n 0, 1) := by decide +kernel
theorem dJ12_max_6 : decode cJ12_max 6 = .ok (.goto 4, 3) := by decide +kernel
theorem dJ12_max_9 : decode cJ12_max 9 = .ok (.iload_n 1, 1) := by decide +kernel
theorem dJ12_max_10 : decode cJ12_max 10 = .ok (.ireturn, 1) := by decide +kernel
theorem b_J12_max_0 {G : om_G} {d : Nat} {h : om_H} {Q : om_O → Prop} {l0 : Int} {l1 : Int} (kt : l0 < l1 → OK G d m_J12_max 9 [none, some (vI l1)] [] h Q) (kf : l1 ≤ l0 → OK G d m_J12_max 5 [some (vI l0), none] [] h Q) : OK G d m_J12_max 0 [some (vI l0), some (vI l1)] [] h Q := by
  refine ok_iload_n dJ12_max_0 rfl ?_
  refine ok_iload_n dJ12_max_1 rfl ?_
  exact ok_icmp_lt dJ12_max_2 (by decide) (fun q => ok_fewer (ls' := [none, some (vI l1)]) ⟨rfl, trivial⟩ (kt q)) (fun q => ok_fewer (ls' := [some (vI l0), none]) ⟨rfl, trivial⟩ (kf q))
theorem b_J12_max_5 {G : om_G} {d : Nat} {h : om_H} {Q : om_O → Prop} {l0 : Int} (k : OK G d m_J12_max 10 [none, none] [vI l0] h Q) : OK G d m_J12_max 5 [some (vI l0), none] [] h Q := by
  refine ok_iload_n dJ12_max_5 rfl ?_
  refine ok_goto (tgt := 10) dJ12_max_6 (by decide) ?_
  exact ok_fewer (ls' := [none, none]) trivial k
theorem b_J12_max_9 {G : om_G} {d : Nat} {h : om_H} {Q : om_O → Prop} {l1 : Int} (k : OK G d m_J12_max 10 [none, none] [vI l1] h Q) : OK G d m_J12_max 9 [none, some (vI l1)] [] h Q := by
  refine ok_iload_n dJ12_max_9 rfl ?_
  exact ok_fewer (ls' := [none, none]) trivial k
theorem b_J12_max_10 {G : om_G} {d : Nat} {h : om_H} {Q : om_O → Prop} {s0 : Int} (q : Q (.inl (some (vI s0)), h)) : OK G d m_J12_max 10 [none, none] [vI s0] h Q := by
  exact ok_iret dJ12_max_10 rfl q
theorem dJ12_min_0 : decode cJ12_min 0 = .ok (.iload_n 0, 1) := by decide +kernel
theorem dJ12_min_1 : decode cJ12_min 1 = .ok (.iload_n 1, 1) := by decide +kernel
theorem dJ12_min_2 : decode cJ12_min 2 = .ok (.if_icmp .gt 7, 3) := by decide +kernel
theorem dJ12_min_5 : decode cJ12_min 5 = .ok (.iload_n 0, 1) := by decide +kernel
theorem dJ12_min_6 : decode cJ12_min 6 = .ok (.goto 4, 3) := by decide +kernel
theorem dJ12_min_9 : decode cJ12_min 9 = .ok (.iload_n 1, 1) := by decide +kernel
theorem dJ12_min_10 : decode cJ12_min 10 = .ok (.ireturn, 1) := by decide +kernel
theorem b_J12_min_0 {G : om_G} {d : Nat} {h : om_H} {Q : om_O → Prop} {l0 : Int} {l1 : Int} (kt : l1 < l0 → OK G d m_J12_min 9 [none, some (vI l1)] [] h Q) (kf : l0 ≤ l1 → OK G d m_J12_min 5 [some (vI l0), none] [] h Q) : OK G d m_J12_min 0 [some (vI l0), some (vI l1)] [] h Q := by
  refine ok_iload_n dJ12_min_0 rfl ?_
  refine ok_iload_n dJ12_min_1 rfl ?_
  exact ok_icmp_gt dJ12_min_2 (by decide) (fun q => ok_fewer (ls' := [none, some (vI l1)]) ⟨rfl, trivial⟩ (kt q)) (fun q => ok_fewer (ls' := [some (vI l0), none]) ⟨rfl, trivial⟩ (kf q))
theorem b_J12_min_5 {G : om_G} {d : Nat} {h : om_H} {Q : om_O → Prop} {l0 : Int} (k : OK G d m_J12_min 10 [none, none] [vI l0] h Q) : OK G d m_J12_min 5 [some (vI l0), none] [] h Q := by
  refine ok_iload_n dJ12_min_5 rfl ?_
  refine ok_goto (tgt := 10) dJ12_min_6 (by decide) ?_
  exact ok_fewer (ls' := [none, none]) trivial k
theorem b_J12_min_9 {G : om_G} {d : Nat} {h : om_H} {Q : om_O → Prop} {l1 : Int} (k : OK G d m_J12_min 10 [none, none] [vI l1] h Q) : OK G d m_J12_min 9 [none, some (vI l1)] [] h Q := by
  refine ok_iload_n dJ12_min_9 rfl ?_
  exact ok_fewer (ls' := [none, none]) trivial k
theorem b_J12_min_10 {G : om_G} {d : Nat} {h : om_H} {Q : om_O → Prop} {s0 : Int} (q : Q (.inl (some (vI s0)), h)) : OK G d m_J12_min 10 [none, none] [vI s0] h Q := by
  exact ok_iret dJ12_min_10 rfl q
theorem dJ13_copyOf_0 : decode cJ13_copyOf 0 = .ok (.aload_n 0, 1) := by decide +kernel
theorem dJ13_copyOf_1 : decode cJ13_copyOf 1 = .ok (.iload_n 1, 1) := by decide +kernel
theorem dJ13_copyOf_2 : decode cJ13_copyOf 2 = .ok (.aload_n 0, 1) := by decide +kernel
theorem dJ13_copyOf_3 : decode cJ13_copyOf 3 = .ok (.invokevirtual 86, 3) := by decide +kernel
theorem dJ13_copyOf_6 : decode cJ13_copyOf 6 = .ok (.invokestatic 300, 3) := by decide +kernel
theorem dJ13_copyOf_9 : decode cJ13_copyOf 9 = .ok (.areturn, 1) := by decide +kernel
theorem b_J13_copyOf_6 {G : om_G} {d d' : Nat} {h : om_H} {Q Q1 : om_O → Prop} {s0 : Nat} {s1 : Int} {s2 : Nat} (hcal : OK G d' m_J13_copyOf_2 0 [some (vR s0), some (vI s1), some (vR s2), none] [] h Q1) (hdd : d' + 1 ≤ d) (k : ∀ O, Q1 O → om_next G d m_J13_copyOf 9 [none, none] [] Q O) : OK G d m_J13_copyOf 6 [none, none] [vR s2, vI s1, vR s0] h Q := by
  exact ok_callS (As := [vR s0, vI s1, vR s2]) (rest := []) dJ13_copyOf_6 ml_J13_300 mw_J13_copyOf_2 rfl q1186 rfl (Nat.le_of_ble_eq_true rfl) (Nat.le_of_ble_eq_true rfl) (om_o0 rfl) hcal hdd k
theorem b_J13_copyOf_9 {G : om_G} {d : Nat} {h : om_H} {Q : om_O → Prop} {s0 : Nat} (q : Q (.inl (some (vR s0)), h)) : OK G d m_J13_copyOf 9 [none, none] [vR s0] h Q := by
  exact ok_aret dJ13_copyOf_9 rfl rfl q
theorem dJ13_copyOf_2_0 : decode cJ13_copyOf_2 0 = .ok (.aload_n 2, 1) := by decide +kernel
theorem dJ13_copyOf_2_1 : decode cJ13_copyOf_2 1 = .ok (.ldc 110, 2) := by decide +kernel
theorem dJ13_copyOf_2_3 : decode cJ13_copyOf_2 3 = .ok (.if_acmp .ne 10, 3) := by decide +kernel
theorem dJ13_copyOf_2_6 : decode cJ13_copyOf_2 6 = .ok (.iload_n 1, 1) := by decide +kernel
theorem dJ13_copyOf_2_7 : decode cJ13_copyOf_2 7 = .ok (.anewarray 2, 3) := by decide +kernel
theorem dJ13_copyOf_2_10 : decode cJ13_copyOf_2 10 = .ok (.goto 14, 3) := by decide +kernel
theorem dJ13_copyOf_2_13 : decode cJ13_copyOf_2 13 = .ok (.aload_n 2, 1) := by decide +kernel
theorem dJ13_copyOf_2_14 : decode cJ13_copyOf_2 14 = .ok (.invokevirtual 90, 3) := by decide +kernel
theorem dJ13_copyOf_2_17 : decode cJ13_copyOf_2 17 = .ok (.iload_n 1, 1) := by decide +kernel
theorem dJ13_copyOf_2_18 : decode cJ13_copyOf_2 18 = .ok (.invokestatic 95, 3) := by decide +kernel
theorem dJ13_copyOf_2_21 : decode cJ13_copyOf_2 21 = .ok (.checkcast 110, 3) := by decide +kernel
theorem dJ13_copyOf_2_24 : decode cJ13_copyOf_2 24 = .ok (.astore_n 3, 1) := by decide +kernel
theorem dJ13_copyOf_2_25 : decode cJ13_copyOf_2 25 = .ok (.aload_n 0, 1) := by decide +kernel
theorem dJ13_copyOf_2_26 : decode cJ13_copyOf_2 26 = .ok (.iconst 0, 1) := by decide +kernel
theorem dJ13_copyOf_2_27 : decode cJ13_copyOf_2 27 = .ok (.aload_n 3, 1) := by decide +kernel
theorem dJ13_copyOf_2_28 : decode cJ13_copyOf_2 28 = .ok (.iconst 0, 1) := by decide +kernel
theorem dJ13_copyOf_2_29 : decode cJ13_copyOf_2 29 = .ok (.aload_n 0, 1) := by decide +kernel
theorem dJ13_copyOf_2_30 : decode cJ13_copyOf_2 30 = .ok (.arraylength, 1) := by decide +kernel
theorem dJ13_copyOf_2_31 : decode cJ13_copyOf_2 31 = .ok (.iload_n 1, 1) := by decide +kernel
theorem dJ13_copyOf_2_32 : decode cJ13_copyOf_2 32 = .ok (.invokestatic 304, 3) := by decide +kernel
theorem dJ13_copyOf_2_35 : decode cJ13_copyOf_2 35 = .ok (.invokestatic 150, 3) := by decide +kernel
theorem dJ13_copyOf_2_38 : decode cJ13_copyOf_2 38 = .ok (.aload_n 3, 1) := by decide +kernel
theorem dJ13_copyOf_2_39 : decode cJ13_copyOf_2 39 = .ok (.areturn, 1) := by decide +kernel
theorem b_J13_copyOf_2_38 {G : om_G} {d : Nat} {h : om_H} {Q : om_O → Prop} {l3 : Nat} (q : Q (.inl (some (vR l3)), h)) : OK G d m_J13_copyOf_2 38 [none, none, none, some (vR l3)] [] h Q := by
  refine ok_aload_n dJ13_copyOf_2_38 rfl ?_
  exact ok_aret dJ13_copyOf_2_39 rfl rfl q
theorem dJ15_valueOf_0 : decode cJ15_valueOf 0 = .ok (.iload_n 0, 1) := by decide +kernel
theorem dJ15_valueOf_1 : decode cJ15_valueOf 1 = .ok (.bipush (-128), 2) := by decide +kernel
theorem dJ15_valueOf_3 : decode cJ15_valueOf 3 = .ok (.if_icmp .lt 20, 3) := by decide +kernel
theorem dJ15_valueOf_6 : decode cJ15_valueOf 6 = .ok (.iload_n 0, 1) := by decide +kernel
theorem dJ15_valueOf_7 : decode cJ15_valueOf 7 = .ok (.getstatic 191, 3) := by decide +kernel
theorem dJ15_valueOf_10 : decode cJ15_valueOf 10 = .ok (.if_icmp .gt 13, 3) := by decide +kernel
theorem dJ15_valueOf_13 : decode cJ15_valueOf 13 = .ok (.getstatic 195, 3) := by decide +kernel
theorem dJ15_valueOf_16 : decode cJ15_valueOf 16 = .ok (.iload_n 0, 1) := by decide +kernel
theorem dJ15_valueOf_17 : decode cJ15_valueOf 17 = .ok (.sipush 128, 3) := by decide +kernel
theorem dJ15_valueOf_20 : decode cJ15_valueOf 20 = .ok (.iadd, 1) := by decide +kernel
theorem dJ15_valueOf_21 : decode cJ15_valueOf 21 = .ok (.aaload, 1) := by decide +kernel
theorem dJ15_valueOf_22 : decode cJ15_valueOf 22 = .ok (.areturn, 1) := by decide +kernel
theorem dJ15_valueOf_23 : decode cJ15_valueOf 23 = .ok (.new 1, 3) := by decide +kernel
theorem dJ15_valueOf_26 : decode cJ15_valueOf 26 = .ok (.dup, 1) := by decide +kernel
theorem dJ15_valueOf_27 : decode cJ15_valueOf 27 = .ok (.iload_n 0, 1) := by decide +kernel
theorem dJ15_valueOf_28 : decode cJ15_valueOf 28 = .ok (.invokespecial 199, 3) := by decide +kernel
theorem dJ15_valueOf_31 : decode cJ15_valueOf 31 = .ok (.areturn, 1) := by decide +kernel
theorem b_J15_valueOf_0 {G : om_G} {d : Nat} {h : om_H} {Q : om_O → Prop} {l0 : Int} (kt : l0 < (-128) → OK G d m_J15_valueOf 23 [some (vI l0)] [] h Q) (kf : (-128) ≤ l0 → OK G d m_J15_valueOf 6 [some (vI l0)] [] h Q) : OK G d m_J15_valueOf 0 [some (vI l0)] [] h Q := by
  refine ok_iload_n dJ15_valueOf_0 rfl ?_
  refine ok_bipush (v := -128) dJ15_valueOf_1 (by decide) ⟨by decide, by decide⟩ ?_
  exact ok_icmp_lt dJ15_valueOf_3 (by decide) kt kf
theorem b_J15_valueOf_6 {G : om_G} {d : Nat} {h : om_H} {Q : om_O → Prop} {l0 : Int} (hG : om_okG G) (kt : 127 < l0 → OK G d m_J15_valueOf 23 [some (vI l0)] [] h Q) (kf : l0 ≤ 127 → OK G d m_J15_valueOf 13 [some (vI l0)] [] h Q) : OK G d m_J15_valueOf 6 [some (vI l0)] [] h Q := by
  refine ok_iload_n dJ15_valueOf_6 rfl ?_
  refine ok_gets (w := vI 127) dJ15_valueOf_7 (Or.inl q1887) (om_kz_high hG) ⟨by decide, by decide⟩ ?_
  exact ok_icmp_gt dJ15_valueOf_10 (by decide) kt kf
theorem b_J15_valueOf_31 {G : om_G} {d : Nat} {h : om_H} {Q : om_O → Prop} {s0 : Nat} (q : Q (.inl (some (vR s0)), h)) : OK G d m_J15_valueOf 31 [none] [vR s0] h Q := by
  exact ok_aret dJ15_valueOf_31 rfl rfl q
theorem dJ15_init_0 : decode cJ15_init 0 = .ok (.aload_n 0, 1) := by decide +kernel
theorem dJ15_init_1 : decode cJ15_init 1 = .ok (.invokespecial 202, 3) := by decide +kernel
theorem dJ15_init_4 : decode cJ15_init 4 = .ok (.aload_n 0, 1) := by decide +kernel
theorem dJ15_init_5 : decode cJ15_init 5 = .ok (.iload_n 1, 1) := by decide +kernel
theorem dJ15_init_6 : decode cJ15_init 6 = .ok (.putfield 205, 3) := by decide +kernel
theorem dJ15_init_9 : decode cJ15_init 9 = .ok (.return_, 1) := by decide +kernel
theorem b_J15_init_0 {G : om_G} {d d' : Nat} {h : om_H} {Q Q1 : om_O → Prop} {l0 : Nat} {l1 : Int} (hcal : OK G d' m_J14_init 0 [some (vR l0)] [] h Q1) (hdd : d' + 1 ≤ d) (k : ∀ O, Q1 O → om_next G d m_J15_init 4 [some (vR l0), some (vI l1)] [] Q O) (c1 : kd h l0 = 16) : OK G d m_J15_init 0 [some (vR l0), some (vI l1)] [] h Q := by
  refine ok_aload_n dJ15_init_0 rfl ?_
  refine ok_rng (fun V => ?_)
  exact ok_callI (As := []) (rest := []) dJ15_init_1 ml_J15_202 mw_J14_init rfl rfl rfl rfl q1897 (om_ne0 V c1) rfl (Nat.le_of_ble_eq_true rfl) (Nat.le_of_ble_eq_true rfl) (om_o0 rfl) hcal hdd k
theorem dJ15_intValue_0 : decode cJ15_intValue 0 = .ok (.aload_n 0, 1) := by decide +kernel
theorem dJ15_intValue_1 : decode cJ15_intValue 1 = .ok (.getfield 205, 3) := by decide +kernel
theorem dJ15_intValue_4 : decode cJ15_intValue 4 = .ok (.ireturn, 1) := by decide +kernel
theorem dJ16_checkIndex_0 : decode cJ16_checkIndex 0 = .ok (.iload_n 0, 1) := by decide +kernel
theorem dJ16_checkIndex_1 : decode cJ16_checkIndex 1 = .ok (.iload_n 1, 1) := by decide +kernel
theorem dJ16_checkIndex_2 : decode cJ16_checkIndex 2 = .ok (.aconst_null, 1) := by decide +kernel
theorem dJ16_checkIndex_3 : decode cJ16_checkIndex 3 = .ok (.invokestatic 105, 3) := by decide +kernel
theorem dJ16_checkIndex_6 : decode cJ16_checkIndex 6 = .ok (.ireturn, 1) := by decide +kernel
theorem b_J16_checkIndex_0 {G : om_G} {d d' : Nat} {h : om_H} {Q Q1 : om_O → Prop} {l0 : Int} {l1 : Int} (hcal : OK G d' m_J6_checkIndex 0 [some (vI l0), some (vI l1), some (vR 0)] [] h Q1) (hdd : d' + 1 ≤ d) (k : ∀ O, Q1 O → om_next G d m_J16_checkIndex 6 [none, none] [] Q O) : OK G d m_J16_checkIndex 0 [some (vI l0), some (vI l1)] [] h Q := by
  refine ok_iload_n dJ16_checkIndex_0 rfl ?_
  refine ok_iload_n dJ16_checkIndex_1 rfl ?_
  refine ok_null dJ16_checkIndex_2 ?_
  exact ok_callS (As := [vI l0, vI l1, vR 0]) (rest := []) dJ16_checkIndex_3 ml_J16_105 mw_J6_checkIndex rfl q893 rfl (Nat.le_of_ble_eq_true rfl) (Nat.le_of_ble_eq_true rfl) (om_o0 rfl) hcal hdd (fun O hO => om_next_fewer (ls' := [none, none]) trivial (k O hO))
theorem b_J16_checkIndex_6 {G : om_G} {d : Nat} {h : om_H} {Q : om_O → Prop} {s0 : Int} (q : Q (.inl (some (vI s0)), h)) : OK G d m_J16_checkIndex 6 [none, none] [vI s0] h Q := by
  exact ok_iret dJ16_checkIndex_6 rfl q
