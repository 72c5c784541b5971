set_option maxRecDepth 100000
section OM48
variable {G : om_G} {d : Nat} {h : om_H} {Q : om_O → Prop}
theorem c_copyOf_2 {e : Nat} {n : Int} (hG : om_okG G) (hd : 1 ≤ d) (he : kd h e = 61) (h0 : 0 ≤ n) (h1 : n ≤ 1000000) (h2 : (an h e : Int) ≤ n) (hel : ∀ i, i < an h e → om_obj G h (aR h e i)) (q : Q (.inl (some (vR (hz h))), cpR (nA h 61 n.toNat) e (hz h) (an h e))) : OK G d m_J13_copyOf_2 0 [some (vR e), some (vI n), some (vR (om_cA G 1003)), none] [] h Q := by
  refine ok_rng (fun V => ?_)
  have hel2 := om_lt V.1 (show kd h e ≠ 0 by omega)
  refine ok_aload_n dJ13_copyOf_2_0 rfl ?_
  refine ok_ldcM hG dJ13_copyOf_2_1 q1188 ?_
  refine ok_acmp_ne (tgt := 13) dJ13_copyOf_2_3 (by decide) (fun z => absurd rfl z) (fun _ => ?_)
  refine ok_iload_n dJ13_copyOf_2_6 rfl ?_
  refine ok_anew (kk0 := 61) dJ13_copyOf_2_7 rfl q1190 q1189 h0 (by omega) ?_
  refine ok_goto (tgt := 24) dJ13_copyOf_2_10 (by decide) ?_
  refine ok_astore_n (ls' := [some (vR e), some (vI n), some (vR (om_cA G 1003)), some (vR (hz h))]) dJ13_copyOf_2_24 (by decide) rfl ?_
  refine ok_aload_n dJ13_copyOf_2_25 rfl ?_
  refine ok_iconst dJ13_copyOf_2_26 ⟨by decide, by decide⟩ ?_
  refine ok_aload_n dJ13_copyOf_2_27 rfl ?_
  refine ok_iconst dJ13_copyOf_2_28 ⟨by decide, by decide⟩ ?_
  refine ok_aload_n dJ13_copyOf_2_29 rfl ?_
  have ke : kd (nA h 61 n.toNat) e = 61 := by rw [kd_nA, if_neg (by omega)]; exact he
  have ae : an (nA h 61 n.toNat) e = an h e := by rw [an_nA, if_neg (by omega)]
  refine ok_alen dJ13_copyOf_2_30 (om_akd ke (by decide)) ?_
  refine ok_iload_n dJ13_copyOf_2_31 rfl ?_
  refine ok_mmin dJ13_copyOf_2_32 q1191 (Nat.le_of_ble_eq_true rfl) hd ?_
  rw [ae]
  have em : (if n < (an h e : Int) then n else (an h e : Int)) = (an h e : Int) := by rw [if_neg (by omega)]
  rw [em]
  refine ok_acopy hG dJ13_copyOf_2_35 q1194 q1196 q1195 q276 ke (by rw [kd_nA, if_pos rfl]) (by omega) (by rw [ae]; omega) (by rw [an_nA, if_pos rfl]; omega) (fun i hi => ?_) (Nat.le_of_ble_eq_true rfl) hd ?_
  · rw [aR_nA, if_neg (by omega)]
    have hx := hel i (by omega)
    rcases hx with hx | ⟨kc, r, hc, hx⟩ | hx
    · exact Or.inl hx
    · refine Or.inr (Or.inl ⟨kc, r, hc, ?_⟩)
      have := om_lt V.1 (show kd h (aR h e i) ≠ 0 by omega)
      rw [kd_nA, if_neg (by omega)]
      exact hx
    · exact Or.inr (Or.inr hx)
  · refine ok_aload_n dJ13_copyOf_2_38 rfl ?_
    refine ok_aret dJ13_copyOf_2_39 rfl rfl ?_
    rw [Int.toNat_natCast]
    exact q
theorem c_copyOf {e : Nat} {n : Int} (hG : om_okG G) (hd : 2 ≤ d) (he : kd h e = 61) (h0 : 0 ≤ n) (h1 : n ≤ 1000000) (h2 : (an h e : Int) ≤ n) (hel : ∀ i, i < an h e → om_obj G h (aR h e i)) (q : Q (.inl (some (vR (hz h))), cpR (nA h 61 n.toNat) e (hz h) (an h e))) : OK G d m_J13_copyOf 0 [some (vR e), some (vI n)] [] h Q := by
  refine ok_aload_n dJ13_copyOf_0 rfl ?_
  refine ok_iload_n dJ13_copyOf_1 rfl ?_
  refine ok_aload_n dJ13_copyOf_2 rfl ?_
  refine ok_getCls hG dJ13_copyOf_3 q1135 q4470 q1136 q1184 he (Nat.le_of_ble_eq_true rfl) (by omega) ?_
  refine ok_callS (d' := d - 1) (Q1 := fun O => O = (.inl (some (vR (hz h))), cpR (nA h 61 n.toNat) e (hz h) (an h e))) (As := [vR e, vI n, vR (om_cA G 1003)]) (rest := []) dJ13_copyOf_6 ml_J13_300 mw_J13_copyOf_2 rfl q1186 rfl (Nat.le_of_ble_eq_true rfl) (Nat.le_of_ble_eq_true rfl) (om_o0 rfl) (c_copyOf_2 hG (by omega) he h0 h1 h2 hel rfl) (by omega) (fun O hO => ?_)
  subst hO
  exact ok_aret dJ13_copyOf_9 rfl rfl q
/-- the first add: ten places are made -/
theorem b_add_2_0c {a x : Nat} {n : Int} (hG : om_okG G) (kt : n ≠ 0 → OK G d m_J2_add_2 11 [some (vR a), some (vR x), some (vR (om_cA G 600)), some (vI n)] [] h Q) (kf : n = 0 → OK G d m_J2_add_2 6 [some (vR a), some (vR x), none, some (vI n)] [] h Q) : OK G d m_J2_add_2 0 [some (vR a), some (vR x), some (vR (om_cA G 600)), some (vI n)] [] h Q := by
  refine ok_iload_n dJ2_add_2_0 rfl ?_
  refine ok_aload_n dJ2_add_2_1 rfl ?_
  refine ok_alenC dJ2_add_2_2 (om_cA_0 hG (by omega)) (fun s hs => (hG.1 s hs).2.2.2.2.2.1.2) (by omega) ?_
  exact ok_icmp_ne dJ2_add_2_3 (by decide) kt (fun q => ok_fewer (ls' := [some (vR a), some (vR x), none, some (vI n)]) ⟨rfl, rfl, rfl, trivial⟩ (kf q))
theorem b_grow_2_0c {a : Nat} {n : Int} (hG : om_okG G) (c1 : kd h a = 41) (he : fR h 1726 a = om_cA G 600) (kf : OK G d m_J2_grow_2 10 [some (vR a), some (vI n), some (vI 0), none] [] h Q) : OK G d m_J2_grow_2 0 [some (vR a), some (vI n), none, none] [] h Q := by
  refine ok_aload_n dJ2_grow_2_0 rfl ?_
  refine ok_getR dJ2_grow_2_1 fl_J2_9 (by decide) c1 ?_
  rw [he]
  refine ok_alenC dJ2_grow_2_4 (om_cA_0 hG (by omega)) (fun s hs => (hG.1 s hs).2.2.2.2.2.1.2) (by omega) ?_
  refine ok_istore_n (ls' := [some (vR a), some (vI n), some (vI 0), none]) dJ2_grow_2_5 (by decide) rfl ?_
  refine ok_iload_n dJ2_grow_2_6 rfl ?_
  exact ok_if_gt (tgt := 20) dJ2_grow_2_7 (by decide) (fun z => by omega) (fun _ => kf)
end OM48
