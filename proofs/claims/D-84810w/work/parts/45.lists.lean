set_option maxRecDepth 100000
/-! THE LISTS' OWN METHODS, as operations of the pure heap -/
section OM45
variable {G : om_G} {d : Nat} {ls : List (Option om_V)} {st : List om_V} {h : om_H} {Q : om_O → Prop}
theorem c_J6_checkIndex {i n : Int} {r : Nat} (h0 : 0 ≤ i) (h1 : i < n) (q : Q (.inl (some (vI i)), h)) : OK G d m_J6_checkIndex 0 [some (vI i), some (vI n), some (vR r)] [] h Q :=
  b_J6_checkIndex_0 (fun z => by omega) (fun _ => b_J6_checkIndex_4 (fun _ => b_J6_checkIndex_16 q) (fun z => by omega))
theorem c_J16_checkIndex {i n : Int} (hd : 1 ≤ d) (h0 : 0 ≤ i) (h1 : i < n) (q : Q (.inl (some (vI i)), h)) : OK G d m_J16_checkIndex 0 [some (vI i), some (vI n)] [] h Q :=
  b_J16_checkIndex_0 (d' := d - 1) (Q1 := fun O => O = (.inl (some (vI i)), h)) (c_J6_checkIndex h0 h1 rfl) (by omega) (fun O hO => by subst hO; exact b_J16_checkIndex_6 q)
/-- back to the list as it was -/
theorem om_back {a e : Nat} {mc : Int32} {f : Nat → Nat} (hG : om_okG G) (ha : kd h a = 42) (ho : om_own G h a e f) : om_shut G (opn h a e mc.toInt f) h a e := by
  have e0 : e ≠ 0 := by
    rcases ho with ⟨-, -, q3⟩ | ⟨-, -, -, q4, -⟩
    · rw [q3]
      exact om_cA_0 hG (by omega)
    · omega
  refine ⟨by rw [kd_opn, if_pos rfl], ha, by rw [fI_opn, if_neg (by omega), if_pos ⟨rfl, rfl⟩], by rw [fR_opn, if_pos ⟨rfl, rfl⟩], e0, ?_, fun b hb hk => ?_⟩
  · rcases ho with q | ⟨q1, q2, q3, q4, q5, q6, q7, q8, q9⟩
    · exact Or.inl q
    · exact Or.inr ⟨q1, q2, q3, by rw [kd_opn, if_neg q5, if_pos ⟨rfl, q1⟩], q6, by rw [an_opn, if_pos ⟨rfl, q1⟩], fun i x hx => by rw [aR_opn, if_pos ⟨rfl, q1⟩]; exact q9 i x hx⟩
  · have hbe : ¬ (b = e ∧ 0 < lc h a) := by
      rintro ⟨rfl, hl⟩
      rcases ho with ⟨q1, -⟩ | ⟨-, -, -, -, -, q6, -⟩
      · omega
      · exact hk q6
    refine ⟨by rw [kd_opn, if_neg hb, if_neg hbe], fun g => ⟨by rw [fI_opn, if_neg (fun q => hb q.1), if_neg (fun q => hb q.1)], by rw [fR_opn, if_neg (fun q => hb q.1)]⟩, by rw [an_opn, if_neg hbe], fun i => ⟨rfl, by rw [aR_opn, if_neg hbe]⟩, rfl, rfl⟩
/-- an opened list is closed again, unchanged; then an end -/
theorem om_backR {a e : Nat} {mc : Int32} {f : Nat → Nat} {H : Heap} (hG : om_okG G) (ha : kd h a = 42) (ho : om_own G h a e f) (hR : om_R G (opn h a e mc.toInt f) H) : om_R G h H := om_close hR rfl (om_back hG ha ho)
/-- an end's heap is looked at in another way -/
theorem ok_endv {M : om_M} {pc : Nat} {Q' : om_O → Prop} (k : OK G d M pc ls st h Q') (c : ∀ O, Q' O → ∃ O' : om_O, Q O' ∧ O'.1 = O.1 ∧ hz O'.2 = hz O.2 ∧ hu O'.2 = hu O.2 ∧ (om_rng O.2 → om_rng O'.2) ∧ ∀ H, om_R G O.2 H → om_R G O'.2 H) : OK G d M pc ls st h Q := by
  intro V
  obtain ⟨⟨O, q1, q2, q3, q4, q5⟩, k2⟩ := k V
  refine ⟨?_, fun p l e R s m args below meth c0 H locs la u0 C => ?_⟩
  · obtain ⟨O', w1, w2, w3, w4, w5, w6⟩ := c O q1
    exact ⟨O', w1, by rw [w2]; exact q2, w5 q3, by rw [w3]; exact q4, by rw [w4]; exact q5⟩
  · obtain ⟨c1, c2, c3, c4, c5⟩ := C
    intro T hT X
    obtain ⟨t, a1, O, o, L, b1, b2, b3, b4, b5, b6, b7, b8, b9, b10, b11, b12⟩ := k2 p l e R s m args below meth c0 H locs la u0 ⟨c1, c2, c3, fun O hO g1 g2 => by
      obtain ⟨O', w1, w2, w3, w4, w5, w6⟩ := c O hO
      rw [← w3, ← w4]
      exact c4 O' w1 (by rw [w2]; exact g1) (w5 g2), c5⟩ T hT X
    obtain ⟨O', w1, w2, w3, w4, w5, w6⟩ := c O b1
    exact ⟨t, a1, O', o, L, w1, by rw [w2]; exact b2, by rw [w2]; exact b3, w5 b4, b5, b6, b7, by rw [w3, w4]; exact b8, b9, w6 _ b10, by rw [w3]; exact b11, by rw [w4]; exact b12⟩
/-- a method that only looks at a list -/
theorem ok_look {M : om_M} {pc a : Nat} {r : Option om_V} (hG : om_okG G) (ha : kd h a = 42) (hr : om_V0 h ls st → om_okO (.inl r)) (q : Q (.inl r, h)) (k : ∀ (e : Nat) (mc : Int32) (f : Nat → Nat), om_own G h a e f → OK G d M pc ls st (opn h a e mc.toInt f) (fun O => O = (.inl r, opn h a e mc.toInt f))) : OK G d M pc ls st h Q := by
  refine ok_rng (fun V => ?_)
  refine ok_open hG ha (fun _ => ⟨_, q, hr V, V.1, Nat.le_refl _, Nat.le_refl _⟩) (fun e mc f ho => ?_)
  refine ok_endv (k e mc f ho) (fun O hO => ?_)
  subst hO
  exact ⟨(.inl r, h), q, rfl, rfl, rfl, fun _ => V.1, fun H hH => om_backR hG ha ho hH⟩
theorem om_okI {x : Int} (hx : iR x) : om_okO (.inl (some (vI x))) := fun v hv => by
  cases hv
  exact hx
theorem om_okN : om_okO (.inl none) := fun v hv => by cases hv
theorem om_okRf {x : Nat} : om_okO (.inl (some (vR x))) := fun v hv => by
  cases hv
  trivial
theorem om_iRn {n : Nat} (hn : n ≤ 2147483647) : iR (n : Int) := by
  unfold iR
  omega
theorem opn_sz {a e : Nat} {mc : Int} {f : Nat → Nat} : fI (opn h a e mc f) 1728 a = ((ll h a).length : Int) := by rw [fI_opn, if_neg (by omega), if_pos ⟨rfl, rfl⟩]
theorem opn_ed {a e : Nat} {mc : Int} {f : Nat → Nat} : fR (opn h a e mc f) 1726 a = e := by rw [fR_opn, if_pos ⟨rfl, rfl⟩]
theorem opn_k {a e : Nat} {mc : Int} {f : Nat → Nat} : kd (opn h a e mc f) a = 41 := by rw [kd_opn, if_pos rfl]
theorem c_size {a : Nat} (hG : om_okG G) (ha : kd h a = 42) (q : Q (.inl (some (vI ((ll h a).length : Int))), h)) : OK G d m_J2_size 0 [some (vR a)] [] h Q :=
  ok_look hG ha (fun V => om_okI (om_iRn (V.1.2.2.2.1 a))) q (fun e mc f ho => b_J2_size_0 opn_k (by rw [opn_sz]))
theorem c_isEmpty {a : Nat} (hG : om_okG G) (ha : kd h a = 42) (q : Q (.inl (some (vI (if (ll h a).length = 0 then 1 else 0))), h)) : OK G d m_J2_isEmpty 0 [some (vR a)] [] h Q :=
  ok_look hG ha (fun V => om_okI (by split <;> exact ⟨by decide, by decide⟩)) q (fun e mc f ho => b_J2_isEmpty_0 opn_k
    (fun z => b_J2_isEmpty_11 (b_J2_isEmpty_12 (by rw [if_neg (by rw [opn_sz] at z; omega)]) (Or.inl rfl)))
    (fun z => b_J2_isEmpty_7 (b_J2_isEmpty_12 (by rw [if_pos (by rw [opn_sz] at z; omega)]) (Or.inr rfl))))
theorem c_get {a x : Nat} {i : Int} (hG : om_okG G) (hd : 3 ≤ d) (ha : kd h a = 42) (h0 : 0 ≤ i) (hx : (ll h a)[i.toNat]? = some x) (q : Q (.inl (some (vR x)), h)) : OK G d m_J2_get 0 [some (vR a), some (vI i)] [] h Q := by
  have hlt : i < ((ll h a).length : Int) := by
    have := (List.getElem?_eq_some_iff.mp hx).1
    omega
  refine ok_look hG ha (fun _ => om_okRf) q (fun e mc f ho => ?_)
  rcases ho with ⟨o1, o2, o3⟩ | ⟨o1, o2, o3, o4, o5, o6, o7, o8, o9⟩
  · rw [o2] at hlt
    simp at hlt
    omega
  refine b_J2_get_0 (d' := d - 1) (Q1 := fun O => O = (.inl (some (vI i)), opn h a e mc.toInt f)) opn_k (c_J16_checkIndex (by omega) h0 (by rw [opn_sz]; exact hlt) rfl) (by omega) (fun O hO => ?_)
  subst hO
  refine b_J2_get_8 (d' := d - 1) (Q1 := fun O => O = (.inl (some (vR x)), opn h a e mc.toInt f)) (b_J2_elementData_0 opn_k (by rw [opn_ed, kd_opn, if_neg o5, if_pos ⟨rfl, o1⟩]) h0 (by rw [opn_ed, an_opn, if_pos ⟨rfl, o1⟩]; omega) ?_) (by omega) (fun O hO => ?_) opn_k
  · rw [opn_ed, aR_opn, if_pos ⟨rfl, o1⟩, o9 _ _ hx]
  · subst hO
    exact b_J2_get_14 rfl
end OM45
section OM46
variable {G : om_G} {d : Nat} {h : om_H} {Q : om_O → Prop}
theorem om_rng_gL {a c n u : Nat} {l : List Nat} (V : om_rng h) (a0 : a ≠ 0) (hl : l.length ≤ 2147483647) (ha : a < hz h + n) : om_rng (gL h a l c n u) := by
  obtain ⟨v1, v2, v3, v4, v5, v6, v7⟩ := V
  refine ⟨v1, fun b i => ?_, v3, fun b => ?_, by rw [hz_gL]; omega, by rw [kd_gL, if_neg (Ne.symm a0)]; exact v6, fun b hb => ?_⟩
  · rw [kd_gL, aI_gL]
    by_cases c1 : b = a
    · rw [if_pos c1]
      trivial
    · rw [if_neg c1]
      exact v2 b i
  · rw [ll_gL]
    by_cases c1 : b = a
    · rw [if_pos c1]
      exact hl
    · rw [if_neg c1]
      exact v4 b
  · rw [hz_gL] at hb
    rw [kd_gL, if_neg (by omega)]
    exact v7 b (by omega)
theorem om_rng_sL {a : Nat} {l : List Nat} (V : om_rng h) (hl : l.length ≤ 2147483647) : om_rng (sL h a l) := by
  obtain ⟨v1, v2, v3, v4, v5, v6, v7⟩ := V
  refine ⟨v1, v2, v3, fun b => ?_, v5, v6, v7⟩
  rw [ll_sL]
  by_cases c1 : b = a
  · rw [if_pos c1]
    exact hl
  · rw [if_neg c1]
    exact v4 b
theorem c_J1_init {a : Nat} (hd : 2 ≤ d) (ha : kd h a = 41) (q : Q (.inl none, sI h 1720 a 0)) : OK G d m_J1_init 0 [some (vR a)] [] h Q := by
  refine ok_rng (fun V => ?_)
  refine b_J1_init_0 (d' := d - 1) (Q1 := fun O => O = (.inl none, h)) (b_J0_init_0 (om_ne0 V ha) (by omega) rfl) (by omega) (fun O hO => ?_) ha
  subst hO
  exact b_J1_init_4 ha q
/-- new ArrayList() -/
theorem c_init {a : Nat} (hG : om_okG G) (hd : 3 ≤ d) (ha : kd h a = 41) (hs : fI h 1728 a = 0) (q : Q (.inl none, gL h a [] 0 0 0)) : OK G d m_J2_init 0 [some (vR a)] [] h Q := by
  refine ok_rng (fun V => ?_)
  have a0 := om_ne0 V ha
  have hal := om_lt V.1 (show kd h a ≠ 0 by omega)
  refine ok_endv (Q' := fun O => O = (.inl none, sR (sI h 1720 a 0) 1726 a (om_cA G 600))) ?_ (fun O hO => ?_)
  · refine b_J2_init_0 (d' := d - 1) (Q1 := fun O => O = (.inl none, sI h 1720 a 0)) (c_J1_init (by omega) ha rfl) (by omega) (fun O hO => ?_) ha
    subst hO
    exact b_J2_init_4 hG ha rfl
  · subst hO
    refine ⟨_, q, rfl, rfl, rfl, fun _ => om_rng_gL V.1 a0 (by simp) (by omega), fun H hH => om_close (a := a) (e := om_cA G 600) hH rfl ⟨ha, by rw [kd_gL, if_pos rfl], ?_, by rw [fR_sR, if_pos ⟨rfl, rfl⟩], om_cA_0 hG (by omega), Or.inl ⟨by rw [lc_gL, if_pos rfl], by rw [ll_gL, if_pos rfl], rfl⟩, fun b hb hk => ?_⟩⟩
    · rw [ll_gL, if_pos rfl, fI_sR, fI_sI, if_neg (by omega), hs]
      rfl
    · rw [kd_gL, if_neg hb] at hk
      refine ⟨by rw [kd_gL, if_neg hb]; rfl, fun g => ⟨by rw [fI_gL, fI_sR, fI_sI, if_neg (fun z => hb z.2)], by rw [fR_gL, fR_sR, if_neg (fun z => hb z.2)]; rfl⟩, rfl, fun i => ⟨rfl, rfl⟩, by rw [ll_gL, if_neg hb]; rfl, by rw [lc_gL, if_neg hb]; rfl⟩
/-- new ArrayList(n), n > 0 -/
theorem c_init_2 {a : Nat} {n : Int} (hG : om_okG G) (hd : 3 ≤ d) (ha : kd h a = 41) (hs : fI h 1728 a = 0) (h0 : 0 < n) (h1 : n ≤ 1000000) (q : Q (.inl none, gL h a [] n.toNat 1 n.toNat)) : OK G d m_J2_init_2 0 [some (vR a), some (vI n)] [] h Q := by
  refine ok_rng (fun V => ?_)
  have a0 := om_ne0 V ha
  have hal := om_lt V.1 (show kd h a ≠ 0 by omega)
  have hk0 := V.1.2.2.2.2.2.2 (hz h) (Nat.le_refl _)
  refine ok_endv (Q' := fun O => O = (.inl none, sR (nA (sI h 1720 a 0) 61 n.toNat) 1726 a (hz h))) ?_ (fun O hO => ?_)
  · refine b_J2_init_2_0 (d' := d - 1) (Q1 := fun O => O = (.inl none, sI h 1720 a 0)) (c_J1_init (by omega) ha rfl) (by omega) (fun O hO => ?_) ha
    subst hO
    exact b_J2_init_2_4 (fun z => by omega) (fun _ => b_J2_init_2_8 (by omega) (by omega) (by rw [kd_nA, if_neg (by rw [hz_sI]; omega)]; exact ha) (b_J2_init_2_60 rfl))
  · subst hO
    refine ⟨_, q, rfl, rfl, rfl, fun _ => om_rng_gL V.1 a0 (by simp) (by omega), fun H hH => om_close (a := a) (e := hz h) hH rfl ⟨?_, by rw [kd_gL, if_pos rfl], ?_, by rw [fR_sR, if_pos ⟨rfl, rfl⟩], by omega, Or.inr ⟨by rw [lc_gL, if_pos rfl]; omega, by rw [lc_gL, if_pos rfl]; omega, by rw [ll_gL, if_pos rfl]; simp, ?_, by rw [kd_gL, if_neg (by omega)]; exact hk0, ?_, fun i x hx => ?_⟩, fun b hb hk => ?_⟩⟩
    · rw [kd_sR, kd_nA, if_neg (by rw [hz_sI]; omega)]
      exact ha
    · rw [ll_gL, if_pos rfl, fI_sR, fI_nA, fI_sI, if_neg (by omega), hs]
      rfl
    · rw [kd_sR, kd_nA, if_pos (by rw [hz_sI])]
    · rw [an_sR, an_nA, if_pos (by rw [hz_sI]), lc_gL, if_pos rfl]
    · rw [ll_gL, if_pos rfl] at hx
      simp at hx
    · rw [kd_gL, if_neg hb] at hk
      have hbz : b ≠ hz h := fun z => hk (by rw [z]; exact hk0)
      refine ⟨by rw [kd_gL, if_neg hb, kd_sR, kd_nA, if_neg (by rw [hz_sI]; exact hbz)]; rfl, fun g => ⟨by rw [fI_gL, fI_sR, fI_nA, fI_sI, if_neg (fun z => hb z.2)], by rw [fR_gL, fR_sR, if_neg (fun z => hb z.2)]; rfl⟩, by rw [an_gL, an_sR, an_nA, if_neg (by rw [hz_sI]; exact hbz)]; rfl, fun i => ⟨by rw [aI_gL, aI_sR, aI_nA, if_neg (by rw [hz_sI]; exact hbz)]; rfl, by rw [aR_gL, aR_sR, aR_nA, if_neg (by rw [hz_sI]; exact hbz)]; rfl⟩, by rw [ll_gL, if_neg hb]; rfl, by rw [lc_gL, if_neg hb]; rfl⟩
end OM46
