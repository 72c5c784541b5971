set_option maxRecDepth 100000
section OM49
variable {G : om_G} {d : Nat} {h : om_H} {Q : om_O → Prop}
theorem om_obj_k {h1 h2 : om_H} {x : Nat} (c : ∀ b, kd h1 b ≠ 0 → kd h1 b ≤ 41 → kd h2 b = kd h1 b) (hx : om_obj G h1 x) : om_obj G h2 x := by
  rcases hx with hx | ⟨kc, r, hc, hx⟩ | hx
  · exact Or.inl hx
  · have hlt := om_cl_lt hc
    exact Or.inr (Or.inl ⟨kc, r, hc, by rw [c x (by omega) (by omega)]; exact hx⟩)
  · exact Or.inr (Or.inr hx)
/-- add(x), the first of all: ten places are made -/
theorem c_addF {a x : Nat} (hG : om_okG G) (hd : 5 ≤ d) (ha : kd h a = 42) (hr : lc h a = 0) (hl : ll h a = []) (hx : om_obj G h x) (q : Q (.inl (some (vI 1)), gL h a [x] 10 1 10)) : OK G d m_J2_add 0 [some (vR a), some (vR x)] [] h Q := by
  refine ok_rng (fun V => ?_)
  have hal := om_lt V.1 (show kd h a ≠ 0 by omega)
  have a0 : a ≠ 0 := fun z => by have := V.1.2.2.2.2.2.1; rw [z, this] at ha; omega
  have hk0 := V.1.2.2.2.2.2.2 (hz h) (Nat.le_refl _)
  refine ok_open hG ha (fun _ => ⟨_, q, om_okI ⟨by decide, by decide⟩, om_rng_gL V.1 a0 (by simp) (by omega), by rw [hz_gL]; omega, by rw [hu_gL]; omega⟩) (fun e mc f ho => ?_)
  have o3 : e = om_cA G 600 := by
    rcases ho with ⟨o1, o2, o3⟩ | ⟨o1, -⟩
    · exact o3
    · omega
  subst o3
  have hn : ¬ 0 < lc h a := by omega
  generalize hh1 : sI (opn h a (om_cA G 600) mc.toInt f) 1720 a (w32 (fI (opn h a (om_cA G 600) mc.toInt f) 1720 a + 1)) = h1
  have k1 : kd h1 a = 41 := by rw [← hh1, kd_sI]; exact opn_k
  have kb : ∀ b, b ≠ a → kd h1 b = kd h b := fun b hb => by rw [← hh1, kd_sI, kd_opn, if_neg hb, if_neg (fun z => hn z.2)]
  have z1 : hz h1 = hz h := by rw [← hh1]; rfl
  have e1 : fR h1 1726 a = om_cA G 600 := by rw [← hh1, fR_sI]; exact opn_ed
  have s1 : fI h1 1728 a = 0 := by rw [← hh1, fI_sI, if_neg (by omega), opn_sz, hl]; rfl
  have hxo : om_obj G h1 x := om_obj_k (fun b hb hb2 => kb b (fun z => by rw [z, ha] at hb2; omega)) hx
  refine ok_endv (Q' := fun O => O = (.inl (some (vI 1)), sI (pR (sR (nA h1 61 10) 1726 a (hz h)) (hz h) 0 x) 1728 a 1)) ?_ (fun O hO => ?_)
  · refine b_J2_add_0 (d' := d - 1) (Q1 := fun O => O = (.inl none, sI (pR (sR (nA h1 61 10) 1726 a (hz h)) (hz h) 0 x) 1728 a 1)) opn_k ?_ (by omega) (fun O hO => ?_)
    · rw [opn_ed, opn_sz, hh1, hl]
      refine b_add_2_0c hG (fun z => absurd rfl z) (fun _ => ?_)
      refine b_J2_add_2_6 (d' := d - 2) (Q1 := fun O => O = (.inl (some (vR (hz h))), sR (nA h1 61 10) 1726 a (hz h))) ?_ (by omega) (fun O hO => ?_) k1
      · refine b_J2_grow_0 (d' := d - 3) (Q1 := fun O => O = (.inl (some (vR (hz h))), sR (nA h1 61 10) 1726 a (hz h))) k1 ?_ (by omega) (fun O hO => ?_)
        · rw [s1]
          refine b_grow_2_0c hG k1 e1 (b_J2_grow_2_10 hG k1 (fun _ => ?_) (fun z => absurd e1 z))
          refine b_J2_grow_2_45 (by omega) (by decide) (by decide) ?_ ?_
          · rw [kd_nA, if_neg (by rw [z1]; omega)]
            exact k1
          · rw [z1]
            rfl
        · subst hO
          exact b_J2_grow_10 rfl
      · subst hO
        refine b_J2_add_2_10 (b_J2_add_2_11 hG (by rw [kd_sR, kd_nA, if_pos z1.symm]) (by decide) (by rw [an_sR, an_nA, if_pos z1.symm]; decide) ?_ (by rw [kd_sR, kd_nA, if_neg (by rw [z1]; omega)]; exact k1) rfl)
        refine om_obj_k (h1 := h1) (fun b hb hb2 => ?_) hxo
        have hbz : b ≠ hz h1 := fun z => by
          rw [z, z1, kb (hz h) (by omega)] at hb
          exact hb hk0
        rw [kd_sR, kd_nA, if_neg hbz]
    · subst hO
      exact b_J2_add_23 rfl
  · subst hO
    refine ⟨_, q, rfl, by rw [hz_gL, hz_sI, hz_pR, hz_sR, hz_nA, z1], by rw [hu_gL, hu_sI, hu_pR, hu_sR, hu_nA, ← hh1]; rfl, fun _ => om_rng_gL V.1 a0 (by simp) (by omega), fun H hH => om_close (a := a) (e := hz h) hH (by rw [hz_gL, hz_sI, hz_pR, hz_sR, hz_nA, z1]) ⟨?_, by rw [kd_gL, if_pos rfl], ?_, ?_, by omega, Or.inr ⟨by rw [lc_gL, if_pos rfl]; omega, by rw [lc_gL, if_pos rfl]; omega, by rw [ll_gL, lc_gL, if_pos rfl, if_pos rfl]; simp, ?_, by rw [kd_gL, if_neg (by omega)]; exact hk0, ?_, fun i y hy => ?_⟩, fun b hb hk => ?_⟩⟩
    · rw [kd_sI, kd_pR, kd_sR, kd_nA, if_neg (by rw [z1]; omega)]
      exact k1
    · rw [ll_gL, if_pos rfl, fI_sI, if_pos ⟨rfl, rfl⟩]
      rfl
    · rw [fR_sI, fR_pR, fR_sR, if_pos ⟨rfl, rfl⟩]
    · rw [kd_sI, kd_pR, kd_sR, kd_nA, if_pos z1.symm]
    · rw [an_sI, an_pR, an_sR, an_nA, if_pos z1.symm, lc_gL, if_pos rfl]
    · rw [ll_gL, if_pos rfl] at hy
      have hi0 : i = 0 := by have := (List.getElem?_eq_some_iff.mp hy).1; simpa using this
      subst hi0
      have hy : x = y := by simpa using hy
      rw [aR_sI, aR_pR, if_pos ⟨rfl, rfl⟩]
      exact hy
    · rw [kd_gL, if_neg hb] at hk
      have hbz : b ≠ hz h1 := fun z => hk (by rw [z, z1]; exact hk0)
      have hbz' : b ≠ hz h := by rw [← z1]; exact hbz
      refine ⟨by rw [kd_gL, if_neg hb, kd_sI, kd_pR, kd_sR, kd_nA, if_neg hbz, kb b hb], fun g => ⟨?_, ?_⟩, ?_, fun i => ⟨?_, ?_⟩, ?_, ?_⟩
      · rw [fI_gL, fI_sI, if_neg (fun z => hb z.2), fI_pR, fI_sR, fI_nA, ← hh1, fI_sI, if_neg (fun z => hb z.2), fI_opn, if_neg (fun z => hb z.1), if_neg (fun z => hb z.1)]
      · rw [fR_gL, fR_sI, fR_pR, fR_sR, if_neg (fun z => hb z.2), fR_nA, ← hh1, fR_sI, fR_opn, if_neg (fun z => hb z.1)]
      · rw [an_gL, an_sI, an_pR, an_sR, an_nA, if_neg hbz, ← hh1, an_sI, an_opn, if_neg (fun z => hn z.2)]
      · rw [aI_gL, aI_sI, aI_pR, aI_sR, aI_nA, if_neg hbz, ← hh1]
        rfl
      · rw [aR_gL, aR_sI, aR_pR, if_neg (fun z => hbz' z.1), aR_sR, aR_nA, if_neg hbz, ← hh1, aR_sI, aR_opn, if_neg (fun z => hn z.2)]
      · rw [ll_gL, if_neg hb, ← hh1]
        rfl
      · rw [lc_gL, if_neg hb, ← hh1]
        rfl
end OM49
section OM50
variable {G : om_G} {d : Nat} {h : om_H} {Q : om_O → Prop}
theorem om_Hext {X Y : om_H} (h1 : kd X = kd Y) (h2 : fI X = fI Y) (h3 : fR X = fR Y) (h4 : an X = an Y) (h5 : aI X = aI Y) (h6 : aR X = aR Y) (h7 : ll X = ll Y) (h8 : lc X = lc Y) (h9 : hz X = hz Y) (h10 : hu X = hu Y) : X = Y := by
  obtain ⟨x1, x2, x3, x4, x5, x6, x7, x8, x9, x10⟩ := X
  obtain ⟨y1, y2, y3, y4, y5, y6, y7, y8, y9, y10⟩ := Y
  cases (show x1 = y1 from h1)
  cases (show x2 = y2 from h2)
  cases (show x3 = y3 from h3)
  cases (show x4 = y4 from h4)
  cases (show x5 = y5 from h5)
  cases (show x6 = y6 from h6)
  cases (show x7 = y7 from h7)
  cases (show x8 = y8 from h8)
  cases (show x9 = y9 from h9)
  cases (show x10 = y10 from h10)
  rfl
/-- clear(): the places are emptied -/
theorem om_clear_loop {a e : Nat} {mc : Int} {x1 : Int} (hG : om_okG G) (o1 : 0 < lc h a) (o5 : e ≠ a) (o2 : lc h a < 2 ^ 31) : ∀ (m k n : Nat) (f : Nat → Nat), k + m = n → n ≤ lc h a → (∀ g, Q (.inl none, sI (sI (opn h a e mc g) 1720 a x1) 1728 a 0)) →
    OK G d m_J2_clear 27 [none, some (vR e), some (vI n), some (vI k)] [] (sI (sI (opn h a e mc f) 1720 a x1) 1728 a 0) Q := by
  intro m
  induction m with
  | zero =>
    intro k n f hk hn q
    exact b_J2_clear_27 (fun _ => b_J2_clear_42 (q f)) (fun z => by omega)
  | succ m ih =>
    intro k n f hk hn q
    refine b_J2_clear_27 (fun z => by omega) (fun _ => ?_)
    refine b_J2_clear_32 hG (by rw [kd_sI, kd_sI, kd_opn, if_neg o5, if_pos ⟨rfl, o1⟩]) (by omega) (by rw [an_sI, an_sI, an_opn, if_pos ⟨rfl, o1⟩]; omega) ?_
    have ew : w32 ((k : Int) + 1) = ((k + 1 : Nat) : Int) := by rw [w32_eq] <;> omega
    have eh : pR (sI (sI (opn h a e mc f) 1720 a x1) 1728 a 0) e (k : Int).toNat 0 = sI (sI (opn h a e mc (fun j => if j = k then 0 else f j)) 1720 a x1) 1728 a 0 := by
      rw [Int.toNat_natCast]
      refine om_Hext rfl rfl rfl rfl rfl (funext fun b => funext fun j => ?_) rfl rfl rfl rfl
      rw [aR_pR, aR_sI, aR_sI, aR_opn, aR_sI, aR_sI, aR_opn]
      by_cases c1 : b = e
      · by_cases c2 : j = k
        · rw [if_pos ⟨c1, c2⟩, if_pos ⟨c1, o1⟩, if_pos c2]
        · rw [if_neg (fun z => c2 z.2), if_pos ⟨c1, o1⟩, if_pos ⟨c1, o1⟩, if_neg c2]
      · rw [if_neg (fun z => c1 z.1), if_neg (fun z => c1 z.1), if_neg (fun z => c1 z.1)]
    rw [ew, eh]
    exact ih (k + 1) n _ (by omega) hn q
theorem c_clear {a : Nat} (hG : om_okG G) (ha : kd h a = 42) (q : Q (.inl none, sL h a [])) : OK G d m_J2_clear 0 [some (vR a), none, none, none] [] h Q := by
  refine ok_rng (fun V => ?_)
  refine ok_open hG ha (fun _ => ⟨_, q, om_okN, om_rng_sL V.1 (by simp), Nat.le_refl _, Nat.le_refl _⟩) (fun e mc f ho => ?_)
  have e0 : e ≠ 0 := by
    rcases ho with ⟨-, -, q3⟩ | ⟨-, -, -, q4, -⟩
    · rw [q3]
      exact om_cA_0 hG (by omega)
    · omega
  refine ok_endv (Q' := fun O => ∃ g, O = (.inl none, sI (sI (opn h a e mc.toInt g) 1720 a (w32 (fI (opn h a e mc.toInt f) 1720 a + 1))) 1728 a 0)) ?_ (fun O hO => ?_)
  · refine b_J2_clear_0 opn_k ?_
    rw [opn_ed, opn_sz]
    rcases ho with ⟨o1, o2, o3⟩ | ⟨o1, o2, o3, o4, o5, o6, o7, o8, o9⟩
    · rw [o2]
      exact b_J2_clear_27 (fun _ => b_J2_clear_42 ⟨f, rfl⟩) (fun z => by simp at z)
    · exact om_clear_loop hG o1 o5 o2 (ll h a).length 0 (ll h a).length f (by omega) o3 (fun g => ⟨g, rfl⟩)
  · obtain ⟨g, hO⟩ := hO
    subst hO
    refine ⟨_, q, rfl, rfl, rfl, fun _ => om_rng_sL V.1 (by simp), fun H hH => om_close (a := a) (e := e) hH rfl ⟨opn_k (mc := mc.toInt) (f := g), ha, ?_, ?_, e0, ?_, fun b hb hk => ?_⟩⟩
    · rw [ll_sL, if_pos rfl, fI_sI, if_pos ⟨rfl, rfl⟩]
      rfl
    · rw [fR_sI, fR_sI, opn_ed]
    · rcases ho with ⟨o1, o2, o3⟩ | ⟨o1, o2, o3, o4, o5, o6, o7, o8, o9⟩
      · exact Or.inl ⟨o1, by rw [ll_sL, if_pos rfl], o3⟩
      · refine Or.inr ⟨o1, o2, by rw [ll_sL, if_pos rfl]; simp, by rw [kd_sI, kd_sI, kd_opn, if_neg o5, if_pos ⟨rfl, o1⟩], o6, by rw [an_sI, an_sI, an_opn, if_pos ⟨rfl, o1⟩]; rfl, fun i x hx => ?_⟩
        rw [ll_sL, if_pos rfl] at hx
        simp at hx
    · have hk : kd h b ≠ 0 := hk
      have hbe : ¬ (b = e ∧ 0 < lc h a) := by
        rintro ⟨rfl, hl⟩
        rcases ho with ⟨q1, -⟩ | ⟨-, -, -, -, -, q6, -⟩
        · omega
        · exact hk q6
      refine ⟨by rw [kd_sI, kd_sI, kd_opn, if_neg hb, if_neg hbe]; rfl, fun g' => ⟨by rw [fI_sI, if_neg (fun z => hb z.2), fI_sI, if_neg (fun z => hb z.2), fI_opn, if_neg (fun z => hb z.1), if_neg (fun z => hb z.1)]; rfl, by rw [fR_sI, fR_sI, fR_opn, if_neg (fun z => hb z.1)]; rfl⟩, by rw [an_sI, an_sI, an_opn, if_neg hbe]; rfl, fun i => ⟨rfl, by rw [aR_sI, aR_sI, aR_opn, if_neg hbe]; rfl⟩, by rw [ll_sL, if_neg hb]; rfl, rfl⟩
end OM50
