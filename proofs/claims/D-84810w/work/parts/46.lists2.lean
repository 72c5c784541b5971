set_option maxRecDepth 100000
section OM47
variable {G : om_G} {d : Nat} {h : om_H} {Q : om_O → Prop}
/-- a list's class stands over no other kind: what may stand in a list is neither the list nor its array -/
theorem om_obj_opn {a e x : Nat} {mc : Int} {f : Nat → Nat} (ha : kd h a = 42) (he : 0 < lc h a → kd h e = 0) (hx : om_obj G h x) : om_obj G (opn h a e mc f) x := by
  rcases hx with hx | ⟨kc, r, hc, hx⟩ | hx
  · exact Or.inl hx
  · refine Or.inr (Or.inl ⟨kc, r, hc, ?_⟩)
    have hlt := om_cl_lt hc
    rw [kd_opn, if_neg (fun q => by rw [q, ha] at hx; omega), if_neg (fun q => by have := he q.2; rw [← q.1] at this; omega)]
    exact hx
  · exact Or.inr (Or.inr hx)
/-- remove(size() - 1) -/
theorem c_remove {a x : Nat} {l : List Nat} {i : Int} (hG : om_okG G) (hd : 3 ≤ d) (ha : kd h a = 42) (hl : ll h a = l ++ [x]) (hi : i = (l.length : Int)) (q : Q (.inl (some (vR x)), sL h a l)) : OK G d m_J2_remove 0 [some (vR a), some (vI i), none, none] [] h Q := by
  refine ok_rng (fun V => ?_)
  have hlen : (ll h a).length = l.length + 1 := by rw [hl]; simp
  have hmax := V.1.2.2.2.1 a
  refine ok_open hG ha (fun _ => ⟨_, q, om_okRf, om_rng_sL V.1 (by omega), Nat.le_refl _, Nat.le_refl _⟩) (fun e mc f ho => ?_)
  rcases ho with ⟨o1, o2, o3⟩ | ⟨o1, o2, o3, o4, o5, o6, o7, o8, o9⟩
  · rw [o2] at hlen
    simp at hlen
  have ew : w32 ((l.length : Int) + 1 - 1) = l.length := by rw [w32_eq] <;> omega
  have hz1 : fI (opn h a e mc.toInt f) 1728 a = (l.length : Int) + 1 := by rw [opn_sz, hlen]; rfl
  have ke : kd (opn h a e mc.toInt f) e = 61 := by rw [kd_opn, if_neg o5, if_pos ⟨rfl, o1⟩]
  have ae : an (opn h a e mc.toInt f) e = lc h a := by rw [an_opn, if_pos ⟨rfl, o1⟩]
  have hfx : f l.length = x := o9 _ _ (by rw [hl]; simp)
  refine ok_endv (Q' := fun O => O = (.inl (some (vR x)), pR (sI (sI (opn h a e mc.toInt f) 1720 a (w32 (fI (opn h a e mc.toInt f) 1720 a + 1))) 1728 a l.length) e l.length 0)) ?_ (fun O hO => ?_)
  · refine b_J2_remove_0 (d' := d - 1) (Q1 := fun O => O = (.inl (some (vI i)), opn h a e mc.toInt f)) opn_k (c_J16_checkIndex (by omega) (by omega) (by rw [hz1]; omega) rfl) (by omega) (fun O hO => ?_)
    subst hO
    refine b_J2_remove_8 (d' := d - 1) (Q1 := fun O => O = (.inl none, pR (sI (sI (opn h a e mc.toInt f) 1720 a (w32 (fI (opn h a e mc.toInt f) 1720 a + 1))) 1728 a l.length) e l.length 0)) opn_k (by rw [opn_ed]; exact ke) (by omega) (by rw [opn_ed, ae]; omega) ?_ (by omega) (fun O hO => ?_)
    · rw [opn_ed]
      refine b_J2_fastRemove_0 opn_k (fun _ => ?_) (fun z => by rw [hz1, ew] at z; omega)
      rw [hz1, ew]
      exact b_J2_fastRemove_34 hG (by rw [kd_sI]; exact opn_k) (by rw [kd_sI]; exact ke) (by omega) (by rw [an_sI, ae]; omega) rfl
    · subst hO
      refine b_J2_remove_24 ?_
      rw [opn_ed, aR_opn, if_pos ⟨rfl, o1⟩, hi, Int.toNat_natCast, hfx]
  · subst hO
    refine ⟨_, q, rfl, rfl, rfl, fun _ => om_rng_sL V.1 (by omega), fun H hH => om_close (a := a) (e := e) hH rfl ⟨opn_k (mc := mc.toInt) (f := f), ha, ?_, ?_, by omega, Or.inr ⟨o1, o2, ?_, ke, o6, ae, fun j y hy => ?_⟩, fun b hb hk => ?_⟩⟩
    · rw [ll_sL, if_pos rfl, fI_pR, fI_sI, if_pos ⟨rfl, rfl⟩]
    · rw [fR_pR, fR_sI, fR_sI, opn_ed]
    · rw [ll_sL, if_pos rfl]
      show l.length ≤ lc h a
      omega
    · rw [ll_sL, if_pos rfl] at hy
      have hj := (List.getElem?_eq_some_iff.mp hy).1
      rw [aR_pR, if_neg (by omega), aR_sI, aR_sI, aR_opn, if_pos ⟨rfl, o1⟩]
      exact o9 j y (by rw [hl, List.getElem?_append_left hj]; exact hy)
    · have hk : kd h b ≠ 0 := hk
      have hbe : ¬ (b = e ∧ 0 < lc h a) := fun z => hk (by rw [z.1]; exact o6)
      refine ⟨by rw [kd_pR, kd_sI, kd_sI, kd_opn, if_neg hb, if_neg hbe]; rfl, fun g => ⟨by rw [fI_pR, fI_sI, if_neg (fun z => hb z.2), fI_sI, if_neg (fun z => hb z.2), fI_opn, if_neg (fun z => hb z.1), if_neg (fun z => hb z.1)]; rfl, by rw [fR_pR, fR_sI, fR_sI, fR_opn, if_neg (fun z => hb z.1)]; rfl⟩, by rw [an_pR, an_sI, an_sI, an_opn, if_neg hbe]; rfl, fun i => ⟨rfl, by rw [aR_pR, if_neg (fun z => hbe ⟨z.1, o1⟩), aR_sI, aR_sI, aR_opn, if_neg hbe]; rfl⟩, by rw [ll_sL, if_neg hb]; rfl, rfl⟩
/-- add(x), room is there -/
theorem c_add0 {a x : Nat} (hG : om_okG G) (hd : 2 ≤ d) (ha : kd h a = 42) (hr : (ll h a).length < lc h a) (hm : (ll h a).length < 2147483647) (hx : om_obj G h x) (q : Q (.inl (some (vI 1)), sL h a (ll h a ++ [x]))) : OK G d m_J2_add 0 [some (vR a), some (vR x)] [] h Q := by
  refine ok_rng (fun V => ?_)
  have hlen : (ll h a ++ [x]).length = (ll h a).length + 1 := by simp
  refine ok_open hG ha (fun _ => ⟨_, q, om_okI ⟨by decide, by decide⟩, om_rng_sL V.1 (by omega), Nat.le_refl _, Nat.le_refl _⟩) (fun e mc f ho => ?_)
  rcases ho with ⟨o1, o2, o3⟩ | ⟨o1, o2, o3, o4, o5, o6, o7, o8, o9⟩
  · omega
  have ew : w32 (((ll h a).length : Int) + 1) = ((ll h a).length + 1 : Nat) := by rw [w32_eq] <;> omega
  have ke : kd (opn h a e mc.toInt f) e = 61 := by rw [kd_opn, if_neg o5, if_pos ⟨rfl, o1⟩]
  have ae : an (opn h a e mc.toInt f) e = lc h a := by rw [an_opn, if_pos ⟨rfl, o1⟩]
  refine ok_endv (Q' := fun O => O = (.inl (some (vI 1)), sI (pR (sI (opn h a e mc.toInt f) 1720 a (w32 (fI (opn h a e mc.toInt f) 1720 a + 1))) e (ll h a).length x) 1728 a ((ll h a).length + 1 : Nat))) ?_ (fun O hO => ?_)
  · refine b_J2_add_0 (d' := d - 1) (Q1 := fun O => O = (.inl none, sI (pR (sI (opn h a e mc.toInt f) 1720 a (w32 (fI (opn h a e mc.toInt f) 1720 a + 1))) e (ll h a).length x) 1728 a ((ll h a).length + 1 : Nat))) opn_k ?_ (by omega) (fun O hO => ?_)
    · rw [opn_ed, opn_sz]
      refine b_J2_add_2_0 (by rw [kd_sI]; exact ke) (fun _ => ?_) (fun z => by rw [an_sI, ae] at z; omega)
      refine b_J2_add_2_11 hG (by rw [kd_sI]; exact ke) (by omega) (by rw [an_sI, ae]; omega) (om_obj_opn (mc := mc.toInt) (f := f) ha (fun _ => o6) hx) (by rw [kd_sI]; exact opn_k) ?_
      rw [ew, Int.toNat_natCast]
    · subst hO
      exact b_J2_add_23 rfl
  · subst hO
    refine ⟨_, q, rfl, rfl, rfl, fun _ => om_rng_sL V.1 (by omega), fun H hH => om_close (a := a) (e := e) hH rfl ⟨opn_k (mc := mc.toInt) (f := f), ha, ?_, ?_, by omega, Or.inr ⟨o1, o2, ?_, ke, o6, ae, fun j y hy => ?_⟩, fun b hb hk => ?_⟩⟩
    · rw [ll_sL, if_pos rfl, fI_sI, if_pos ⟨rfl, rfl⟩, hlen]
    · rw [fR_sI, fR_pR, fR_sI, opn_ed]
    · rw [ll_sL, if_pos rfl, hlen]
      show (ll h a).length + 1 ≤ lc h a
      omega
    · rw [ll_sL, if_pos rfl] at hy
      have hj := (List.getElem?_eq_some_iff.mp hy).1
      rw [hlen] at hj
      by_cases c : j = (ll h a).length
      · rw [c, List.getElem?_append_right (Nat.le_refl _), Nat.sub_self] at hy
        have hy : x = y := by simpa using hy
        rw [aR_sI, aR_pR, if_pos ⟨rfl, c⟩]
        exact hy
      · rw [List.getElem?_append_left (by omega)] at hy
        rw [aR_sI, aR_pR, if_neg (fun z => c z.2), aR_sI, aR_opn, if_pos ⟨rfl, o1⟩]
        exact o9 j y hy
    · have hk : kd h b ≠ 0 := hk
      have hbe : ¬ (b = e ∧ 0 < lc h a) := fun z => hk (by rw [z.1]; exact o6)
      refine ⟨by rw [kd_sI, kd_pR, kd_sI, kd_opn, if_neg hb, if_neg hbe]; rfl, fun g => ⟨by rw [fI_sI, if_neg (fun z => hb z.2), fI_pR, fI_sI, if_neg (fun z => hb z.2), fI_opn, if_neg (fun z => hb z.1), if_neg (fun z => hb z.1)]; rfl, by rw [fR_sI, fR_pR, fR_sI, fR_opn, if_neg (fun z => hb z.1)]; rfl⟩, by rw [an_sI, an_pR, an_sI, an_opn, if_neg hbe]; rfl, fun i => ⟨rfl, by rw [aR_sI, aR_pR, if_neg (fun z => hbe ⟨z.1, o1⟩), aR_sI, aR_opn, if_neg hbe]; rfl⟩, by rw [ll_sL, if_neg hb]; rfl, rfl⟩
end OM47
