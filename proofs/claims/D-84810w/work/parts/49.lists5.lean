set_option maxRecDepth 100000
section OM51
variable {G : om_G} {d : Nat} {h : om_H} {Q : om_O → Prop}
theorem shr32_1 {n : Nat} (hn : n < 2 ^ 31) : shr32 (n : Int) 1 = ((n / 2 : Nat) : Int) := by
  unfold shr32
  have k := pk_shrN (n := n) hn (Int32.ofInt 1 &&& 31) 1 (by decide)
  have e : Int32.ofInt (n : Int) = nI n := rfl
  rw [e, k, nI_toInt (by omega)]
/-- what a full list's array grows to -/
def om_cap (n : Nat) : Nat := n + (if 1 < n / 2 then n / 2 else 1)
theorem c_newLength {n : Nat} (hd : 1 ≤ d) (h0 : 0 < n) (hn : n ≤ 300000) (q : Q (.inl (some (vI (om_cap n))), h)) : OK G d m_J11_newLength 0 [some (vI n), some (vI 1), some (vI ((n / 2 : Nat) : Int)), none] [] h Q := by
  have e1 : w32 ((n : Int) + (if (1 : Int) < ((n / 2 : Nat) : Int) then ((n / 2 : Nat) : Int) else 1)) = (om_cap n : Int) := by
    unfold om_cap
    by_cases c : 1 < n / 2
    · rw [if_pos (by omega), if_pos c, w32_eq (by omega) (by omega)]
      omega
    · rw [if_neg (by omega), if_neg c, w32_eq (by omega) (by omega)]
      omega
  have hc : 0 < om_cap n ∧ om_cap n ≤ 600001 := by
    unfold om_cap
    split <;> omega
  refine b_J11_newLength_0 hd (fun z => ?_) (fun _ => ?_)
  · rw [e1] at z
    omega
  · rw [e1]
    exact b_J11_newLength_13 (fun z => by omega) (fun _ => b_J11_newLength_19 q)
/-- add(x), the array is full: a greater one is made -/
theorem c_addG {a x : Nat} (hG : om_okG G) (hd : 7 ≤ d) (ha : kd h a = 42) (h0 : 0 < lc h a) (hr : (ll h a).length = lc h a) (hm : lc h a ≤ 300000) (hx : om_obj G h x) (hel : ∀ y ∈ ll h a, om_obj G h y) (q : Q (.inl (some (vI 1)), gL h a (ll h a ++ [x]) (om_cap (lc h a)) 1 (om_cap (lc h a)))) : OK G d m_J2_add 0 [some (vR a), some (vR x)] [] h Q := by
  refine ok_rng (fun V => ?_)
  have hlen : (ll h a ++ [x]).length = lc h a + 1 := by rw [List.length_append, hr]; rfl
  have hcap : lc h a + 1 ≤ om_cap (lc h a) ∧ om_cap (lc h a) ≤ 600001 := by
    unfold om_cap
    split <;> omega
  have hal := om_lt V.1 (show kd h a ≠ 0 by omega)
  have a0 : a ≠ 0 := fun z => by have := V.1.2.2.2.2.2.1; rw [z, this] at ha; omega
  have hk0 := V.1.2.2.2.2.2.2 (hz h) (Nat.le_refl _)
  refine ok_open hG ha (fun _ => ⟨_, q, om_okI ⟨by decide, by decide⟩, om_rng_gL V.1 a0 (by omega) (by omega), by rw [hz_gL]; omega, by rw [hu_gL]; omega⟩) (fun e mc f ho => ?_)
  rcases ho with ⟨o1, o2, o3⟩ | ⟨o1, o2, o3, o4, o5, o6, o7, o8, o9⟩
  · omega
  generalize hh1 : sI (opn h a e mc.toInt f) 1720 a (w32 (fI (opn h a e mc.toInt f) 1720 a + 1)) = h1
  have k1 : kd h1 a = 41 := by rw [← hh1, kd_sI]; exact opn_k
  have ke : kd h1 e = 61 := by rw [← hh1, kd_sI, kd_opn, if_neg o5, if_pos ⟨rfl, o1⟩]
  have ae : an h1 e = lc h a := by rw [← hh1, an_sI, an_opn, if_pos ⟨rfl, o1⟩]
  have kb : ∀ b, b ≠ a → b ≠ e → kd h1 b = kd h b := fun b hb hb2 => by rw [← hh1, kd_sI, kd_opn, if_neg hb, if_neg (fun z => hb2 z.1)]
  have z1 : hz h1 = hz h := by rw [← hh1]; rfl
  have e1 : fR h1 1726 a = e := by rw [← hh1, fR_sI]; exact opn_ed
  have s1 : fI h1 1728 a = (lc h a : Int) := by rw [← hh1, fI_sI, if_neg (by omega), opn_sz, hr]
  have re : ∀ i, i < lc h a → ∃ y, (ll h a)[i]? = some y ∧ aR h1 e i = y := fun i hi => by
    have hi2 : i < (ll h a).length := by omega
    refine ⟨(ll h a)[i], List.getElem?_eq_getElem hi2, ?_⟩
    rw [← hh1, aR_sI, aR_opn, if_pos ⟨rfl, o1⟩]
    exact o9 _ _ (List.getElem?_eq_getElem hi2)
  have ok1 : ∀ y, om_obj G h y → om_obj G h1 y := fun y hy => om_obj_k (fun b hb hb2 => kb b (fun z => by rw [z, ha] at hb2; omega) (fun z => hb (by rw [z]; exact o6))) hy
  have ew1 : w32 ((lc h a : Int) + 1) = ((lc h a + 1 : Nat) : Int) := by rw [w32_eq] <;> omega
  have ew2 : w32 (((lc h a + 1 : Nat) : Int) - (lc h a : Int)) = 1 := by rw [w32_eq] <;> omega
  have hne : hz h ≠ e := by omega
  generalize hN : om_cap (lc h a) = N at q hcap
  refine ok_endv (Q' := fun O => O = (.inl (some (vI 1)), sI (pR (sR (cpR (nA h1 61 N) e (hz h) (lc h a)) 1726 a (hz h)) (hz h) (lc h a) x) 1728 a ((lc h a + 1 : Nat) : Int))) ?_ (fun O hO => ?_)
  · refine b_J2_add_0 (d' := d - 1) (Q1 := fun O => O = (.inl none, sI (pR (sR (cpR (nA h1 61 N) e (hz h) (lc h a)) 1726 a (hz h)) (hz h) (lc h a) x) 1728 a ((lc h a + 1 : Nat) : Int))) opn_k ?_ (by omega) (fun O hO => ?_)
    · rw [opn_ed, opn_sz, hh1, hr]
      refine b_J2_add_2_0 ke (fun z => absurd (by rw [ae]) z) (fun _ => ?_)
      refine b_J2_add_2_6 (d' := d - 2) (Q1 := fun O => O = (.inl (some (vR (hz h))), sR (cpR (nA h1 61 N) e (hz h) (lc h a)) 1726 a (hz h))) ?_ (by omega) (fun O hO => ?_) k1
      · refine b_J2_grow_0 (d' := d - 3) (Q1 := fun O => O = (.inl (some (vR (hz h))), sR (cpR (nA h1 61 N) e (hz h) (lc h a)) 1726 a (hz h))) k1 ?_ (by omega) (fun O hO => ?_)
        · rw [s1, ew1]
          refine b_J2_grow_2_0 k1 (by rw [e1]; exact ke) (fun _ => ?_) (fun z => by rw [e1, ae] at z; omega)
          rw [e1, ae]
          refine b_J2_grow_2_20 (d' := d - 4) (Q1 := fun O => O = (.inl (some (vI (N : Int))), h1)) ?_ (by omega) (fun O hO => ?_)
          · rw [ew2, shr32_1 (n := lc h a) (by omega)]
            exact c_newLength (by omega) h0 hm (by rw [hN])
          · subst hO
            refine b_J2_grow_2_30 (d' := d - 4) (Q1 := fun O => O = (.inl (some (vR (hz h))), cpR (nA h1 61 N) e (hz h) (lc h a))) k1 ?_ (by omega) (fun O hO => ?_)
            · rw [e1]
              refine c_copyOf hG (by omega) ke (by omega) (by omega) (by rw [ae]; omega) (fun i hi => ?_) (by rw [z1, ae, Int.toNat_natCast])
              obtain ⟨y, y1, y2⟩ := re i (by have h3 : i < an h1 e := hi; rw [ae] at h3; exact h3)
              rw [y2]
              exact ok1 y (hel y (List.mem_of_getElem? y1))
            · subst hO
              refine b_J2_grow_2_40 ?_ rfl
              show kd (nA h1 61 N) a = 41
              rw [kd_nA, if_neg (by rw [z1]; omega)]
              exact k1
        · subst hO
          exact b_J2_grow_10 rfl
      · subst hO
        have kz : kd (sR (cpR (nA h1 61 N) e (hz h) (lc h a)) 1726 a (hz h)) (hz h) = 61 := by
          show kd (nA h1 61 N) (hz h) = 61
          rw [kd_nA, if_pos z1.symm]
        have az : an (sR (cpR (nA h1 61 N) e (hz h) (lc h a)) 1726 a (hz h)) (hz h) = N := by
          show an (nA h1 61 N) (hz h) = N
          rw [an_nA, if_pos z1.symm]
        refine b_J2_add_2_10 (b_J2_add_2_11 hG kz (by omega) (by rw [az]; omega) ?_ ?_ ?_)
        · refine om_obj_k (h1 := h1) (fun b hb hb2 => ?_) (ok1 x hx)
          have hbz : b ≠ hz h1 := fun z => by
            rw [z, z1, kb (hz h) (by omega) hne] at hb
            exact hb hk0
          show kd (nA h1 61 N) b = _
          rw [kd_nA, if_neg hbz]
        · show kd (nA h1 61 N) a = 41
          rw [kd_nA, if_neg (by rw [z1]; omega)]
          exact k1
        · rw [ew1, Int.toNat_natCast]
    · subst hO
      exact b_J2_add_23 rfl
  · subst hO
    have zz : hz (gL h a (ll h a ++ [x]) N 1 N) = hz (sI (pR (sR (cpR (nA h1 61 N) e (hz h) (lc h a)) 1726 a (hz h)) (hz h) (lc h a) x) 1728 a ((lc h a + 1 : Nat) : Int)) := by
      show hz h + 1 = hz h1 + 1
      rw [z1]
    refine ⟨_, q, rfl, zz, ?_, fun _ => om_rng_gL V.1 a0 (by omega) (by omega), fun H hH => om_close (a := a) (e := hz h) hH zz ⟨?_, by rw [kd_gL, if_pos rfl], ?_, ?_, by omega, Or.inr ⟨by rw [lc_gL, if_pos rfl]; omega, by rw [lc_gL, if_pos rfl]; omega, by rw [ll_gL, lc_gL, if_pos rfl, if_pos rfl]; omega, ?_, by rw [kd_gL, if_neg (by omega)]; exact hk0, ?_, fun i y hy => ?_⟩, fun b hb hk => ?_⟩⟩
    · show hu h + N = hu h1 + N
      rw [← hh1]
      rfl
    · show kd (nA h1 61 N) a = 41
      rw [kd_nA, if_neg (by rw [z1]; omega)]
      exact k1
    · rw [ll_gL, if_pos rfl, fI_sI, if_pos ⟨rfl, rfl⟩, hlen]
    · show fR (sR (cpR (nA h1 61 N) e (hz h) (lc h a)) 1726 a (hz h)) 1726 a = _
      rw [fR_sR, if_pos ⟨rfl, rfl⟩]
    · show kd (nA h1 61 N) (hz h) = 61
      rw [kd_nA, if_pos z1.symm]
    · show an (nA h1 61 N) (hz h) = _
      rw [an_nA, if_pos z1.symm, lc_gL, if_pos rfl]
    · rw [ll_gL, if_pos rfl] at hy
      have hj := (List.getElem?_eq_some_iff.mp hy).1
      rw [hlen] at hj
      rw [aR_sI, aR_pR]
      by_cases c : i = lc h a
      · rw [if_pos ⟨rfl, c⟩]
        rw [c, ← hr, List.getElem?_append_right (Nat.le_refl _), Nat.sub_self] at hy
        simpa using hy
      · rw [if_neg (fun z => c z.2)]
        rw [List.getElem?_append_left (by omega)] at hy
        show aR (cpR (nA h1 61 N) e (hz h) (lc h a)) (hz h) i = y
        rw [aR_cpR, if_pos ⟨rfl, by omega⟩, aR_nA, if_neg (by rw [z1]; omega)]
        obtain ⟨y', y1, y2⟩ := re i (by omega)
        rw [y2]
        exact Option.some.inj (y1.symm.trans hy)
    · rw [kd_gL, if_neg hb] at hk
      have hbz : b ≠ hz h1 := fun z => hk (by rw [z, z1]; exact hk0)
      have hbz' : b ≠ hz h := by rw [← z1]; exact hbz
      have hbe : b ≠ e := fun z => hk (by rw [z]; exact o6)
      refine ⟨?_, fun g => ⟨?_, ?_⟩, ?_, fun i => ⟨?_, ?_⟩, ?_, ?_⟩
      · show _ = kd (nA h1 61 N) b
        rw [kd_gL, if_neg hb, kd_nA, if_neg hbz, kb b hb hbe]
      · rw [fI_gL, fI_sI, if_neg (fun z => hb z.2)]
        show _ = fI h1 g b
        rw [← hh1, fI_sI, if_neg (fun z => hb z.2), fI_opn, if_neg (fun z => hb z.1), if_neg (fun z => hb z.1)]
      · show _ = fR (sR (cpR (nA h1 61 N) e (hz h) (lc h a)) 1726 a (hz h)) g b
        rw [fR_gL, fR_sR, if_neg (fun z => hb z.2)]
        show _ = fR h1 g b
        rw [← hh1, fR_sI, fR_opn, if_neg (fun z => hb z.1)]
      · show _ = an (nA h1 61 N) b
        rw [an_gL, an_nA, if_neg hbz, ← hh1, an_sI, an_opn, if_neg (fun z => hbe z.1)]
      · show _ = aI (nA h1 61 N) b i
        rw [aI_gL, aI_nA, if_neg hbz, ← hh1]
        rfl
      · rw [aR_gL, aR_sI, aR_pR, if_neg (fun z => hbz' z.1)]
        show _ = aR (cpR (nA h1 61 N) e (hz h) (lc h a)) b i
        rw [aR_cpR, if_neg (fun z => hbz' z.1), aR_nA, if_neg hbz, ← hh1, aR_sI, aR_opn, if_neg (fun z => hbe z.1)]
      · rw [ll_gL, if_neg hb]
        show _ = ll h1 b
        rw [← hh1]
        rfl
      · rw [lc_gL, if_neg hb]
        show _ = lc h1 b
        rw [← hh1]
        rfl
end OM51
