set_option maxRecDepth 100000
/-! ALL TERMS TOGETHER, in the component (2): insts, the end -/
section LME2
variable {G : om_G} {hM : om_H} {N : List (List Int)} {cl : Nat → Nat} {tb l0 pv Lp te s tm m0 pr : Nat} {us fs : List Nat} {rest : List (Nat × List Nat)} {l2 : Int}
/-- lines -/
theorem c_ms165 (P : TvP G hM N cl tb l0 us fs rest pv Lp te s) (Mn : MnP hM m0 tm te pr) {i : Nat} {l4 : Int} (hi : i < hz hM ∧ kd hM i = 21) (hL : LsP hM tb Lp (fR hM 1326 i)) {lens : List Nat} (hlen : (ll hM (fR hM 1326 i)).length = lens.length) (h9 : lens.length < 100000) (HF : ∀ (k f len : Nat), (ll hM (fR hM 1326 i))[k]? = some f → lens[k]? = some len → (f < hz hM ∧ kd hM f = 23) ∧ LenP G N cl tb l0 us fs rest pv Lp te s tm m0 hM (fR hM 1286 i) (fR hM 78 pr) (fR hM 1366 f) 0 (fR hM 1370 f) len) : ∀ (l : List Nat) (k S c : Nat) (h : om_H), lens.drop k = l → k ≤ lens.length → TvP G h N cl tb l0 us fs rest pv Lp te s → KM N cl tb l0 pv Lp s tm rest us fs hM h → smR S c → ∃ (c' : Nat) (h' : om_H), om_loop (C_0_measure_165s G m0 pr l2 l4 i) ((c : Int), (k : Int), h) = some (.inl ((c' : Int), h')) ∧ TvP G h' N cl tb l0 us fs rest pv Lp te s ∧ KM N cl tb l0 pv Lp s tm rest us fs hM h' ∧ smR (S + l.sum) c'
  | [], k, S, c, h, el, hk, Ph, A, Sm => by
    have kl : lens.length ≤ k := List.drop_eq_nil_iff.mp el
    have ei := KM_eq P Mn.2.1.2 A hi.1 (by omega)
    have ki : kd h i = 21 := by rw [ei.1]; exact hi.2
    have eL := KM_ll P Mn.2.1.2 A hL.1.1 hL.1.2 hL.2.1 hL.2.2
    have kL : kd h (fR hM 1326 i) = 42 := by rw [eL.1]; exact hL.1.2
    refine ⟨c, h, om_loop_out ?_, Ph, A, Sm⟩
    unfold C_0_measure_165s P_J2_size
    simp only
    rw [ei.2.2.1, gd_pos ⟨ki, kL⟩, gd_pos kL, Option.bind_some, eL.2.2.2.2.2.2.1, if_pos (by omega)]
  | len :: l, k, S, c, h, el, hk, Ph, A, Sm => by
    have kl : k < lens.length := Classical.byContradiction (fun z => by
      rw [List.drop_eq_nil_iff.mpr (by omega)] at el
      cases el)
    have ek := List.drop_eq_getElem_cons kl
    rw [el] at ek
    injection ek with ek1 ek2
    have er : lens[k]? = some len := by rw [List.getElem?_eq_getElem kl, ek1]
    have ed : (ll hM (fR hM 1326 i))[k]? = some ((ll hM (fR hM 1326 i))[k]'(by omega)) := List.getElem?_eq_getElem (by omega)
    generalize (ll hM (fR hM 1326 i))[k]'(by omega) = f at ed
    obtain ⟨⟨f1, f2⟩, len9, run⟩ := HF k f len ed er
    obtain ⟨⟨km, f66⟩, kt, ⟨kp, fp⟩⟩ := Mn_at P Mn A
    have ei := KM_eq P Mn.2.1.2 A hi.1 (by omega)
    have ki : kd h i = 21 := by rw [ei.1]; exact hi.2
    have eL := KM_ll P Mn.2.1.2 A hL.1.1 hL.1.2 hL.2.1 hL.2.2
    have kL : kd h (fR hM 1326 i) = 42 := by rw [eL.1]; exact hL.1.2
    have ef := KM_eq P Mn.2.1.2 A f1 (by omega)
    rw [List.sum_cons]
    by_cases ov : 60000 < c
    · refine ⟨c, h, om_loop_out ?_, Ph, A, smR_over Sm ov _⟩
      unfold C_0_measure_165s P_J2_size
      simp only
      rw [ei.2.2.1, gd_pos ⟨ki, kL⟩, gd_pos kL, Option.bind_some, eL.2.2.2.2.2.2.1, if_neg (by omega), if_pos (by omega)]
    · obtain ⟨n, h', r1, r2, r3, r4, r5, r6⟩ := run h Ph A
      have Sm' := smR_add Sm (by omega) len9 r4 r5 r6
      obtain ⟨c', h2, g1, g2, g3, g4⟩ := c_ms165 P Mn hi hL hlen h9 HF l (k + 1) (S + len) (c + n) h' ek2.symm (by omega) r2 r3 Sm'
      refine ⟨c', h2, ?_, g2, g3, by rw [← Nat.add_assoc]; exact g4⟩
      rw [← g1]
      refine om_loop_in ?_
      have c3 := Sm'.2.2
      have w1 : w32 ((c : Int) + (n : Int)) = ((c + n : Nat) : Int) := (w32_s (by omega) (by omega)).trans (by omega)
      have w2 : w32 ((k : Int) + 1) = ((k + 1 : Nat) : Int) := (w32_s (by omega) (by omega)).trans (by omega)
      have kf : kd h f = 23 := by rw [ef.1]; exact f2
      have km' : kd (hTm h tm (fR hM 1286 i) (fR hM 78 pr) (fR hM 1366 f) 0 (fR hM 1370 f)) m0 = 1 := km
      unfold C_0_measure_165s P_J2_size P_J2_get C_0_lineOf
      simp only
      rw [ei.2.2.1, gd_pos ⟨ki, kL⟩, gd_pos kL, Option.bind_some, eL.2.2.2.2.2.2.1, if_neg (by omega), if_neg (by omega), gd_pos ⟨ki, kL⟩, gd_pos ⟨kL, by omega⟩, show ((k : Int)).toNat = k by omega, ed, Option.bind_some, gd_pos ⟨.inr kf, km⟩, f66, gd_pos ⟨km, ki, kp, kf, kt⟩, ei.2.2.1, fp, ef.2.2.1, ef.2.2.1, c_12 kt, Option.bind_some, Option.bind_some]
      show gd (kd (hTm h tm (fR hM 1286 i) (fR hM 78 pr) (fR hM 1366 f) 0 (fR hM 1370 f)) m0 = 1) (xc (C_0_length G m0 tm 60000 (hTm h tm (fR hM 1286 i) (fR hM 78 pr) (fR hM 1366 f) 0 (fR hM 1370 f))) _ _) = _
      rw [gd_pos km', r1, xc_v, w1, w2]
/-- the terms of an inst -/
def InsL (G : om_G) (N : List (List Int)) (cl : Nat → Nat) (tb l0 : Nat) (us fs : List Nat) (rest : List (Nat × List Nat)) (pv Lp te s tm m0 pr : Nat) (hM : om_H) (i : Nat) (v : Nat × List Nat) : Prop := (i < hz hM ∧ kd hM i = 21) ∧ LsP hM tb Lp (fR hM 1326 i) ∧ ((ll hM (fR hM 1326 i)).length = v.2.length ∧ v.2.length < 100000) ∧ (∀ (k f len : Nat), (ll hM (fR hM 1326 i))[k]? = some f → v.2[k]? = some len → (f < hz hM ∧ kd hM f = 23) ∧ LenP G N cl tb l0 us fs rest pv Lp te s tm m0 hM (fR hM 1286 i) (fR hM 78 pr) (fR hM 1366 f) 0 (fR hM 1370 f) len) ∧ ((fR hM 1334 i = 0 ∧ v.1 = 0) ∨ (fR hM 1334 i ≠ 0 ∧ LenP G N cl tb l0 us fs rest pv Lp te s tm m0 hM (fR hM 1286 i) (fR hM 78 pr) 0 (fR hM 1334 i) (fR hM 1318 i) v.1))
/-- insts; 1334 of an inst stands too -/
theorem c_ms84 (P : TvP G hM N cl tb l0 us fs rest pv Lp te s) (Mn : MnP hM m0 tm te pr) (hL : LsP hM tb Lp (fR hM 86 pr)) {vs : List (Nat × List Nat)} (hlen : (ll hM (fR hM 86 pr)).length = vs.length) (h9 : vs.length < 100000) (HI : ∀ (k i : Nat) (v : Nat × List Nat), (ll hM (fR hM 86 pr))[k]? = some i → vs[k]? = some v → InsL G N cl tb l0 us fs rest pv Lp te s tm m0 pr hM i v) : ∀ (l : List (Nat × List Nat)) (k S c : Nat) (h : om_H), vs.drop k = l → k ≤ vs.length → TvP G h N cl tb l0 us fs rest pv Lp te s → KM N cl tb l0 pv Lp s tm rest us fs hM h → smR S c → ∃ (c' : Nat) (h' : om_H), om_loop (C_0_measure_84s G m0 pr l2) ((c : Int), (k : Int), h) = some (.inl ((c' : Int), h')) ∧ TvP G h' N cl tb l0 us fs rest pv Lp te s ∧ KM N cl tb l0 pv Lp s tm rest us fs hM h' ∧ smR (S + (l.map (fun v => v.1 + v.2.sum)).sum) c'
  | [], k, S, c, h, el, hk, Ph, A, Sm => by
    have kl : vs.length ≤ k := List.drop_eq_nil_iff.mp el
    obtain ⟨_, _, ⟨kp, fp⟩⟩ := Mn_at P Mn A
    have eL := KM_ll P Mn.2.1.2 A hL.1.1 hL.1.2 hL.2.1 hL.2.2
    have kL : kd h (fR hM 86 pr) = 42 := by rw [eL.1]; exact hL.1.2
    refine ⟨c, h, om_loop_out ?_, Ph, A, Sm⟩
    unfold C_0_measure_84s P_J2_size
    simp only
    rw [fp, gd_pos ⟨kp, kL⟩, gd_pos kL, Option.bind_some, eL.2.2.2.2.2.2.1, if_pos (by omega)]
  | v :: l, k, S, c, h, el, hk, Ph, A, Sm => by
    have kl : k < vs.length := Classical.byContradiction (fun z => by
      rw [List.drop_eq_nil_iff.mpr (by omega)] at el
      cases el)
    have ek := List.drop_eq_getElem_cons kl
    rw [el] at ek
    injection ek with ek1 ek2
    have er : vs[k]? = some v := by rw [List.getElem?_eq_getElem kl, ek1]
    have ed : (ll hM (fR hM 86 pr))[k]? = some ((ll hM (fR hM 86 pr))[k]'(by omega)) := List.getElem?_eq_getElem (by omega)
    generalize (ll hM (fR hM 86 pr))[k]'(by omega) = i at ed
    obtain ⟨hi, hLi, ⟨vl, v9⟩, HF, Dd⟩ := HI k i v ed er
    obtain ⟨⟨km, f66⟩, kt, ⟨kp, fp⟩⟩ := Mn_at P Mn A
    have ei := KM_eq P Mn.2.1.2 A hi.1 (by omega)
    have ki : kd h i = 21 := by rw [ei.1]; exact hi.2
    have eL := KM_ll P Mn.2.1.2 A hL.1.1 hL.1.2 hL.2.1 hL.2.2
    have kL : kd h (fR hM 86 pr) = 42 := by rw [eL.1]; exact hL.1.2
    have w2 : w32 ((k : Int) + 1) = ((k + 1 : Nat) : Int) := (w32_s (by omega) (by omega)).trans (by omega)
    rw [List.map_cons, List.sum_cons]
    by_cases ov : 60000 < c
    · refine ⟨c, h, om_loop_out ?_, Ph, A, smR_over Sm ov _⟩
      unfold C_0_measure_84s P_J2_size
      simp only
      rw [fp, gd_pos ⟨kp, kL⟩, gd_pos kL, Option.bind_some, eL.2.2.2.2.2.2.1, if_neg (by omega), if_pos (by omega)]
    · -- its lines
      have ln : ∀ (c1 S1 : Nat) (h1 : om_H), TvP G h1 N cl tb l0 us fs rest pv Lp te s → KM N cl tb l0 pv Lp s tm rest us fs hM h1 → smR S1 c1 → ∃ (c2 : Nat) (h2 : om_H), C_0_measure_162 G m0 pr l2 (c1 : Int) (k : Int) i h1 = some (.inl ((c2 : Int), ((k + 1 : Nat) : Int), h2)) ∧ TvP G h2 N cl tb l0 us fs rest pv Lp te s ∧ KM N cl tb l0 pv Lp s tm rest us fs hM h2 ∧ smR (S1 + v.2.sum) c2 := fun c1 S1 h1 P1 A1 Sm1 => by
        obtain ⟨c2, h2, g1, g2, g3, g4⟩ := c_ms165 (l2 := l2) (l4 := (k : Int)) P Mn hi hLi vl v9 HF v.2 0 S1 c1 h1 rfl (Nat.zero_le _) P1 A1 Sm1
        have g1' : om_loop (C_0_measure_165s G m0 pr l2 (k : Int) i) ((c1 : Int), 0, h1) = some (.inl ((c2 : Int), h2)) := g1
        refine ⟨c2, h2, ?_, g2, g3, g4⟩
        unfold C_0_measure_162
        rw [g1', Option.bind_some]
        show some (Sum.inl ((c2 : Int), w32 ((k : Int) + 1), h2)) = _
        rw [w2]
      have st : ∃ (c2 : Nat) (h2 : om_H), C_0_measure_84s G m0 pr l2 ((c : Int), (k : Int), h) = some (.inl ((c2 : Int), ((k + 1 : Nat) : Int), h2)) ∧ TvP G h2 N cl tb l0 us fs rest pv Lp te s ∧ KM N cl tb l0 pv Lp s tm rest us fs hM h2 ∧ smR (S + (v.1 + v.2.sum)) c2 := by
        unfold C_0_measure_84s P_J2_size P_J2_get
        simp only
        rw [fp, gd_pos ⟨kp, kL⟩, gd_pos kL, Option.bind_some, eL.2.2.2.2.2.2.1, if_neg (by omega), if_neg (by omega), gd_pos ⟨kp, kL⟩, gd_pos ⟨kL, by omega⟩, show ((k : Int)).toNat = k by omega, ed, Option.bind_some, gd_pos ⟨.inr ki, ki⟩, ei.2.2.1 1334]
        rcases Dd with ⟨d1, d2⟩ | ⟨d1, len9, run⟩
        · rw [if_pos d1, d2, Nat.zero_add]
          exact ln c S h Ph A Sm
        · rw [if_neg d1]
          obtain ⟨n, h', r1, r2, r3, r4, r5, r6⟩ := run h Ph A
          have Sm' := smR_add Sm (by omega) len9 r4 r5 r6
          have c3 := Sm'.2.2
          have w1 : w32 ((c : Int) + (n : Int)) = ((c + n : Nat) : Int) := (w32_s (by omega) (by omega)).trans (by omega)
          obtain ⟨c2, h2, g1, g2, g3, g4⟩ := ln (c + n) (S + v.1) h' r2 r3 Sm'
          have km' : kd (hTm h tm (fR hM 1286 i) (fR hM 78 pr) 0 (fR hM 1334 i) (fR hM 1318 i)) m0 = 1 := km
          refine ⟨c2, h2, ?_, g2, g3, by rw [← Nat.add_assoc]; exact g4⟩
          rw [f66, gd_pos ⟨km, ki, kp, kt⟩, ei.2.2.1 1286, fp 78, ei.2.2.1 1318, c_12 kt, Option.bind_some]
          show gd (kd (hTm h tm (fR hM 1286 i) (fR hM 78 pr) 0 (fR hM 1334 i) (fR hM 1318 i)) m0 = 1) (xc (C_0_length G m0 tm 60000 (hTm h tm (fR hM 1286 i) (fR hM 78 pr) 0 (fR hM 1334 i) (fR hM 1318 i))) _ _) = _
          rw [gd_pos km', r1, xc_v, w1]
          exact g1
      obtain ⟨c2, h2, st1, P2, A2, Sm2⟩ := st
      obtain ⟨c', h3, g1, g2, g3, g4⟩ := c_ms84 P Mn hL hlen h9 HI l (k + 1) _ c2 h2 ek2.symm (by omega) P2 A2 Sm2
      refine ⟨c', h3, by rw [om_loop_in st1]; exact g1, g2, g3, ?_⟩
      rw [← Nat.add_assoc]
      exact g4
end LME2
