set_option maxRecDepth 100000
/-! ALL TERMS TOGETHER, in the component: C_0_measure -/
/-- a sum, exact up to 60000 -/
def smR (S c : Nat) : Prop := (S ≤ 60000 → c = S) ∧ (60000 < S → 60000 < c) ∧ c < 2000000000
/-- a Term made anew -/
noncomputable def hTm (h : om_H) (tm a b c d e : Nat) : om_H := sR (sR (sR (sR (sR h 378 tm a) 382 tm b) 386 tm c) 390 tm d) 394 tm e
/-- a term of a known length -/
def LenP (G : om_G) (N : List (List Int)) (cl : Nat → Nat) (tb l0 : Nat) (us fs : List Nat) (rest : List (Nat × List Nat)) (pv Lp te s tm m0 : Nat) (hM : om_H) (a b c d e len : Nat) : Prop := len < 1000000000 ∧ ∀ h, TvP G h N cl tb l0 us fs rest pv Lp te s → KM N cl tb l0 pv Lp s tm rest us fs hM h → ∃ (n : Nat) (h' : om_H), C_0_length G m0 tm 60000 (hTm h tm a b c d e) = some (.inr (n : Int), h') ∧ TvP G h' N cl tb l0 us fs rest pv Lp te s ∧ KM N cl tb l0 pv Lp s tm rest us fs hM h' ∧ (len ≤ 60000 → n = len) ∧ (60000 < len → 60000 < n) ∧ n ≤ len
theorem smR_add {S c n len : Nat} (H : smR S c) (hc : c ≤ 60000) (hl : len < 1000000000) (a1 : len ≤ 60000 → n = len) (a2 : 60000 < len → 60000 < n) (a3 : n ≤ len) : smR (S + len) (c + n) := by
  obtain ⟨h1, h2, h3⟩ := H
  have hS : S ≤ 60000 := Classical.byContradiction (fun z => by have := h2 (by omega); omega)
  have e := h1 hS
  refine ⟨fun w => ?_, fun w => ?_, by omega⟩
  · have := a1 (by omega)
    omega
  · by_cases q : len ≤ 60000
    · have := a1 q
      omega
    · have := a2 (by omega)
      omega
theorem smR_over {S c : Nat} (H : smR S c) (hc : 60000 < c) (r : Nat) : smR (S + r) c := by
  obtain ⟨h1, h2, h3⟩ := H
  have hS : 60000 < S := Classical.byContradiction (fun z => by have := h1 (by omega); omega)
  exact ⟨fun w => by omega, fun _ => hc, h3⟩
section LME
variable {G : om_G} {hM : om_H} {N : List (List Int)} {cl : Nat → Nat} {tb l0 pv Lp te s tm m0 pr : Nat} {us fs : List Nat} {rest : List (Nat × List Nat)} {l2 : Int}
/-- the main object, the program -/
def MnP (hM : om_H) (m0 tm te pr : Nat) : Prop := (m0 < hz hM ∧ kd hM m0 = 1 ∧ fR hM 66 m0 = tm ∧ fR hM 54 m0 = te) ∧ (tm < hz hM ∧ kd hM tm = 13) ∧ (pr < hz hM ∧ kd hM pr = 2)
theorem c_12 {h : om_H} {a b c d e : Nat} (k : kd h tm = 13) : C_12_is G tm a b c d e h = some (tm, hTm h tm a b c d e) := by
  unfold C_12_is
  rw [gd_pos k]
  rfl
theorem Mn_at (P : TvP G hM N cl tb l0 us fs rest pv Lp te s) (Mn : MnP hM m0 tm te pr) {h : om_H} (A : KM N cl tb l0 pv Lp s tm rest us fs hM h) : (kd h m0 = 1 ∧ fR h 66 m0 = tm) ∧ kd h tm = 13 ∧ (kd h pr = 2 ∧ ∀ f, fR h f pr = fR hM f pr) := by
  obtain ⟨⟨a1, a2, a3, a4⟩, ⟨b1, b2⟩, ⟨c1, c2⟩⟩ := Mn
  have e1 := KM_eq P b2 A a1 (by omega)
  have e2 := KM_eq P b2 A c1 (by omega)
  exact ⟨⟨by rw [e1.1]; exact a2, by rw [e1.2.2.1]; exact a3⟩, by rw [A.1.2.2.1 tm b1]; exact b2, by rw [e2.1]; exact c2, e2.2.2.1⟩
/-- a list that stands -/
def LsP (hM : om_H) (tb Lp L : Nat) : Prop := (L < hz hM ∧ kd hM L = 42) ∧ L ≠ fR hM 122 tb ∧ L ≠ Lp
/-- functions -/
theorem c_ms5 (P : TvP G hM N cl tb l0 us fs rest pv Lp te s) (Mn : MnP hM m0 tm te pr) (hL : LsP hM tb Lp (fR hM 90 pr)) {lens : List Nat} (hlen : (ll hM (fR hM 90 pr)).length = lens.length) (h9 : lens.length < 100000) (HF : ∀ (k f len : Nat), (ll hM (fR hM 90 pr))[k]? = some f → lens[k]? = some len → (f < hz hM ∧ kd hM f = 33) ∧ LenP G N cl tb l0 us fs rest pv Lp te s tm m0 hM (fR hM 1542 f) (fR hM 78 pr) (fR hM 1554 f) 0 (fR hM 1550 f) len) : ∀ (l : List Nat) (k S c : Nat) (h : om_H), lens.drop k = l → k ≤ lens.length → TvP G h N cl tb l0 us fs rest pv Lp te s → KM N cl tb l0 pv Lp s tm rest us fs hM h → smR S c → ∃ (c' : Nat) (h' : om_H), om_loop (C_0_measure_5s G m0 pr l2) ((c : Int), (k : Int), h) = some (.inl ((c' : Int), h')) ∧ TvP G h' N cl tb l0 us fs rest pv Lp te s ∧ KM N cl tb l0 pv Lp s tm rest us fs hM h' ∧ smR (S + l.sum) c'
  | [], k, S, c, h, el, hk, Ph, A, Sm => by
    have kl : lens.length ≤ k := List.drop_eq_nil_iff.mp el
    obtain ⟨_, _, ⟨kp, fp⟩⟩ := Mn_at P Mn A
    have eL := KM_ll P Mn.2.1.2 A hL.1.1 hL.1.2 hL.2.1 hL.2.2
    have kL : kd h (fR hM 90 pr) = 42 := by rw [eL.1]; exact hL.1.2
    refine ⟨c, h, om_loop_out ?_, Ph, A, Sm⟩
    unfold C_0_measure_5s P_J2_size
    simp only
    rw [fp, gd_pos ⟨kp, kL⟩, gd_pos kL, Option.bind_some, eL.2.2.2.2.2.2.1, if_pos (by omega)]
  | len :: l, k, S, c, h, el, hk, Ph, A, Sm => by
    have kl : k < lens.length := Classical.byContradiction (fun z => by
      rw [List.drop_eq_nil_iff.mpr (by omega)] at el
      cases el)
    have ek := List.drop_eq_getElem_cons kl
    rw [el] at ek
    injection ek with ek1 ek2
    have er : lens[k]? = some len := by rw [List.getElem?_eq_getElem kl, ek1]
    have ed : (ll hM (fR hM 90 pr))[k]? = some ((ll hM (fR hM 90 pr))[k]'(by omega)) := List.getElem?_eq_getElem (by omega)
    generalize (ll hM (fR hM 90 pr))[k]'(by omega) = f at ed
    obtain ⟨⟨f1, f2⟩, len9, run⟩ := HF k f len ed er
    obtain ⟨⟨km, f66⟩, kt, ⟨kp, fp⟩⟩ := Mn_at P Mn A
    have eL := KM_ll P Mn.2.1.2 A hL.1.1 hL.1.2 hL.2.1 hL.2.2
    have kL : kd h (fR hM 90 pr) = 42 := by rw [eL.1]; exact hL.1.2
    have ef := KM_eq P Mn.2.1.2 A f1 (by omega)
    rw [List.sum_cons]
    by_cases ov : 60000 < c
    · refine ⟨c, h, om_loop_out ?_, Ph, A, smR_over Sm ov _⟩
      unfold C_0_measure_5s P_J2_size
      simp only
      rw [fp, gd_pos ⟨kp, kL⟩, gd_pos kL, Option.bind_some, eL.2.2.2.2.2.2.1, if_neg (by omega), if_pos (by omega)]
    · obtain ⟨n, h', r1, r2, r3, r4, r5, r6⟩ := run h Ph A
      have Sm' := smR_add Sm (by omega) len9 r4 r5 r6
      obtain ⟨c', h2, g1, g2, g3, g4⟩ := c_ms5 P Mn hL hlen h9 HF l (k + 1) (S + len) (c + n) h' ek2.symm (by omega) r2 r3 Sm'
      refine ⟨c', h2, ?_, g2, g3, by rw [← Nat.add_assoc]; exact g4⟩
      rw [← g1]
      refine om_loop_in ?_
      have c3 := Sm'.2.2
      have w1 : w32 ((c : Int) + (n : Int)) = ((c + n : Nat) : Int) := (w32_s (by omega) (by omega)).trans (by omega)
      have w2 : w32 ((k : Int) + 1) = ((k + 1 : Nat) : Int) := (w32_s (by omega) (by omega)).trans (by omega)
      have kf : kd h f = 33 := by rw [ef.1]; exact f2
      have km' : kd (hTm h tm (fR hM 1542 f) (fR hM 78 pr) (fR hM 1554 f) 0 (fR hM 1550 f)) m0 = 1 := km
      unfold C_0_measure_5s P_J2_size P_J2_get
      simp only
      rw [fp, fp, gd_pos ⟨kp, kL⟩, gd_pos kL, Option.bind_some, eL.2.2.2.2.2.2.1, if_neg (by omega), if_neg (by omega), gd_pos ⟨kp, kL⟩, gd_pos ⟨kL, by omega⟩, show ((k : Int)).toNat = k by omega, ed, Option.bind_some, f66, gd_pos ⟨.inr kf, km, kf, kp, kt⟩, ef.2.2.1, ef.2.2.1, ef.2.2.1, c_12 kt, Option.bind_some]
      show gd (kd (hTm h tm (fR hM 1542 f) (fR hM 78 pr) (fR hM 1554 f) 0 (fR hM 1550 f)) m0 = 1) (xc (C_0_length G m0 tm 60000 (hTm h tm (fR hM 1542 f) (fR hM 78 pr) (fR hM 1554 f) 0 (fR hM 1550 f))) _ _) = _
      rw [gd_pos km', r1, xc_v, w1, w2]
end LME
