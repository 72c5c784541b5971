set_option maxRecDepth 100000
/-! ALL TERMS TOGETHER, in the component (3): the end -/
section LME3
variable {G : om_G} {hM : om_H} {N : List (List Int)} {cl : Nat → Nat} {tb l0 pv Lp te s tm m0 pr : Nat} {us fs : List Nat} {rest : List (Nat × List Nat)} {l2 : Int}
/-- ALL TERMS ARE MEASURED: a fault when they are too long -/
theorem c_measure (nd : ndN N) (P : TvP G hM N cl tb l0 us fs rest pv Lp te s) (Mn : MnP hM m0 tm te pr) (hL : LsP hM tb Lp (fR hM 90 pr)) (hL' : LsP hM tb Lp (fR hM 86 pr)) {lens : List Nat} {vs : List (Nat × List Nat)} (hlen : (ll hM (fR hM 90 pr)).length = lens.length) (h9 : lens.length < 100000) (HF : ∀ (k f len : Nat), (ll hM (fR hM 90 pr))[k]? = some f → lens[k]? = some len → (f < hz hM ∧ kd hM f = 33) ∧ LenP G N cl tb l0 us fs rest pv Lp te s tm m0 hM (fR hM 1542 f) (fR hM 78 pr) (fR hM 1554 f) 0 (fR hM 1550 f) len) (hlen' : (ll hM (fR hM 86 pr)).length = vs.length) (h9' : vs.length < 100000) (HI : ∀ (k i : Nat) (v : Nat × List Nat), (ll hM (fR hM 86 pr))[k]? = some i → vs[k]? = some v → InsL G N cl tb l0 us fs rest pv Lp te s tm m0 pr hM i v) : (lens.sum + (vs.map (fun v => v.1 + v.2.sum)).sum ≤ 60000 → ∃ h', C_0_measure G m0 pr l2 hM = some (.inr (), h') ∧ TvP G h' N cl tb l0 us fs rest pv Lp te s ∧ KM N cl tb l0 pv Lp s tm rest us fs hM h') ∧ (60000 < lens.sum + (vs.map (fun v => v.1 + v.2.sum)).sum → ∃ (h1 h' : om_H), C_0_measure G m0 pr l2 hM = some (.inl (hz h1), h') ∧ flt h' (hz h1) 8 l2 ∧ TvP G h1 N cl tb l0 us fs rest pv Lp te s ∧ KM N cl tb l0 pv Lp s tm rest us fs hM h1 ∧ KF N cl tb l0 rest h1 us fs h' us fs 0 1 8 ∧ ∀ a, a < hz h1 → eqA a h1 h') := by
  have S0 : smR 0 0 := ⟨fun _ => rfl, fun z => by omega, by omega⟩
  obtain ⟨c1, h1, a1, a2, a3, a4⟩ := c_ms5 (l2 := l2) P Mn hL hlen h9 HF lens 0 0 0 hM rfl (Nat.zero_le _) P KM_refl S0
  have a1' : om_loop (C_0_measure_5s G m0 pr l2) (0, 0, hM) = some (.inl ((c1 : Int), h1)) := a1
  obtain ⟨c2, h2, b1, b2, b3, b4⟩ := c_ms84 (l2 := l2) P Mn hL' hlen' h9' HI vs 0 _ c1 h1 rfl (Nat.zero_le _) a2 a3 a4
  have b1' : om_loop (C_0_measure_84s G m0 pr l2) ((c1 : Int), 0, h1) = some (.inl ((c2 : Int), h2)) := b1
  rw [Nat.zero_add] at b4
  obtain ⟨s1, s2, s3⟩ := b4
  have st : C_0_measure G m0 pr l2 hM = C_0_measure_227 G l2 (c2 : Int) h2 := by
    unfold C_0_measure
    rw [a1', Option.bind_some]
    show C_0_measure_81 G m0 pr l2 (c1 : Int) h1 = _
    unfold C_0_measure_81
    rw [b1', Option.bind_some]
    rfl
  rw [st]
  refine ⟨fun w => ⟨h2, ?_, b2, b3⟩, fun w => ?_⟩
  · have := s1 w
    unfold C_0_measure_227
    rw [if_pos (by omega)]
  · have := s2 w
    obtain ⟨T, ⟨k9, l9, _⟩, _⟩ := id b2
    obtain ⟨h', f1, f2, f3, f4, f5, f6, f7⟩ := c_fault T nd ⟨k9, l9⟩ 8 l2
    refine ⟨h2, h', ?_, f4, b2, b3, f6, f7⟩
    unfold C_0_measure_227
    rw [if_neg (by omega), gd_pos f2, f1, Option.bind_some, gd_pos f3]
end LME3
