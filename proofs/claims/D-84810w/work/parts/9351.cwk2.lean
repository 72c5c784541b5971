set_option maxRecDepth 100000
/-! THE COMPONENT works out a type: going on -/
section LCY
variable {G : om_G} {N : List (List Int)} {cl : Nat → Nat} {tb l0 sc : Nat} {rest : List (Nat × List Nat)} {Sl : Nat → Prop} {io : Nat → Nat} {ab : List (Option Nat)} {ins : List INs} {gv : List GVs} {c B f bg Cb : Nat} {r : Nat → Nat → Int → om_H → Option ((Nat ⊕ Nat) × om_H)}
theorem c_innerN {h : om_H} {us : List Nat} {T : Ty} {x : Nat} {pl : Int} (cx : tyC h N cl (UU us rest) T x) (hT : T ≠ .leaf) (hF : ¬ thB T = true) : C_8_inner G r l0 x pl h = some (.inr x, h) := by
  rcases T with ⟨k, w, xu, l, rr⟩ | _
  · obtain ⟨c0, c1, c2, c3, c4, c5, c6, c7, c8⟩ := id cx
    have c7' : fI h 1591 x = thI (.inner k w xu l rr) := c7
    unfold C_8_inner
    rw [gd_pos c1, c7']
    unfold thI
    rw [if_neg hF, if_neg (fun q => q rfl)]
  · exact absurd rfl hT
set_option maxHeartbeats 1000000 in
theorem ck_T (nd : ndN N) (hb : c = 2 → bg ≤ 20) (hc : c = 0 ∨ c = 2) (hB : B ≤ 2700) (hI : insF ins B) (hG : gvF' ins gv) (hGN : gvN gv) (Hr : CkH G N cl tb l0 sc rest Sl io ab ins gv c B f bg (60 + (20 - bg)) r) (IHg : CkT G N cl tb l0 sc rest Sl io ab ins gv c B f bg r) : CkT G N cl tb l0 sc rest Sl io ab ins gv c B (f + 1) bg r := by
  intro s T z h us fs x pl e F cx hT wf ok hZ h60 h300 R
  have k9 := FnC_kd F
  obtain ⟨T0, ⟨⟨f1, f2, f3⟩, f4⟩, _, P, V, g1, g2, g3⟩ := id F
  have hl : ins.length ≤ 100 := by have := P.2.1; omega
  have hN : ∀ d ∈ ins, d.2.2.1.length = pN d.2.1 := fun d hd => by
    obtain ⟨i, hi⟩ := List.getElem?_of_mem hd
    exact (P.2.2 i d hi).1
  have znz : c = 0 → z ≠ none := fun h1 q => by
    obtain ⟨_, u, D, ez, _⟩ := R.2 h1
    rw [q] at ez; cases ez
  have h81 : ∀ m : Nat, c = 2 → (60 + (20 - bg) + 1) * m ≤ 81 * m := fun m h2 => Nat.mul_le_mul_right _ (by have := hb h2; omega)
  unfold wk at e
  -- the parts
  have parts : ∀ z1, (if thB T = true then wkP (wk c ins gv f false bg) s T else some (some (T, s))) = some z1 → CkR N cl rest c B h us fs s z1 → ∃ v h1 us1 fs1, C_8_inner G r l0 x pl h = some (v, h1) ∧ CkO G N cl tb l0 rest c B (60 + (20 - bg) + 1) bg h us fs s z1 pl v h1 us1 fs1 := fun z1 e1 R1 => by
    by_cases hF : thB T = true
    · rw [if_pos hF] at e1
      exact c_innerP nd hc hb hB hI hG Hr pl e1 F cx hT hF wf ok hZ h60 h300 R1
    · rw [if_neg hF] at e1
      have ez : z1 = some (T, s) := (Option.some.inj e1).symm
      refine ⟨.inr x, h, us, fs, c_innerN cx hT hF, fun q => (by rw [ez] at q; cases q), fun u s' q => ⟨x, rfl, ?_⟩⟩
      rw [ez] at q
      injection Option.some.inj q with q1 q2
      subst q1 q2
      refine ⟨T0, cx, g1, fun q => ⟨(g2 q).2, h300, KF_refl⟩, fun D hD X hX => ?_, fun _ => ⟨rfl, rfl, KF_refl⟩⟩
      have : D = [] := by simpa using hD
      rw [this] at hX
      exact absurd hX List.not_mem_nil
  have pext : ∀ v s1, (if thB T = true then wkP (wk c ins gv f false bg) s T else some (some (T, s))) = some (some (v, s1)) → ∃ D d, extW c s s1 D d := fun v s1 e => by
    split at e
    · obtain ⟨D, d, d1, _⟩ := wkP_st (c := c) (Q := fun _ => False) (fun s T u s' e => by
        obtain ⟨D, d, d1, _⟩ := wk_st e
        exact ⟨D, d, d1, fun _ z => z.elim⟩) e
      exact ⟨D, d, d1⟩
    · injection Option.some.inj (Option.some.inj e) with e3 e4
      rw [← e4]
      exact ⟨[], 0, extW_refl s⟩
  cases q : (if thB T = true then wkP (wk c ins gv f false bg) s T else some (some (T, s))) with
  | none => rw [q] at e; cases e
  | some z1 =>
  rw [q, Option.bind_some] at e
  have un : ∀ (v : Nat ⊕ Nat) (h1 : om_H), C_8_inner G r l0 x pl h = some (v, h1) → GoB G r l0 pl x h = xc (some (v, h1)) (fun t h => some (.inr (.inl t, h))) (fun p1 h1 => gd (kd h1 l0 = 9) (xc (C_8_goes G l0 p1 pl h1) (fun t h => some (.inr (.inl t, h))) (fun p2 h2 => om_loop (C_8_worked_65s G r l0 pl) (p1, p2, h2)))) := fun v h1 ei => by
    unfold GoB
    rw [gd_pos k9.1, ei]
  cases z1 with
  | none =>
    have ez : z = none := (Option.some.inj e).symm
    have c2' : c = 2 := by
      rcases hc with h0 | h2
      · exact absurd ez (znz h0)
      · exact h2
    obtain ⟨v, h1, us1, fs1, i1, O1, _⟩ := parts none q ⟨R.1, fun h => by omega⟩
    obtain ⟨a, ea, O⟩ := O1 rfl
    subst ea
    exact ⟨.inr (.inl a, h1), us1, fs1, by rw [un _ _ i1]; rfl, fun _ => .inl ⟨a, h1, rfl, O⟩, fun u s' y => by rw [ez] at y; cases y⟩
  | some p =>
  obtain ⟨v, s1⟩ := p
  obtain ⟨D1, d1, x1⟩ := pext v s1 q
  have s1e : s1.1 = s.1 + d1 := by rw [x1.1]
  have s60 : s1.1 ≤ 60 := by
    by_cases h2 : c = 2
    · rw [s1e]; exact x1.2.2 h2 h60
    · rw [s1e, x1.2.1 h2]; omega
  simp only at e
  have y5 : s1.2.2 = s.2.2 ++ D1 := by rw [x1.1]
  have R1 : CkR N cl rest c B h us fs s (some (v, s1)) := by
    refine ⟨R.1, fun h1 => ⟨(R.2 h1).1, v, D1, by rw [x1.1, x1.2.1 (by omega)]; rfl, fun X hX => ?_⟩⟩
    obtain ⟨_, u, D, ez, hD⟩ := R.2 h1
    refine hD X ?_
    cases qb : gby ins gv v with
    | none =>
      rw [qb] at e
      have ez' := Option.some.inj e
      rw [ez] at ez'
      injection Option.some.inj ez' with y1 y2
      have y3 : s1.2.2 = s.2.2 ++ D := congrArg (fun v : WS => v.2.2) y2
      rw [y5] at y3
      rw [← List.append_cancel_left y3]; exact hX
    | some b =>
      rw [qb] at e
      simp only at e
      rw [if_neg (by omega)] at e
      split at e
      · rw [ez] at e
        obtain ⟨D2, d2, x2, _⟩ := wk_st e
        have y3 : s.2.2 ++ D = _ := congrArg (fun v : WS => v.2.2) x2.1
        rw [if_neg (by omega)] at y3
        have y3' : s.2.2 ++ D = s1.2.2 ++ [gto ins gv b (tL v)] ++ D2 := y3
        rw [y5] at y3'
        have := app_sub (p := []) (y3'.trans (by rw [List.append_assoc]))
        rw [this]
        exact List.mem_append_left _ hX
      · rw [ez] at e; cases e
  obtain ⟨v0, h1, us1, fs1, i1, _, O2⟩ := parts (some (v, s1)) q R1
  obtain ⟨y1, ey, S1⟩ := O2 v s1 rfl
  subst ey
  have K1 := CkS_KF hc S1
  have F1 := CkS_F hc F S1
  have k91 := FnC_kd F1
  obtain ⟨o1, o2, o3, o4, o5, o6⟩ := id S1
  have s300 : s1.2.1 ≤ 300 := by
    by_cases h2 : c = 2
    · exact (o4 h2).2.1
    · have : s1.2.1 = s.2.1 + d1 := by rw [x1.1]
      rw [this, x1.2.1 h2]; omega
  -- what is known of v
  have vk : wfT v ∧ v ≠ .leaf ∧ okF ins v ∧ (thB T = true → tsz (tL v) ≤ 60) := by
    by_cases hF : thB T = true
    · rw [if_pos hF] at q
      obtain ⟨p1, p2, p3, p4, p5⟩ := wkP_tsz (ins := ins) (fun s T u s' h1 h2 h3 h4 e => by
        have := wk_tsz hB hI hG hl hN h1 h2 h3 h4 e
        rwa [if_neg (by decide)] at this) hZ wf hT ok q
      exact ⟨p1, p3, p5, fun _ => p4⟩
    · rw [if_neg hF] at q
      injection Option.some.inj (Option.some.inj q) with e3 e4
      rw [← e3]
      exact ⟨wf, hT, ok, fun z => absurd z hF⟩
  obtain ⟨wv, hv, okv, szv⟩ := vk
  have lens := K1.2.2.2.1
  have hn1 : tl us1 fs1 + B ≤ 149000 := by
    rcases hc with h0 | h2
    · obtain ⟨w1, w2, _⟩ := o6 h0
      rw [w1, w2]
      exact (R.2 h0).1
    · have r1 := R.1 h2
      rw [if_pos h2] at lens
      have w1 := h81 (s1.1 - s.1) h2
      have : 81 * (s1.1 - s.1) ≤ 81 * (60 - s.1) := Nat.mul_le_mul_left _ (by omega)
      omega
  obtain ⟨go0, go1⟩ := c_goes nd hc hI hG hGN F1 o2 hv wv okv s60 s300 hn1 pl
  have un2 : GoB G r l0 pl x h = xc (C_8_goes G l0 y1 pl h1) (fun t h => some (.inr (.inl t, h))) (fun p2 h2 => om_loop (C_8_worked_65s G r l0 pl) (y1, p2, h2)) := by
    rw [un _ _ i1, xc_v, gd_pos k91.1]
  rw [un2]
  cases qb : gby ins gv v with
  | none =>
    rw [qb] at e
    have ez : z = some (v, s1) := (Option.some.inj e).symm
    refine ⟨.inl (y1, h1), us1, fs1, by rw [go0 qb, xc_v]; exact go_end, fun y => (by rw [ez] at y; cases y), fun u s' y => ⟨y1, h1, rfl, ?_⟩⟩
    rw [ez] at y
    injection Option.some.inj y with b1 b2
    subst b1 b2
    exact S1
  | some b =>
  rw [qb] at e
  simp only at e
  obtain ⟨ga1, ga2⟩ := go1 b qb
  have c81 : c = 2 → (if c = 2 then (60 + (20 - bg) + 1) * (s1.1 - s.1) else 0) + 81 * (60 - s1.1) ≤ 81 * (60 - s.1) := fun h2 => by
    rw [if_pos h2]
    have w1 := h81 (s1.1 - s.1) h2
    have := m81 (a := s.1) (b := s1.1) (d := 60) (by omega) s60
    omega
  by_cases hov : c = 2 ∧ (60 < s1.1 + 1 ∨ 300 < s1.2.1 + 1)
  · rw [if_pos hov] at e
    have ez : z = none := (Option.some.inj e).symm
    obtain ⟨a, h2, m1, m2, m3, m4⟩ := ga1 hov
    refine ⟨.inr (.inl a, h2), us1, fs1, by rw [m1]; rfl, fun _ => .inl ⟨a, h2, rfl, m3, hov.1, m2, KF_le (KF_trans K1 m4) ?_ (by omega) (by omega)⟩, fun u s' y => by rw [ez] at y; cases y⟩
    have := c81 hov.1
    omega
  · rw [if_neg hov] at e
    have hFT : thB T = true := by
      refine Decidable.byContradiction (fun hF => ?_)
      rw [if_neg hF] at q
      injection Option.some.inj (Option.some.inj q) with e3 e4
      rw [e3] at hF
      exact hF (gby_th qb)
    obtain ⟨gw1, gw2, gw3⟩ := gto_wf hI hG hl hN wv okv qb
    have big := gto_tsz hB hI hG hl wv (szv hFT) qb
    rcases ga2 hov with ⟨b100, hsz, a, h2, us2, fs2, m1, m2, m3, m4⟩ | ⟨hsz0, y2, h2, us2, fs2, m1, m2, m3, m4, m5, m6, m7, m8, m9, m10⟩
    · rw [if_neg hsz] at e
      have ez : z = none := (Option.some.inj e).symm
      have c2' : c = 2 := by
        rcases hc with h0 | h2
        · exact absurd ez (znz h0)
        · exact h2
      refine ⟨.inr (.inl a, h2), us2, fs2, by rw [m1]; rfl, fun _ => .inl ⟨a, h2, rfl, m3, c2', m2, KF_le (KF_trans K1 m4) ?_ (by omega) (by omega)⟩, fun u s' y => by rw [ez] at y; cases y⟩
      have := c81 c2'
      omega
    · have ny : y2 ≠ 0 := fun q => m4 ((tyC_0 m3).mp q)
      rw [m1, xc_v, go_in ny]
      have K12 := KF_trans K1 m6
      have st3 : (mkS (if c = 2 then (s1.1 + 1, s1.2.1 + 1, s1.2.2) else s1) (gto ins gv b (tL v))).1 = s1.1 + (if c = 2 then 1 else 0) := by split <;> rfl
      have st4 : (mkS (if c = 2 then (s1.1 + 1, s1.2.1 + 1, s1.2.2) else s1) (gto ins gv b (tL v))).2.1 = s1.2.1 + (if c = 2 then 1 else 0) := by split <;> rfl
      have st5 : (mkS (if c = 2 then (s1.1 + 1, s1.2.1 + 1, s1.2.2) else s1) (gto ins gv b (tL v))).2.2 = s1.2.2 ++ [gto ins gv b (tL v)] := by split <;> rfl
      generalize es2 : mkS (if c = 2 then (s1.1 + 1, s1.2.1 + 1, s1.2.2) else s1) (gto ins gv b (tL v)) = s2 at *
      have F2 : FnC G h2 N cl tb l0 sc us2 fs2 rest Sl io ab ins gv c bg s2 := FnC_next F1 m6 m2 m8 (fun hc2 => by rw [st3, st4, if_pos hc2]; exact m9 hc2)
      by_cases hsz : tszW (gto ins gv b (tL v)) ≤ 60
      · rw [if_pos hsz] at e
        have t60 := sz60 big hsz
        have hs2 : s2.1 ≤ 60 ∧ s2.2.1 ≤ 300 := by
          rw [st3, st4]
          by_cases h2 : c = 2
          · rw [if_pos h2]
            have : ¬ (60 < s1.1 + 1 ∨ 300 < s1.2.1 + 1) := fun y => hov ⟨h2, y⟩
            omega
          · rw [if_neg h2]; omega
        have hs3 : c = 2 → s1.1 + 1 ≤ 60 := fun h2 => by
          have : ¬ (60 < s1.1 + 1 ∨ 300 < s1.2.1 + 1) := fun y => hov ⟨h2, y⟩
          omega
        have K12' := KF_trans K1 m7
        have lens2 := m7.2.2.2.1
        have R3 : CkR N cl rest c B h2 us2 fs2 s2 z := by
          refine ⟨fun hc2 => ?_, fun h0 => ?_⟩
          · have r1 := R.1 hc2
            have w1 := c81 hc2
            have w2 := hs3 hc2
            rw [if_pos hc2] at w1 lens
            rw [st3, if_pos hc2]
            omega
          · obtain ⟨r0, u, D, ez, hD⟩ := R.2 h0
            rw [ez] at e
            obtain ⟨D2, d2, x2, _⟩ := wk_st e
            have y3 : s.2.2 ++ D = s2.2.2 ++ D2 := congrArg (fun v : WS => v.2.2) x2.1
            rw [st5, y5] at y3
            have hDe := app_sub (p := []) (y3.trans (by rw [List.append_assoc]))
            obtain ⟨t0, ht0⟩ := hD (gto ins gv b (tL v)) (by rw [hDe]; exact List.mem_append_right _ (List.mem_append_left _ (by simp)))
            obtain ⟨n1, n2⟩ := m10 ⟨t0, K1.2.2.2.2.2.2.1 _ _ ht0⟩
            obtain ⟨w1, w2, _⟩ := o6 h0
            refine ⟨by rw [n1, n2, w1, w2]; exact r0, u, D2, ?_, fun X hX => ?_⟩
            · have d0 := x2.2.1 (by omega)
              rw [ez, x2.1, d0]
              rfl
            · obtain ⟨tX, hX'⟩ := hD X (by rw [hDe]; exact List.mem_append_right _ (List.mem_append_right _ hX))
              exact ⟨tX, K12.2.2.2.2.2.2.1 _ _ hX'⟩
        obtain ⟨ev, us3, fs3, q1, Q2, Q3⟩ := IHg s2 (gto ins gv b (tL v)) z h2 us2 fs2 y2 pl e F2 m3 m4 gw1 gw3 big hs2.1 hs2.2 R3
        have ksum : c = 2 → (if c = 2 then (60 + (20 - bg) + 1) * (s1.1 - s.1) else 0) + tsz (gto ins gv b (tL v)) + (81 * (60 - s2.1) + B) ≤ 81 * (60 - s.1) + B := fun hc2 => by
          have w1 := c81 hc2
          have w2 := hs3 hc2
          rw [st3, if_pos hc2]
          rw [if_pos hc2] at w1 ⊢
          omega
        refine ⟨ev, us3, fs3, q1, fun y => ?_, fun u s' y => ?_⟩
        · rcases Q2 y with ⟨a, h3, ea, b1, b2, b3, b4⟩ | ⟨y3, h3, X, ea, b1, b2, b3, b4, b5, b6⟩
          · exact .inl ⟨a, h3, ea, b1, b2, b3, KF_le (KF_trans K12' b4) (ksum b2) (by omega) (by omega)⟩
          · exact .inr ⟨y3, h3, X, ea, b1, b2, b3, b4, b5, KF_le (KF_trans K12' b6) (ksum b5) (by omega) (by omega)⟩
        · obtain ⟨y3, h3, ea, S3⟩ := Q3 u s' y
          have K3 := CkS_KF hc S3
          obtain ⟨u1, u2, u3, u4, u5, u6⟩ := id S3
          rw [y] at e
          obtain ⟨D2, d2, x2, _⟩ := wk_st e
          have s'e : s'.1 = s2.1 + d2 := by rw [x2.1]
          have s'2 : s'.2.2 = s2.2.2 ++ D2 := by rw [x2.1]
          refine ⟨y3, h3, ea, u1, u2, u3, fun hc2 => ⟨(u4 hc2).1, (u4 hc2).2.1, ?_⟩, fun D hD X hX => ?_, fun h0 => ?_⟩
          · refine KF_le (KF_trans K12' K3) ?_ (by omega) (by omega)
            rw [st3, if_pos hc2] at s'e
            rw [if_pos hc2, if_pos hc2, st3, if_pos hc2]
            have k1 := mCb (C := 60 + (20 - bg) + 1) (a := s.1) (b := s1.1) (d := s1.1 + 1) (by omega) (by omega)
            have k2 := mCb (C := 60 + (20 - bg) + 1) (a := s.1) (b := s1.1 + 1) (d := s'.1) (by omega) (by omega)
            rw [show s1.1 + 1 - s1.1 = 1 by omega, Nat.mul_one] at k1
            omega
          · rw [s'2, st5, y5] at hD
            have hDe := app_sub (p := []) (hD.symm.trans (by rw [List.append_assoc]))
            rw [hDe] at hX
            rcases List.mem_append.mp hX with hX | hX
            · obtain ⟨tX, hX'⟩ := o5 D1 y5 X hX
              exact ⟨tX, K3.2.2.2.2.2.2.1 _ _ (m6.2.2.2.2.2.2.1 _ _ hX')⟩
            · rcases List.mem_append.mp hX with hX | hX
              · rw [List.mem_singleton.mp hX]
                exact ⟨y2, K3.2.2.2.2.2.2.1 _ _ m3⟩
              · exact u5 D2 s'2 X hX
          · obtain ⟨r0, uu, D, ez, hD⟩ := R.2 h0
            rw [y] at ez
            injection Option.some.inj ez with a1 a2
            have y3' : s'.2.2 = s.2.2 ++ D := by rw [a2]
            rw [s'2, st5, y5] at y3'
            have hDe := app_sub (p := []) (y3'.symm.trans (by rw [List.append_assoc]))
            obtain ⟨t0, ht0⟩ := hD (gto ins gv b (tL v)) (by rw [hDe]; exact List.mem_append_right _ (List.mem_append_left _ (by simp)))
            obtain ⟨n1, n2⟩ := m10 ⟨t0, K1.2.2.2.2.2.2.1 _ _ ht0⟩
            obtain ⟨w1, w2, w3⟩ := o6 h0
            obtain ⟨w4, w5, w6⟩ := u6 h0
            have eU : us3 = us := by rw [w4, n1, w1]
            have eV : fs3 = fs := by rw [w5, n2, w2]
            refine ⟨eU, eV, ?_⟩
            have KK := KF_trans w3 (KF_trans m7 w6)
            obtain ⟨p1, ⟨dd, p2, p2'⟩, p3, p4, p5⟩ := KK
            refine ⟨p1, ⟨[], by rw [eU]; simp, by simp⟩, p3, by rw [eU, eV]; omega, p5⟩
      · have b100 : 100 ≤ b := by
          rcases hsz0 with z | z
          · exact z
          · exact absurd z hsz
        rw [if_neg hsz] at e
        have ez : z = none := (Option.some.inj e).symm
        have c2' : c = 2 := by
          rcases hc with h0 | h2
          · exact absurd ez (znz h0)
          · exact h2
        have nth : ¬ thB (gto ins gv b (tL v)) = true := by rw [m5 b100]; decide
        have ng : gby ins gv (gto ins gv b (tL v)) = none := by
          cases qq : gby ins gv (gto ins gv b (tL v)) with
          | none => rfl
          | some b' => exact absurd (gby_th qq) nth
        have k92 := FnC_kd F2
        have hs2 : s2.1 ≤ 60 ∧ s2.2.1 ≤ 300 := by
          rw [st3, st4, if_pos c2']
          have : ¬ (60 < s1.1 + 1 ∨ 300 < s1.2.1 + 1) := fun y => hov ⟨c2', y⟩
          omega
        have ct := c_innerN (G := G) (r := r) (l0 := l0) (pl := pl) m3 m4 nth
        have lens3 := K12.2.2.2.1
        obtain ⟨gx0, _⟩ := c_goes nd hc hI hG hGN F1 o2 hv wv okv s60 s300 hn1 pl
        have gg : C_8_goes G l0 y2 pl h2 = some (.inr 0, h2) := by
          have wk2 : fI h2 1556 y2 ≠ 2 ∧ kd h2 y2 = 34 := by
            rcases eg : gto ins gv b (tL v) with ⟨kk, ww, uu, ll', rr'⟩ | _
            · rw [eg] at m3 nth
              refine ⟨fun z => nth ?_, m3.2.1⟩
              have k2 : (kk : Int) = 2 := by rw [← m3.2.2.1]; exact z
              have : kk = 2 := by omega
              rw [this]; rfl
            · exact absurd eg m4
          unfold C_8_goes
          rw [gd_pos wk2.2, if_neg wk2.1]
        refine ⟨.inl (y2, h2), us2, fs2, ?_, fun _ => .inr ⟨y2, h2, _, rfl, m2, m3, m4, hsz, c2', KF_le K12 ?_ (by omega) (by omega)⟩, fun u s' y => by rw [ez] at y; cases y⟩
        · unfold GoB
          rw [gd_pos k92.1, ct, xc_v, gd_pos k92.1, gg, xc_v]
          exact go_end
        · have := c81 c2'
          omega
/-- THE COMPONENT WORKS OUT -/
theorem c_wk (nd : ndN N) (hc : c = 0 ∨ c = 2) (hB : B ≤ 2700) (hI : insF ins B) (hG : gvF' ins gv) (hGN : gvN gv) : ∀ (f bg : Nat), (c = 2 → bg ≤ 20) → bg + f ≤ 100000 → (∀ n, f ≤ n → CkH G N cl tb l0 sc rest Sl io ab ins gv c B f bg (60 + (20 - bg)) (C_8_workedD G n)) ∧ ∀ n, f ≤ n + 1 → CkT G N cl tb l0 sc rest Sl io ab ins gv c B f bg (C_8_workedD G n)
  | 0, _, _, _ => ⟨fun n _ s T z h us fs x pl e => (by cases e), fun n _ s T z h us fs x pl e => by cases e⟩
  | f + 1, bg, hb, hbf => by
    refine ⟨fun n hn => ?_, fun n hn => ?_⟩
    · obtain ⟨m, rfl⟩ : ∃ m, n = m + 1 := ⟨n - 1, by omega⟩
      exact ck_F nd hb (by omega) hc hB hI hG (fun h => (c_wk nd hc hB hI hG hGN f (bg + 1) (fun h2 => by have := h h2; omega) (by omega)).2 m (by omega))
    · have I := c_wk nd hc hB hI hG hGN f bg hb (by omega)
      exact ck_T nd hb hc hB hI hG hGN (I.1 n (by omega)) (I.2 n (by omega))
end LCY
