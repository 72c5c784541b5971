set_option maxRecDepth 100000
/-! THE COMPONENT works out a type's parts -/
/-- there is room -/
def CkR (N : List (List Int)) (cl : Nat → Nat) (rest : List (Nat × List Nat)) (c B : Nat) (h : om_H) (us fs : List Nat) (s : WS) (z : Option (Ty × WS)) : Prop := (c = 2 → tl us fs + 81 * (60 - s.1) + B ≤ 149000) ∧ (c = 0 → tl us fs + B ≤ 149000 ∧ ∃ u D, z = some (u, s.1, s.2.1, s.2.2 ++ D) ∧ ∀ X ∈ D, ∃ y, tyC h N cl (UU us rest) X y)
/-- what came of it: all but the answer -/
def CkS (G : om_G) (N : List (List Int)) (cl : Nat → Nat) (tb l0 : Nat) (rest : List (Nat × List Nat)) (c Cb bg : Nat) (h : om_H) (us fs : List Nat) (s : WS) (u : Ty) (s' : WS) (y : Nat) (h' : om_H) (us' fs' : List Nat) : Prop := TB G h' N cl tb us' fs' rest ∧ tyC h' N cl (UU us' rest) u y ∧ fI h' 220 l0 = (bg : Int) ∧ (c = 2 → (fI h' 216 l0 = (s'.1 : Int) ∧ fI h' 128 tb = (s'.2.1 : Int)) ∧ s'.2.1 ≤ 300 ∧ KF N cl tb l0 rest h us fs h' us' fs' (Cb * (s'.1 - s.1)) 0 0) ∧ (∀ D, s'.2.2 = s.2.2 ++ D → ∀ X ∈ D, ∃ y, tyC h' N cl (UU us' rest) X y) ∧ (c = 0 → us' = us ∧ fs' = fs ∧ KF N cl tb l0 rest h us fs h' us' fs' 0 0 0)
/-- a Fault came of it -/
def CkF (G : om_G) (N : List (List Int)) (cl : Nat → Nat) (tb l0 : Nat) (rest : List (Nat × List Nat)) (c B : Nat) (h : om_H) (us fs : List Nat) (s : WS) (pl : Int) (a : Nat) (h' : om_H) (us' fs' : List Nat) : Prop := TB G h' N cl tb us' fs' rest ∧ c = 2 ∧ flt h' a 7 pl ∧ KF N cl tb l0 rest h us fs h' us' fs' (81 * (60 - s.1) + B) 1 8
def CkO (G : om_G) (N : List (List Int)) (cl : Nat → Nat) (tb l0 : Nat) (rest : List (Nat × List Nat)) (c B Cb bg : Nat) (h : om_H) (us fs : List Nat) (s : WS) (z : Option (Ty × WS)) (pl : Int) (v : Nat ⊕ Nat) (h' : om_H) (us' fs' : List Nat) : Prop := (z = none → ∃ a, v = .inl a ∧ CkF G N cl tb l0 rest c B h us fs s pl a h' us' fs') ∧ ∀ u s', z = some (u, s') → ∃ y, v = .inr y ∧ CkS G N cl tb l0 rest c Cb bg h us fs s u s' y h' us' fs'
/-- what the worker of a part does -/
def CkH (G : om_G) (N : List (List Int)) (cl : Nat → Nat) (tb l0 sc : Nat) (rest : List (Nat × List Nat)) (Sl : Nat → Prop) (io : Nat → Nat) (ab : List (Option Nat)) (ins : List INs) (gv : List GVs) (c B f bg Cb : Nat) (r : Nat → Nat → Int → om_H → Option ((Nat ⊕ Nat) × om_H)) : Prop := ∀ (s : WS) (T : Ty) (z : Option (Ty × WS)) (h : om_H) (us fs : List Nat) (x : Nat) (pl : Int), wk c ins gv f false bg s T = some z → FnC G h N cl tb l0 sc us fs rest Sl io ab ins gv c bg s → tyC h N cl (UU us rest) T x → T ≠ .leaf → wfT T → okF ins T → tsz T ≤ 1000000 → s.1 ≤ 60 → s.2.1 ≤ 300 → CkR N cl rest c B h us fs s z → ∃ v h' us' fs', r l0 x pl h = some (v, h') ∧ CkO G N cl tb l0 rest c B Cb bg h us fs s z pl v h' us' fs'
section LCW
variable {G : om_G} {N : List (List Int)} {cl : Nat → Nat} {tb l0 sc : Nat} {rest : List (Nat × List Nat)} {Sl : Nat → Prop} {io : Nat → Nat} {ab : List (Option Nat)} {ins : List INs} {gv : List GVs} {c B f bg Cb : Nat} {r : Nat → Nat → Int → om_H → Option ((Nat ⊕ Nat) × om_H)}
theorem th_l {k w : Nat} {u : Unit} {l t : Ty} (wf : wfT (.inner k w u l t)) (th : thB (.inner k w u l t) = true) : l ≠ .leaf := fun z => by
  have sh := wf.1
  unfold shT at sh
  have th' : (k == 2 || thB l || thB t) = true := th
  subst z
  have t0 : k ≠ 2 → t = .leaf := fun hk => by
    rcases sh with s | s | s | s
    · exact s.2.2
    · have := s.2.2.1.mp rfl
      exact s.2.2.2.mpr (by omega)
    · omega
    · exact absurd rfl s.2.2.1
  by_cases k2 : k = 2
  · rcases sh with s | s | s | s
    · omega
    · omega
    · exact s.2.1 rfl
    · omega
  · rw [t0 k2] at th'
    have : (k == 2) = false := by simpa using k2
    rw [this] at th'
    cases th'
theorem CkS_KF {h h' : om_H} {us fs us' fs' : List Nat} {s s' : WS} {u : Ty} {y : Nat} (hc : c = 0 ∨ c = 2) (C : CkS G N cl tb l0 rest c Cb bg h us fs s u s' y h' us' fs') : KF N cl tb l0 rest h us fs h' us' fs' (if c = 2 then Cb * (s'.1 - s.1) else 0) 0 0 := by
  rcases hc with e | e
  · rw [if_neg (by omega)]
    exact (C.2.2.2.2.2 e).2.2
  · rw [if_pos e]
    exact (C.2.2.2.1 e).2.2
theorem CkS_F {h h' : om_H} {us fs us' fs' : List Nat} {s s' : WS} {u : Ty} {y : Nat} (hc : c = 0 ∨ c = 2) (F : FnC G h N cl tb l0 sc us fs rest Sl io ab ins gv c bg s) (C : CkS G N cl tb l0 rest c Cb bg h us fs s u s' y h' us' fs') : FnC G h' N cl tb l0 sc us' fs' rest Sl io ab ins gv c bg s' := FnC_next F (CkS_KF hc C) C.1 C.2.2.1 (fun e => (C.2.2.2.1 e).1)
theorem c_partQ (hc : c = 0 ∨ c = 2) (Hr : CkH G N cl tb l0 sc rest Sl io ab ins gv c B f bg Cb r) {s : WS} {T : Ty} {z : Option (Ty × WS)} {h : om_H} {us fs : List Nat} {x : Nat} (pl : Int) (e : wkQ (wk c ins gv f false bg) s T = some z) (F : FnC G h N cl tb l0 sc us fs rest Sl io ab ins gv c bg s) (cx : tyC h N cl (UU us rest) T x) (wf : wfT T) (ok : okF ins T) (hz : tsz T ≤ 1000000) (h60 : s.1 ≤ 60) (h300 : s.2.1 ≤ 300) (R : CkR N cl rest c B h us fs s z) : ∃ v h' us' fs', (if x ≠ 0 then r l0 x pl h else some (.inr 0, h)) = some (v, h') ∧ CkO G N cl tb l0 rest c B Cb bg h us fs s z pl v h' us' fs' := by
  by_cases hT : T = .leaf
  · subst hT
    have et : x = 0 := cx
    rw [if_neg (fun q => q et)]
    have ez : z = some (.leaf, s) := (Option.some.inj e).symm
    refine ⟨.inr 0, h, us, fs, rfl, fun q => (by rw [ez] at q; cases q), fun u s' q => ⟨0, rfl, ?_⟩⟩
    rw [ez] at q
    injection Option.some.inj q with q1 q2
    subst q1 q2
    obtain ⟨a1, a2, a3, a4, a5, a6, a7, a8⟩ := F
    refine ⟨a1, rfl, a6, fun q => ⟨(a7 q).2, h300, KF_refl⟩, fun D hD X hX => ?_, fun _ => ⟨rfl, rfl, KF_refl⟩⟩
    have : D = [] := by simpa using hD
    rw [this] at hX
    exact absurd hX List.not_mem_nil
  · rw [if_pos (fun q => hT ((tyC_0 cx).mp q))]
    rw [wkQ_inner hT] at e
    exact Hr s T z h us fs x pl e F cx hT wf ok hz h60 h300 R
set_option maxHeartbeats 1000000 in
/-- THE PARTS -/
theorem c_innerP (nd : ndN N) (hc : c = 0 ∨ c = 2) (hb : c = 2 → bg ≤ 20) (hB : B ≤ 2700) (hI : insF ins B) (hG : gvF' ins gv) (Hr : CkH G N cl tb l0 sc rest Sl io ab ins gv c B f bg (60 + (20 - bg)) r) {s : WS} {T : Ty} {z : Option (Ty × WS)} {h : om_H} {us fs : List Nat} {x : Nat} (pl : Int) (e : wkP (wk c ins gv f false bg) s T = some z) (F : FnC G h N cl tb l0 sc us fs rest Sl io ab ins gv c bg s) (cx : tyC h N cl (UU us rest) T x) (hT : T ≠ .leaf) (hF : thB T = true) (wf : wfT T) (ok : okF ins T) (hz : tsz T ≤ 1000000) (h60 : s.1 ≤ 60) (h300 : s.2.1 ≤ 300) (R : CkR N cl rest c B h us fs s z) : ∃ v h' us' fs', C_8_inner G r l0 x pl h = some (v, h') ∧ CkO G N cl tb l0 rest c B (60 + (20 - bg) + 1) bg h us fs s z pl v h' us' fs' := by
  rcases T with ⟨k, w, xu, l, rr⟩ | _
  rotate_left
  · exact absurd rfl hT
  have hl := th_l wf hF
  obtain ⟨c0, c1, c2, c3, c4, c5, c6, c7, c8⟩ := id cx
  have c7' : fI h 1591 x = thI (.inner k w xu l rr) := c7
  have th1 : fI h 1591 x ≠ 0 := by
    rw [c7']
    unfold thI
    rw [if_pos hF]
    decide
  have k9 := FnC_kd F
  rw [wkP_inner] at e
  cases q1 : wkQ (wk c ins gv f false bg) s l with
  | none => rw [q1] at e; cases e
  | some a =>
  rw [q1, Option.bind_some] at e
  have hz' : 1 + tsz l + tsz rr ≤ 1000000 := hz
  -- the first part
  have Ra : CkR N cl rest c B h us fs s a := by
    refine ⟨R.1, fun h1 => ⟨(R.2 h1).1, ?_⟩⟩
    obtain ⟨_, u, D, ez, hD⟩ := R.2 h1
    cases a with
    | none =>
      have : z = none := (Option.some.inj e).symm
      rw [this] at ez; cases ez
    | some p =>
      obtain ⟨l', s1⟩ := p
      obtain ⟨D1, d, x1⟩ := wkQ_ext q1
      have d0 := x1.2.1 (by omega)
      refine ⟨l', D1, by rw [x1.1, d0]; rfl, fun X hX => hD X ?_⟩
      simp only at e
      cases q2 : wkQ (wk c ins gv f false bg) s1 rr with
      | none => rw [q2] at e; cases e
      | some b =>
        rw [q2, Option.bind_some] at e
        cases b with
        | none =>
          have : z = none := (Option.some.inj e).symm
          rw [this] at ez; cases ez
        | some p2 =>
          obtain ⟨t', s2⟩ := p2
          obtain ⟨D2, d2, x2⟩ := wkQ_ext q2
          have ez' := Option.some.inj e
          rw [ez] at ez'
          injection Option.some.inj ez' with y1 y2
          have y3 : s2.2.2 ++ [.inner k w xu l' t'] = s.2.2 ++ D := congrArg (fun v : WS => v.2.2) y2
          have y4 : s2.2.2 = s1.2.2 ++ D2 := by rw [x2.1]
          have y5 : s1.2.2 = s.2.2 ++ D1 := by rw [x1.1]
          rw [y4, y5] at y3
          have := app_sub (p := []) (y3.symm.trans (by rw [List.append_assoc]))
          rw [this]
          exact List.mem_append_left _ hX
  obtain ⟨v1, h1, us1, fs1, p1, O1⟩ := c_partQ hc Hr pl q1 F c4 wf.2.1 ok.2.1 (by omega) h60 h300 Ra
  rw [if_pos (fun q => hl ((tyC_0 c4).mp q))] at p1
  have st1 : C_8_inner G r l0 x pl h = xc (some (v1, h1)) (fun t h => some (.inl t, h)) (fun p1 h1 => gd (kd h1 x = 34) (if (fR h1 1586 x) ≠ 0 then gd (kd h1 x = 34 ∧ kd h1 l0 = 9) (xc (r l0 (fR h1 1586 x) pl h1) (fun t h => some (.inl t, h)) (fun p2 h2 => C_8_inner_39 G r l0 x p1 p2 h2)) else C_8_inner_39 G r l0 x p1 0 h1)) := by
    unfold C_8_inner
    rw [gd_pos c1, if_pos th1, gd_pos ⟨c1, k9.1⟩, p1]
  rw [st1]
  cases a with
  | none =>
    have ez : z = none := (Option.some.inj e).symm
    obtain ⟨a, ea, O⟩ := O1.1 rfl
    subst ea
    exact ⟨.inl a, h1, us1, fs1, rfl, fun _ => ⟨a, rfl, O⟩, fun u s' q => by rw [ez] at q; cases q⟩
  | some p =>
  obtain ⟨l', s1⟩ := p
  obtain ⟨y1, ey1, S1⟩ := O1.2 l' s1 rfl
  subst ey1
  rw [xc_v]
  simp only at e
  cases q2 : wkQ (wk c ins gv f false bg) s1 rr with
  | none => rw [q2] at e; cases e
  | some b =>
  rw [q2, Option.bind_some] at e
  obtain ⟨D1, d1, x1⟩ := wkQ_ext q1
  have s1e : s1.1 = s.1 + d1 := by rw [x1.1]
  have K1 := CkS_KF hc S1
  have F1 := CkS_F hc F S1
  obtain ⟨o1, o2, o3, o4, o5, o6⟩ := id S1
  have s60 : s1.1 ≤ 60 := by
    by_cases h2 : c = 2
    · rw [s1e]; exact x1.2.2 h2 h60
    · rw [s1e, x1.2.1 h2]; omega
  have s300 : s1.2.1 ≤ 300 := by
    by_cases h2 : c = 2
    · exact (o4 h2).2.1
    · have : s1.2.1 = s.2.1 + d1 := by rw [x1.1]
      rw [this, x1.2.1 h2]; omega
  have cx1 := K1.2.2.2.2.2.2.1 _ _ cx
  have kx1 : kd h1 x = 34 := cx1.2.1
  have c5' : tyC h1 N cl (UU us1 rest) rr (fR h1 1586 x) := cx1.2.2.2.2.2.1
  have k91 := FnC_kd F1
  have h81 : ∀ m : Nat, c = 2 → (60 + (20 - bg)) * m ≤ 81 * m := fun m h2 => Nat.mul_le_mul_right _ (by have := hb h2; omega)
  have Rb : CkR N cl rest c B h1 us1 fs1 s1 b := by
    refine ⟨fun h2 => ?_, fun h0 => ?_⟩
    · have r1 := R.1 h2
      have w1 := (o4 h2).2.2.2.2.2.1
      have w2 := h81 (s1.1 - s.1) h2
      have := m81 (a := s.1) (b := s1.1) (d := 60) (by omega) s60
      omega
    · obtain ⟨w1, w2, w3⟩ := o6 h0
      subst w1 w2
      refine ⟨(R.2 h0).1, ?_⟩
      obtain ⟨_, u, D, ez, hD⟩ := R.2 h0
      cases b with
      | none =>
        have : z = none := (Option.some.inj e).symm
        rw [this] at ez; cases ez
      | some p2 =>
        obtain ⟨t', s2⟩ := p2
        obtain ⟨D2, d2, x2⟩ := wkQ_ext q2
        refine ⟨t', D2, by rw [x2.1, x2.2.1 (by omega)]; rfl, fun X hX => ?_⟩
        have ez' := Option.some.inj e
        rw [ez] at ez'
        injection Option.some.inj ez' with y1 y2
        have y3 : s2.2.2 ++ [.inner k w xu l' t'] = s.2.2 ++ D := congrArg (fun v : WS => v.2.2) y2
        have y4 : s2.2.2 = s1.2.2 ++ D2 := by rw [x2.1]
        have y5 : s1.2.2 = s.2.2 ++ D1 := by rw [x1.1]
        rw [y4, y5] at y3
        have := app_sub (p := []) (y3.symm.trans (by rw [List.append_assoc]))
        obtain ⟨tX, hX'⟩ := hD X (by rw [this]; exact List.mem_append_right _ (List.mem_append_left _ hX))
        exact ⟨tX, K1.2.2.2.2.2.2.1 _ _ hX'⟩
  obtain ⟨v2, h2, us2, fs2, p2, O2⟩ := c_partQ hc Hr pl q2 F1 c5' wf.2.2 ok.2.2 (by omega) s60 s300 Rb
  have st2 : gd (kd h1 x = 34) (if (fR h1 1586 x) ≠ 0 then gd (kd h1 x = 34 ∧ kd h1 l0 = 9) (xc (r l0 (fR h1 1586 x) pl h1) (fun t h => some (Sum.inl t, h)) (fun p2 h2 => C_8_inner_39 G r l0 x y1 p2 h2)) else C_8_inner_39 G r l0 x y1 0 h1) = xc (some (v2, h2)) (fun t h => some (Sum.inl t, h)) (fun p2 h2 => C_8_inner_39 G r l0 x y1 p2 h2) := by
    rw [gd_pos kx1]
    by_cases h0 : fR h1 1586 x = 0
    · rw [if_neg (fun q => q h0)] at p2 ⊢
      rw [← p2]
      rfl
    · rw [if_pos h0] at p2 ⊢
      rw [gd_pos ⟨kx1, k91.1⟩, p2]
  rw [st2]
  cases b with
  | none =>
    have ez : z = none := (Option.some.inj e).symm
    obtain ⟨a, ea, O⟩ := O2.1 rfl
    subst ea
    obtain ⟨f1, f2, f3, f4⟩ := O
    refine ⟨.inl a, h2, us2, fs2, rfl, fun _ => ⟨a, rfl, f1, f2, f3, KF_le (KF_trans K1 f4) ?_ (by omega) (by omega)⟩, fun u s' q => by rw [ez] at q; cases q⟩
    rw [if_pos f2]
    have w2 := h81 (s1.1 - s.1) f2
    have := m81 (a := s.1) (b := s1.1) (d := 60) (by omega) s60
    omega
  | some p3 =>
  obtain ⟨t', s2⟩ := p3
  obtain ⟨y2, ey2, S2⟩ := O2.2 t' s2 rfl
  subst ey2
  rw [xc_v]
  have K2 := CkS_KF hc S2
  have F2 := CkS_F hc F1 S2
  have k92 := FnC_kd F2
  obtain ⟨g1, g2, g3, g4, g5, g6⟩ := id S2
  have ez : z = some (.inner k w xu l' t', mkS s2 (.inner k w xu l' t')) := (Option.some.inj e).symm
  obtain ⟨D2, d2, x2⟩ := wkQ_ext q2
  have s2e : s2.1 = s1.1 + d2 := by rw [x2.1]
  have lT2 : tyC h2 N cl (UU us2 rest) l' y1 := K2.2.2.2.2.2.2.1 _ _ o2
  have K12 : KF N cl tb l0 rest h us fs h2 us2 fs2 (if c = 2 then (60 + (20 - bg)) * (s2.1 - s.1) else 0) 0 0 := by
    refine KF_le (KF_trans K1 K2) ?_ (by omega) (by omega)
    by_cases hc2 : c = 2
    · rw [if_pos hc2, if_pos hc2, if_pos hc2]
      exact Nat.le_of_eq (mCb (by omega) (by omega))
    · rw [if_neg hc2, if_neg hc2, if_neg hc2]; omega
  have cx2 := K12.2.2.2.2.2.2.1 _ _ cx
  obtain ⟨z0, z1, z2, z3, z4, z5, z6⟩ := id cx2
  have Dfin : ∀ {h3 : om_H} {us3 : List Nat}, (∀ T a, tyC h2 N cl (UU us2 rest) T a → tyC h3 N cl (UU us3 rest) T a) → (∃ t0, tyC h3 N cl (UU us3 rest) (.inner k w xu l' t') t0) → ∀ D, (mkS s2 (.inner k w xu l' t')).2.2 = s.2.2 ++ D → ∀ X ∈ D, ∃ t, tyC h3 N cl (UU us3 rest) X t := fun {h3 us3} X3 hN D hD X hX => by
    have y4 : s2.2.2 = s1.2.2 ++ D2 := by rw [x2.1]
    have y5 : s1.2.2 = s.2.2 ++ D1 := by rw [x1.1]
    have hD' : s2.2.2 ++ [.inner k w xu l' t'] = s.2.2 ++ D := hD
    rw [y4, y5] at hD'
    have := app_sub (p := []) (hD'.symm.trans (by rw [List.append_assoc]))
    rw [this] at hX
    rcases List.mem_append.mp hX with hX | hX
    · obtain ⟨t0, h0⟩ := o5 D1 y5 X hX
      exact ⟨t0, X3 _ _ (K2.2.2.2.2.2.2.1 _ _ h0)⟩
    · rcases List.mem_append.mp hX with hX | hX
      · obtain ⟨t0, h0⟩ := g5 D2 y4 X hX
        exact ⟨t0, X3 _ _ h0⟩
      · rw [List.mem_singleton.mp hX]; exact hN
  have zn : ∀ {P : Prop}, z = none → P := fun q => by rw [ez] at q; cases q
  have lens := K12.2.2.2.1
  -- it is another type
  have new : ¬ (y1 = fR h2 1582 x ∧ y2 = fR h2 1586 x) → ∃ v h' us' fs', C_8_inner_62 G r l0 x y1 y2 h2 = some (v, h') ∧ CkO G N cl tb l0 rest c B (60 + (20 - bg) + 1) bg h us fs s z pl v h' us' fs' := fun hne => by
    have dge : c = 2 → 1 ≤ s2.1 - s.1 := fun hc2 => by
      refine Decidable.byContradiction (fun hz0 => hne ?_)
      have e1 : s1.1 = s.1 := by omega
      have e2 : s2.1 = s1.1 := by omega
      have eql : ∀ {s s' : WS} {T u : Ty}, wkQ (wk c ins gv f false bg) s T = some (some (u, s')) → s'.1 = s.1 → u = T := fun {s s' T u} e h => by
        cases T with
        | leaf => injection Option.some.inj (Option.some.inj e) with e1 e2; exact e1.symm
        | inner k w x l t => rw [hc2] at e; exact wk_zero (f := f) (m := false) (bg := bg) e h
      have a1 := eql q1 e1
      have a2 := eql q2 e2
      subst a1 a2
      exact ⟨g1.2.2.1 _ _ _ lT2 z4, g1.2.2.1 _ _ _ g2 z5⟩
    have hn2 : tl us2 fs2 ≤ 149000 := by
      rcases hc with h0 | hc2
      · obtain ⟨w1, w2, _⟩ := o6 h0
        obtain ⟨w3, w4, _⟩ := g6 h0
        rw [w3, w4, w1, w2]
        have := (R.2 h0).1
        omega
      · have r1 := R.1 hc2
        rw [if_pos hc2] at lens
        have w1 := h81 (s2.1 - s.1) hc2
        have s2l : s2.1 ≤ 60 := by rw [s2e]; exact x2.2.2 hc2 s60
        have : 81 * (s2.1 - s.1) ≤ 81 * (60 - s.1) := Nat.mul_le_mul_left _ (by omega)
        omega
    obtain ⟨y3, h3, us3, fs3, j1, j2, j3, j4, j5⟩ := c_getS g1 nd z3 lT2 g2 hn2
    have K3 := KF_CS g1 k92 j3
    have t3 := (TB_3 g1).1
    have e214 : fR h2 214 l0 = tb := F2.2.1.1.2.2
    refine ⟨.inr y3, h3, us3, fs3, ?_, fun q => zn q, fun u s' q => ⟨y3, rfl, ?_⟩⟩
    · unfold C_8_inner_62 C_2_like
      rw [e214, gd_pos ⟨k92.1, t3⟩, gd_pos ⟨z1, t3⟩, z2, j1]
      rfl
    · rw [ez] at q
      injection Option.some.inj q with b1 b2
      subst b1 b2
      have eI0 : ∀ g, fI h3 g l0 = fI h2 g l0 := fun g => (j3.1.2.2.2 l0 k92.2 (fun z => z.elim (fun z => by have := DT_kd g1 z; omega) id)).2.1 g
      refine ⟨j2, j4, by rw [eI0]; exact g3, fun hc2 => ⟨⟨by rw [eI0]; exact (g4 hc2).1.1, by rw [j3.2.2.2.2.1.1 128 (by decide)]; exact (g4 hc2).1.2⟩, (g4 hc2).2.1, ?_⟩, Dfin j3.2.2.2.2.2.1 ⟨_, j4⟩, fun h0 => ?_⟩
      · refine KF_le (KF_trans K12 K3) ?_ (by omega) (by omega)
        rw [if_pos hc2]
        have a2 := dge hc2
        show _ ≤ (60 + (20 - bg) + 1) * (s2.1 - s.1)
        rw [Nat.add_mul (60 + (20 - bg)) 1, Nat.one_mul]
        omega
      · obtain ⟨w1, w2, _⟩ := o6 h0
        obtain ⟨w3, w4, _⟩ := g6 h0
        obtain ⟨_, uu, D, ezz, hD⟩ := R.2 h0
        rw [ez] at ezz
        injection Option.some.inj ezz with b1 b2
        have b3 : s2.2.2 ++ [.inner k w xu l' t'] = s.2.2 ++ D := congrArg (fun v : WS => v.2.2) b2
        have b4 : s2.2.2 = s1.2.2 ++ D2 := by rw [x2.1]
        have b5 : s1.2.2 = s.2.2 ++ D1 := by rw [x1.1]
        rw [b4, b5] at b3
        have hDe := app_sub (p := []) (b3.symm.trans (by rw [List.append_assoc]))
        obtain ⟨t0, ht0⟩ := hD (.inner k w xu l' t') (by rw [hDe]; exact List.mem_append_right _ (List.mem_append_right _ (by simp)))
        obtain ⟨n1, n2, n3⟩ := j5 ⟨t0, K12.2.2.2.2.2.2.1 _ _ ht0⟩
        rw [if_neg (by omega)] at K12
        rw [n1, n2, n3]
        exact ⟨by rw [w3, w1], by rw [w4, w2], K12⟩
  unfold C_8_inner_39
  rw [gd_pos z1]
  by_cases h1' : y1 = fR h2 1582 x
  · rw [if_neg (fun q => q h1'), gd_pos z1]
    by_cases h2' : y2 = fR h2 1586 x
    · rw [if_neg (fun q => q h2')]
      have a1 : l' = l := tyC_fun nd lT2 (by rw [h1']; exact z4)
      have a2 : t' = rr := tyC_fun nd g2 (by rw [h2']; exact z5)
      refine ⟨.inr x, h2, us2, fs2, rfl, fun q => zn q, fun u s' q => ⟨x, rfl, ?_⟩⟩
      rw [ez] at q
      injection Option.some.inj q with b1 b2
      have cN : tyC h2 N cl (UU us2 rest) (.inner k w xu l' t') x := by rw [a1, a2]; exact cx2
      subst b1 b2
      refine ⟨g1, cN, g3, fun hc2 => ⟨(g4 hc2).1, (g4 hc2).2.1, KF_le K12 ?_ (by omega) (by omega)⟩, Dfin (fun _ _ c => c) ⟨_, cN⟩, fun h0 => ?_⟩
      · rw [if_pos hc2]
        show _ ≤ (60 + (20 - bg) + 1) * (s2.1 - s.1)
        rw [Nat.add_mul (60 + (20 - bg)) 1, Nat.one_mul]
        omega
      · obtain ⟨w1, w2, _⟩ := o6 h0
        obtain ⟨w3, w4, _⟩ := g6 h0
        rw [if_neg (by omega)] at K12
        exact ⟨by rw [w3, w1], by rw [w4, w2], K12⟩
    · rw [if_pos h2']
      exact new (fun q => h2' q.2)
  · rw [if_pos h1']
    exact new (fun q => h1' q.1)
end LCW
