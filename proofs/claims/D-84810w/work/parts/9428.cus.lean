set_option maxRecDepth 100000
/-! THE COMPONENT's judge: heads of uses, firsts of chains -/
/-- what is done behind the items of a use -/
noncomputable def useK (G : om_G) : (Nat × om_H) ⊕ ((Nat × om_H) ⊕ ((Nat ⊕ Nat) × om_H)) → Option ((Nat ⊕ Nat) × om_H) := Sum.elim (fun v1 => gd (kd (nO v1.2 16 8) v1.1 = 31 ∧ kd (nO v1.2 16 8) (hz v1.2) = 16) ((C_15_init G (hz v1.2) 4 (fI (nO v1.2 16 8) 1504 v1.1) (nO v1.2 16 8)).bind fun p2 => gd ((hz v1.2) ≠ 0) (some (.inl (hz v1.2), p2)))) (Sum.elim (fun v2 => some (.inr v2.1, v2.2)) (fun v2 => some v2))
section LUS
variable {G : om_G} {N : List (List Int)} {cl : Nat → Nat} {tb l0 sc jg Lb : Nat} {rest : List (Nat × List Nat)} {Sl Sl1 Sl2 Gx U U' : Nat → Prop} {io fo mo : Nat → Nat} {E : JE} {B lo H0 : Nat} {Γ Γ1 Γ2 : List Ty} {tot q z u n q1 z1 u1 n1 alo ahi alo1 ahi1 : Nat} {s s1 s2 : JS} {h : om_H} {us fs : List Nat} {Dk : Nat → Prop} {ds : List Nat} {dm : Nat} {h1 : om_H} {us1 fs1 : List Nat} {Dk1 : Nat → Prop} {ds1 : List Nat} {dm1 : Nat} {h2 : om_H} {us2 fs2 : List Nat} {Dk2 : Nat → Prop} {ds2 : List Nat} {dm2 : Nat} {h3 : om_H} {us3 fs3 : List Nat} {Dk3 : Nat → Prop} {ds3 : List Nat} {dm3 : Nat} {r : Nat → Nat → om_H → Option ((Nat ⊕ Nat) × om_H)} {D : Nat}
theorem jb_inr {α β : Type} {x : Option ((Nat × Nat) ⊕ α)} {f : α → Option ((Nat × Nat) ⊕ β)} {b : β} (e : jb x f = some (.inr b)) : ∃ a, f a = some (.inr b) := by
  rcases jb_cs e with ⟨kp, _, w⟩ | ⟨a, _, w⟩
  · cases w
  · exact ⟨a, w⟩
/-- judging leaves the form -/
theorem jd_tag {t : Nat} {lb : XL} {un : Unit} {l r' : Xt} {e : Et} {s' : JS} (h : jd E (.inner t lb un l r') Γ s = some (.inr (e, s'))) : ∃ T ev el er, e = en t lb T .leaf ev el er := by
  rw [jd_e] at h
  unfold jdB at h
  by_cases t10 : t = 10
  · rw [if_pos t10] at h
    unfold jnm at h
    split at h
    · split at h
      · obtain ⟨T, _, w⟩ := Option.map_eq_some_iff.mp h
        injection Sum.inr.inj w with w1 w2
        rw [← w1, t10]
        exact ⟨_, _, _, _, rfl⟩
      · cases h
    · split at h
      · cases h
      · split at h
        · cases h
        · split at h
          · cases h
          · obtain ⟨a, w⟩ := jb_inr h
            injection Sum.inr.inj (Option.some.inj w) with w1 w2
            rw [← w1, t10]
            exact ⟨_, _, _, _, rfl⟩
  rw [if_neg t10] at h
  by_cases t11 : t = 11
  · rw [if_pos t11] at h
    injection Sum.inr.inj (Option.some.inj h) with w1 w2
    rw [← w1, t11]
    exact ⟨_, _, _, _, rfl⟩
  rw [if_neg t11] at h
  by_cases t12 : t = 12
  · rw [if_pos t12] at h
    obtain ⟨a1, h⟩ := jb_inr h
    obtain ⟨a2, h⟩ := jb_inr h
    obtain ⟨a3, h⟩ := jb_inr h
    obtain ⟨a4, h⟩ := jb_inr h
    injection Sum.inr.inj (Option.some.inj h) with w1 w2
    rw [← w1, t12]
    exact ⟨_, _, _, _, rfl⟩
  rw [if_neg t12] at h
  by_cases t13 : t = 13
  · rw [if_pos t13] at h
    obtain ⟨a1, h⟩ := jb_inr h
    cases h
  rw [if_neg t13] at h
  by_cases t14 : t = 14
  · rw [if_pos t14] at h
    obtain ⟨a1, h⟩ := jb_inr h
    injection Sum.inr.inj (Option.some.inj h) with w1 w2
    rw [← w1, t14]
    exact ⟨_, _, _, _, rfl⟩
  rw [if_neg t14] at h
  by_cases t15 : t = 15
  · rw [if_pos t15] at h
    obtain ⟨a1, h⟩ := jb_inr h
    obtain ⟨a2, h⟩ := jb_inr h
    obtain ⟨a3, h⟩ := jb_inr h
    injection Sum.inr.inj (Option.some.inj h) with w1 w2
    rw [← w1, t15]
    exact ⟨_, _, _, _, rfl⟩
  rw [if_neg t15] at h
  by_cases t18 : t = 18
  · rw [if_pos t18] at h
    obtain ⟨a1, h⟩ := jb_inr h
    obtain ⟨a2, h⟩ := jb_inr h
    obtain ⟨a3, h⟩ := jb_inr h
    obtain ⟨a4, h⟩ := jb_inr h
    injection Sum.inr.inj (Option.some.inj h) with w1 w2
    rw [← w1, t18]
    exact ⟨_, _, _, _, rfl⟩
  rw [if_neg t18] at h
  cases r' with
  | leaf => cases h
  | inner t' lb' un' r1 r2 =>
    dsimp only at h
    by_cases t16 : t = 16
    · rw [if_pos t16] at h
      obtain ⟨a1, h⟩ := jb_inr h
      obtain ⟨a2, h⟩ := jb_inr h
      obtain ⟨a3, h⟩ := jb_inr h
      obtain ⟨a4, h⟩ := jb_inr h
      obtain ⟨a5, h⟩ := jb_inr h
      injection Sum.inr.inj (Option.some.inj h) with w1 w2
      rw [← w1, t16]
      exact ⟨_, _, _, _, rfl⟩
    rw [if_neg t16] at h
    by_cases t17 : t = 17
    · rw [if_pos t17] at h
      obtain ⟨a1, h⟩ := jb_inr h
      obtain ⟨a2, h⟩ := jb_inr h
      obtain ⟨a3, h⟩ := jb_inr h
      obtain ⟨a4, h⟩ := jb_inr h
      obtain ⟨a5, h⟩ := jb_inr h
      injection Sum.inr.inj (Option.some.inj h) with w1 w2
      rw [← w1, t17]
      exact ⟨_, _, _, _, rfl⟩
    rw [if_neg t17] at h
    cases h
theorem aM_no {f f' m a t md : Nat} (hf : (f' = 1 ∧ (t = 12 ∨ t = 13)) ∨ (f' = 2 ∧ t = 18)) (no : ¬ aO t md m) : aM h f (md == f') m a = (ll h (fR h f a)).length := by
  unfold aM
  rw [if_neg]
  intro w
  have e : md = f' := by simpa using w.1
  rcases hf with ⟨w1, w2⟩ | ⟨w1, w2⟩
  · exact no (.inr (.inl ⟨by omega, w2, w.2⟩))
  · exact no (.inr (.inr ⟨by omega, w2, w.2⟩))
section LHD
variable {L : Type} {lab : L → XL} {Φ : Std.DTreeMap.Internal.Impl L (fun _ => Unit) → Nat → Nat → Nat → Prop} {t d dp md m a : Nat} {x : L} {un : Unit} {l r' : Std.DTreeMap.Internal.Impl L (fun _ => Unit)}
/-- a head as a whole ex -/
theorem XCg_head (H : XCg lab Φ G h N cl U Sl fo mo (.inner t x un l r') d dp md m a alo ahi) (no : ¬ aO t md m) (nn : ¬ (t = 10 ∧ md = 1 ∧ kd h (fR h 1490 a) = 28)) (hΦ : Φ (.inner t x () l r') md m a → Φ (.inner t x () l r') 0 0 (aX h t md m a)) : XCg lab Φ G h N cl U Sl fo mo (.inner t x un l r') d (dp - 1) 0 0 (aX h t md m a) alo a := by
  rw [XCg_e] at H
  unfold XCb at H
  obtain ⟨⟨h1, h2, h3, h4, hk⟩, hD, hφ, h5⟩ := H
  have la : a < ahi := by
    rcases h3 with w | w
    · exact absurd w no
    · exact w
  have eD : aD t md m dp = dp - 1 := by unfold aD; rw [if_neg no]
  have mk0 : mOk t 0 0 := ⟨fun w => by omega, fun w => by omega, by omega⟩
  have eH : aH h t md m a ahi = a := by
    unfold aH
    rw [if_neg (fun w => by rcases w with w | w; exact no w; exact nn w)]
  have eX : md = 1 → aX h t md m a = fR h 1490 a := fun w => by unfold aX; rw [if_neg no, if_pos w]
  rw [XCg_e]
  unfold XCb
  have e0 : aX h t 0 0 (aX h t md m a) = aX h t md m a := by unfold aX; rw [if_pos (.inl rfl)]
  have e1 : aH h t 0 0 (aX h t md m a) a = a := by unfold aH; rw [if_pos (.inl (.inl rfl))]
  have e2 : aD t 0 0 (dp - 1) = dp - 1 := by unfold aD; rw [if_pos (.inl rfl)]
  rw [e0, e1, e2]
  rw [eH] at h2 h5
  rw [eD] at hD h5
  have z1 : ((0 : Nat) == 1) = false := rfl
  have z2 : ((0 : Nat) == 2) = false := rfl
  refine ⟨⟨h1, h2, .inl (.inl rfl), by omega, mk0⟩, hD, hΦ hφ, ?_⟩
  by_cases t10 : t = 10
  · rw [if_pos t10] at h5 ⊢
    refine ⟨h5.1, h5.2.1, ?_⟩
    have h6 := h5.2.2
    unfold atC at h6 ⊢
    rw [if_neg (fun w => nn ⟨t10, w.1, by rw [← eX w.1]; exact w.2⟩)] at h6
    rw [if_neg (fun w => by omega)]
    exact ⟨fun w => by omega, h6.2⟩
  rw [if_neg t10] at h5 ⊢
  by_cases t11 : t = 11
  · rw [if_pos t11] at h5 ⊢
    exact ⟨fun w => by omega, h5.2⟩
  rw [if_neg t11] at h5 ⊢
  by_cases t12 : t = 12
  · have eM := aM_no (h := h) (f := 1494) (a := aX h t md m a) (.inl ⟨rfl, .inl t12⟩) no
    have nm : ¬ (md = 1 ∧ 0 < m) := fun w => no (.inr (.inl ⟨w.1, .inl t12, w.2⟩))
    rw [if_pos t12] at h5 ⊢
    rw [eM] at h5
    rw [z1, aM_0]
    exact ⟨h5.1, h5.2.1, fun _ => h5.2.2.1 nm, h5.2.2.2⟩
  rw [if_neg t12] at h5 ⊢
  by_cases t13 : t = 13
  · have eM := aM_no (h := h) (f := 1494) (a := aX h t md m a) (.inl ⟨rfl, .inr t13⟩) no
    have nm : ¬ (md = 1 ∧ 0 < m) := fun w => no (.inr (.inl ⟨w.1, .inr t13, w.2⟩))
    rw [if_pos t13] at h5 ⊢
    rw [eM] at h5
    rw [z1, aM_0]
    exact ⟨h5.1, h5.2.1, fun _ => h5.2.2.1 nm, h5.2.2.2⟩
  rw [if_neg t13] at h5 ⊢
  by_cases t18 : t = 18
  · have eM := aM_no (h := h) (f := 1522) (a := aX h t md m a) (.inr ⟨rfl, t18⟩) no
    have nm : ¬ (md = 2 ∧ 0 < m) := fun w => no (.inr (.inr ⟨w.1, t18, w.2⟩))
    rw [if_pos t18] at h5 ⊢
    rw [eM] at h5
    rw [z2, aM_0]
    exact ⟨h5.1, fun _ => h5.2.1 nm, h5.2.2⟩
  rw [if_neg t18] at h5 ⊢
  exact ⟨fun w => by omega, h5.2⟩
/-- a whole ex as a head -/
theorem XCg_unhead {b : Nat} (eb : aX h t md m a = b) (no : ¬ aO t md m) (mk : mOk t md m) (nn : ¬ (t = 10 ∧ md = 1 ∧ kd h b = 28)) (m0 : t = 10 → md = 1 → m = 0) (la : a < ahi ∧ ahi ≤ hz h) (hΦ : Φ (.inner t x () l r') 0 0 b → Φ (.inner t x () l r') md m a) (H : XCg lab Φ G h N cl U Sl fo mo (.inner t x un l r') d (dp - 1) 0 0 b alo a) : XCg lab Φ G h N cl U Sl fo mo (.inner t x un l r') d dp md m a alo ahi := by
  have eD : aD t md m dp = dp - 1 := by unfold aD; rw [if_neg no]
  have eX : md = 1 → b = fR h 1490 a := fun w => by rw [← eb]; unfold aX; rw [if_neg no, if_pos w]
  have eH : aH h t md m a ahi = a := by
    unfold aH
    rw [if_neg (fun w => by
      rcases w with w | w
      · exact no w
      · exact nn ⟨w.1, w.2.1, by rw [eX w.2.1]; exact w.2.2⟩)]
  rw [XCg_e] at H ⊢
  unfold XCb at H ⊢
  have e0 : aX h t 0 0 b = b := by unfold aX; rw [if_pos (.inl rfl)]
  have e1 : aH h t 0 0 b a = a := by unfold aH; rw [if_pos (.inl (.inl rfl))]
  have e2 : aD t 0 0 (dp - 1) = dp - 1 := by unfold aD; rw [if_pos (.inl rfl)]
  rw [e0, e1, e2] at H
  rw [eb, eD, eH]
  obtain ⟨⟨h1, h2, h3, h4, _⟩, hD, hφ, h5⟩ := H
  have z1 : ((0 : Nat) == 1) = false := rfl
  have z2 : ((0 : Nat) == 2) = false := rfl
  refine ⟨⟨h1, h2, .inr la.1, la.2, mk⟩, hD, hΦ hφ, ?_⟩
  by_cases t10 : t = 10
  · rw [if_pos t10] at h5 ⊢
    refine ⟨h5.1, h5.2.1, ?_⟩
    have h6 := h5.2.2
    unfold atC at h6 ⊢
    rw [if_neg (fun w => by omega)] at h6
    rw [if_neg (fun w => nn ⟨t10, w.1, w.2⟩)]
    exact ⟨m0 t10, h6.2⟩
  rw [if_neg t10] at h5 ⊢
  by_cases t11 : t = 11
  · rw [if_pos t11] at h5 ⊢
    exact ⟨fun w => by rcases mk.1 w with v | v | v | v <;> omega, h5.2⟩
  rw [if_neg t11] at h5 ⊢
  by_cases t12 : t = 12
  · have eM := aM_no (h := h) (f := 1494) (a := b) (.inl ⟨rfl, .inl t12⟩) no
    rw [if_pos t12] at h5 ⊢
    rw [z1, aM_0] at h5
    rw [eM]
    exact ⟨h5.1, h5.2.1, fun _ => h5.2.2.1 (by omega), h5.2.2.2⟩
  rw [if_neg t12] at h5 ⊢
  by_cases t13 : t = 13
  · have eM := aM_no (h := h) (f := 1494) (a := b) (.inl ⟨rfl, .inr t13⟩) no
    rw [if_pos t13] at h5 ⊢
    rw [z1, aM_0] at h5
    rw [eM]
    exact ⟨h5.1, h5.2.1, fun _ => h5.2.2.1 (by omega), h5.2.2.2⟩
  rw [if_neg t13] at h5 ⊢
  by_cases t18 : t = 18
  · have eM := aM_no (h := h) (f := 1522) (a := b) (.inr ⟨rfl, t18⟩) no
    rw [if_pos t18] at h5 ⊢
    rw [z2, aM_0] at h5
    rw [eM]
    exact ⟨h5.1, fun _ => h5.2.1 (by omega), h5.2.2⟩
  rw [if_neg t18] at h5 ⊢
  exact ⟨fun w => by rcases mk.1 w with v | v | v | v <;> omega, h5.2⟩
end LHD
/-- the cast of the first part of a use is not an ex's -/
theorem XJ_cs1 {e : Et} {C : Ty} {d dp m a : Nat} (H : XCg Prod.fst (PhJ N cl rest io E lo H0 Sl h us Dk ds dm) G h N cl (UU us rest) Sl fo mo e d dp 1 m a alo ahi) : XCg Prod.fst (PhJ N cl rest io E lo H0 Sl h us Dk ds dm) G h N cl (UU us rest) Sl fo mo (eCs C e) d dp 1 m a alo ahi := by
  cases e with
  | leaf => exact H
  | inner t x u l r' =>
    show XCg Prod.fst (PhJ N cl rest io E lo H0 Sl h us Dk ds dm) G h N cl (UU us rest) Sl fo mo (.inner t (x.1, x.2.1, C, x.2.2.2) u l r') d dp 1 m a alo ahi
    rw [XCg_e] at H ⊢
    unfold XCb at H ⊢
    refine ⟨H.1, H.2.1, ?_, H.2.2.2⟩
    obtain ⟨φ1, φ2⟩ := H.2.2.1
    exact ⟨fun w => by rcases w with w | w <;> omega, φ2⟩
/-- one item of a use -/
theorem u80 {a k i x : Nat} (k30 : kd h a = 30) (kj : kd h jg = 37) (kL : kd h (fR h 1494 a) = 42) (ei : (ll h (fR h 1494 a))[k]? = some i) (ki : kd h i = 31) : C_37_use_80s G r jg a (x, (k : Int), h) = if fR h 1498 i ≠ 0 then xc (C_37_as G jg x 3 0 (fI h 1504 i) h) (fun t h => some (.inr (.inr (.inr (.inl t, h))))) (fun p3 h3 => C_37_use_130 G r jg a x (k : Int) i p3 h3) else C_37_use_130 G r jg a x (k : Int) i 0 h := by
  have kl := (List.getElem?_eq_some_iff.mp ei).1
  have sz : P_J2_size G (fR h 1494 a) h = some (((ll h (fR h 1494 a)).length : Nat) : Int) := by
    unfold P_J2_size
    rw [gd_pos kL]
  have gt : P_J2_get G (fR h 1494 a) (k : Int) h = some i := by
    unfold P_J2_get
    rw [gd_pos ⟨kL, by omega⟩, show ((k : Int)).toNat = k by omega, ei]
  unfold C_37_use_80s
  dsimp only
  rw [gd_pos ⟨k30, kL⟩, sz, Option.bind_some, if_neg (by omega), gd_pos ⟨k30, kL⟩, gt, Option.bind_some, gd_pos ⟨.inr ki, ki⟩]
  by_cases q : fR h 1498 i = 0
  · rw [if_neg (fun w => w q), if_neg (fun w => w q)]
  · rw [if_pos q, if_pos q, gd_pos ⟨ki, kj⟩]
/-- no more items -/
theorem u80_end {a x : Nat} (k30 : kd h a = 30) (kL : kd h (fR h 1494 a) = 42) : (om_loop (C_37_use_80s G r jg a) (x, (((ll h (fR h 1494 a)).length : Nat) : Int), h)).bind (useK G) = some (.inr x, h) := by
  have sz : P_J2_size G (fR h 1494 a) h = some (((ll h (fR h 1494 a)).length : Nat) : Int) := by
    unfold P_J2_size
    rw [gd_pos kL]
  have st : C_37_use_80s G r jg a (x, (((ll h (fR h 1494 a)).length : Nat) : Int), h) = some (.inr (.inr (.inl (x, h)))) := by
    unfold C_37_use_80s
    dsimp only
    rw [gd_pos ⟨k30, kL⟩, sz, Option.bind_some, if_pos (Int.le_refl _)]
  rw [om_loop_out st]
  rfl
end LUS
