set_option maxRecDepth 100000
/-! THE COMPONENT'S MACHINE: one step on code that is resolved -/
/-- what resolved code is like beside cdP; lvl: how many levels an object has -/
def rsP (G : om_G) (h0 : om_H) (m : Nat) (lvl : Nat → Nat) (cd : Nat → Et → Nat → Nat → Nat → Prop) : Prop := ∀ o e a lv d, cd o e a lv d → (∀ h, mFs m h0 h → C_10_levels G a h = some (lvl a : Int)) ∧ lvl a < 5000 ∧ (eTg e = 12 ∨ eTg e = 18 → lv < lvl a) ∧ (a < hz h0 ∧ (kd h0 a = 30 → eTg e = 12) ∧ (kd h0 a = 32 → eTg e = 18)) ∧ (eTg e = 10 → a < hz h0 ∧ kd h0 a = 28) ∧ (eTg e = 11 → a < hz h0 ∧ kd h0 a = 29 ∧ fI h0 1484 a = ((eLb e).2.1 : Int) ∧ (eLb e).2.1 < 1000000)
section LCS
variable {G : om_G} {io : Nat → Nat} {M : MPg} {B : MBd} {cd cs : Nat → Et → Nat → Nat → Nat → Prop} {h0 h Z : om_H} {m mx c lv : Nat} {ls : List Fr} {lvl : Nat → Nat}
/-- a frame without a thing -/
theorem c_frP {f : Fr} (H : mMc G io M cd h0 m h ls c mx) (hl : ls.length < 300) (hcd : cd f.2.2.2.1.1 f.2.1 (fR h 290 m) lv (xls f.2.2.1).length) (he : vC G io M cd h m f.2.2.1 false (fI h 296 m)) (hr : rC G io M.2.2.2 h m (gvW M f.2.2.2.1.1) f.2.2.2.1.2 (fR h 302 m)) (hv : f.1 < 100) (hz0 : f.1 = 15 ∨ f.1 = 16 ∨ f.1 = 17 → lv = 0) : ∃ h1, C_10_push G m (wtK G f.1) (lv : Int) h = some (1, h1) ∧ mMc G io M cd h0 m h1 (f :: ls) c (max mx (ls.length + 1)) ∧ mGc m h h1 ∧ kZ m h h1 ∧ (fI h1 296 m = fI h 296 m ∧ fI h1 292 m = fI h 292 m) ∧ (∀ g, fR h1 g m = fR h g m) ∧ ∀ j, aI h1 (fR h 302 m) j = aI h (fR h 302 m) j := by
  obtain ⟨h1, p1, _⟩ := c_frM (f := f) (lv := lv) (x := 0) H hl hcd he hr (fun z => by omega) hz0
  obtain ⟨h2, q1, q2, q3, q4, q5, q6, q7, q8, q9, q10, q11, q12⟩ := c_frM (f := f) (lv := lv) (x := fI h1 369 (fO h m ls.length)) H hl hcd he hr (fun z => by omega) hz0
  have e : (1, h1) = ((1 : Int), h2) := Option.some.inj (p1.symm.trans q1)
  injection e with e1 e2
  rw [← e2, sI_self] at q6 q7 q8 q9 q10 q11
  exact ⟨h1, p1, q6, q7, q8, q9, q10, q11⟩
/-- too deep -/
theorem c_mkD (H : mMc G io M cd h0 m h ls c mx) (K : kZ m Z h) {r : Option om_H} (er : r = some (sI h 280 m 3)) : mRc G io M cd cs h0 m Z r (.inr (3, .leaf, c, mx)) := by
  obtain ⟨a1, a2, a3, a4, a5, a6, a7⟩ := H
  have W : WSt m [280] h (sI h 280 m 3) := WSt_sI WSt_refl (by decide)
  exact .inr ⟨(show (3 : Nat) ≠ 2 by decide), _, er, mFs_trans a1 (mFs_W a2 W), MC_sk W.1 a2, WSt_nu a3 W (by decide), fI_eq, by rw [W.2.2.1 276 (by decide)]; exact a5.1, kZ_trans K (kZ_W W (by decide))⟩
/-- into a use, into a chain -/
theorem c_mkL {s : MS} {lv' : Nat} (H : mMc G io M cd h0 m h s.2.2.2.1 s.2.2.2.2.1 s.2.2.2.2.2) (hc : cs s.2.2.1.1 s.1 (fR h 290 m) lv' (xls s.2.1).length) (he : vC G io M cd h m s.2.1 false (fI h 296 m)) (hr : rC G io M.2.2.2 h m (gvW M s.2.2.1.1) s.2.2.1.2 (fR h 302 m)) (K : kZ m Z h) : mTc G io M cd cs h0 m (sI h 292 m (lv' : Int)) s ∧ kZ m Z (sI h 292 m (lv' : Int)) := by
  have I := H.2.1
  have W : WSt m [292] h (sI h 292 m (lv' : Int)) := WSt_sI WSt_refl (by decide)
  have g := WSt_gr I H.2.2.1 W (by decide)
  refine ⟨⟨mMc_W H W (by decide) (fun i hi => ?_), ⟨lv', fI_eq, hc⟩, ?_, ?_⟩, kZ_trans K (kZ_W W (by decide))⟩
  · obtain ⟨n1, n2⟩ := MC_fm I (i := i) (by have := H.2.2.2.1.2.1; omega)
    exact ⟨eq_sI n1, eq_sI n2⟩
  · rw [fI_ne (by decide)]
    exact vC_gr g he
  · exact rC_gr g (fun j _ => rfl) hr
set_option maxHeartbeats 2000000 in
/-- ONE STEP ON RESOLVED CODE (names are left to hN) -/
theorem c_stepR (hG : om_okG G) (wO : waitO G) (hI : intO G) (i0 : MC G h0 m) (pp : cdP G h0 m cd cs) (rp : rsP G h0 m lvl cd) {s : MS} {a : Nat} {r : Nat → om_H → Option om_H} (H : mMc G io M cd h0 m h s.2.2.2.1 s.2.2.2.2.1 s.2.2.2.2.2) (ea : fR h 290 m = a) (el : fI h 292 m = (lv : Int)) (hc : cd s.2.2.1.1 s.1 a lv (xls s.2.1).length) (he : vC G io M cd h m s.2.1 false (fI h 296 m)) (hr : rC G io M.2.2.2 h m (gvW M s.2.2.1.1) s.2.2.1.2 (fR h 302 m)) (T : sTy M s) (hN : eTg s.1 = 10 → mRc G io M cd cs h0 m h (C_10_name G m a h) (pstp M B s)) : mRc G io M cd cs h0 m h (C_10_step_19 G r m a (lvl a : Int) h) (pstp M B s) := by
  obtain ⟨e, en, ow, fs, c, mx⟩ := s
  obtain ⟨⟨ok, γ, hen, hw⟩, hfs, hl, hc4⟩ := T
  simp only at H hc he hr hN ok hen hw hfs hl hc4
  have I := H.2.1
  obtain ⟨⟨a1, a2, a3, a4, a5, a6, a7⟩, q12, q18, q14, q15, q16, q17⟩ := cdP_keep i0 H.1 pp _ _ _ _ _ hc
  obtain ⟨_, r2, r3, ⟨rz, r30, r32⟩, r4, r5⟩ := rp _ _ _ _ _ hc
  have xk := exk_kd a3 a4 a5
  have Fr0 : ∀ {b : Nat}, b < hz h0 → kd h b = kd h0 b := fun {b} hb => H.1.1.2.2.1 b hb
  have h272 : fI h 272 m = (fs.length : Int) := H.2.2.2.1.1
  -- what a frame does
  have push : ∀ (wk : Nat), wtK G (eTg e) = wk → eTg e < 100 → (eTg e = 15 ∨ eTg e = 16 ∨ eTg e = 17 → lv = 0) → (fs.length < 300 → ∃ h1, C_10_push G m wk (lv : Int) h = some (1, h1) ∧ mMc G io M cd h0 m h1 ((eTg e, e, en, ow, .leaf) :: fs) c (max mx (fs.length + 1)) ∧ kZ m h h1 ∧ fI h1 292 m = (lv : Int) ∧ fR h1 290 m = a ∧ vC G io M cd h1 m en false (fI h1 296 m) ∧ rC G io M.2.2.2 h1 m (gvW M ow.1) ow.2 (fR h1 302 m)) ∧ (¬ fs.length < 300 → C_10_push G m wk (lv : Int) h = some (0, sI h 280 m 3)) := fun wk ek e1 e2 => by
    refine ⟨fun hf => ?_, fun hf => ?_⟩
    · obtain ⟨h1, p1, p2, p3, p4, ⟨p5, p6⟩, p7, p8⟩ := c_frP (f := (eTg e, e, en, ow, .leaf)) (lv := lv) H hf (by rw [ea]; exact hc) he hr e1 e2
      exact ⟨h1, by rw [← ek]; exact p1, p2, p4, by rw [p6]; exact el, by rw [p7]; exact ea, by rw [p5]; exact vC_gr p3 he, by rw [p7]; exact rC_gr p3 (fun j _ => p8 j) hr⟩
    · refine c_pushF I ?_
      rw [h272]
      omega
  have tags : eTg e = 10 ∨ eTg e = 11 ∨ eTg e = 14 ∨ (eTg e = 12 ∨ eTg e = 18 ∨ eTg e = 15 ∨ eTg e = 16 ∨ eTg e = 17) := by
    cases e with
    | leaf => rw [wS] at hw; exact hw.elim
    | inner t a u l r =>
      show t = 10 ∨ t = 11 ∨ t = 14 ∨ (t = 12 ∨ t = 18 ∨ t = 15 ∨ t = 16 ∨ t = 17)
      rw [wS_e] at hw
      unfold wSB at hw
      refine Classical.byContradiction (fun z => ?_)
      rw [if_neg (fun y => z (.inl y)), if_neg (fun y => z (.inr (.inl y))), if_neg (fun y => z (.inr (.inr (.inr (.inl y))))), if_neg (fun y => z (.inr (.inr (.inl y)))), if_neg (fun y => z (.inr (.inr (.inr (.inr (.inr (.inl y))))))), if_neg (fun y => z (.inr (.inr (.inr (.inr (.inl y))))))] at hw
      cases r with
      | leaf => exact hw
      | inner t' a' u' r1 r2 =>
        simp only at hw
        rw [if_neg (fun y => z (.inr (.inr (.inr (.inr (.inr (.inr (.inl y)))))))), if_neg (fun y => z (.inr (.inr (.inr (.inr (.inr (.inr (.inr y))))))))] at hw
        exact hw
  rcases tags with t | t | t | t | t | t | t | t
  · -- a name
    obtain ⟨b1, b2⟩ := r4 t
    have k28 : kd h a = 28 := by rw [Fr0 b1]; exact b2
    have := hN t
    unfold C_10_step_19
    rw [gd_pos ⟨I.1.1, xk⟩, if_pos (by omega), gd_pos xk, if_pos (by omega), gd_pos xk, if_neg (by omega), gd_pos ⟨.inr k28, I.1.1⟩, bind_sm]
    exact this
  · -- a number
    obtain ⟨b1, b2, b3, b4⟩ := r5 t
    have k29 : kd h a = 29 := by rw [Fr0 b1]; exact b2
    have E := H.1.1.2.2.2 a b1 (not_mOw i0 (by omega) (fun z => by rw [z, i0.2.1.1.1.2.1] at b2; omega))
    have hT : sem M.2.2.2 ow.2 (eTy e) = tInt := by
      cases e with
      | leaf => cases t
      | inner t' a' u l r =>
        have ht : t' = 11 := t
        rw [wS_e] at hw
        unfold wSB at hw
        rw [if_neg (by omega), if_pos ht] at hw
        exact hw
    have ew : w32 ((eLb e).2.1 : Int) = ((eLb e).2.1 : Int) := w32_s (by omega) (by omega)
    have of1 : C_10_of G 4294967296 (fI h 1484 a) h = some (4294967296 + ((eLb e).2.1 : Int) % 4294967296) := by
      rw [E.2.1 1484, b3]
      exact c_of (k := 1) (by omega) (by omega) (by omega) (by omega)
    unfold pstp
    simp only
    rw [if_neg (by omega), if_pos t]
    have := c_comes (mx := mx) hG wO hI i0 pp fs (xvI (w32 ((eLb e).2.1 : Int))) (4294967296 + ((eLb e).2.1 : Int) % 4294967296) tInt h c H (.inl ⟨rfl, by show _ = 4294967296 + w32 ((eLb e).2.1 : Int) % 4294967296; rw [ew]⟩) (by rw [← hT]; exact hfs) (.inl ⟨rfl, rfl, w32_in _⟩)
    unfold C_10_step_19
    rw [gd_pos ⟨I.1.1, xk⟩, if_pos (by omega), gd_pos xk, if_pos (by omega), gd_pos xk, if_pos (by omega), gd_pos xk, if_neg (by omega), gd_pos ⟨.inr k29, k29⟩, of1, Option.bind_some, gd_pos I.1.1, bind_sm]
    exact this
  · -- a function
    have l0 : lv = 0 := a7 (fun z => by have := r30 (by rw [← Fr0 rz]; exact z); omega) (fun z => by have := r32 (by rw [← Fr0 rz]; exact z); omega)
    obtain ⟨k24, _⟩ := q14 t l0
    have st : C_10_step_19 G r m a (lvl a : Int) h = C_10_lambda G m a h := by
      unfold C_10_step_19
      rw [gd_pos ⟨I.1.1, xk⟩, if_pos (by omega), gd_pos xk, if_pos (by omega), gd_pos xk, if_pos (by omega), gd_pos xk, if_pos (by omega), gd_pos xk, if_neg (by omega), gd_pos ⟨.inr k24, I.1.1⟩, bind_sm]
    unfold pstp
    simp only
    rw [if_neg (by omega), if_neg (by omega), if_pos t, st]
    by_cases h4 : c < 4000
    · obtain ⟨h', b1, b2, b3⟩ := c_lamM (o := ow) (e := e) (en := en) (l1 := a) I H.2.2.1 h4 he hr (by rw [l0] at hc; exact hc)
      rw [if_pos h4, b1, bind_sm]
      exact mRc_tr (kZ_C b2 (by decide)) (c_comes (mx := mx) hG wO hI i0 pp fs _ _ _ h' (c + 1) (mMc_C H b2 (by decide)) b3 hfs (.inr (.inr (.inr (.inr (.inr (.inr ⟨rfl, ok, ⟨γ, hen, hw⟩, t, rfl⟩)))))))
    · rw [if_neg h4]
      exact c_mkF H h4 kZ_refl (c_lamF I H.2.2.1 h4)
  · -- a use
    obtain ⟨k30, _, _, _, sub⟩ := q12 t
    obtain ⟨s1, s2⟩ := push (om_cA G 19) (by rw [t]; rfl) (by omega) (fun z => by omega)
    have lt := r3 (.inl t)
    unfold pstp
    simp only
    rw [if_neg (by omega), if_neg (by omega), if_neg (by omega)]
    unfold C_10_step_19
    rw [gd_pos ⟨I.1.1, xk⟩, if_neg (fun z => z k30), gd_pos (.inr k30), el, w32_s (by omega) (by omega), if_pos (by omega), gd_pos I.1.1]
    by_cases hf : fs.length < 300
    · obtain ⟨h1, p1, p2, p3, p4, p5, p6, p7⟩ := s1 hf
      rw [if_pos hf, p1, Option.bind_some]
      show mRc G io M cd cs h0 m h (if (1 : Int) = 0 then _ else gd (kd h1 m = 11) (some (sI h1 292 m (w32 (fI h1 292 m + 1))))) _
      rw [if_neg (by decide), gd_pos p2.2.1.1.1, p4, w32_s (by omega) (by omega)]
      obtain ⟨z1, z2⟩ := c_mkL (cs := cs) (Z := h) (s := (eLf e, en, ow, (eTg e, e, en, ow, .leaf) :: fs, c, max mx (fs.length + 1))) (lv' := lv + 1) p2 (by rw [p5]; exact sub) p6 p7 p3
      exact ⟨_, rfl, z1, z2⟩
    · rw [if_neg hf, s2 hf, Option.bind_some]
      exact c_mkD H kZ_refl (if_pos rfl)
  · -- a chain
    obtain ⟨k32, _, _, _, _, sub⟩ := q18 t
    obtain ⟨s1, s2⟩ := push (om_cA G 24) (by rw [t]; rfl) (by omega) (fun z => by omega)
    have lt := r3 (.inr t)
    unfold pstp
    simp only
    rw [if_neg (by omega), if_neg (by omega), if_neg (by omega)]
    unfold C_10_step_19
    rw [gd_pos ⟨I.1.1, xk⟩, if_pos (by omega), gd_pos xk, if_neg (fun z => z k32), gd_pos (.inr k32), el, w32_s (by omega) (by omega), if_pos (by omega), gd_pos I.1.1]
    by_cases hf : fs.length < 300
    · obtain ⟨h1, p1, p2, p3, p4, p5, p6, p7⟩ := s1 hf
      rw [if_pos hf, p1, Option.bind_some]
      show mRc G io M cd cs h0 m h (if (1 : Int) = 0 then _ else gd (kd h1 m = 11) (some (sI h1 292 m (w32 (fI h1 292 m + 1))))) _
      rw [if_neg (by decide), gd_pos p2.2.1.1.1, p4, w32_s (by omega) (by omega)]
      obtain ⟨z1, z2⟩ := c_mkL (cs := cs) (Z := h) (s := (eLf e, en, ow, (eTg e, e, en, ow, .leaf) :: fs, c, max mx (fs.length + 1))) (lv' := lv + 1) p2 (by rw [p5]; exact sub) p6 p7 p3
      exact ⟨_, rfl, z1, z2⟩
    · rw [if_neg hf, s2 hf, Option.bind_some]
      exact c_mkD H kZ_refl (if_pos rfl)
  · -- a let
    have l0 : lv = 0 := a7 (fun z => by have := r30 (by rw [← Fr0 rz]; exact z); omega) (fun z => by have := r32 (by rw [← Fr0 rz]; exact z); omega)
    obtain ⟨k25, _⟩ := q15 t l0
    obtain ⟨s1, s2⟩ := push (om_cA G 21) (by rw [t]; rfl) (by omega) (fun _ => l0)
    have l0' : (lv : Int) = 0 := by omega
    rw [l0'] at s1 s2
    unfold pstp
    simp only
    rw [if_neg (by omega), if_neg (by omega), if_neg (by omega)]
    unfold C_10_step_19
    rw [gd_pos ⟨I.1.1, xk⟩, if_pos (by omega), gd_pos xk, if_pos (by omega), gd_pos xk, if_pos (by omega), gd_pos xk, if_pos (by omega), gd_pos xk, if_pos (by omega), gd_pos xk, if_neg (by omega), gd_pos ⟨.inr k25, I.1.1⟩]
    by_cases hf : fs.length < 300
    · obtain ⟨h1, p1, p2, p3, p4, p5, p6, p7⟩ := s1 hf
      obtain ⟨_, _, _, _, u15, _⟩ := cdP_keep i0 p2.1 pp _ _ _ _ _ hc
      obtain ⟨u1, u2, _⟩ := u15 t l0
      obtain ⟨h', n1, n2, n3⟩ := c_mkT (cs := cs) (Z := h) (s := (eLf e, en, ow, (eTg e, e, en, ow, .leaf) :: fs, c, max mx (fs.length + 1))) (a := fR h1 1414 a) p2 u2 p6 p7 p3
      rw [if_pos hf, p1, Option.bind_some]
      refine ⟨h', ?_, n2, n3⟩
      show (if (1 : Int) = 0 then _ else gd (kd h1 a = 25 ∧ kd h1 m = 11) ((C_10_next G m (fR h1 1414 a) h1).bind _)) = _
      rw [if_neg (by decide), gd_pos ⟨u1, p2.2.1.1.1⟩, n1, Option.bind_some]
    · rw [if_neg hf, s2 hf, Option.bind_some]
      exact c_mkD H kZ_refl (if_pos rfl)
  · -- a choice
    have l0 : lv = 0 := a7 (fun z => by have := r30 (by rw [← Fr0 rz]; exact z); omega) (fun z => by have := r32 (by rw [← Fr0 rz]; exact z); omega)
    obtain ⟨k26, _⟩ := q16 t l0
    obtain ⟨s1, s2⟩ := push (om_cA G 22) (by rw [t]; rfl) (by omega) (fun _ => l0)
    have l0' : (lv : Int) = 0 := by omega
    rw [l0'] at s1 s2
    unfold pstp
    simp only
    rw [if_neg (by omega), if_neg (by omega), if_neg (by omega)]
    unfold C_10_step_19
    rw [gd_pos ⟨I.1.1, xk⟩, if_pos (by omega), gd_pos xk, if_pos (by omega), gd_pos xk, if_pos (by omega), gd_pos xk, if_pos (by omega), gd_pos xk, if_pos (by omega), gd_pos xk, if_pos (by omega), gd_pos xk, if_neg (by omega), gd_pos ⟨.inr k26, I.1.1⟩]
    by_cases hf : fs.length < 300
    · obtain ⟨h1, p1, p2, p3, p4, p5, p6, p7⟩ := s1 hf
      obtain ⟨_, _, _, _, _, u16, _⟩ := cdP_keep i0 p2.1 pp _ _ _ _ _ hc
      obtain ⟨u1, u2, _⟩ := u16 t l0
      obtain ⟨h', n1, n2, n3⟩ := c_mkT (cs := cs) (Z := h) (s := (eLf e, en, ow, (eTg e, e, en, ow, .leaf) :: fs, c, max mx (fs.length + 1))) (a := fR h1 1422 a) p2 u2 p6 p7 p3
      rw [if_pos hf, p1, Option.bind_some]
      refine ⟨h', ?_, n2, n3⟩
      show (if (1 : Int) = 0 then _ else gd (kd h1 a = 26 ∧ kd h1 m = 11) ((C_10_next G m (fR h1 1422 a) h1).bind _)) = _
      rw [if_neg (by decide), gd_pos ⟨u1, p2.2.1.1.1⟩, n1, Option.bind_some]
    · rw [if_neg hf, s2 hf, Option.bind_some]
      exact c_mkD H kZ_refl (if_pos rfl)
  · -- a case
    have l0 : lv = 0 := a7 (fun z => by have := r30 (by rw [← Fr0 rz]; exact z); omega) (fun z => by have := r32 (by rw [← Fr0 rz]; exact z); omega)
    obtain ⟨k27, _⟩ := q17 t l0
    obtain ⟨s1, s2⟩ := push (om_cA G 23) (by rw [t]; rfl) (by omega) (fun _ => l0)
    have l0' : (lv : Int) = 0 := by omega
    rw [l0'] at s1 s2
    unfold pstp
    simp only
    rw [if_neg (by omega), if_neg (by omega), if_neg (by omega)]
    unfold C_10_step_19
    rw [gd_pos ⟨I.1.1, xk⟩, if_pos (by omega), gd_pos xk, if_pos (by omega), gd_pos xk, if_pos (by omega), gd_pos xk, if_pos (by omega), gd_pos xk, if_pos (by omega), gd_pos xk, if_pos (by omega), gd_pos xk, if_pos (by omega), gd_pos xk, if_neg (by omega), gd_pos ⟨.inr k27, I.1.1⟩]
    by_cases hf : fs.length < 300
    · obtain ⟨h1, p1, p2, p3, p4, p5, p6, p7⟩ := s1 hf
      obtain ⟨_, _, _, _, _, _, u17⟩ := cdP_keep i0 p2.1 pp _ _ _ _ _ hc
      obtain ⟨u1, u2, _⟩ := u17 t l0
      obtain ⟨h', n1, n2, n3⟩ := c_mkT (cs := cs) (Z := h) (s := (eLf e, en, ow, (eTg e, e, en, ow, .leaf) :: fs, c, max mx (fs.length + 1))) (a := fR h1 1434 a) p2 u2 p6 p7 p3
      rw [if_pos hf, p1, Option.bind_some]
      refine ⟨h', ?_, n2, n3⟩
      show (if (1 : Int) = 0 then _ else gd (kd h1 a = 27 ∧ kd h1 m = 11) ((C_10_next G m (fR h1 1434 a) h1).bind _)) = _
      rw [if_neg (by decide), gd_pos ⟨u1, p2.2.1.1.1⟩, n1, Option.bind_some]
    · rw [if_neg hf, s2 hf, Option.bind_some]
      exact c_mkD H kZ_refl (if_pos rfl)
end LCS
