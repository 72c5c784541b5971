set_option maxRecDepth 100000
/-! A FUNCTION IS JUDGED, in the component -/
section LFJ
variable {G : om_G} {N : List (List Int)} {cl : Nat → Nat} {tb pr : Nat} {rest : List (Nat × List Nat)} {ss : List (Nat × List GVs)} {s : Nat × List GVs} {Sl Gx W : Nat → Prop} {io fo mo : Nat → Nat} {ab : List (Option Nat)} {ins : List INs} {fn : List (List Nat × List GVs × Ty)} {mt : List (Option (Nat × Nat × Ty))} {h : om_H} {us fs : List Nat} {Dk : Nat → Prop} {ds : List Nat} {dm tot lo H0 : Nat}
/-- a finder and a judge are made -/
theorem BQ_jg (nd : ndN N) (H : BQ G h N cl tb us fs rest Sl Gx io ab ins ss Dk ds dm tot) (hs : s ∈ ss) : ∃ hb hc, C_8_init G (hz h + 1) s.1 tb (nO (nO h 37 3) 9 5) = some hb ∧ C_37_init G (hz h) (hz h + 1) hb = some hc ∧ (kd (nO (nO h 37 3) 9 5) (hz h + 1) = 9 ∧ kd hb (hz h) = 37 ∧ kd hc (hz h) = 37) ∧ (∀ a, a < hz h → eqA a h (nO (nO h 37 3) 9 5) ∧ eqA a h hb ∧ eqA a h hc) ∧ BQ G hc N cl tb us fs rest Sl Gx io ab ins ss Dk ds dm tot ∧ KB N cl tb rest ss Sl Gx (fun _ => False) h us fs Dk ds dm hc us fs Dk ds dm 0 3 11 ∧ JQ G N cl tb (hz h + 1) s.1 rest (fun x => x ∈ ll hc (fR hc 166 s.1)) io (fn, mt, ab, ins, s.2) (hz h) (hz h + 2) hc us fs Dk ds dm Sl [] tot ∧ (hz hc = hz h + 3 ∧ lc hc (hz h + 2) = 0) := by
  have all0 : ∀ a, a < hz h → eqA a h (nO h 37 3) := fun a ha => ⟨by rw [kd_nO, if_neg (by omega)], fun f => by rw [fI_nO, if_neg (by omega)], fun f => by rw [fR_nO, if_neg (by omega)], rfl, fun _ => rfl, fun _ => rfl, rfl, rfl⟩
  have za : hz (nO h 37 3) = hz h + 1 := hz_nO h 37 3
  have ka : kd (nO h 37 3) (hz h) = 37 := by rw [kd_nO, if_pos rfl]
  obtain ⟨Ba, Ka⟩ := BQ_w (W := fun _ => False) (z := 1) (u := 3) nd H (h1 := nO h 37 3) (D := fun _ => False) ⟨by omega, by show hu h ≤ hu h + 3; omega, fun a ha => (all0 a ha).1, fun a ha _ => all0 a ha⟩ (fun _ w => w.elim) (fun _ w => w.elim) ⟨by omega, by show hu h + 3 ≤ _; omega⟩
  obtain ⟨hb, b1, b2, b3, ⟨b4, b5, b6, b7⟩, Bb, Kb, Hb⟩ := BQ_fin nd Ba hs
  rw [za] at b1 b2 b3 b4 b6 b7 Hb
  have kb : kd hb (hz h) = 37 := by rw [(b3 (hz h) (by omega)).1]; exact ka
  obtain ⟨hc, c1, c2, ⟨c3, c4, c5, c6, c7, c8⟩, ⟨d1, d2, d3⟩, ⟨d4, d5⟩, d6, d7, d8⟩ := c_jini (G := G) (h := hb) (l0 := hz h + 1) (jg := hz h) ⟨b6, by omega⟩ ⟨kb, by omega⟩
  rw [b4, show hz h + 1 + 1 = hz h + 2 from rfl] at d3 d4 d6 d7 d8
  have Xc : hT (fun y => y = hz h) hb hc := ⟨by omega, by omega, fun a ha => by
    by_cases w : a = hz h
    · rw [w, c3, kb]
    · exact (c2 a ha w).1, fun a ha n => c2 a ha n⟩
  obtain ⟨Bc, Kc⟩ := BQ_w (W := fun y => y = hz h) (z := 1) (u := 3) nd Bb Xc (fun y w _ => .inl ⟨⟨.inr ⟨.inr (by rw [w, kb]; unfold dyK; omega), w⟩, fun f _ => by rw [w]; exact c4 f, fun f hf => by
    rw [w]
    exact c5 f (fun e => by rw [e] at hf; exact absurd hf (by decide)) (fun e => by rw [e] at hf; exact absurd hf (by decide)) (fun e => by rw [e] at hf; exact absurd hf (by decide))⟩, by rw [w]; exact c6, fun k => by rw [w]; exact c7 k, fun k => by rw [w]; exact c8 k, by rw [w]; exact c5 1330 (by decide) (by decide) (by decide)⟩) (fun y w => by rw [w]; omega) ⟨by omega, by omega⟩
  have Kt : KB N cl tb rest ss Sl Gx (fun _ => False) h us fs Dk ds dm hc us fs Dk ds dm 0 3 11 := by
    have A1 := KB_trans (KB_le (W' := fun y => y = hz h) Ka (fun _ _ w => w.elim) (Nat.le_refl _) (Nat.le_refl _) (Nat.le_refl _)) (KB_le (W' := fun y => y = hz h) Kb (fun _ _ w => w.elim) (Nat.le_refl _) (Nat.le_refl _) (Nat.le_refl _))
    exact KB_le (KB_trans A1 Kc) (fun a ha w => by omega) (by omega) (by omega) (by omega)
  have e9 := c2 (hz h + 1) (by omega) (by omega)
  obtain ⟨T, g, PG, t128, P, Sc, A⟩ := id Bc
  have el : fR hc 166 s.1 = fR hb 166 s.1 ∧ ll hc (fR hb 166 s.1) = ll hb (fR hb 166 s.1) := GVC_ll (Bb.2.2.2.2.2.1 s hs).1 Kc.1
  have Hc : HvQ G hc N cl tb (hz h + 1) s.1 us fs rest Sl (fun x => x ∈ ll hc (fR hc 166 s.1)) io ab ins s.2 Dk ds dm tot := ⟨⟨T, ⟨⟨by rw [e9.1]; exact b6, by omega, by rw [e9.2.2.1]; exact b7⟩, by rw [e9.2.2.1]; exact Hb.1.2.1.2⟩, g, PG, (Sc s hs).1, by rw [e9.2.1]; exact Hb.1.2.2.2.2.2.1, t128⟩, P, (Sc s hs).2.1, fun x hx => hx⟩
  have lt2 : ∀ L, L < hz hb → hz h + 2 ≠ L := fun L hL => by omega
  have ft : ∀ f, fR hc f tb = fR hb f tb := fun f => (c2 tb (TB_3 Bb.1).2.2 (fun e => by
    have := (TB_3 Bb.1).1
    rw [e, kb] at this
    omega)).2.2.1 f
  refine ⟨hb, hc, by rw [← za] at b1 ⊢; exact b1, c1, ⟨by rw [← za]; rw [za]; exact b2, kb, c3⟩, fun a ha => ⟨?_, ?_, ?_⟩, Bc, Kt, ⟨Hc, ⟨⟨c3, by omega⟩, d1, by rw [d2]; exact b7, d3⟩, ⟨⟨by omega, d6, by rw [d7]; exact Nat.zero_le _, by rw [d8]; omega, fun y hy => by rw [d7] at hy; cases hy⟩, by rw [d7]; rfl, fun i y T e1 e2 => by cases e2⟩, ⟨by omega, fun w => ?_, by rw [ft]; exact lt2 _ Bb.1.2.1.1.1, by rw [ft]; exact lt2 _ Bb.2.2.2.2.1.1.1.1, fun d hd => ?_⟩⟩, by omega, d8⟩
  · exact eqA_trans (all0 a ha) ⟨by rw [kd_nO, if_neg (by omega)], fun f => by rw [fI_nO, if_neg (by omega)], fun f => by rw [fR_nO, if_neg (by omega)], rfl, fun _ => rfl, fun _ => rfl, rfl, rfl⟩
  · exact eqA_trans (all0 a ha) (b3 a (by omega))
  · exact eqA_trans (eqA_trans (all0 a ha) (b3 a (by omega))) (c2 a (by omega) (by omega))
  · have := (Bb.2.1.2.2.1 _ w).1
    omega
  · obtain ⟨⟨_, y1, y2⟩, y3, y4⟩ := Bb.2.2.2.2.1.2.2.2.2.2.1 d hd
    have ed := c2 d y1 (fun e => by rw [e, kb] at y2; omega)
    rw [ed.2.2.1, ed.2.2.1]
    refine ⟨fun e => ?_, fun e => ?_⟩
    · rcases y3 with w | w
      · omega
      · have := w.1.1; omega
    · rcases y4 with w | w
      · omega
      · have := w.1.1; omega
set_option maxHeartbeats 1000000 in
/-- A FUNCTION, in the component -/
theorem c_212f (hI : intO G) (nd : ndN N) {B i a y alo ahi b dp : Nat} {l2 : Int} {t : Xt} {T : Ty} {st : JS} {zz : (Nat × Nat) ⊕ (Et × JS)} (J : JOk (fn, mt, ab, ins, s.2) B) (J2 : JOk2 (fn, mt, ab, ins, s.2)) (H : BQ G h N cl tb us fs rest Sl Gx io ab ins ss Dk ds dm st.1) (hs : s ∈ ss) (JC : JCE N cl fo mo (fn, mt, ab, ins, s.2) h (UU us rest) Sl) (hp : kd h pr = 2 ∧ pr < hz h ∧ fR h 78 pr = tb) (hl : fR h 90 pr < hz h ∧ kd h (fR h 90 pr) = 42 ∧ (ll h (fR h 90 pr))[i]? = some (fo i)) (hf : kd h (fo i) = 33 ∧ fo i < hz h ∧ fR h 1542 (fo i) = s.1 ∧ fR h 1554 (fo i) = a ∧ fR h 1550 (fo i) = y) (i9 : i < 1000) (X : XCg id (Ph0 h) G h N cl (UU us rest) Sl fo mo t 0 dp 0 0 a alo ahi) (hdp : dp ≤ 130) (ok : xok (fn, mt, ab, ins, s.2) t 0) (hb : 2700 ≤ b ∧ b + xsz t ≤ 1000000) (hbd : xbd t ≤ 40000) (R : RmJ us fs ds dm st.1 (jcC (fn, mt, ab, ins, s.2) t) (4 * xnN t)) (hlo : lo ≤ dm ∧ H0 ≤ hz h) (hah : ahi ≤ H0) (cy : tyC h N cl (UU us rest) T y) (okT : tyOk ins T) (hzT : tsz T ≤ 1000000) (hW : ∀ a, alo ≤ a → a < ahi → W a) (e : (jb (jd (fn, mt, ab, ins, s.2) t [] st) fun a => jw (fn, mt, ab, ins, s.2) T a.1 a.2) = some zz) : ∃ (h' : om_H) (us' fs' : List Nat) (Dk' : Nat → Prop) (ds' : List Nat) (dm' : Nat), (∀ k p, zz = .inl (k, p) → ∃ a', C_1_judge_212 G pr (i : Int) l2 1 h = some (.inr (.inr (.inl a', h'))) ∧ FtB G N cl tb rest ss Sl Gx W h us fs Dk ds dm (k : Int) (p : Int) a' h' us' fs' Dk' ds' dm' (jcC (fn, mt, ab, ins, s.2) t + 142 * (464 - st.1)) (16 * xnN t + 4) (192 * xnN t + 115) ∧ dm' ≤ dm + 5 * (464 - st.1) + 4 * xnN t) ∧ ∀ e s', zz = .inr (e, s') → ∃ Sl', C_1_judge_212 G pr (i : Int) l2 1 h = some (.inl (((i + 1 : Nat) : Int), l2, h')) ∧ (∀ a, Sl a → Sl' a) ∧ BQ G h' N cl tb us' fs' rest Sl' Gx io ab ins ss Dk' ds' dm' s'.1 ∧ JCE N cl fo mo (fn, mt, ab, ins, s.2) h' (UU us' rest) Sl' ∧ (st.1 ≤ s'.1 ∧ s'.1 ≤ 300) ∧ KB N cl tb rest ss Sl Gx W h us fs Dk ds dm h' us' fs' Dk' ds' dm' (jcC (fn, mt, ab, ins, s.2) t + 142 * (s'.1 - st.1)) (16 * xnN t + 3) (192 * xnN t + 107) ∧ dm' ≤ dm + 5 * (s'.1 - st.1) + 4 * xnN t ∧ tsD N cl rest st.2 s'.2 h' us' ∧ XCg Prod.fst (PhJ N cl rest io (fn, mt, ab, ins, s.2) lo H0 Sl' h' us' Dk' ds' dm') G h' N cl (UU us' rest) Sl' fo mo e 0 dp 0 0 a alo ahi := by
  obtain ⟨hb1, hc, n1, n2, ⟨n3, n4, n5⟩, n6, Bc, Kc, Qc, n7, n8⟩ := BQ_jg (fn := fn) (mt := mt) nd H hs
  have Xc := Ph0_KB (m1 := fun a w => w) Kc (fun _ _ _ _ w => w) (fun w => absurd rfl w) X
  have kpc := Kc.2.2.2.2.2.2.2.1
  have cyc := kpc _ _ cy
  have JCc : JCE N cl fo mo (fn, mt, ab, ins, s.2) hc (UU us rest) Sl := JCE_keep Kc.1 kpc JC
  have P : JCP G N cl tb (hz h + 1) s.1 rest (fun x => x ∈ ll hc (fR hc 166 s.1)) io fo mo (fn, mt, ab, ins, s.2) (hz h) (hz h + 2) lo H0 t [] st hc us fs Dk ds dm Sl dp 0 0 a alo ahi b := ⟨⟨Qc, JCc⟩, Xc, ok, fun T hT => absurd hT List.not_mem_nil, hb, by show 0 + xbd t ≤ 40000; omega, R, ⟨hlo.1, by omega⟩, hah⟩
  obtain ⟨v, h', us', fs', Dk', ds', dm', r1, r2, r3⟩ := c_want (D := 130) (r := C_37_typeOfD G 130) nd J J2 (c_jd hI nd J J2 130) hdp e P cyc okT hzT
  have r1' : C_37_wanted G (C_37_typeOf G) (hz h) a y hc = some (v, h') := r1
  have gt : P_J2_get G (fR h 90 pr) (i : Int) h = some (fo i) := by
    unfold P_J2_get
    have il := (List.getElem?_eq_some_iff.mp hl.2.2).1
    rw [gd_pos ⟨hl.2.1, by omega⟩, show ((i : Int)).toNat = i by omega, hl.2.2]
  have wk : w32 ((i : Int) + 1) = ((i + 1 : Nat) : Int) := by rw [w32_s (by omega) (by omega)]; rfl
  obtain ⟨f0, f1, f2⟩ := n6 (fo i) hf.2.1
  obtain ⟨p0, p1, p2⟩ := n6 pr hp.2.1
  have za : hz (nO h 37 3) = hz h + 1 := hz_nO h 37 3
  have st0 : C_1_judge_212 G pr (i : Int) l2 1 h = xc (some (v, h')) (fun t h => some (.inr (.inr (.inl t, h)))) (fun p6 h6 => some (.inl (((i + 1 : Nat) : Int), l2, h6))) := by
    unfold C_1_judge_212
    rw [if_neg (by decide), gd_pos ⟨hp.1, hl.2.1⟩, gt, Option.bind_some]
    simp only [za]
    rw [gd_pos ⟨.inr hf.1, by rw [f0.1]; exact hf.1, by rw [p0.1]; exact hp.1, n3⟩, f0.2.2.1, hf.2.2.1, p0.2.2.1, hp.2.2, n1, Option.bind_some, gd_pos n4, n2, Option.bind_some, gd_pos ⟨by rw [f2.1]; exact hf.1, n5⟩, f2.2.2.1, hf.2.2.2.1, f2.2.2.1, hf.2.2.2.2, r1', wk]
  refine ⟨h', us', fs', Dk', ds', dm', fun k p w => ?_, fun e' s' w => ?_⟩
  · obtain ⟨a', ev, ⟨t1, t2⟩, t3, t4, t5⟩ := r2 k p w
    obtain ⟨KB1, _⟩ := BQ_KJ Bc hs Qc.1.1.2.1.2 hW t4
    obtain ⟨⟨_, _, _, _, _, lb, _⟩, _⟩ := id t4
    refine ⟨a', by rw [st0, ev, xc_t], ⟨t3, t1, t2, KB_le (KB_trans (KB_le Kc (fun _ _ w => w.elim) (Nat.le_refl _) (Nat.le_refl _) (Nat.le_refl _)) KB1) (fun _ _ w => w) (by omega) (by omega) ?_⟩, by omega⟩
    rw [n8, Qc.2.2.1.2.1] at lb
    have e0 : ([] : List Ty).length = 0 := rfl
    omega
  · obtain ⟨Sl', ev, ⟨x1, ⟨x2, x3⟩, x4, x5, x6, x7⟩, x8⟩ := r3 e' s' w
    obtain ⟨KB1, BB⟩ := BQ_KJ Bc hs Qc.1.1.2.1.2 hW x5.1
    obtain ⟨⟨_, _, _, _, _, lb, _⟩, _⟩ := id x5.1
    refine ⟨Sl', by rw [st0, ev, xc_v], x1, BB Sl' s'.1 x1 x2.1, x3, x4, KB_le (KB_trans (KB_le Kc (fun _ _ w => w.elim) (Nat.le_refl _) (Nat.le_refl _) (Nat.le_refl _)) KB1) (fun _ _ w => w) (by omega) (by omega) ?_, by have := x5.2; omega, x6, x8⟩
    rw [n8, Qc.2.2.1.2.1] at lb
    have e0 : ([] : List Ty).length = 0 := rfl
    omega
end LFJ
