set_option maxRecDepth 100000
/-! ALL FUNCTIONS AND INSTS ARE JUDGED, in the component: one after another -/
section LJN
variable {G : om_G} {N : List (List Int)} {cl : Nat → Nat} {tb pr : Nat} {rest : List (Nat × List Nat)} {ss : List (Nat × List GVs)} {Sl0 Gx : Nat → Prop} {io fo mo : Nat → Nat} {ab : List (Option Nat)} {ins : List INs} {fn : List (List Nat × List GVs × Ty)} {mt : List (Option (Nat × Nat × Ty))} {lo H0 nF nI : Nat}
theorem sqL_next {h h1 : om_H} {Sl Sl1 Slm : Nat → Prop} (X : hS Slm h h1) (m0 : ∀ a, Sl0 a → Slm a) (mn : ∀ a, neL h Sl a → Slm a) (m1 : ∀ a, Sl a → Sl1 a) (lt : ∀ a, Sl a → a < hz h) : ∀ a, sqL Sl0 h Sl a → sqL Sl0 h1 Sl1 a := fun a w => by
  rcases w with w | w
  · exact .inl w
  · exact .inr ⟨m1 a w.1, by rw [X.2.2.2.2 a (lt a w.1) (mn a w)]; exact w.2⟩
set_option maxHeartbeats 1000000 in
/-- ALL OF THEM -/
theorem c_jall (hI : intO G) (nd : ndN N) (hn : nF ≤ 900 ∧ nI ≤ 900) : ∀ (l : List JB) (f i : Nat) (st : JS) (zz : (Nat × Nat) ⊕ (List (List Et) × JS)) (h : om_H) (us fs : List Nat) (Dk : Nat → Prop) (ds : List Nat) (dm : Nat) (Sl : Nat → Prop), jjs fn mt ab ins l st = some zz → JbsC G N cl rest ss io fo mo fn mt ab ins H0 nF nI Sl0 h us Sl l f i → l.Pairwise (fun j j' => j.2.1 < j'.2.1) → l.Pairwise (fun j j' => j.2.2.1.2 ≤ j'.2.2.1.1) → (∀ j ∈ l, j.2.2.1.2 ≤ H0) → BQ G h N cl tb us fs rest Sl Gx io ab ins ss Dk ds dm st.1 → (∀ a, Sl0 a → Sl a) → PGC h N cl (UU us rest) Sl0 io ab ins → (∀ t ∈ ss, GVC h N cl (UU us rest) Sl0 t.1 t.2) → JCE N cl fo mo (fn, mt, ab, ins, []) h (UU us rest) Sl0 → JPr h tb pr Sl0 io fo nI nF → RmJ us fs ds dm st.1 (jsQ fn mt ab ins l) (4 * jsX l) → lo ≤ dm ∧ H0 ≤ hz h → ∃ (h' : om_H) (us' fs' : List Nat) (Dk' : Nat → Prop) (ds' : List Nat) (dm' : Nat), (∀ k p, zz = .inl (k, p) → ∃ a', om_loop (C_1_judge_129s G pr) ((f : Int), (i : Int), h) = some (.inr (.inl a', h')) ∧ FtB G N cl tb rest ss (sqL Sl0 h Sl) Gx (WJb l) h us fs Dk ds dm (k : Int) (p : Int) a' h' us' fs' Dk' ds' dm' (jsQ fn mt ab ins l + 142 * (464 - st.1)) (16 * jsX l + 3 * jsN l + 2) (192 * jsX l + 110 * jsN l + 40) ∧ dm' ≤ dm + 5 * (464 - st.1) + 4 * jsX l) ∧ ∀ ess s', zz = .inr (ess, s') → ∃ Sl', om_loop (C_1_judge_129s G pr) ((f : Int), (i : Int), h) = some (.inl h') ∧ (∀ a, Sl a → Sl' a) ∧ BQ G h' N cl tb us' fs' rest Sl' Gx io ab ins ss Dk' ds' dm' s'.1 ∧ (PGC h' N cl (UU us' rest) Sl0 io ab ins ∧ (∀ t ∈ ss, GVC h' N cl (UU us' rest) Sl0 t.1 t.2) ∧ JCE N cl fo mo (fn, mt, ab, ins, []) h' (UU us' rest) Sl0 ∧ JPr h' tb pr Sl0 io fo nI nF) ∧ (st.1 ≤ s'.1 ∧ s'.1 ≤ 300) ∧ KB N cl tb rest ss (sqL Sl0 h Sl) Gx (WJb l) h us fs Dk ds dm h' us' fs' Dk' ds' dm' (jsQ fn mt ab ins l + 142 * (s'.1 - st.1)) (16 * jsX l + 3 * jsN l) (192 * jsX l + 110 * jsN l) ∧ dm' ≤ dm + 5 * (s'.1 - st.1) + 4 * jsX l ∧ tsD N cl rest st.2 s'.2 h' us' ∧ JbsJ G N cl rest io fo mo fn mt ab ins lo H0 h' us' Dk' ds' dm' Sl' l ess f
  | [], f, i, st, zz, h, us, fs, Dk, ds, dm, Sl, ez, A, _, _, _, Q, S0, PG0, GV0, JC0, Pr, R, hl => by
    have ez' : zz = .inr ([], st) := (Option.some.inj ez).symm
    obtain ⟨⟨a1, a2, a3⟩, ⟨b1, b2, b3, b4, b5⟩, ⟨c1, c2, c3, c4, c5⟩⟩ := id Pr
    obtain ⟨ef, ei⟩ : f = nF ∧ i = nI := A
    refine ⟨h, us, fs, Dk, ds, dm, fun k p w => (by rw [ez'] at w; cases w), fun ess s' w => ?_⟩
    rw [ez'] at w
    injection Sum.inr.inj w with w1 w2
    rw [← w1, ← w2]
    refine ⟨Sl, om_loop_out ?_, fun _ w => w, Q, ⟨PG0, GV0, JC0, Pr⟩, ⟨Nat.le_refl _, R.2.2.2⟩, KB_le (KB_refl (W := WJb []) (PoolC_less (fun a w => w.elim (S0 a) And.left) Q.2.2.2.2.1)) (fun _ _ w => w) (by omega) (by omega) (by omega), by omega, tsD_refl, trivial⟩
    unfold C_1_judge_129s
    simp only
    rw [gd_pos ⟨a1, c3⟩, jp_sz c3 c4, Option.bind_some, if_neg (by omega), gd_pos ⟨a1, b3⟩, jp_sz b3 b4, Option.bind_some, if_pos (by omega)]
  | j :: l, f, i, st, zz, h, us, fs, Dk, ds, dm, Sl, ez, A, pp, pr', hH, Q, S0, PG0, GV0, JC0, Pr, R, hl => by
    obtain ⟨pp1, pp2⟩ := List.pairwise_cons.mp pp
    obtain ⟨pr1, pr2⟩ := List.pairwise_cons.mp pr'
    rw [jsQ_c, jsX_c] at R
    rw [jsQ_c, jsX_c, jsN_c]
    have ez2 : (jb (jj1 fn mt ab ins j st) fun a => jb (jjs fn mt ab ins l a.2) fun b => some (.inr (a.1 :: b.1, b.2))) = some zz := ez
    obtain ⟨z1, ez1⟩ : ∃ z1, jj1 fn mt ab ins j st = some z1 := by
      rcases jb_cs ez2 with ⟨kp, e1, _⟩ | ⟨a, e1, _⟩
      · exact ⟨_, e1⟩
      · exact ⟨_, e1⟩
    have RJ : RmJ us fs ds dm st.1 (jbQ fn mt ab ins j) (4 * jbX j) := RmJ_le R (by omega) (by omega)
    have wj : ∀ a, wJb j a → WJb (j :: l) a := fun a w => ⟨j, by simp, w⟩
    have wl : ∀ a, WJb l a → WJb (j :: l) a := fun a w => by obtain ⟨y, w1, w2⟩ := w; exact ⟨y, by simp [w1], w2⟩
    by_cases k0 : j.1 = 2 ∨ j.1 = 6
    · have JO : JbO G N cl tb pr rest ss Sl0 Gx io fo mo ab ins fn mt lo H0 h us fs Dk ds dm Sl st j f i z1 := by
        rcases k0 with w | w
        · exact job_f hI nd w ez1 A pp1 hn Q S0 JC0 Pr RJ hl
        · exact job_i hI nd w ez1 A pp1 hn Q S0 PG0 GV0 JC0 Pr RJ hl
      obtain ⟨h1, us1, fs1, Dk1, ds1, dm1, o1, o2⟩ := JO
      rcases jb_cs ez2 with ⟨kp, e1, e2⟩ | ⟨⟨es, s1⟩, e1, e2⟩
      · have ezk : z1 = .inl kp := Option.some.inj (ez1.symm.trans e1)
        obtain ⟨a', g1, ⟨g2, g3, g4, g5⟩, g6⟩ := o1 kp.1 kp.2 ezk
        refine ⟨h1, us1, fs1, Dk1, ds1, dm1, fun k p w => ?_, fun ess s' w => by rw [e2] at w; cases w⟩
        rw [e2] at w
        have w' := Sum.inl.inj w
        rw [w'] at g2
        exact ⟨a', om_loop_out g1, ⟨g2, g3, g4, KB_le g5 (fun a _ w => wj a w) (by omega) (by omega) (by omega)⟩, by omega⟩
      · have ezk : z1 = .inr (es, s1) := Option.some.inj (ez1.symm.trans e1)
        obtain ⟨Sl1, g1, g2, g3, g4, ⟨Slm, n1, n2, n3, KS⟩, g6, g7, g8⟩ := o2 es s1 ezk
        have X := KS.1
        have X0 : hS Sl0 h h1 := hS_less n1 X
        have kp := KS.2.2.2.2.2.2.2.1
        have lt : ∀ a, Sl a → a < hz h := fun a w => (Q.2.1.2.2.1 a w).1
        have clk : ∀ c, clO h1 cl c → clO h cl c := fun c hc => by
          obtain ⟨y1, y2, y3, y4⟩ := hc
          have hc' := Q.2.1.2.2.2 c
          have k18 : kd h (cl c) = 18 := by rw [← X.2.1 _ hc']; exact y3
          exact ⟨y1, hc', k18, by rw [← (X.2.2.1 _ hc' (by rw [k18]; decide)).1 1200 (by decide)]; exact y4⟩
        have nx := sqL_next (Sl0 := Sl0) X n1 n2 g2 lt
        have A1 : JbsC G N cl rest ss io fo mo fn mt ab ins H0 nF nI Sl0 h1 us1 Sl1 l (if j.1 = 2 then f + 1 else f) (if j.1 = 6 then i + 1 else i) := JbsC_KB (r1 := j.2.2.1.2) KS n1 g2 (fun a w => ⟨lt a w, n3 a w⟩) (fun a w => w.1.2) l _ _ (fun j' hj' => pr1 j' hj') A.2.2
        have KQ : KB N cl tb rest ss (sqL Sl0 h Sl) Gx (wJb j) h us fs Dk ds dm h1 us1 fs1 Dk1 ds1 dm1 (jbQ fn mt ab ins j + 142 * (s1.1 - st.1)) (16 * jbX j + 3 * jbN j) (192 * jbX j + 110 * jbN j) := KB_less (fun a w => w.elim (n1 a) (n2 a)) KS
        have K01 := KB_le (W' := WJb (j :: l)) KQ (fun a _ w => wj a w) (Nat.le_refl _) (Nat.le_refl _) (Nat.le_refl _)
        have dmm := KS.2.2.1.2.2.1
        have tl1 := KS.2.2.2.2.2.1
        have dl1 := KS.2.2.2.2.2.2.2.2.1.2.2
        have R1 : RmJ us1 fs1 ds1 dm1 s1.1 (jsQ fn mt ab ins l) (4 * jsX l) := by
          obtain ⟨r1, r2, r3, r4⟩ := R
          refine ⟨by omega, by omega, by omega, g4.2⟩
        rcases jb_cs e2 with ⟨kp', f1, f2⟩ | ⟨⟨ess1, s2⟩, f1, f2⟩
        · obtain ⟨h2, us2, fs2, Dk2, ds2, dm2, i1, _⟩ := c_jall hI nd hn l _ _ s1 _ h1 us1 fs1 Dk1 ds1 dm1 Sl1 f1 A1 pp2 pr2 (fun j' hj' => hH j' (by simp [hj'])) g3 (fun a w => g2 a (S0 a w)) (PGC_hS X0 kp PG0 clk) (fun t ht => GVC_hS X0 kp (GV0 t ht)) (JCE_keep X0 kp JC0) (JPr_hS X0 Pr) R1 ⟨by omega, by have := X.1; omega⟩
          obtain ⟨a', j1, ⟨j2, j3, j4, j5⟩, j6⟩ := i1 kp'.1 kp'.2 rfl
          refine ⟨h2, us2, fs2, Dk2, ds2, dm2, fun k p w => ?_, fun ess s' w => by rw [f2] at w; cases w⟩
          rw [f2] at w
          have w' := Sum.inl.inj w
          rw [w'] at j2
          exact ⟨a', by rw [om_loop_in g1]; exact j1, ⟨j2, j3, PoolC_less nx j4, KB_le (KB_trans K01 (KB_le (KB_less nx j5) (fun a _ w => wl a w) (Nat.le_refl _) (Nat.le_refl _) (Nat.le_refl _))) (fun _ _ w => w) (by omega) (by omega) (by omega)⟩, by omega⟩
        · obtain ⟨h2, us2, fs2, Dk2, ds2, dm2, _, i2⟩ := c_jall hI nd hn l _ _ s1 _ h1 us1 fs1 Dk1 ds1 dm1 Sl1 f1 A1 pp2 pr2 (fun j' hj' => hH j' (by simp [hj'])) g3 (fun a w => g2 a (S0 a w)) (PGC_hS X0 kp PG0 clk) (fun t ht => GVC_hS X0 kp (GV0 t ht)) (JCE_keep X0 kp JC0) (JPr_hS X0 Pr) R1 ⟨by omega, by have := X.1; omega⟩
          obtain ⟨Sl2, j1, j2, j3, j4, j5, j6, j7, j8, j9⟩ := i2 ess1 s2 rfl
          have f2' : zz = .inr (es :: ess1, s2) := (Option.some.inj f2).symm
          refine ⟨h2, us2, fs2, Dk2, ds2, dm2, fun k p w => (by rw [f2'] at w; cases w), fun ess s' w => ?_⟩
          rw [f2'] at w
          injection Sum.inr.inj w with w1 w2
          rw [← w1, ← w2]
          have hj : j.2.2.1.1 ≤ j.2.2.2.1.2.2.2.2.1 ∧ j.2.2.2.1.2.2.2.2.2 ≤ j.2.2.1.2 ∨ j.1 ≠ 2 := by
            by_cases v : j.1 = 2
            · have r := (A.1 v).2.2.2.2.1
              exact .inl ⟨r.1, r.2.1⟩
            · exact .inr v
          refine ⟨Sl2, by rw [om_loop_in g1]; exact j1, fun a w => j2 a (g2 a w), j3, j4, ⟨by omega, j5.2⟩, KB_le (KB_trans K01 (KB_le (KB_less nx j6) (fun a _ w => wl a w) (Nat.le_refl _) (Nat.le_refl _) (Nat.le_refl _))) (fun _ _ w => w) (by omega) (by omega) (by omega), by omega, tsD_trans g7 j6.2.2.2.2.2.2.2.1 j8, ⟨JbJ_KB (Slm := sqL Sl0 h1 Sl1) g3.2.2.2.2.1 j6 (fun a w => .inr w) (fun a w => w.elim (fun v => g2 a (S0 a v)) And.left) j2 (fun a h1 h2 w => ?_) hj ⟨?_, fun a ha w => ?_⟩ g8, hj, j9⟩⟩
          · obtain ⟨y, y1, ⟨y2, y3⟩, _⟩ := w
            have := pr1 y y1
            omega
          · have := g3.2.2.2.2.1.2.2.1.2.1
            omega
          · obtain ⟨y, y1, ⟨y2, y3⟩, _⟩ := w
            have := hH y (by simp [y1])
            omega
    · have n2 : j.1 ≠ 2 := fun w => k0 (.inl w)
      have n6 : j.1 ≠ 6 := fun w => k0 (.inr w)
      have e1 : jj1 fn mt ab ins j st = some (.inr ([], st)) := by
        unfold jj1
        rw [if_neg n2, if_neg n6]
      have A1 := A.2.2
      rw [if_neg n2, if_neg n6] at A1
      rcases jb_cs ez2 with ⟨kp, e3, _⟩ | ⟨⟨es, s1⟩, e3, e2⟩
      · rw [e1] at e3; cases Option.some.inj e3
      · rw [e1] at e3
        injection Sum.inr.inj (Option.some.inj e3) with e4 e5
        subst e4 e5
        rcases jb_cs e2 with ⟨kp', f1, f2⟩ | ⟨⟨ess1, s2⟩, f1, f2⟩
        · obtain ⟨h2, us2, fs2, Dk2, ds2, dm2, i1, _⟩ := c_jall hI nd hn l _ _ st _ h us fs Dk ds dm Sl f1 A1 pp2 pr2 (fun j' hj' => hH j' (by simp [hj'])) Q S0 PG0 GV0 JC0 Pr (RmJ_le R (by omega) (by omega)) hl
          obtain ⟨a', j1, ⟨j2, j3, j4, j5⟩, j6⟩ := i1 kp'.1 kp'.2 rfl
          refine ⟨h2, us2, fs2, Dk2, ds2, dm2, fun k p w => ?_, fun ess s' w => by rw [f2] at w; cases w⟩
          rw [f2] at w
          have w' := Sum.inl.inj w
          rw [w'] at j2
          exact ⟨a', j1, ⟨j2, j3, j4, KB_le j5 (fun a _ w => wl a w) (by omega) (by omega) (by omega)⟩, by omega⟩
        · obtain ⟨h2, us2, fs2, Dk2, ds2, dm2, _, i2⟩ := c_jall hI nd hn l _ _ st _ h us fs Dk ds dm Sl f1 A1 pp2 pr2 (fun j' hj' => hH j' (by simp [hj'])) Q S0 PG0 GV0 JC0 Pr (RmJ_le R (by omega) (by omega)) hl
          obtain ⟨Sl2, j1, j2, j3, j4, j5, j6, j7, j8, j9⟩ := i2 ess1 s2 rfl
          have f2' : zz = .inr ([] :: ess1, s2) := (Option.some.inj f2).symm
          refine ⟨h2, us2, fs2, Dk2, ds2, dm2, fun k p w => (by rw [f2'] at w; cases w), fun ess s' w => ?_⟩
          rw [f2'] at w
          injection Sum.inr.inj w with w1 w2
          rw [← w1, ← w2]
          refine ⟨Sl2, j1, j2, j3, j4, j5, KB_le j6 (fun a _ w => wl a w) (by omega) (by omega) (by omega), by omega, j8, ⟨⟨fun v => absurd v n2, fun v => absurd v n6⟩, .inr n2, ?_⟩⟩
          rw [if_neg n2]
          exact j9
end LJN
