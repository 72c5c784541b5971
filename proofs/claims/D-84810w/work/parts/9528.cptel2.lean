set_option maxRecDepth 100000
/-! THE COMPONENT TELLS PROOFS, as a whole -/
/-- the teller and its sink -/
def TlO (h : om_H) (tl s : Nat) : Prop := kd h tl = 7 ∧ fR h 182 tl = s ∧ kd h s = 8
section LPQ
variable {G : om_G} {tl s t Lp u : Nat} {h h1 h2 : om_H} {N : List (List Int)} {cl : Nat → Nat} {U : Nat → Prop} {nm con fam : Nat → List Int}
theorem TlO_hK (K : hK s h h1) (H : TlO h tl s) : TlO h1 tl s := ⟨by rw [(K.2 tl).1]; exact H.1, by rw [(K.2 tl).2.2.1]; exact H.2.1, by rw [(K.2 s).1]; exact H.2.2⟩
theorem tyC_z {T : Ty} {x : Nat} (c : tyC h N cl U T x) : (T = .leaf ↔ x = 0) := by
  cases T with
  | leaf => exact ⟨fun _ => c, fun _ => rfl⟩
  | inner _ _ _ _ _ => exact ⟨fun z => (by cases z), fun z => absurd z c.1.2.1⟩
/-- a type, with all that is known -/
theorem cs_T {T : Ty} {a : Nat} (k : kd h s = 8) (S : SkC s h t) (hT : T ≠ .leaf) (H : tyC h N cl U T a) (hd : tdp T < 70) (wf : wfT T) (O : tOc N cl nm con fam h T) (ht : t + (tyB nm con fam T).length < 1900000000) : C_0_tell G s a h = some (putL s (tyB nm con fam T) h) ∧ SyC s h (tyB nm con fam T) (putL s (tyB nm con fam T) h) ∧ SkC s (putL s (tyB nm con fam T) h) (t + (tyB nm con fam T).length) ∧ hK s h (putL s (tyB nm con fam T) h) ∧ kd (putL s (tyB nm con fam T) h) s = 8 := ⟨by unfold C_0_tell; exact c_tellD rfl 70 T a h hT H hd wf O k, SyC_L S (by omega), SkC_L S (by omega), putL_hK, putL_8 k⟩
/-- a row of bytes -/
theorem cs_S {j : Nat} {L : List Int} (k : kd h s = 8) (S : SkC s h t) (e : om_sb[j]? = some L) (ht : t + L.length < 1900000000) (hl : L.length ≤ 100000) : C_7_put G s j h = some (putL s L h) ∧ SyC s h L (putL s L h) ∧ SkC s (putL s L h) (t + L.length) ∧ hK s h (putL s L h) ∧ kd (putL s L h) s = 8 := ⟨c_putS k e hl, SyC_L S (by omega), SkC_L S (by omega), putL_hK, putL_8 k⟩
theorem cs_N {v : Nat} (k : kd h s = 8) (S : SkC s h t) (hv : v ≤ 2147483647) (ht : t + (numB v).length < 1900000000) : C_7_number G s (v : Int) h = some (putL s (numB v) h) ∧ SyC s h (numB v) (putL s (numB v) h) ∧ SkC s (putL s (numB v) h) (t + (numB v).length) ∧ hK s h (putL s (numB v) h) ∧ kd (putL s (numB v) h) s = 8 := ⟨c_numT hv k, SyC_L S (by omega), SkC_L S (by omega), putL_hK, putL_8 k⟩
/-- a type's parts, in brackets -/
theorem c_partsT {T : Ty} {a : Nat} (O : TlO h tl s) (S : SkC s h t) (hT : T ≠ .leaf) (H : tyC h N cl U T a) (hd : tdp T < 70) (wf : wfT T) (Oc : tOc N cl nm con fam h T) (ht : t + (prtB nm con fam T).length < 1000000000) : ∃ h', C_6_parts G tl a h = some h' ∧ SyC s h (prtB nm con fam T) h' ∧ hK s h h' := by
  obtain ⟨o1, o2, o3⟩ := O
  rcases T with ⟨k, w, x, l, r⟩ | _
  rotate_left
  · exact absurd rfl hT
  obtain ⟨a1, b, c, d, hl, hr, _⟩ := id H
  obtain ⟨_, ol, or⟩ := Oc
  have hdl : tdp l < 70 ∧ tdp r < 70 := by
    have : tdp (.inner k w x l r) = 1 + max (tdp l) (tdp r) := rfl
    omega
  have ep : prtB nm con fam (.inner k w x l r) = if lfB l = true then [] else 91 :: tyB nm con fam l ++ (if lfB r = true then [] else 44 :: tyB nm con fam r) ++ [93] := rfl
  rw [ep] at ht ⊢
  unfold C_6_parts
  rw [gd_pos b]
  by_cases lf : l = .leaf
  · rw [if_neg (fun z => z ((tyC_z hl).mp lf)), if_pos (lfB_t.mpr lf)]
    exact ⟨h, rfl, SyC_no rfl, hK_refl⟩
  · have lf' : ¬ lfB l = true := fun z => lf (lfB_t.mp z)
    rw [if_pos (fun z => lf ((tyC_z hl).mpr z))]
    rw [if_neg lf'] at ht ⊢
    simp only [List.length_append, List.length_cons, List.length_nil] at ht
    obtain ⟨b1, b2, b3, b4, b5⟩ := cs_b (G := G) o3 S (by omega) 91
    rw [o2, gd_pos ⟨o1, o3⟩, b1, Option.bind_some, (b4.2 tl).1, (b4.2 a).1, gd_pos ⟨o1, b⟩, (b4.2 tl).2.2.1, o2, (b4.2 a).2.2.1]
    obtain ⟨c1, c2, c3, c4, c5⟩ := cs_T (G := G) b5 b3 lf (tyC_hK b4 hl) hdl.1 wf.2.1 (tOc_hK b4 ol) (by omega)
    have K2 := hK_trans b4 c4
    rw [c1, Option.bind_some, (K2.2 a).1, gd_pos b, (K2.2 a).2.2.1]
    by_cases rf : r = .leaf
    · rw [if_pos ((tyC_z hr).mp rf)]
      rw [if_pos (lfB_t.mpr rf)] at ht ⊢
      unfold C_6_parts_44 C_6_parts_62
      obtain ⟨d1, d2, d3, d4, d5⟩ := cs_b (G := G) c5 c3 (by omega) 93
      refine ⟨_, ?_, ?_, hK_trans K2 d4⟩
      · rw [(K2.2 a).1, gd_pos b, (K2.2 a).2.2.1, if_pos ((tyC_z hr).mp rf), (K2.2 tl).1, (K2.2 tl).2.2.1, o2, gd_pos ⟨o1, c5⟩, d1, Option.bind_some]
      · have := SyC_trans (SyC_trans b2 c2) d2
        rw [show 91 :: tyB nm con fam l ++ [] ++ [93] = [91] ++ tyB nm con fam l ++ [93] by simp]
        exact this
    · have rf' : ¬ lfB r = true := fun z => rf (lfB_t.mp z)
      rw [if_neg (fun z => rf ((tyC_z hr).mpr z))]
      rw [if_neg rf'] at ht ⊢
      simp only [List.length_cons] at ht
      obtain ⟨d1, d2, d3, d4, d5⟩ := cs_b (G := G) c5 c3 (by omega) 44
      have K3 := hK_trans K2 d4
      obtain ⟨e1, e2, e3, e4, e5⟩ := cs_T (G := G) d5 d3 rf (tyC_hK K3 hr) hdl.2 wf.2.2 (tOc_hK K3 or) (by omega)
      have K4 := hK_trans K3 e4
      obtain ⟨f1, f2, f3, f4, f5⟩ := cs_b (G := G) e5 e3 (by omega) 93
      refine ⟨_, ?_, ?_, hK_trans K4 f4⟩
      · rw [(K2.2 tl).1, (K2.2 tl).2.2.1, o2, gd_pos ⟨o1, c5⟩, d1, Option.bind_some]
        unfold C_6_parts_44 C_6_parts_62
        rw [(K3.2 a).1, gd_pos b, (K3.2 a).2.2.1, if_neg (fun z => rf ((tyC_z hr).mpr z)), (K3.2 tl).1, gd_pos ⟨o1, b⟩, (K3.2 tl).2.2.1, o2, e1, Option.bind_some, (K4.2 tl).1, (K4.2 tl).2.2.1, o2, gd_pos ⟨o1, e5⟩, f1, Option.bind_some]
      · have := SyC_trans (SyC_trans (SyC_trans (SyC_trans b2 c2) d2) e2) f2
        rw [show 91 :: tyB nm con fam l ++ 44 :: tyB nm con fam r ++ [93] = [91] ++ tyB nm con fam l ++ [44] ++ tyB nm con fam r ++ [93] by simp]
        exact this
set_option maxHeartbeats 1000000 in
/-- A PROOF IS TOLD -/
theorem c_tellPr (wo : whyO G) : ∀ (k f p : Nat) (L : List Int) (h : om_H) (t : Nat), PrC G N cl U nm con fam Lp u h k p L → k ≤ f → TlO h tl s → SkC s h t → t + L.length < 1000000000 → ∃ h', C_6_proofD G f tl p h = some h' ∧ SyC s h L h' ∧ hK s h h'
  | 0, _, _, _, _, _, H, _, _, _, _ => H.elim
  | k + 1, 0, _, _, _, _, _, hf, _, _, _ => by omega
  | k + 1, f + 1, p, L, h, t, H, hf, O, S, ht => by
    obtain ⟨o1, o2, o3⟩ := id O
    obtain ⟨_, kp, H⟩ := H
    show ∃ h', C_6_proofB G (C_6_proofD G f) tl p h = some h' ∧ _
    unfold C_6_proofB
    rw [o2, gd_pos ⟨o1, o3⟩, c_isOver o3, Option.bind_some]
    by_cases ov : fI h 192 s ≤ fI h 204 s
    rotate_left
    · rw [if_neg ov, if_neg (by decide)]
      exact ⟨h, rfl, SyC_skip (by omega), hK_refl⟩
    rw [if_pos ov, if_pos rfl]
    -- one of those below
    have sub : ∀ (p' : Nat) (L' : List Int) (h1 : om_H) (t1 : Nat), hK s h h1 → PrC G N cl U nm con fam Lp u h k p' L' → SkC s h1 t1 → t1 + L'.length < 1000000000 → ∃ h', C_6_proofD G f tl p' h1 = some h' ∧ SyC s h1 L' h' ∧ hK s h1 h' := fun p' L' h1 t1 K1 H' S' ht' => c_tellPr wo k f p' L' h1 t1 (PrC_hK K1 H') (by omega) (TlO_hK K1 O) S' ht'
    rcases H with ⟨a, T, ⟨b1, b2, b3⟩, c, d, e⟩ | ⟨a, i, T, ⟨b1, b2, b3, _⟩, ⟨c1, c2, c3⟩, d, e, g⟩ | ⟨a, g, b, c, d⟩ | ⟨a, L1, b, c⟩ | ⟨a, L1, L2, b, c, d⟩ | ⟨a, kk, w, x, l, r, L1, L2, b, c, d, e, g⟩
    · obtain ⟨w1, w2⟩ := wo h 0 (by decide)
      rw [a, gd_pos ⟨kp, w1⟩, w2, Option.bind_some, if_pos (by decide), gd_pos ⟨o1, o3⟩]
      rw [e] at ht ⊢
      unfold altB at ht ⊢
      simp only [List.length_append, List.length_cons, List.length_nil] at ht
      obtain ⟨x1, x2, x3, x4, x5⟩ := cs_b (G := G) o3 S (by omega) 60
      obtain ⟨y1, y2, y3, y4, y5⟩ := cs_T (G := G) x5 x3 b1 (tyC_hK x4 d) b3 b2 (tOc_hK x4 c) (by omega)
      have K2 := hK_trans x4 y4
      obtain ⟨z1, z2, z3, z4, z5⟩ := cs_b (G := G) y5 y3 (by omega) 62
      refine ⟨_, ?_, ?_, hK_trans K2 z4⟩
      · rw [x1, Option.bind_some, (x4.2 tl).1, (x4.2 p).1, gd_pos ⟨o1, kp⟩, (x4.2 tl).2.2.1, o2, (x4.2 p).2.2.1, y1, Option.bind_some, (K2.2 tl).1, (K2.2 tl).2.2.1, o2, gd_pos ⟨o1, y5⟩, z1, Option.bind_some]
      · have := SyC_trans (SyC_trans x2 y2) z2
        rw [show 60 :: tyB nm con fam T ++ [62] = [60] ++ tyB nm con fam T ++ [62] by simp]
        exact this
    · obtain ⟨w1, w2⟩ := wo h 1 (by decide)
      rw [a, gd_pos ⟨kp, w1⟩, w2, Option.bind_some, if_neg (by decide), if_pos (by decide), gd_pos ⟨o1, o3⟩]
      rw [g] at ht ⊢
      simp only [List.length_append, List.length_cons] at ht
      obtain ⟨x1, x2, x3, x4, x5⟩ := cs_b (G := G) o3 S (by omega) 120
      obtain ⟨y1, y2, y3, y4, y5⟩ := cs_N (G := G) x5 x3 (v := i) (by omega) (by omega)
      have K2 := hK_trans x4 y4
      obtain ⟨h3, z1, z2, z3⟩ := c_partsT (G := G) (TlO_hK K2 O) y3 c1 (tyC_hK K2 e) c3 c2 (tOc_hK K2 d) (by omega)
      refine ⟨h3, ?_, ?_, hK_trans K2 z3⟩
      · rw [x1, Option.bind_some, (x4.2 tl).1, (x4.2 p).1, (x4.2 p).2.2.1, (x4.2 _).1, (x4.2 tl).2.2.1, o2, gd_pos ⟨o1, kp, b1, x5⟩, (x4.2 _).2.1 1280 (.inr ⟨by decide, by decide⟩), b2, y1, Option.bind_some, (K2.2 p).1, (K2.2 tl).1, gd_pos ⟨kp, o1⟩, (K2.2 p).2.2.1, z1, Option.bind_some]
      · have := SyC_trans (SyC_trans x2 y2) z2
        rw [show 120 :: numB i ++ prtB nm con fam T = [120] ++ numB i ++ prtB nm con fam T by simp]
        exact this
    · obtain ⟨w1, w2⟩ := wo h 2 (by decide)
      rw [a, gd_pos ⟨kp, w1⟩, w2, Option.bind_some, if_neg (by decide), if_neg (by decide), if_pos (by decide), gd_pos ⟨o1, o3⟩]
      rw [d] at ht ⊢
      rw [List.length_cons] at ht
      obtain ⟨x1, x2, x3, x4, x5⟩ := cs_b (G := G) o3 S (by omega) 99
      obtain ⟨y1, y2, y3, y4, y5⟩ := cs_N (G := G) x5 x3 (v := g) (by omega) (by omega)
      refine ⟨_, ?_, ?_, hK_trans x4 y4⟩
      · rw [x1, Option.bind_some, (x4.2 tl).1, (x4.2 p).1, (x4.2 tl).2.2.1, o2, gd_pos ⟨o1, kp, x5⟩, (x4.2 p).2.1 1680 (.inr ⟨by decide, by decide⟩), b, y1, Option.bind_some]
      · exact SyC_trans x2 y2
    · obtain ⟨w1, w2⟩ := wo h 3 (by decide)
      rw [a, gd_pos ⟨kp, w1⟩, w2, Option.bind_some, if_neg (by decide), if_neg (by decide), if_neg (by decide), if_pos (by decide), gd_pos ⟨o1, o3⟩]
      rw [c] at ht ⊢
      rw [List.length_cons] at ht
      obtain ⟨x1, x2, x3, x4, x5⟩ := cs_b (G := G) o3 S (by omega) 126
      obtain ⟨h2, y1, y2, y3⟩ := sub _ L1 _ _ x4 b x3 (by omega)
      refine ⟨h2, ?_, SyC_trans x2 y2, hK_trans x4 y3⟩
      rw [x1, Option.bind_some, (x4.2 p).1, (x4.2 tl).1, gd_pos ⟨kp, o1⟩, (x4.2 p).2.2.1, y1, Option.bind_some]
    · obtain ⟨w1, w2⟩ := wo h 4 (by decide)
      rw [a, gd_pos ⟨kp, w1⟩, w2, Option.bind_some, if_neg (by decide), if_neg (by decide), if_neg (by decide), if_neg (by decide), if_pos (by decide), gd_pos ⟨o1, o3⟩]
      rw [d] at ht ⊢
      simp only [List.length_append, List.length_cons, List.length_nil] at ht
      obtain ⟨x1, x2, x3, x4, x5⟩ := cs_b (G := G) o3 S (by omega) 40
      obtain ⟨h2, y1, y2, y3⟩ := sub _ L1 _ _ x4 b x3 (by omega)
      have K2 := hK_trans x4 y3
      obtain ⟨t2, S2, t2a, t2b⟩ := SyC_t x3 y2
      have k2 : kd h2 s = 8 := by rw [(K2.2 s).1]; exact o3
      obtain ⟨z1, z2, z3, z4, z5⟩ := cs_b (G := G) k2 S2 (by omega) 59
      have K3 := hK_trans K2 z4
      obtain ⟨h4, v1, v2, v3⟩ := sub _ L2 _ _ K3 c z3 (by omega)
      have K4 := hK_trans K3 v3
      obtain ⟨t4, S4, t4a, t4b⟩ := SyC_t z3 v2
      have k4 : kd h4 s = 8 := by rw [(K4.2 s).1]; exact o3
      obtain ⟨q1, q2, q3, q4, q5⟩ := cs_b (G := G) k4 S4 (by omega) 41
      refine ⟨_, ?_, ?_, hK_trans K4 q4⟩
      · rw [x1, Option.bind_some, (x4.2 p).1, (x4.2 tl).1, gd_pos ⟨kp, o1⟩, (x4.2 p).2.2.1, y1, Option.bind_some, (K2.2 tl).1, (K2.2 tl).2.2.1, o2, gd_pos ⟨o1, k2⟩, z1, Option.bind_some, (K3.2 p).1, (K3.2 tl).1, gd_pos ⟨kp, o1⟩, (K3.2 p).2.2.1, v1, Option.bind_some, (K4.2 tl).1, (K4.2 tl).2.2.1, o2, gd_pos ⟨o1, k4⟩, q1, Option.bind_some]
      · have := SyC_trans (SyC_trans (SyC_trans (SyC_trans x2 y2) z2) v2) q2
        rw [show 40 :: L1 ++ [59] ++ L2 ++ [41] = [40] ++ L1 ++ [59] ++ L2 ++ [41] by simp]
        exact this
    · obtain ⟨w1, w2⟩ := wo h 5 (by decide)
      rw [a, gd_pos ⟨kp, w1⟩, w2, Option.bind_some, if_neg (by decide), if_neg (by decide), if_neg (by decide), if_neg (by decide), if_neg (by decide)]
      obtain ⟨_, b34, bk, _⟩ := id b
      rw [gd_pos ⟨kp, b34⟩, bk]
      rw [g] at ht ⊢
      simp only [List.length_append, List.length_cons, List.length_nil] at ht
      -- the end of it
      have e281 : ∀ (h1 : om_H) (t1 : Nat) (L3 : List Int), hK s h h1 → SkC s h1 t1 → t1 + L3.length + 1 < 1000000000 → ((fR h 1690 p = 0 ∧ L3 = []) ∨ (fR h 1690 p ≠ 0 ∧ PrC G N cl U nm con fam Lp u h k (fR h 1690 p) L3)) → ∃ h', C_6_proof_281 G (C_6_proofD G f) tl p h1 = some h' ∧ SyC s h1 (L3 ++ [41]) h' ∧ hK s h1 h' := fun h1 t1 L3 K1 S1 ht1 hc => by
        unfold C_6_proof_281
        rw [(K1.2 p).1, gd_pos kp, (K1.2 p).2.2.1]
        rcases hc with ⟨c1, c2⟩ | ⟨c1, c2⟩
        · have k1 : kd h1 s = 8 := by rw [(K1.2 s).1]; exact o3
          obtain ⟨q1, q2, q3, q4, q5⟩ := cs_b (G := G) k1 S1 (by omega) 41
          rw [if_pos c1, c2]
          refine ⟨_, ?_, q2, q4⟩
          unfold C_6_proof_296
          rw [(K1.2 tl).1, (K1.2 tl).2.2.1, o2, gd_pos ⟨o1, k1⟩, q1, Option.bind_some]
        · obtain ⟨h2, y1, y2, y3⟩ := sub _ L3 h1 t1 K1 c2 S1 (by omega)
          have K2 := hK_trans K1 y3
          obtain ⟨t2, S2, t2a, t2b⟩ := SyC_t S1 y2
          have k2 : kd h2 s = 8 := by rw [(K2.2 s).1]; exact o3
          obtain ⟨q1, q2, q3, q4, q5⟩ := cs_b (G := G) k2 S2 (by omega) 41
          rw [if_neg c1, (K1.2 tl).1, gd_pos ⟨kp, o1⟩]
          refine ⟨_, ?_, SyC_trans y2 q2, hK_trans y3 q4⟩
          rw [y1, Option.bind_some]
          unfold C_6_proof_296
          rw [(K2.2 tl).1, (K2.2 tl).2.2.1, o2, gd_pos ⟨o1, k2⟩, q1, Option.bind_some]
      -- behind the head
      have e239 : ∀ (h1 : om_H) (t1 : Nat), hK s h h1 → SkC s h1 t1 → t1 + 1 + L1.length + L2.length + 1 < 1000000000 → ∃ h', C_6_proof_239 G (C_6_proofD G f) tl p (if kk = 3 then 1 else 0) h1 = some h' ∧ SyC s h1 (40 :: L1 ++ L2 ++ [41]) h' ∧ hK s h1 h' := fun h1 t1 K1 S1 ht1 => by
        have k1 : kd h1 s = 8 := by rw [(K1.2 s).1]; exact o3
        obtain ⟨x1, x2, x3, x4, x5⟩ := cs_b (G := G) k1 S1 (by omega) 40
        have K2 := hK_trans K1 x4
        obtain ⟨h2, y1, y2, y3⟩ := sub _ L1 _ _ K2 d x3 (by omega)
        have K3 := hK_trans K2 y3
        obtain ⟨t2, S2, t2a, t2b⟩ := SyC_t x3 y2
        have k3 : kd h2 s = 8 := by rw [(K3.2 s).1]; exact o3
        unfold C_6_proof_239
        rw [(K1.2 tl).1, (K1.2 tl).2.2.1, o2, gd_pos ⟨o1, k1⟩, x1, Option.bind_some, (K2.2 p).1, (K2.2 tl).1, gd_pos ⟨kp, o1⟩, (K2.2 p).2.2.1, y1, Option.bind_some, (K3.2 p).1, gd_pos kp, (K3.2 p).2.2.1]
        rcases e with ⟨e1, e2⟩ | ⟨e1, L3, e2, e3⟩
        · rw [if_pos e1]
          obtain ⟨h3, z1, z2, z3⟩ := e281 h2 t2 [] K3 S2 (by simp; omega) (.inl ⟨e1, rfl⟩)
          refine ⟨h3, z1, ?_, hK_trans (hK_trans x4 y3) z3⟩
          have := SyC_trans (SyC_trans x2 y2) z2
          rw [e2, show 40 :: L1 ++ [] ++ [41] = [40] ++ L1 ++ ([] ++ [41]) by simp]
          exact this
        · rw [e3, List.length_append] at ht1
          rw [if_neg e1, (K3.2 tl).1, gd_pos o1, (K3.2 tl).2.2.1, o2]
          by_cases k33 : kk = 3
          · rw [if_pos k33] at ht1 ⊢
            rw [if_neg (by decide)]
            simp only [List.length_cons, List.length_nil] at ht1
            unfold C_6_proof_278
            obtain ⟨q1, q2, q3, q4, q5⟩ := cs_S (G := G) (j := 37) (L := [45, 62]) k3 S2 rfl (by simp; omega) (by simp)
            have K4 := hK_trans K3 q4
            obtain ⟨h3, z1, z2, z3⟩ := e281 _ _ L3 K4 q3 (by simp; omega) (.inr ⟨e1, e2⟩)
            refine ⟨h3, by rw [gd_pos k3, q1, Option.bind_some]; exact z1, ?_, hK_trans (hK_trans (hK_trans x4 y3) q4) z3⟩
            have := SyC_trans (SyC_trans (SyC_trans x2 y2) q2) z2
            rw [e3, if_pos k33, show 40 :: L1 ++ ([45, 62] ++ L3) ++ [41] = [40] ++ L1 ++ [45, 62] ++ (L3 ++ [41]) by simp]
            exact this
          · rw [if_neg k33] at ht1 ⊢
            rw [if_pos rfl]
            simp only [List.length_cons, List.length_nil] at ht1
            unfold C_6_proof_278
            obtain ⟨q1, q2, q3, q4, q5⟩ := cs_S (G := G) (j := 38) (L := [44]) k3 S2 rfl (by simp; omega) (by simp)
            have K4 := hK_trans K3 q4
            obtain ⟨h3, z1, z2, z3⟩ := e281 _ _ L3 K4 q3 (by simp; omega) (.inr ⟨e1, e2⟩)
            refine ⟨h3, by rw [gd_pos k3, q1, Option.bind_some]; exact z1, ?_, hK_trans (hK_trans (hK_trans x4 y3) q4) z3⟩
            have := SyC_trans (SyC_trans (SyC_trans x2 y2) q2) z2
            rw [e3, if_neg k33, show 40 :: L1 ++ ([44] ++ L3) ++ [41] = [40] ++ L1 ++ [44] ++ (L3 ++ [41]) by simp]
            exact this
      by_cases k33 : kk = 3
      · rw [if_neg (by omega)]
        unfold C_6_proof_223
        rw [if_pos (by decide)]
        rw [if_pos k33] at ht ⊢
        obtain ⟨h3, z1, z2, z3⟩ := e239 h t hK_refl S (by simp at ht; omega)
        rw [if_pos k33] at z1
        exact ⟨h3, z1, z2, z3⟩
      · rw [if_pos (by omega)]
        unfold C_6_proof_223
        rw [if_neg (fun z => z rfl), gd_pos ⟨o1, kp⟩, o2]
        rw [if_neg k33] at ht ⊢
        have hh := c_headT (G := G) o3 b c k33
        have Y1 := SyC_L (L := hdB nm con fam kk w) S (by omega)
        have S1 := SkC_L (L := hdB nm con fam kk w) S (by omega)
        obtain ⟨h3, z1, z2, z3⟩ := e239 _ _ putL_hK S1 (by omega)
        rw [if_neg k33] at z1
        refine ⟨h3, by rw [hh, Option.bind_some]; exact z1, ?_, hK_trans putL_hK z3⟩
        have := SyC_trans Y1 z2
        rw [show hdB nm con fam kk w ++ 40 :: L1 ++ L2 ++ [41] = hdB nm con fam kk w ++ (40 :: L1 ++ L2 ++ [41]) by simp]
        exact this
end LPQ
