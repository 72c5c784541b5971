set_option maxRecDepth 100000
/-! A LINE IS JUDGED, in the twin -/
theorem gPl_ep : ∀ e : Et, gPl (Prod.fst : XL × Ty × Ty × List Dc → XL) e = ePl e
  | .leaf => rfl
  | .inner _ _ _ _ _ => rfl
section LTN
variable {σ : tS} {n : Nat} {E : JE} {s : JS} {B : Nat}
set_option maxHeartbeats 1000000 in
/-- A LINE, in the twin -/
theorem t_line (J : JOk E B) (hg : ∀ g ∈ E.2.2.2.2, g.1 < 100 → g.1 < E.2.2.1.length) {t : Xt} {f o v lo hi w wc m b tk nx : Nat} {l1 l3 : Int} {nxt : Int} {d : INs} {mty : Ty} {zz : (Nat × Nat) ⊕ (Et × JS)} (ez : jln E (sbT [(wc, hdI d)] mty) t s = some zz) (A : JSt σ n E [] s 0) (X : XTp σ n t lo hi v) (ho : o < 8400 ∧ ga σ 546 o = (v : Int) ∧ ga σ 542 o = (tk : Int) ∧ tk < 4100 ∧ ga σ 482 tk = (w : Int) ∧ w < 2100 ∧ ga σ 562 o = nxt) (h642 : ga σ 642 w = ((4 * d.1 + m : Nat) : Int)) (hm : m < 4) (em : E.2.1[4 * d.1 + m]? = some (some (d.1, wc, mty))) (hf : f < 20) (P : InTw σ n E.2.2.1.length f d) (h8 : E.2.2.1.length ≤ 8) (okM : tyOk E.2.2.2.1 mty ∧ tsz mty ≤ 2700 ∧ tdp mty < 60) (okH : tyOk E.2.2.2.1 (hdI d)) (okT : tyOk E.2.2.2.1 (sbT [(wc, hdI d)] mty)) (ok : xok E t 0) (hb : 2700 ≤ b ∧ b + xsz t ≤ 1000000) (hbd : xbd t ≤ 590) (hhl : hi - lo ≤ 4200) (hrd : xrd t < 130) (R : n + jct E t + 142 * (300 - s.1) + 21000 < 126000) : ∃ σ' n', T_judgeAll_104s l1 (f : Int) l3 ((o : Int), σ) = some (.inl (nxt, σ')) ∧ JFr σ σ' lo hi 0 0 ∧ (gs σ' 788 = gs σ 788 ∧ gs σ' 856 = gs σ 856 ∧ NodB σ') ∧ tx σ n σ' n' ∧ (∀ k p, zz = .inl (k, p) → (k ≠ 0 ∧ gs σ' 452 = (k : Int) ∧ gs σ' 456 = (p : Int)) ∧ TyW σ' n' ∧ n' ≤ n + jct E t + 142 * (300 - s.1) + 21000) ∧ ∀ e s', zz = .inr (e, s') → (gs σ' 452 = 0 ∧ gs σ' 812 = (s'.1 : Int) ∧ s.1 ≤ s'.1 ∧ s'.1 ≤ 300) ∧ TyS σ' n' ∧ n' ≤ n + jct E t + 63 + 142 * (s'.1 - s.1) ∧ XTe σ' n' e lo hi v ∧ ∃ D, s'.2 = s.2 ++ D ∧ ∀ X ∈ D, ∃ t, tyT σ' n' X t := by
  have hin := XTg_in X
  obtain ⟨o1, o2, o3, o4, o5, o6, o7⟩ := ho
  have oN : ((o : Int)).toNat = o := by omega
  have dC : d.1 < E.2.2.1.length := P.1.2
  have f452 := A.2.2.1
  unfold jln at ez
  -- behind a fault
  have flt : ∀ (y : Int) (σ1 : tS), gs σ1 452 ≠ 0 → (∀ i, ga σ1 562 i = ga σ 562 i) → T_judgeAll_183 l1 (f : Int) l3 (o : Int) y σ1 = some (.inl (nxt, σ1)) := fun y σ1 k1 k2 => by
    unfold T_judgeAll_183 T_wanted
    rw [if_pos (by omega), if_neg k1, Option.bind_some, if_pos (by omega), oN, k2, o7]
  rcases jb_cs ez with ⟨kp, e1, e2⟩ | ⟨⟨e0, s1⟩, e1, e2⟩
  · obtain ⟨x, σ1, n1, r1, F1, ⟨g1, g2, g3, _, _⟩, O1, _⟩ := t_jd J hg 130 t hrd [] s _ σ n lo hi v 0 b ⟨e1, A, X, ok, fun T hT => absurd hT List.not_mem_nil, hb, by show 0 + xbd t ≤ 590; omega, by omega, by omega⟩
    obtain ⟨⟨k0, k1, k2⟩, w1, w2, w3⟩ := O1 kp.1 kp.2 rfl
    have r1' : T_judge (v : Int) σ = some (x, σ1) := r1
    have n452 : gs σ1 452 ≠ 0 := by rw [k1]; omega
    refine ⟨σ1, n1, ?_, F1, ⟨g1, g2, g3⟩, w2, fun k p w => ?_, fun e s' w => by rw [e2] at w; cases w⟩
    · unfold T_judgeAll_104s
      simp only
      rw [if_neg (by omega), if_neg (fun z => z f452), if_pos (by omega), oN, o2, r1', Option.bind_some]
      simp only
      rw [if_pos n452]
      exact flt x σ1 n452 (fun i => F1.1.2 562 (by decide) i)
    · rw [e2] at w
      have w' := Sum.inl.inj w
      rw [w'] at k0 k1 k2
      exact ⟨⟨k0, k1, k2⟩, w1, by omega⟩
  · obtain ⟨x, σ1, n1, r1, F1, ⟨g1, g2, g3, _, _⟩, _, O2⟩ := t_jd J hg 130 t hrd [] s _ σ n lo hi v 0 b ⟨e1, A, X, ok, fun T hT => absurd hT List.not_mem_nil, hb, by show 0 + xbd t ≤ 590; omega, by omega, by omega⟩
    obtain ⟨⟨k1, k2, k3, k4⟩, ⟨S1, X1, l1'⟩, ⟨XE, _⟩, D1, d1, d2⟩ := O2 e0 s1 rfl
    have r1' : T_judge (v : Int) σ = some (x, σ1) := r1
    obtain ⟨z', ez', oz⟩ := jd_ok J t [] s b ok (fun T hT => absurd hT List.not_mem_nil) hb.1 hb.2
    rw [e1] at ez'
    obtain ⟨okE, _⟩ := oz (e0, s1) (Option.some.inj ez').symm
    simp only at e2
    -- asks; the class's name
    obtain ⟨σ2, eσ2⟩ : ∃ σ2, σ2 = us (us (us (us σ1 808 0) 816 0) 823 0) 827 0 := ⟨_, rfl⟩
    have as2 : T_asks σ1 = some σ2 := by rw [eσ2]; rfl
    have F2 : fr NFS NFA σ1 σ2 := by
      rw [eσ2]
      exact fr_us (fr_us (fr_us (fr_us (fr_refl _ _ _) (by simp)) (by simp)) (by simp)) (by simp)
    have q823 : gs σ2 823 = 0 := by rw [eσ2, gs_us, if_neg (by decide), gs_us, if_pos rfl]
    have A2 : ∀ g i, ga σ2 g i = ga σ1 g i := fun g i => by rw [eσ2]; rfl
    have p666 : ga σ2 666 d.1 = (wc : Int) := by
      rw [A2, F1.1.2 666 (by decide)]
      exact (A.1.2.2.2.1.2 _ _ em).2.1
    have p694 : ga σ2 694 f = (d.1 : Int) := by rw [A2, F1.1.2 694 (by decide)]; exact P.1.1
    have fN : ((f : Int)).toNat = f := by omega
    have dN : ((d.1 : Int)).toNat = d.1 := by omega
    -- what is put
    obtain ⟨σ3, eσ3⟩ : ∃ σ3, σ3 = ua (us σ2 836 1) 830 0 (ga σ2 666 d.1) := ⟨_, rfl⟩
    have F3 : fr NFS NFA σ2 σ3 := by
      rw [eσ3]
      exact ⟨fun g hg => by
        show gs (us σ2 836 1) g = _
        rw [gs_us, if_neg (fun z => hg (by rw [z]; decide))], fun g hg i => by
        rw [ga_ua, if_neg (fun z => hg (by rw [z.1]; decide))]; rfl⟩
    have F13 := fr_trans F2 F3
    have T13 : ∀ g ∈ TYA, ∀ i, ga σ3 g i = ga σ1 g i := fun g hg i => by
      rw [eσ3, ga_ua, if_neg (fun z => by rw [z.1] at hg; revert hg; decide)]
      exact A2 g i
    have e532 : gs σ3 532 = gs σ1 532 := by
      rw [eσ3]
      show gs (us σ2 836 1) 532 = _
      rw [gs_us, if_neg (by decide), eσ2, gs_us, if_neg (by decide), gs_us, if_neg (by decide), gs_us, if_neg (by decide), gs_us, if_neg (by decide)]
    have X13 : tx σ1 n1 σ3 n1 := tx_same T13
    have S3 : TyS σ3 n1 := TyS_same e532 T13 S1
    have P3 : InTw σ3 n1 E.2.2.1.length f d := by
      obtain ⟨⟨u1, u1'⟩, ⟨u2, u2'⟩, ⟨u3, u4, u5⟩, ⟨u6, u7, u8⟩, u9⟩ := P
      have g : ∀ a, a ∈ [694, 698, 702, 706, 710, 714, 718, 722] → ∀ i, ga σ3 a i = ga σ a i := fun a ha i => (F13.2 a ((by decide : ∀ a ∈ [694, 698, 702, 706, 710, 714, 718, 722], a ∉ NFA) a ha) i).trans (F1.1.2 a ((by decide : ∀ a ∈ [694, 698, 702, 706, 710, 714, 718, 722], a ∉ JFA) a ha) i)
      exact ⟨⟨by rw [g 694 (by simp)]; exact u1, u1'⟩, ⟨by rw [g 698 (by simp)]; exact u2, u2'⟩, ⟨by rw [g 702 (by simp)]; exact u3, u4, fun j w e => by rw [g 706 (by simp)]; exact u5 j w e⟩, ⟨by rw [g 710 (by simp)]; exact u6, u7, fun j c e => by rw [g 714 (by simp), g 718 (by simp)]; exact u8 j c e⟩, by rw [g 722 (by simp)]; exact tyT_mono (tx_trans X1 X13) u9⟩
    obtain ⟨th, σ4, n4, h1, F4, S4, X4, l4, ch⟩ := t_hdI (σ := σ3) (n := n1) (f := f) (C := E.2.2.1.length) (d := d) hf S3 (by omega) P3
    obtain ⟨σ5, eσ5⟩ : ∃ σ5, σ5 = ua σ4 834 0 th := ⟨_, rfl⟩
    have F5 : fr NFS NFA σ4 σ5 := by
      rw [eσ5]
      exact ⟨fun g hg => rfl, fun g hg i => by rw [ga_ua, if_neg (fun z => hg (by rw [z.1]; decide))]⟩
    have T45 : ∀ g ∈ TYA, ∀ i, ga σ5 g i = ga σ4 g i := fun g hg i => by rw [eσ5, ga_ua, if_neg (fun z => by rw [z.1] at hg; revert hg; decide)]
    have S5 : TyS σ5 n4 := TyS_same (by rw [eσ5]; rfl) T45 S4
    have X5 : tx σ4 n4 σ5 n4 := tx_same T45
    have F34 : fr NFS NFA σ3 σ4 := fr_sub F4 (by decide) (fun _ h => List.mem_append_left _ h)
    have F15 : fr NFS NFA σ1 σ5 := fr_trans (fr_trans F13 F34) F5
    have X15 : tx σ1 n1 σ5 n4 := tx_trans X13 (tx_trans X4 X5)
    have q836 : gs σ5 836 = 1 := by
      rw [eσ5]
      show gs σ4 836 = 1
      rw [F4.1 836 (by decide), eσ3]
      show gs (us σ2 836 1) 836 = 1
      rw [gs_us, if_pos rfl]
    have q830 : ga σ5 830 0 = (wc : Int) := by
      rw [eσ5, ga_ua, if_neg (by decide), F4.2 830 (by decide), eσ3, ga_ua, if_pos ⟨rfl, rfl⟩]
      exact p666
    have q834 : ga σ5 834 0 = th := by rw [eσ5, ga_ua, if_pos ⟨rfl, rfl⟩]
    have PT : PutT σ5 n4 [(wc, hdI d)] := ⟨by rw [q836]; rfl, (show (1 : Nat) ≤ 4 by decide), fun i p e => by
      cases i with
      | zero =>
        have ep : (wc, hdI d) = p := Option.some.inj e
        rw [← ep]
        exact ⟨q830, by rw [q834]; exact tyT_mono X5 ch⟩
      | succ i => cases e⟩
    have JT1 : JTE σ1 n1 E := JTE_keep F1.1 X1 A.1.2
    have JT5 : JTE σ5 n4 E := JTE_keep (fr_NJ F15) X15 JT1
    have cm : tyT σ5 n4 mty (ga σ5 686 (4 * d.1 + m)) := (JT5.2.2.1.2 _ _ em).2.2
    have wθ : wfS [(wc, hdI d)] := fun p hp => by
      rw [List.mem_singleton.mp hp]
      exact ⟨okH.2.1, okH.1⟩
    obtain ⟨t', σ6, n6, h2, S6, X6, F6, c6, l6, l6', _, _⟩ := t_put wθ S5 PT cm okM.2.2 (by have := okM.2.1; omega)
    have h2' : T_put (ga σ5 686 (4 * d.1 + m)) σ5 = some (t', σ6) := h2
    have wi := t_within S6 okT.1 c6
    have F16 : fr NFS NFA σ1 σ6 := fr_trans F15 (fr_sub F6 (by decide) (fun _ h => List.mem_append_left _ h))
    have X16 : tx σ1 n1 σ6 n6 := tx_trans X15 X6
    have s823 : gs σ6 823 = 0 := by
      rw [F6.1 823 (by decide), eσ5]
      show gs σ4 823 = 0
      rw [F4.1 823 (by decide), eσ3]
      show gs (us σ2 836 1) 823 = 0
      rw [gs_us, if_neg (by decide)]; exact q823
    have e642 : ga σ4 642 w = ((4 * d.1 + m : Nat) : Int) := by
      rw [F4.2 642 (by decide), F13.2 642 (by decide), F1.1.2 642 (by decide)]
      exact h642
    have mN : (((4 * d.1 + m : Nat) : Int)).toNat = 4 * d.1 + m := by omega
    have wN' : ((w : Int)).toNat = w := by omega
    have e686 : ga σ4 686 (4 * d.1 + m) = ga σ5 686 (4 * d.1 + m) := (F5.2 686 (by decide) _).symm
    have lt : T_lineType (f : Int) (w : Int) σ2 = some (t', if tszW (sbT [(wc, hdI d)] mty) ≤ 60 then σ6 else us σ6 823 1) := by
      unfold T_lineType
      rw [fN, p694, if_pos (by omega), dN, ← eσ3, h1, Option.bind_some]
      simp only
      rw [wN', e642, if_pos (by omega), mN, e686, show ((0 : Int)).toNat = 0 from rfl, ← eσ5, h2', Option.bind_some]
      simp only
      rw [wi, Option.bind_some]
    have nm : T_nameAt (ga σ2 542 o) σ2 = some (w : Int) := by
      unfold T_nameAt
      have e542 : ga σ2 542 o = (tk : Int) := by rw [A2, F1.1.2 542 (by decide)]; exact o3
      rw [e542, if_pos (by omega), show ((tk : Int)).toNat = tk by omega, A2, F1.1.2 482 (by decide), o5]
    have go : T_judgeAll_104s l1 (f : Int) l3 ((o : Int), σ) = (if gs (if tszW (sbT [(wc, hdI d)] mty) ≤ 60 then σ6 else us σ6 823 1) 823 = 0 then T_judgeAll_183 l1 (f : Int) l3 (o : Int) t' (if tszW (sbT [(wc, hdI d)] mty) ≤ 60 then σ6 else us σ6 823 1) else if 0 ≤ (o : Int) ∧ (o : Int) < 8400 then ((T_placeOf (ga (if tszW (sbT [(wc, hdI d)] mty) ≤ 60 then σ6 else us σ6 823 1) 546 o) (if tszW (sbT [(wc, hdI d)] mty) ≤ 60 then σ6 else us σ6 823 1)).bind fun p5 => (T_fails 7 p5 (if tszW (sbT [(wc, hdI d)] mty) ≤ 60 then σ6 else us σ6 823 1)).bind fun p6 => T_judgeAll_183 l1 (f : Int) l3 (o : Int) t' p6) else none) := by
      unfold T_judgeAll_104s
      simp only
      rw [if_neg (by omega), if_neg (fun z => z f452), if_pos (by omega), oN, o2, r1', Option.bind_some]
      simp only
      rw [if_neg (fun z => z k1), as2, Option.bind_some, if_pos (by omega), nm, Option.bind_some, lt, Option.bind_some]
    rw [go]
    have X06 := tx_trans X1 X16
    have JF16 := JFr_N (lo := lo) (hi := hi) (g := 0) (sp := 0) F16
    have a562 : ∀ i, ga σ6 562 i = ga σ 562 i := fun i => (F16.2 562 (by decide) i).trans (F1.1.2 562 (by decide) i)
    have a546 : ga σ6 546 o = (v : Int) := by rw [F16.2 546 (by decide), F1.1.2 546 (by decide)]; exact o2
    have XE6 : XTe σ6 n6 e0 lo hi v := XTe_keep (fr_NJ F16) X16 (fun i _ _ => ⟨F16.2 842 (by decide) i, F16.2 846 (by decide) i⟩) XE
    by_cases s60 : tszW (sbT [(wc, hdI d)] mty) ≤ 60
    · rw [if_pos s60] at e2
      rw [if_pos s60, if_pos s823]
      have l66 : n6 ≤ n4 + 60 := by
        have w2 : tsz (sbT [(wc, hdI d)] mty) ≤ 2147483647 := by
          have := sbT_tsz (θ := [(wc, hdI d)]) (B := 3) (by decide) (fun p hp => by rw [List.mem_singleton.mp hp]; exact hdI_sz) okM.1.2.1
          have := okM.2.1
          omega
        have w3 := tszW_eq w2
        omega
      have okz : tsz (sbT [(wc, hdI d)] mty) ≤ 1000000 := by
        have := sbT_tsz (θ := [(wc, hdI d)]) (B := 3) (by decide) (fun p hp => by rw [List.mem_singleton.mp hp]; exact hdI_sz) okM.1.2.1
        have := okM.2.1
        omega
      have JT6 : JTE σ6 n6 E := JTE_keep (fr_NJ F16) X16 JT1
      have k6 : gs σ6 452 = 0 := by
        rw [F6.1 452 (by decide), eσ5]
        show gs σ4 452 = 0
        rw [F4.1 452 (by decide), eσ3]
        show gs (us σ2 836 1) 452 = 0
        rw [gs_us, if_neg (by decide), eσ2, gs_us, if_neg (by decide), gs_us, if_neg (by decide), gs_us, if_neg (by decide), gs_us, if_neg (by decide)]
        exact k1
      have k812 : gs σ6 812 = (s1.1 : Int) := by
        rw [F6.1 812 (by decide), eσ5]
        show gs σ4 812 = _
        rw [F4.1 812 (by decide), eσ3]
        show gs (us σ2 836 1) 812 = _
        rw [gs_us, if_neg (by decide), eσ2, gs_us, if_neg (by decide), gs_us, if_neg (by decide), gs_us, if_neg (by decide), gs_us, if_neg (by decide)]
        exact k2
      obtain ⟨σ7, n7, y1, ⟨⟨y2, y3⟩, y4, y5, y6, y7⟩, y8⟩ := t_wanted J S6 JT6 XE6 c6 okT okz okE.1 (by have w : tsz (eTy e0) ≤ b + xsz t := okE.2; omega) e2 k812 k4 (by omega) k6
      obtain ⟨z1, z2, z3, z4⟩ := JFr_W (g := 0) (sp := 0) y2 y3
      refine ⟨σ7, n7, ?_, JFr_trans F1 (JFr_trans JF16.1 (JFr_mono z1 (by omega) (by omega) (Nat.le_refl _) (Nat.le_refl _))), ⟨z2.trans (JF16.2.1.trans g1), z3.trans (JF16.2.2.1.trans g2), z4 (JF16.2.2.2 g3)⟩, tx_trans X06 y5, fun k p w => ?_, fun e s' w => ?_⟩
      · unfold T_judgeAll_183
        rw [if_pos (by omega), oN, a546, y1, Option.bind_some, if_pos (by omega), y2.2 562 (by decide), a562, o7]
      · obtain ⟨w0, w1, w2, w3⟩ := y6 k p w
        exact ⟨⟨w0, w1, w2⟩, TyW_of y4.1, by omega⟩
      · obtain ⟨w1, w2, w3, w4, D, w5, w6⟩ := y7 e s' w
        refine ⟨⟨w1, w2, by omega, w3.2⟩, y4, by omega, y8 e s' w, D1 ++ D, by rw [w5, d1, List.append_assoc], fun Y hY => ?_⟩
        rcases List.mem_append.mp hY with q | q
        · obtain ⟨t', ht⟩ := d2 Y q
          exact ⟨t', tyT_mono (tx_trans X16 y5) ht⟩
        · exact w6 Y q
    · rw [if_neg s60] at e2
      have ezz : zz = .inl (7, ePl e0) := (Option.some.inj e2).symm
      rw [if_neg s60]
      have XEu : XTe (us σ6 823 1) n6 e0 lo hi v := XTe_keep (σ := σ6) (n := n6) (fr_us (fr_refl _ _ _) (by simp)) (tx_same (fun _ _ _ => rfl)) (fun _ _ _ => ⟨rfl, rfl⟩) XE6
      have pl := t_placeOf _ _ _ _ XEu
      rw [gPl_ep] at pl
      have k6 : gs (us σ6 823 1) 452 = 0 := by
        rw [gs_us, if_neg (by decide), F6.1 452 (by decide), eσ5]
        show gs σ4 452 = 0
        rw [F4.1 452 (by decide), eσ3]
        show gs (us σ2 836 1) 452 = 0
        rw [gs_us, if_neg (by decide), eσ2, gs_us, if_neg (by decide), gs_us, if_neg (by decide), gs_us, if_neg (by decide), gs_us, if_neg (by decide)]
        exact k1
      have n823 : gs (us σ6 823 1) 823 ≠ 0 := by rw [gs_us, if_pos rfl]; decide
      obtain ⟨σ7, eσ7⟩ : ∃ σ7, σ7 = us (us (us σ6 823 1) 452 7) 456 (ePl e0 : Int) := ⟨_, rfl⟩
      have fl : T_fails 7 (ePl e0 : Int) (us σ6 823 1) = some σ7 := by
        unfold T_fails
        rw [if_pos k6, eσ7]
      have F67 : fr NFS NFA σ6 σ7 := by
        rw [eσ7]
        exact fr_us (fr_us (fr_us (fr_refl _ _ _) (by simp)) (by simp)) (by simp)
      have k7 : gs σ7 452 = 7 := by rw [eσ7, gs_us, if_neg (by decide), gs_us, if_pos rfl]
      have k8 : gs σ7 456 = (ePl e0 : Int) := by rw [eσ7, gs_us, if_pos rfl]
      have T67 : ∀ g ∈ TYA, ∀ i, ga σ7 g i = ga σ6 g i := fun g _ i => by rw [eσ7]; rfl
      have S7 : TyS σ7 n6 := TyS_same (by rw [eσ7, gs_us, if_neg (by decide), gs_us, if_neg (by decide), gs_us, if_neg (by decide)]) T67 S6
      have JF17 := JFr_N (lo := lo) (hi := hi) (g := 0) (sp := 0) (fr_trans F16 F67)
      refine ⟨σ7, n6, ?_, JFr_trans F1 JF17.1, ⟨JF17.2.1.trans g1, JF17.2.2.1.trans g2, JF17.2.2.2 g3⟩, tx_trans X06 (tx_same T67), fun k p w => ?_, fun e s' w => by rw [ezz] at w; cases w⟩
      · rw [if_neg n823, if_pos (by omega), show ga (us σ6 823 1) 546 o = ga σ6 546 o from rfl, a546, pl, Option.bind_some, fl, Option.bind_some]
        exact flt t' σ7 (by rw [k7]; decide) (fun i => by rw [eσ7]; exact a562 i)
      · rw [ezz] at w
        injection Sum.inl.inj w with w1 w2
        rw [← w1, ← w2]
        exact ⟨⟨by decide, k7, k8⟩, TyW_of S7.1, by have := okM.2.1; omega⟩
end LTN
