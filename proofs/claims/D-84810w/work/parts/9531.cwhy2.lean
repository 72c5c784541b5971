set_option maxRecDepth 100000
/-! THE COMPONENT PROVES why a type is what it is worked out to (2) -/
section LCW4
variable {G : om_G} {h h1 h2 : om_H} {N : List (List Int)} {cl : Nat → Nat} {tb l0 sc pv Lp u u1 u2 B : Nat} {us fs : List Nat} {rest : List (Nat × List Nat)} {Sl U : Nat → Prop} {io : Nat → Nat} {ab : List (Option Nat)} {ins : List INs} {gv : List GVs} {nm con fam : Nat → List Int}
theorem KF_0 {q z w : Nat} (K : KF N cl tb l0 rest h us fs h1 us fs q z w) : KF N cl tb l0 rest h us fs h1 us fs 0 z w := by
  obtain ⟨a, _, b, _, c⟩ := K
  exact ⟨a, ⟨[], by simp, by simp⟩, b, by omega, c⟩
/-- its parts are worked out -/
theorem c_innK (nd : ndN N) (hN : gvN gv) (E : PvE G h N cl tb l0 sc us fs rest Sl io ab ins gv pv Lp u) (I : InH (hdC N cl nm con fam h) ins gv B) {g a : Nat} {T uT : Ty} (hg : g ≤ 129) (kn : knT ins gv (QC h N cl (UU us rest)) (g + 2) T uT) (th : thB T = true) (c : tyC h N cl (UU us rest) T a) (hT : T ≠ .leaf) (q : GTH ins (hdC N cl nm con fam h) T) (ht : tl us fs + 2700 ≤ 149000) : ∃ y h1, C_8_inner G (C_8_worked G) l0 a 0 h = some (.inr y, h1) ∧ tyC h1 N cl (UU us rest) (innT ins gv T) y ∧ PvE G h1 N cl tb l0 sc us fs rest Sl io ab ins gv pv Lp u ∧ KV N cl tb l0 pv Lp rest us fs h u h1 u := by
  obtain ⟨hB, hI, hG⟩ := I.1
  obtain ⟨⟨⟨D2, hw, hD⟩, _, _⟩, _⟩ := knT_step hg kn th
  have Hr := (c_wk (c := 0) (G := G) (cl := cl) (tb := tb) (l0 := l0) (sc := sc) (rest := rest) (Sl := Sl) (io := io) (ab := ab) nd (.inl rfl) hB hI hG hN 130 0 (fun _ => by decide) (by decide)).1 130 (Nat.le_refl _)
  obtain ⟨v, h', us', fs', g1, _, g3⟩ := c_innerP (c := 0) (bg := 0) nd (.inl rfl) (fun z => by omega) hB hI hG Hr 0 (hw 0 (by omega) (0, 0, [])) E.1 c hT th q.1 q.2.1 q.2.2.1 (by decide) (by decide) ⟨fun z => by omega, fun _ => ⟨by omega, innT ins gv T, D2, rfl, hD⟩⟩
  obtain ⟨y, ey, S⟩ := g3 _ _ rfl
  obtain ⟨w1, w2, w3⟩ := S.2.2.2.2.2 rfl
  rw [w1, w2] at w3 S
  have F1 : FnC G h' N cl tb l0 sc us fs rest Sl io ab ins gv 0 0 (0, 0, []) := FnC_next E.1 w3 S.1 S.2.2.1 (fun z => by omega)
  obtain ⟨E1, K1⟩ := PvE_KF E w3 F1
  rw [ey] at g1
  exact ⟨y, h', g1, S.2.1, E1, K1⟩
/-- what a family goes to -/
theorem c_goesK (nd : ndN N) (hN : gvN gv) (E : PvE G h N cl tb l0 sc us fs rest Sl io ab ins gv pv Lp u) (I : InH (hdC N cl nm con fam h) ins gv B) {v : Ty} {x : Nat} (cx : tyC h N cl (UU us rest) v x) (hv : v ≠ .leaf) (q : GTH ins (hdC N cl nm con fam h) v) (ht : tl us fs + 2700 ≤ 149000) : (gby ins gv v = none → C_8_goes G l0 x 0 h = some (.inr 0, h)) ∧ ∀ b, gby ins gv v = some b → QC h N cl (UU us rest) (gto ins gv b (tL v)) → tszW (gto ins gv b (tL v)) ≤ 60 → ∃ y h1, C_8_goes G l0 x 0 h = some (.inr y, h1) ∧ y ≠ 0 ∧ tyC h1 N cl (UU us rest) (gto ins gv b (tL v)) y ∧ PvE G h1 N cl tb l0 sc us fs rest Sl io ab ins gv pv Lp u ∧ KV N cl tb l0 pv Lp rest us fs h u h1 u := by
  obtain ⟨hB, hI, hG⟩ := I.1
  obtain ⟨a1, a2⟩ := c_goes (c := 0) nd (.inl rfl) hI hG hN E.1 cx hv q.1 q.2.1 (by decide) (by decide) (by omega) 0
  refine ⟨a1, fun b gb qg z => ?_⟩
  obtain ⟨_, a3⟩ := a2 b gb
  rcases a3 (fun z => by omega) with ⟨_, n, _⟩ | ⟨_, y, h', us', fs', e1, e2, e3, e4, e5, e6, e7, e8, e9, e10⟩
  · exact absurd z n
  · obtain ⟨w1, w2⟩ := e10 qg
    rw [w1, w2] at e2 e6
    rw [w1] at e3
    have K0 := KF_0 e6
    have F1 : FnC G h' N cl tb l0 sc us fs rest Sl io ab ins gv 0 0 (0, 0, []) := FnC_next E.1 K0 e2 e8 (fun z => by omega)
    obtain ⟨E1, K1⟩ := PvE_KF E K0 F1
    exact ⟨y, h', e1, fun z => e4 ((tyC_0 e3).mp z), e3, E1, K1⟩
/-- a proof is written to -/
theorem PvE_y (nd : ndN N) (E : PvE G h N cl tb l0 sc us fs rest Sl io ab ins gv pv Lp u) {y : Nat} (y39 : kd h y = 39 ∧ y < hz h) (X : hT (fun z => z = y) h h1) : PvE G h1 N cl tb l0 sc us fs rest Sl io ab ins gv pv Lp u ∧ ∀ T a, tyC h N cl (UU us rest) T a → tyC h1 N cl (UU us rest) T a := by
  obtain ⟨F, P, n1, n2⟩ := id E
  obtain ⟨⟨⟨p1, p2⟩, p3, p4⟩, ⟨p5, p6, p7⟩, p8, p9⟩ := id P
  have T := F.1
  have k9 := F.2.1.1.1
  have ky : ∀ z, z = y → kd h z = 39 := fun z w => by rw [w]; exact y39.1
  have dk : dOK (fun z => z = y) h h1 := fun z w => by
    have := ky z w
    exact ⟨by omega, by omega, fun e => by omega⟩
  have T1 : TB G h1 N cl tb us fs rest := TB_hT T nd X (fun z w _ => by
    have kz := ky z w
    refine ⟨by omega, by omega, by omega, fun e => ?_⟩
    have k122 := T.2.1.1.2.1
    rw [← e] at k122
    omega) dk
  have tbl := TB_3 T
  have etb := X.2.2.2 tb tbl.2.2 (fun w => by have := ky tb w; omega)
  have el0 := X.2.2.2 l0 F.2.1.1.2.1 (fun w => by have := ky l0 w; omega)
  have epv := X.2.2.2 pv p2 (fun w => by have := ky pv w; omega)
  have nL : ¬ Lp = y := fun w => by
    have := ky Lp w
    have := p5.2.1
    omega
  have eL := X.2.2.2 Lp p5.1 nL
  have kp : ∀ T a, tyC h N cl (UU us rest) T a → tyC h1 N cl (UU us rest) T a := fun X0 a0 c0 => tyC_hT (D := fun z => z = y) X dk (fun z w w' => by
    have u34 := (TB_U34 T w).1
    have := ky z w'
    omega) (fun _ w => w) (fun _ _ z => z) c0
  have hSS : hS Sl h h1 := hS_hT X (fun z hz' w => by
    have q := ky z w
    refine ⟨fun m => ?_, by omega, by omega, by omega, fun sl => ?_⟩
    · simp only [List.mem_cons, List.not_mem_nil, or_false] at m
      omega
    · have := (F.2.2.1.2.2.1 z sl).2
      omega)
  have F1 : FnC G h1 N cl tb l0 sc us fs rest Sl io ab ins gv 0 0 (0, 0, []) := FnC_nextG F hSS kp T1 (el0.2.1 227) el0.2.2.1 (etb.2.2.1 122) (by rw [el0.2.1]; exact F.2.2.2.2.2.1) (fun z => by omega)
  have lL := eL.2.2.2.2.2.2.1
  refine ⟨⟨F1, ⟨⟨⟨by rw [epv.1]; exact p1, Nat.lt_of_lt_of_le p2 X.1⟩, by rw [epv.2.2.1]; exact p3, by rw [epv.2.2.1]; exact p4⟩, ⟨okV_hT p5 X nL, by rw [lL]; exact p6, fun z hz' => ?_⟩, by rw [epv.2.1]; exact p8, by rw [lL]; exact p9⟩, by rw [etb.2.2.1]; exact n1, n2⟩, kp⟩
  rw [lL] at hz'
  obtain ⟨q1, q2, q3⟩ := p7 z hz'
  exact ⟨q1, Nat.lt_of_lt_of_le q2 X.1, by rw [X.2.2.1 z q2]; exact q3⟩
theorem KV_y (E1 : PvE G h1 N cl tb l0 sc us fs rest Sl io ab ins gv pv Lp (u + 1)) (A : KV N cl tb l0 pv Lp rest us fs h u h1 (u + 1)) {y : Nat} (ey : (ll h1 Lp)[u]? = some y) (X : hT (fun z => z = y) h1 h2) (kp : ∀ T a, tyC h1 N cl (UU us rest) T a → tyC h2 N cl (UU us rest) T a) (z1 : hz h2 = hz h1) (u1 : hu h2 = hu h1) : KV N cl tb l0 pv Lp rest us fs h u h2 (u + 1) := by
  obtain ⟨F, P, n1, n2⟩ := id E1
  obtain ⟨⟨⟨p1, p2⟩, p3, p4⟩, ⟨p5, p6, p7⟩, p8, p9⟩ := id P
  obtain ⟨a1, a2, ⟨a3, ⟨d, a4, a5⟩, a6⟩, ⟨⟨a7, a8⟩, a9, a10, a11, a12⟩, a13, a14⟩ := A
  have y39 := (p7 y (List.mem_of_getElem? ey)).2.2
  have T := F.1
  have k9 := F.2.1.1.1
  have ky : ∀ z, z = y → kd h1 z = 39 := fun z w => by rw [w]; exact y39
  have tbl := TB_3 T
  have etb := X.2.2.2 tb tbl.2.2 (fun w => by have := ky tb w; omega)
  have el0 := X.2.2.2 l0 F.2.1.1.2.1 (fun w => by have := ky l0 w; omega)
  have epv := X.2.2.2 pv p2 (fun w => by have := ky pv w; omega)
  have eL := X.2.2.2 Lp p5.1 (fun w => by
    have := ky Lp w
    have := p5.2.1
    omega)
  have k122 := T.2.1.1
  have e122 := X.2.2.2 _ k122.1 (fun w => by
    have := ky _ w
    have := k122.2.1
    omega)
  have lL := eL.2.2.2.2.2.2.1
  have cL := eL.2.2.2.2.2.2.2
  have c122 := e122.2.2.2.2.2.2.2
  rw [a10 122] at c122
  refine ⟨hT_trans a1 X (fun z hz' w => .inr (.inr (.inr (.inr (by rw [← a1.2.2.1 z hz']; exact ky z w))))), fun T a c => kp T a (a2 T a c), ⟨a3, ⟨d, by rw [lL]; exact a4, a5⟩, fun i z hi ez => ?_⟩, ⟨⟨fun f g1 g2 => (el0.2.1 f).trans (a7 f g1 g2), fun f => (el0.2.2.1 f).trans (a8 f)⟩, fun f g1 g2 => (etb.2.1 f).trans (a9 f g1 g2), fun f => (etb.2.2.1 f).trans (a10 f), fun f g => (epv.2.1 f).trans (a11 f g), fun f => (epv.2.2.1 f).trans (a12 f)⟩, by rw [lL, z1]; exact a13, by rw [lL, cL, c122, u1]; exact a14⟩
  have il := (List.getElem?_eq_some_iff.mp ez).1
  have ez1 : (ll h1 Lp)[i]? = some z := by rw [a4, List.getElem?_append_left il, ez]
  refine eqA_trans (a6 i z hi ez) (X.2.2.2 z (p7 z (List.mem_of_getElem? ez1)).2.1 (fun w => ?_))
  have := (List.getElem?_inj (List.getElem?_eq_some_iff.mp ez1).1 p6).mp (ez1.trans (by rw [w]; exact ey.symm))
  omega
/-- what a family that goes is -/
theorem gb_at {c bg : Nat} {s : WS} (F : FnC G h N cl tb l0 sc us fs rest Sl io ab ins gv c bg s) {f k' w x : Nat} {uu u' : Unit} {l r r' : Ty} (cx : tyC h N cl (UU us rest) (.inner 2 f uu (.inner k' w u' l r) r') x) (wv : wfT (.inner 2 f uu (.inner k' w u' l r) r')) : (clO h cl f ∧ fR h 1578 x = cl f ∧ kd h x = 34 ∧ kd h (fR h 1582 x) = 34 ∧ fI h 1556 (fR h 1582 x) = (k' : Int)) ∧ (k' = 1 → fI h 1560 (fR h 1582 x) = (w : Int) ∧ w ≤ 3 ∧ kd h (fR h 1238 (cl f)) = 58 ∧ an h (fR h 1238 (cl f)) = 4 ∧ aR h (fR h 1238 (cl f)) w = (iOf ins f w).elim 0 io) ∧ (k' = 0 → wN h N w (fR h 1574 (fR h 1582 x))) := by
  obtain ⟨c0, c1, c2, c3, c4, c5, c6⟩ := id cx
  obtain ⟨d0, d1, d2, d3, d4, d5, d6⟩ := id c4
  have hf : clO h cl f ∧ fR h 1578 x = cl f := by
    rcases c3 with d | d | ⟨d1, d2, d3, d4, d5, d6, d7, d8⟩ | d
    · omega
    · omega
    · rw [d6] at d4 d5 d7 d8
      exact ⟨⟨d4, d5, d7, d8⟩, d6⟩
    · omega
  refine ⟨⟨hf.1, hf.2, c1, d1, d2⟩, fun k1 => ?_, fun k0 => ?_⟩
  · have w3 : w ≤ 3 := by
      have := wv.2.1.1
      unfold shT at this
      rcases this with s | s | s | s
      · omega
      · exact s.2.1
      · omega
      · omega
    obtain ⟨_, ⟨p1, p2, p3⟩, p4⟩ := F.2.2.2.1.1 f hf.1
    refine ⟨?_, w3, p2, p3, p4 w (by omega)⟩
    rcases d3 with e | e | e | e
    · omega
    · exact e.2.1
    · omega
    · omega
  · rcases d3 with ⟨e1, e2, e3, e4, e5, L, e6, e7⟩ | e | e | e
    · exact ⟨e5, L, e6, e7⟩
    · omega
    · omega
    · omega
set_option maxHeartbeats 1000000 in
/-- A PROOF THAT A FAMILY GOES: by an inst's line, or as given -/
theorem c_goP (nd : ndN N) (E : PvE G h N cl tb l0 sc us fs rest Sl io ab ins gv pv Lp u) (h8 : u ≤ 20000) (hl : (ll h Lp).length ≤ 20000) {v : Ty} {x b : Nat} (cx : tyC h N cl (UU us rest) v x) (q : GTH ins (hdC N cl nm con fam h) v) (d4 : tdp (tL v) < 70) (gb : gby ins gv v = some b) (qg : QC h N cl (UU us rest) (gto ins gv b (tL v))) : ∃ y h2, PvE G h2 N cl tb l0 sc us fs rest Sl io ab ins gv pv Lp (u + 1) ∧ KV N cl tb l0 pv Lp rest us fs h u h2 (u + 1) ∧ y ≠ 0 ∧ (PrC G N cl (UU us rest) nm con fam Lp (u + 1) h2 1 y (goB nm con fam b v) ∧ PrD G N cl (UU us rest) io ins gv Lp (u + 1) h2 1 y v (gto ins gv b (tL v))) ∧ ∀ (r : Nat → Nat → om_H → Option ((Nat ⊕ Nat) × om_H)) (l3 l4 : Nat), gd (kd h x = 34 ∧ kd h (fR h 1582 x) = 34) (if (fI h 1556 (fR h 1582 x)) ≠ 0 then C_5_worked_94 G r pv x l3 l4 0 h else C_5_worked_94 G r pv x l3 l4 1 h) = C_5_worked_173 G r pv l3 l4 y h2 := by
  rcases v with ⟨k, f, uu, ⟨k', w, u', l, r⟩ | _, r'⟩ | _
  rotate_left
  · cases gb
  · cases gb
  have egb : (if k = 2 then (if k' = 1 then iOf ins f w else if k' = 0 then (gFm gv f w).map (fun g => 100 + g) else none) else none) = some b := gb
  by_cases k2 : k = 2
  rotate_left
  · rw [if_neg k2] at egb; cases egb
  subst k2
  rw [if_pos rfl] at egb
  obtain ⟨⟨hf, ef, kx, kp, k56⟩, hk1, hk0⟩ := gb_at E.1 cx q.1
  have c4 : tyC h N cl (UU us rest) (.inner k' w u' l r) (fR h 1582 x) := cx.2.2.2.2.1
  have qp : GTH ins (hdC N cl nm con fam h) (.inner k' w u' l r) := (GTy_l q).1
  have k6 := E.2.1.1.1.1
  by_cases k1 : k' = 1
  · subst k1
    rw [if_pos rfl] at egb
    obtain ⟨d, i1, i2⟩ := ixF_some egb
    have lt := (List.getElem?_eq_some_iff.mp i1).1
    have l20 := E.1.2.2.2.1.2.1
    obtain ⟨y, h1, a1, E1, K1, a2, ⟨a3, a4, a5⟩, ⟨a6, a7, a8, a9, a10⟩⟩ := PvE_prf (why := om_cA G 8) (t := fR h 1582 x) (a := 0) (b := 0) nd E h8 hl
    have cx1 := K1.2.1 _ _ cx
    have cp1 := K1.2.1 _ _ c4
    obtain ⟨⟨hf1, ef1, kx1, kp1, _⟩, hk11, _⟩ := gb_at E1.1 cx1 q.1
    obtain ⟨b1, b2, b3, b4, b5⟩ := hk11 rfl
    obtain ⟨⟨io0, io1, io2, io3, io4⟩, _⟩ := (E1.1.2.2.2.1.2.2 b d i1).2
    have X : hT (fun z => z = y) h1 (sR h1 1678 y (io b)) := ⟨Nat.le_refl _, Nat.le_refl _, fun _ _ => rfl, fun z _ nz => ⟨rfl, fun _ => rfl, fun g => fR_na nz, rfl, fun _ => rfl, fun _ => rfl, rfl, rfl⟩⟩
    obtain ⟨E2, kp2⟩ := PvE_y nd E1 ⟨a4, a5⟩ X
    have K2 := KV_y E1 K1 a2 X kp2 rfl rfl
    obtain ⟨i2a, i2b⟩ : d.1 = f ∧ d.2.1 = w := by simpa using i2
    have r0' : r' = .leaf := by
      rcases q.1.1 with z | z | z | z
      · omega
      · omega
      · exact z.2.2
      · omega
    obtain ⟨qy, qc⟩ := qg
    refine ⟨y, sR h1 1678 y (io b), E2, K2, a3, ⟨⟨⟨u, by omega, a2⟩, a4, .inr (.inl ⟨?_, b, .inner 1 w u' l r, ⟨?_, ?_, by omega, ?_⟩, ⟨fun z => (by cases z), qp.1, d4⟩, tOc_KV E K2 qp.2.2.2, ?_, ?_⟩)⟩, ⟨u, by omega, a2⟩, a4, ⟨⟨x, K2.2.1 _ _ cx⟩, qy, K2.2.1 _ _ qc⟩, .inr (.inl ⟨by rw [fR_ne (by decide)]; exact a6, b, d, u', l, r, i1, by omega, fR_eq, by rw [fR_ne (by decide), a7, i2b]; exact kp2 _ _ cp1, by rw [r0', i2a, i2b], by rw [i2b]; rfl, (q.2.1.1 rfl).2 d (List.mem_of_getElem? i1) i2a, by rw [i2b]; exact qp.1⟩)⟩, fun r0 l3 l4 => ?_⟩
    · rw [fR_ne (by decide)]; exact a6
    · rw [fR_eq]; exact io2
    · rw [fR_eq]; exact io3
    · rw [fR_eq]; exact io1
    · rw [fR_ne (by decide), a7]; exact kp2 _ _ cp1
    · unfold goB
      rw [if_pos (by omega)]
      rfl
    · rw [gd_pos ⟨kx, kp⟩, k56, if_pos (by decide)]
      unfold C_5_worked_94
      rw [if_pos rfl]
      unfold C_5_worked_111
      rw [gd_pos ⟨kx, k6⟩, a1, Option.bind_some, if_pos rfl]
      show gd (kd h1 x = 34 ∧ kd h1 (fR h1 1578 x) = 18 ∧ kd h1 (fR h1 1582 x) = 34 ∧ kd h1 (fR h1 1238 (fR h1 1578 x)) = 58 ∧ 0 ≤ fI h1 1560 (fR h1 1582 x) ∧ fI h1 1560 (fR h1 1582 x) < an h1 (fR h1 1238 (fR h1 1578 x)) ∧ kd h1 y = 39) (C_5_worked_173 G r0 pv l3 l4 y (sR h1 1678 y (aR h1 (fR h1 1238 (fR h1 1578 x)) (fI h1 1560 (fR h1 1582 x)).toNat))) = _
      rw [ef1, b1, gd_pos ⟨kx1, hf1.2.2.1, kp1, b3, by omega, by omega, a4⟩, show ((w : Int)).toNat = w by omega, b5, egb]
      rfl
  · rw [if_neg k1] at egb
    by_cases k0 : k' = 0
    rotate_left
    · rw [if_neg k0] at egb; cases egb
    subst k0
    rw [if_pos rfl] at egb
    cases qgg : gFm gv f w with
    | none => rw [qgg] at egb; cases egb
    | some j =>
    rw [qgg] at egb
    have eb : 100 + j = b := Option.some.inj egb
    obtain ⟨d, i1, i2⟩ := ixF_some qgg
    have lt := (List.getElem?_eq_some_iff.mp i1).1
    have l4' := E.1.2.2.2.2.1.2.2.1.2
    obtain ⟨y, h1, a1, E1, K1, a2, ⟨a3, a4, a5⟩, ⟨a6, a7, a8, a9, a10⟩⟩ := PvE_prf (why := om_cA G 9) (t := fR h 1582 x) (a := 0) (b := 0) nd E h8 hl
    have cx1 := K1.2.1 _ _ cx
    obtain ⟨⟨hf1, ef1, kx1, kp1, _⟩, _, hk01⟩ := gb_at E1.1 cx1 q.1
    have wx := hk01 rfl
    have ce := c_equalFor nd E1.1 hf1 wx
    rw [qgg] at ce
    have X : hT (fun z => z = y) h1 (sI h1 1680 y ((j : Nat) : Int)) := ⟨Nat.le_refl _, Nat.le_refl _, fun _ _ => rfl, fun z _ nz => ⟨rfl, fun _ => fI_na nz, fun _ => rfl, rfl, fun _ => rfl, fun _ => rfl, rfl, rfl⟩⟩
    obtain ⟨E2, kp2⟩ := PvE_y nd E1 ⟨a4, a5⟩ X
    have K2 := KV_y E1 K1 a2 X kp2 rfl rfl
    obtain ⟨i2a, i2b⟩ : d.1 = 100 + f ∧ d.2.1 = w := by simpa using i2
    have r0' : r' = .leaf := by
      rcases q.1.1 with z | z | z | z
      · omega
      · omega
      · exact z.2.2
      · omega
    obtain ⟨l0', rr0⟩ : l = .leaf ∧ r = .leaf := by
      rcases q.1.2.1.1 with z | z | z | z
      · exact z.2
      · omega
      · omega
      · omega
    obtain ⟨qy, qc⟩ := qg
    have egt : gto ins gv b (tL (.inner 2 f uu (.inner 0 w u' l r) r')) = d.2.2 := by
      unfold gto
      rw [if_neg (by omega), show b - 100 = j by omega, i1]
      rfl
    refine ⟨y, sI h1 1680 y ((j : Nat) : Int), E2, K2, a3, ⟨⟨⟨u, by omega, a2⟩, a4, .inr (.inr (.inl ⟨a6, j, fI_eq, by omega, ?_⟩))⟩, ⟨u, by omega, a2⟩, a4, ⟨⟨x, K2.2.1 _ _ cx⟩, qy, K2.2.1 _ _ qc⟩, .inr (.inr (.inl ⟨a6, j, d, fI_eq, i1, by omega, by rw [r0', l0', rr0, i2a, i2b, Nat.add_sub_cancel_left], egt⟩))⟩, fun r0 l3 l4 => ?_⟩
    · unfold goB
      rw [if_neg (by omega), show b - 100 = j by omega]
    · rw [gd_pos ⟨kx, kp⟩, k56, if_neg (fun z => z rfl)]
      unfold C_5_worked_94
      rw [if_neg (by decide)]
      unfold C_5_worked_111
      rw [gd_pos ⟨kx, k6⟩, a1, Option.bind_some, if_neg (by decide)]
      have k61 := E1.2.1.1.1.1
      have e178 := E1.2.1.1.2.1
      show gd (kd h1 pv = 6 ∧ kd h1 x = 34 ∧ kd h1 (fR h1 1582 x) = 34 ∧ kd h1 (fR h1 178 pv) = 9) ((C_8_equalFor G (fR h1 178 pv) (fR h1 1578 x) (fR h1 1574 (fR h1 1582 x)) h1).bind fun p2 => gd (kd h1 y = 39) (C_5_worked_173 G r0 pv l3 l4 y (sI h1 1680 y p2))) = _
      rw [e178, ef1, gd_pos ⟨k61, kx1, kp1, E1.1.2.1.1.1⟩, ce, Option.bind_some, gd_pos a4]
      rfl
/-- it goes nowhere -/
theorem c_p59n (nd : ndN N) (hN : gvN gv) (E : PvE G h N cl tb l0 sc us fs rest Sl io ab ins gv pv Lp u) (I : InH (hdC N cl nm con fam h) ins gv B) {v : Ty} {x l3 : Nat} (cx : tyC h N cl (UU us rest) v x) (hv : v ≠ .leaf) (q : GTH ins (hdC N cl nm con fam h) v) (ht : tl us fs + 2700 ≤ 149000) (gb : gby ins gv v = none) {r : Nat → Nat → om_H → Option ((Nat ⊕ Nat) × om_H)} : C_5_worked_59 G r pv x l3 h = some (.inr l3, h) := by
  unfold C_5_worked_59 C_5_nothing
  rw [gd_pos E.2.1.1.1.1, Option.bind_some, E.2.1.1.2.1, gd_pos E.1.2.1.1.1, (c_goesK nd hN E I cx hv q ht).1 gb, xc_v, if_neg (fun z => z rfl)]
/-- it goes -/
theorem c_p59s (nd : ndN N) (hN : gvN gv) (E : PvE G h N cl tb l0 sc us fs rest Sl io ab ins gv pv Lp u) (I : InH (hdC N cl nm con fam h) ins gv B) {v uT : Ty} {x l3 b f1 f2 k g K : Nat} {wp : Option (List Int)} {T0 : Ty} (cx : tyC h N cl (UU us rest) v x) (hv : v ≠ .leaf) (q : GTH ins (hdC N cl nm con fam h) v) (d4 : tdp (tL v) < 70) (ht : tl us fs + 2700 ≤ 149000) (gb : gby ins gv v = some b) (Pp : POC G N cl (UU us rest) nm con fam Lp u h k l3 wp) (PpD : POD G N cl (UU us rest) io ins gv Lp u h k l3 T0 v) (hk : 1 ≤ k ∧ k + 1 ≤ K ∧ dPf g ≤ K) (qg : QC h N cl (UU us rest) (gto ins gv b (tL v))) (kg : knT ins gv (QC h N cl (UU us rest)) g (gto ins gv b (tL v)) uT) (z60 : tszW (gto ins gv b (tL v)) ≤ 60) (qq : GTH ins (hdC N cl nm con fam h) (gto ins gv b (tL v))) (W : PWk G N cl tb l0 sc us fs rest Sl io ab ins gv nm con fam pv Lp f1 f2 g (gto ins gv b (tL v)) uT) (hu : u + (3 + nP ins gv f2 (gto ins gv b (tL v))) ≤ 9000) (hl : (ll h Lp).length ≤ 9000) : ∃ y h1 u1, C_5_worked_59 G (C_5_workedD G f1) pv x l3 h = some (.inr y, h1) ∧ PvE G h1 N cl tb l0 sc us fs rest Sl io ab ins gv pv Lp u1 ∧ KV N cl tb l0 pv Lp rest us fs h u h1 u1 ∧ u1 ≤ u + (3 + nP ins gv f2 (gto ins gv b (tL v))) ∧ POC G N cl (UU us rest) nm con fam Lp u1 h1 (K + 1) y (thnB (thnB wp (some (goB nm con fam b v))) (whyB nm con fam ins gv f2 (gto ins gv b (tL v)))) ∧ POD G N cl (UU us rest) io ins gv Lp u1 h1 (K + 1) y T0 uT := by
  obtain ⟨y, h1, a1, a2, a3, E1, K1⟩ := (c_goesK nd hN E I cx hv q ht).2 b gb qg z60
  have l1 := KV_len K1
  obtain ⟨y2, h2, E2, K2, b1, ⟨b2, b2D⟩, b3⟩ := c_goP nd E1 (by omega) (by omega) (K1.2.1 _ _ cx) (GTH_KV E K1 q) d4 gb (QC_KV K1 qg)
  have K12 := KV_trans E K1 K2
  have l2 := KV_len K12
  obtain ⟨y3, h3, u3, c1, E3, K3, c2, P3, P3D⟩ := c_thenP (k := k) nd E2 (by omega) (by omega) (POC_KV E1 K2 (POC_KV E K1 Pp)) (.inr ⟨_, rfl, b1, PrC_more hk.1 b2⟩) (POD_KV K2 (POD_KV K1 PpD)) (.inr ⟨b1, PrD_more hk.1 b2D⟩)
  have K13 := KV_trans E K12 K3
  have l3' := KV_len K13
  obtain ⟨y4, h4, u4, d1, E4, K4, d2, P4, P4D⟩ := W h3 u3 y B E3 (InH_KV E K13 I) (knT_mono (fun X hX => QC_KV K13 hX) kg) (K3.2.1 _ _ (K2.2.1 _ _ a3)) (GTH_KV E K13 qq) (by omega) (by omega) ht
  have K14 := KV_trans E K13 K4
  have l4 := KV_len K14
  obtain ⟨y5, h5, u5, e1, E5, K5, e2, P5⟩ := c_thenP (k := K) nd E4 (by omega) (by omega) (POC_more hk.2.1 (POC_KV E3 K4 P3)) (POC_more hk.2.2 P4) (POD_more hk.2.1 (POD_KV K4 P3D)) (POD_more hk.2.2 P4D)
  refine ⟨y5, h5, u5, ?_, E5, KV_trans E K14 K5, by omega, P5⟩
  unfold C_5_worked_59 C_5_nothing
  rw [gd_pos E.2.1.1.1.1, Option.bind_some, E.2.1.1.2.1, gd_pos E.1.2.1.1.1, a1, xc_v, if_pos a2, b3]
  unfold C_5_worked_173
  rw [gd_pos E2.2.1.1.1.1, c1, Option.bind_some]
  show gd (kd h3 pv = 6) (xc (C_5_workedD G f1 pv y h3) (fun t h => some (Sum.inl t, h)) (fun p2 h2 => gd (kd h2 pv = 6) ((C_5_then G pv y3 p2 h2).bind fun p3 => some (Sum.inr p3.1, p3.2)))) = _
  rw [gd_pos E3.2.1.1.1.1, d1, xc_v, gd_pos E4.2.1.1.1.1, e1, Option.bind_some]
end LCW4
