set_option maxRecDepth 100000
/-! THE COMPONENT'S MACHINE: a thing comes to a let, a choice, a case, the right of a chain -/
section LC2
variable {G : om_G} {io : Nat → Nat} {ins : List INs} {M : MPg} {cd cs : Nat → Et → Nat → Nat → Nat → Prop} {h0 h h1 h2 Z : om_H} {m nu nu1 nu2 kk A B n mx c c' F lv : Nat} {fs : List Nat} {ls : List Fr} {f : Fr} {x : Int} {v : Vt}
/-- a frame stays while cells are made -/
theorem fr_CSt (I : MC G h m) (X : CSt G m nu nu1 fs h h1) {i : Nat} (hi : i < 300) : eqA (fO h m i) h h1 := by
  obtain ⟨q1, q2, q3, q4⟩ := MC_fc I hi
  exact X.2.2.2.1.2.2.2 _ q3 q1
set_option maxHeartbeats 1000000 in
/-- A LET -/
theorem c87_15 (P : Pop G io M cd cs h0 m h ls c mx f F lv) (q : f.1 = 15) (t : eTg f.2.1 = 15) (hx : vC G io M cd h m v true x) : (c < 4000 → ∃ h', C_10_comes_87 G m x 0 F 2 h = some (.inl (x, 0, h')) ∧ mTc G io M cd cs h0 m h' (eRt f.2.1, xvE v f.2.2.1, f.2.2.2.1, ls, c + 1, mx) ∧ kZ m h h') ∧ (¬ c < 4000 → C_10_comes_87 G m x 0 F 2 h = some (.inl (x, 0, sI h 280 m 4))) := by
  obtain ⟨i0, pp, mm, hl, hm, ef, kf, e90, he, hr, e60, hz0, hc⟩ := P
  have l0 := hz0 (.inl q)
  rw [l0] at hc
  have I := mm.2.1
  refine ⟨fun h4 => ?_, fun h4 => ?_⟩
  · obtain ⟨h1, b1, b2, b3⟩ := c_bindM (x := x) (en := f.2.2.1) (v := v) I mm.2.2.1 h4 he hx
    have m1 := mMc_C mm b2 (by decide)
    have E := fr_CSt I b2 hl
    rw [← ef] at E
    obtain ⟨_, _, _, _, s15, _⟩ := cdP_keep i0 m1.1 pp _ _ _ _ _ hc
    obtain ⟨u1, _, u3⟩ := s15 t rfl
    have hr' : rC G io M.2.2.2 h1 m (gvW M f.2.2.2.1.1) f.2.2.2.1.2 (fR h1 302 m) := by
      rw [b2.2.2.2.2.1.2 302]
      exact rC_gr b2.2.2.1 (fun j _ => row_CSt I b2 j) hr
    obtain ⟨h', n1, n2, n3⟩ := c_mkT (Z := h) (s := (eRt f.2.1, xvE v f.2.2.1, f.2.2.2.1, ls, c + 1, mx)) (a := fR h1 1418 (fR h 358 F)) m1 (by
      have el : (xls (xvE v f.2.2.1)).length = (xls f.2.2.1).length + 1 := by
        show (xls f.2.2.1 ++ [v]).length = _
        rw [List.length_append, List.length_singleton]
      show cs _ _ _ 0 (xls (xvE v f.2.2.1)).length
      rw [el]; exact u3) b3 hr' (kZ_C b2 (by decide))
    refine ⟨h', ?_, n2, n3⟩
    unfold C_10_comes_87
    rw [if_neg (by decide), if_neg (by decide), if_pos rfl, gd_pos I.1.1, b1, Option.bind_some]
    show (if (1 : Int) = 0 then _ else gd (kd h1 F = 12 ∧ (fR h1 358 F = 0 ∨ kd h1 (fR h1 358 F) = 25) ∧ kd h1 (fR h1 358 F) = 25 ∧ kd h1 m = 11) ((C_10_next G m (fR h1 1418 (fR h1 358 F)) h1).bind _)) = _
    rw [if_neg (by decide), E.2.2.1 358, gd_pos ⟨E.1.trans kf, .inr u1, u1, m1.2.1.1.1⟩, n1, Option.bind_some]
  · unfold C_10_comes_87
    rw [if_neg (by decide), if_neg (by decide), if_pos rfl, gd_pos I.1.1, c_bindF I mm.2.2.1 h4, Option.bind_some]
    exact if_pos rfl
set_option maxHeartbeats 1000000 in
/-- A CHOICE -/
theorem c87_16 (P : Pop G io M cd cs h0 m h ls c mx f F lv) (q : f.1 = 16) (t : eTg f.2.1 = 16) (hx : vC G io M cd h m v true x) (t2 : xtg v = 2) (hb : xnm v = 0 ∨ xnm v = 1) : ∃ h', C_10_comes_87 G m x 0 F 3 h = some (.inl (x, 0, h')) ∧ mTc G io M cd cs h0 m h' (if xnm v = 1 then eLf (eRt f.2.1) else eRt (eRt f.2.1), f.2.2.1, f.2.2.2.1, ls, c, mx) ∧ kZ m h h' := by
  obtain ⟨i0, pp, mm, hl, hm, ef, kf, e90, he, hr, e60, hz0, hc⟩ := P
  have l0 := hz0 (.inr (.inl q))
  rw [l0] at hc
  have I := mm.2.1
  obtain ⟨_, _, _, _, _, s16, _⟩ := cdP_keep i0 mm.1 pp _ _ _ _ _ hc
  obtain ⟨u1, _, u3, u4⟩ := s16 t rfl
  have lo : C_10_low G x h = some (xnm v) := by
    have e := c_low (G := G) (h := h) (a := xnm v) (k := 2) (by omega) (by omega)
    rw [show (4294967296 * 2 : Int) = 8589934592 by decide, Int.emod_eq_of_lt (by omega) (by omega), ← vC_2 hx t2] at e
    exact e
  unfold C_10_comes_87
  rw [if_neg (by decide), if_neg (by decide), if_neg (by decide), if_pos rfl, lo, Option.bind_some]
  by_cases b : xnm v = 1
  · obtain ⟨h', n1, n2, n3⟩ := c_mkT (Z := h) (s := (if xnm v = 1 then eLf (eRt f.2.1) else eRt (eRt f.2.1), f.2.2.1, f.2.2.2.1, ls, c, mx)) (a := fR h 1426 (fR h 358 F)) mm (by show cs _ (if xnm v = 1 then _ else _) _ 0 _; rw [if_pos b]; exact u3) he hr kZ_refl
    refine ⟨h', ?_, n2, n3⟩
    rw [if_neg (fun z => z b), gd_pos ⟨kf, .inr u1, u1⟩]
    unfold C_10_comes_302
    rw [gd_pos I.1.1, n1, Option.bind_some]
  · obtain ⟨h', n1, n2, n3⟩ := c_mkT (Z := h) (s := (if xnm v = 1 then eLf (eRt f.2.1) else eRt (eRt f.2.1), f.2.2.1, f.2.2.2.1, ls, c, mx)) (a := fR h 1430 (fR h 358 F)) mm (by show cs _ (if xnm v = 1 then _ else _) _ 0 _; rw [if_neg b]; exact u4) he hr kZ_refl
    refine ⟨h', ?_, n2, n3⟩
    rw [if_pos b, gd_pos ⟨kf, .inr u1, u1⟩]
    unfold C_10_comes_302
    rw [gd_pos I.1.1, n1, Option.bind_some]
set_option maxHeartbeats 1000000 in
/-- A CASE, of nothing -/
theorem c87_17n (P : Pop G io M cd cs h0 m h ls c mx f F lv) (q : f.1 = 17) (t : eTg f.2.1 = 17) (hx : vC G io M cd h m v true x) (t3 : xtg v = 3) (hb : xnm v = 0) : ∃ h', C_10_comes_87 G m x 0 F 4 h = some (.inl (x, 0, h')) ∧ mTc G io M cd cs h0 m h' (eLf (eRt f.2.1), f.2.2.1, f.2.2.2.1, ls, c, mx) ∧ kZ m h h' := by
  obtain ⟨i0, pp, mm, hl, hm, ef, kf, e90, he, hr, e60, hz0, hc⟩ := P
  have l0 := hz0 (.inr (.inr q))
  rw [l0] at hc
  have I := mm.2.1
  obtain ⟨_, _, _, _, _, _, s17⟩ := cdP_keep i0 mm.1 pp _ _ _ _ _ hc
  obtain ⟨u1, _, u3, u4⟩ := s17 t rfl
  have ex := vC_3 hx t3
  obtain ⟨h', n1, n2, n3⟩ := c_mkT (Z := h) (s := (eLf (eRt f.2.1), f.2.2.1, f.2.2.2.1, ls, c, mx)) (a := fR h 1438 (fR h 358 F)) mm u3 he hr kZ_refl
  refine ⟨h', ?_, n2, n3⟩
  have is1 : C_10_is G x 12884901888 h = some 1 := c_is1 (q := 3) (by omega) (by omega) (by omega)
  unfold C_10_comes_87
  rw [if_neg (by decide), if_neg (by decide), if_neg (by decide), if_neg (by decide), if_pos rfl, gd_pos ⟨kf, .inr u1, I.1.1⟩]
  unfold C_10_cases
  rw [is1, Option.bind_some, if_neg (by decide), gd_pos ⟨u1, I.1.1⟩, n1, Option.bind_some, Option.bind_some]
set_option maxHeartbeats 1000000 in
/-- A CASE, of a thing and a list -/
theorem c87_17c (P : Pop G io M cd cs h0 m h ls c mx f F lv) (q : f.1 = 17) (t : eTg f.2.1 = 17) (hx : vC G io M cd h m v true x) (t4 : xtg v = 4) : (c + 1 < 4000 → ∃ h', C_10_comes_87 G m x 0 F 4 h = some (.inl (x, 0, h')) ∧ mTc G io M cd cs h0 m h' (eRt (eRt f.2.1), xvE (xr v) (xvE (xl v) f.2.2.1), f.2.2.2.1, ls, c + 2, mx) ∧ kZ m h h') ∧ (¬ c + 1 < 4000 → ∃ h', C_10_comes_87 G m x 0 F 4 h = some (.inl (x, 0, sI h' 280 m 4)) ∧ mMc G io M cd h0 m h' ls 4000 mx ∧ kZ m h h') := by
  obtain ⟨i0, pp, mm, hl, hm, ef, kf, e90, he, hr, e60, hz0, hc⟩ := P
  have l0 := hz0 (.inr (.inr q))
  rw [l0] at hc
  have I := mm.2.1
  obtain ⟨_, _, _, _, _, _, r17⟩ := cdP_keep i0 mm.1 pp _ _ _ _ _ hc
  obtain ⟨r1, _⟩ := r17 t rfl
  obtain ⟨k, hk, ex, _, v1, v2⟩ := vC_45 hx (.inl t4)
  have nu := mm.2.2.1
  have kl : k < (ll h (fR h 262 m)).length := by have := nu.1; have := nu.2.1; omega
  obtain ⟨_, _, ⟨_, g4, k40⟩, _⟩ := MC_at I kl
  have k4 : k < 4000 := by have := nu.1; have := nu.2.2; omega
  have is0 : C_10_is G x 12884901888 h = some 0 := c_is0 (q := 3) (by omega) (by omega) (by omega)
  have ce : C_10_cell G m x h = some (cO h m k) := by rw [ex]; exact c_cell I kl
  have st : C_10_comes_87 G m x 0 F 4 h = (C_10_cases G m (fR h 358 F) x h).bind fun p7 => some (.inl (x, 0, p7)) := by
    unfold C_10_comes_87
    rw [if_neg (by decide), if_neg (by decide), if_neg (by decide), if_neg (by decide), if_pos rfl, gd_pos ⟨kf, .inr r1, I.1.1⟩]
  have csE : C_10_cases G m (fR h 358 F) x h = (C_10_bind G m (fI h 1697 (cO h m k)) h).bind fun p3 => if p3.1 = 0 then some p3.2 else gd (kd p3.2 (cO h m k) = 40 ∧ kd p3.2 m = 11) ((C_10_bind G m (fI p3.2 1701 (cO h m k)) p3.2).bind fun p4 => if p4.1 = 0 then some p4.2 else gd (kd p4.2 (fR h 358 F) = 27 ∧ kd p4.2 m = 11) ((C_10_next G m (fR p4.2 1442 (fR h 358 F)) p4.2).bind fun p5 => some p5)) := by
    unfold C_10_cases
    rw [is0, Option.bind_some, if_pos rfl, gd_pos I.1.1, ce, Option.bind_some, gd_pos ⟨k40, I.1.1⟩]
  by_cases h4 : c < 4000
  · obtain ⟨h1, b1, b2, b3⟩ := c_bindM (x := fI h 1697 (cO h m k)) (en := f.2.2.1) (v := xl v) I nu h4 he v1
    have m1 := mMc_C mm b2 (by decide)
    have I1 := m1.2.1
    obtain ⟨_, ⟨_, w2, _⟩, _⟩ := b2.2.2.1.2 k hk
    have cOe : cO h1 m k = cO h m k := by
      obtain ⟨d, d1, _⟩ := b2.2.2.2.2.2.1
      unfold cO
      rw [b2.2.2.2.2.1.2 262, d1, List.getElem?_append_left kl]
    have k40' : kd h1 (cO h m k) = 40 := (b2.2.2.2.1.2.2.1 _ g4).trans k40
    rw [cOe] at w2
    have v2' : vC G io M cd h1 m (xr v) true (fI h1 1701 (cO h m k)) := by rw [w2]; exact vC_gr b2.2.2.1 v2
    refine ⟨fun h5 => ?_, fun h5 => ?_⟩
    · obtain ⟨h2, e1, e2, e3⟩ := c_bindM (x := fI h1 1701 (cO h m k)) (en := xvE (xl v) f.2.2.1) (v := xr v) I1 m1.2.2.1 h5 b3 v2'
      have m2 := mMc_C m1 e2 (by decide)
      obtain ⟨_, _, _, _, _, _, s17⟩ := cdP_keep i0 m2.1 pp _ _ _ _ _ hc
      obtain ⟨u1, _, _, u4⟩ := s17 t rfl
      have hr' : rC G io M.2.2.2 h2 m (gvW M f.2.2.2.1.1) f.2.2.2.1.2 (fR h2 302 m) := by
        rw [e2.2.2.2.2.1.2 302]
        refine rC_gr e2.2.2.1 (fun j _ => row_CSt I1 e2 j) ?_
        rw [b2.2.2.2.2.1.2 302]
        exact rC_gr b2.2.2.1 (fun j _ => row_CSt I b2 j) hr
      obtain ⟨h', n1, n2, n3⟩ := c_mkT (Z := h) (s := (eRt (eRt f.2.1), xvE (xr v) (xvE (xl v) f.2.2.1), f.2.2.2.1, ls, c + 2, mx)) (a := fR h2 1442 (fR h 358 F)) m2 (by
        have el : (xls (xvE (xr v) (xvE (xl v) f.2.2.1))).length = (xls f.2.2.1).length + 2 := by
          show ((xls f.2.2.1 ++ [xl v]) ++ [xr v]).length = _
          rw [List.length_append, List.length_append, List.length_singleton, List.length_singleton]
        show cs _ _ _ 0 (xls (xvE (xr v) (xvE (xl v) f.2.2.1))).length
        rw [el]; exact u4) e3 hr' (kZ_trans (kZ_C b2 (by decide)) (kZ_C e2 (by decide)))
      refine ⟨h', ?_, n2, n3⟩
      rw [st, csE, b1, Option.bind_some]
      show (if (1 : Int) = 0 then _ else gd (kd h1 (cO h m k) = 40 ∧ kd h1 m = 11) ((C_10_bind G m (fI h1 1701 (cO h m k)) h1).bind _)).bind _ = _
      rw [if_neg (by decide), gd_pos ⟨k40', I1.1.1⟩, e1, Option.bind_some]
      show (if (1 : Int) = 0 then _ else gd (kd h2 (fR h 358 F) = 27 ∧ kd h2 m = 11) ((C_10_next G m (fR h2 1442 (fR h 358 F)) h2).bind _)).bind _ = _
      rw [if_neg (by decide), gd_pos ⟨u1, m2.2.1.1.1⟩, n1, Option.bind_some, Option.bind_some]
    · have c4 : c + 1 = 4000 := by omega
      refine ⟨h1, ?_, by rw [← c4]; exact m1, kZ_C b2 (by decide)⟩
      rw [st, csE, b1, Option.bind_some]
      show (if (1 : Int) = 0 then _ else gd (kd h1 (cO h m k) = 40 ∧ kd h1 m = 11) ((C_10_bind G m (fI h1 1701 (cO h m k)) h1).bind _)).bind _ = _
      rw [if_neg (by decide), gd_pos ⟨k40', I1.1.1⟩, c_bindF I1 m1.2.2.1 h5, Option.bind_some]
      show (if (0 : Int) = 0 then some (sI h1 280 m 4) else _).bind _ = _
      rw [if_pos rfl, Option.bind_some]
  · refine ⟨fun z => by omega, fun _ => ⟨h, ?_, ?_, kZ_refl⟩⟩
    · rw [st, csE, c_bindF I nu h4, Option.bind_some]
      show (if (0 : Int) = 0 then some (sI h 280 m 4) else _).bind _ = _
      rw [if_pos rfl, Option.bind_some]
    · have c4 : c = 4000 := by have := nu.2.2; omega
      rw [← c4]; exact mm
set_option maxHeartbeats 1000000 in
/-- THE RIGHT SIDE OF A CHAIN -/
theorem c87_118 (hI : intO G) (P : Pop G io M cd cs h0 m h ls c mx f F lv) (t : eTg f.2.1 = 18) (hx : vC G io M cd h m v true x) (t1 : xtg v = 1) (hb : -2147483648 ≤ xnm v ∧ xnm v ≤ 2147483647) {w : Vt} (hw : vC G io M cd h m w true (fI h 369 F)) (w1 : xtg w = 1) (hw2 : -2147483648 ≤ xnm w ∧ xnm w ≤ 2147483647) : ∃ y, C_10_comes_87 G m x 0 F 6 h = some (.inl (y, 1, h)) ∧ vC G io M cd h m (xsg (eLb f.2.1).2.1 (xnm w) (xnm v)) true y := by
  obtain ⟨i0, pp, mm, hl, hm, ef, kf, e90, he, hr, e60, hz0, hc⟩ := P
  have I := mm.2.1
  obtain ⟨⟨_, _, _, _, _, lv5, _⟩, _, q18, _⟩ := cdP_keep i0 mm.1 pp _ _ _ _ _ hc
  obtain ⟨r1, rL, ⟨r5, r5'⟩, _, ⟨j, j1, j2, j3, j4⟩, _⟩ := q18 t
  obtain ⟨_, s2, _⟩ := rL 1522 (by decide)
  obtain ⟨_, s5, _⟩ := rL 1526 (by decide)
  have lo1 : C_10_low G x h = some (xnm v) := by rw [vC_1 hx t1]; exact c_low hb.1 hb.2
  have lo2 : C_10_low G (fI h 369 F) h = some (xnm w) := by rw [vC_1 hw w1]; exact c_low hw2.1 hw2.2
  have ofI : ∀ a : Int, -2147483648 ≤ a → a ≤ 2147483647 → C_10_of G 4294967296 a h = some (4294967296 + a % 4294967296) := fun a a1 a2 => c_of (k := 1) a1 a2 (by omega) (by omega)
  have ofB : ∀ a : Int, a = 0 ∨ a = 1 → C_10_of G 8589934592 a h = some (8589934592 + a) := fun a a1 => by
    have := c_of (G := G) (h := h) (a := a) (k := 2) (by omega) (by omega) (by omega) (by omega)
    rw [Int.emod_eq_of_lt (by omega) (by omega)] at this
    exact this
  have rg : ∀ z : Int, -2147483648 ≤ w32 z ∧ w32 z ≤ 2147483647 := w32_in
  have sg : ∃ y, C_10_signed G ((eLb f.2.1).2.1 : Int) (xnm w) (xnm v) h = some y ∧ vC G io M cd h m (xsg (eLb f.2.1).2.1 (xnm w) (xnm v)) true y := by
    generalize (eLb f.2.1).2.1 = s at j4 ⊢
    unfold C_10_signed xsg
    rcases j4 with e | e | e | e | e
    · rw [if_pos (by omega), if_neg (by omega), if_neg (by omega), if_pos e, ofI _ (rg _).1 (rg _).2]
      exact ⟨_, rfl, .inl ⟨rfl, rfl⟩⟩
    · rw [if_neg (by omega), if_pos (by omega), if_neg (by omega), if_neg (by omega), if_neg (by omega), if_pos e, ofI _ (rg _).1 (rg _).2]
      exact ⟨_, rfl, .inl ⟨rfl, rfl⟩⟩
    · rw [if_neg (by omega), if_neg (by omega), if_pos (by omega), if_neg (by omega), if_neg (by omega), if_neg (by omega), if_neg (by omega), ofI _ (rg _).1 (rg _).2]
      exact ⟨_, rfl, .inl ⟨rfl, rfl⟩⟩
    · rw [if_neg (by omega), if_neg (by omega), if_neg (by omega), if_pos (by omega), if_pos e]
      unfold C_10_signed_87
      by_cases b : xnm w < xnm v
      · rw [if_neg (by omega), if_pos b, ofB 1 (.inr rfl)]
        exact ⟨_, rfl, .inr (.inl ⟨rfl, rfl⟩)⟩
      · rw [if_pos (by omega), if_neg b, ofB 0 (.inl rfl)]
        exact ⟨_, rfl, .inr (.inl ⟨rfl, rfl⟩)⟩
    · rw [if_neg (show ¬ (s : Int) = 42 by omega), if_neg (show ¬ (s : Int) = 43 by omega), if_neg (show ¬ (s : Int) = 45 by omega), if_neg (show ¬ (s : Int) = 60 by omega), if_neg (show ¬ s = 60 by omega), if_pos e]
      unfold C_10_signed_104
      by_cases b : xnm w = xnm v
      · rw [if_neg (fun z => z b), if_pos b, ofB 1 (.inr rfl)]
        exact ⟨_, rfl, .inr (.inl ⟨rfl, rfl⟩)⟩
      · rw [if_pos b, if_neg b, ofB 0 (.inl rfl)]
        exact ⟨_, rfl, .inr (.inl ⟨rfl, rfl⟩)⟩
  obtain ⟨y, y1, y2⟩ := sg
  refine ⟨y, ?_, y2⟩
  unfold C_10_comes_87 P_J2_size P_J2_get
  rw [if_neg (by decide), if_neg (by decide), if_neg (by decide), if_neg (by decide), if_neg (by decide), if_neg (by decide), gd_pos ⟨kf, .inr r1, r1, s2⟩, gd_pos s2, Option.bind_some, gd_pos ⟨kf, s5⟩, e60, w32_s (x := ((ll h (fR h 1522 (fR h 358 F))).length : Int) - 1) (by omega) (by omega), w32_s (by omega) (by omega), gd_pos ⟨s5, by omega⟩, show (((ll h (fR h 1522 (fR h 358 F))).length : Int) - 1 - (lv : Int)).toNat = (ll h (fR h 1522 (fR h 358 F))).length - 1 - lv by omega, j2, Option.bind_some, gd_pos ⟨⟨j, j1, rfl⟩, hI.2 j h j1⟩, c_intv hI j1, Option.bind_some, gd_pos kf, lo2, Option.bind_some, lo1, Option.bind_some, j3, y1, Option.bind_some]
end LC2
