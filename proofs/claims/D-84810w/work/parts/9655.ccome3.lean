set_option maxRecDepth 100000
/-! THE COMPONENT'S MACHINE: a function is used -/
section LC3
variable {G : om_G} {io : Nat → Nat} {ins : List INs} {M : MPg} {cd cs : Nat → Et → Nat → Nat → Nat → Prop} {h0 h h1 h2 Z : om_H} {m nu nu1 nu2 kk A B n mx c c' F lv : Nat} {fs : List Nat} {ls : List Fr} {f : Fr} {x : Int} {v w : Vt}
theorem c87_112 (P : Pop G io M cd cs h0 m h ls c mx f F lv) {r : Int × om_H} (e : C_10_apply G m (fI h 369 F) x h = some r) (k : kd r.2 m = 11) : C_10_comes_87 G m x 0 F 1 h = some (.inl (r.1, (if fI r.2 280 m ≠ 1 then 0 else if r.1 = 0 then 0 else 1), r.2)) := by
  obtain ⟨i0, pp, mm, hl, hm, ef, kf, e90, he, hr, e60, hz0, hc⟩ := P
  unfold C_10_comes_87
  rw [if_neg (by decide), if_pos rfl, gd_pos ⟨kf, mm.2.1.1.1⟩, e, Option.bind_some, gd_pos k]
  unfold C_10_comes_234
  by_cases q : fI r.2 280 m ≠ 1
  · rw [if_pos q, if_pos q]
  · rw [if_neg q, if_neg q]
    by_cases z : r.1 = 0
    · rw [if_pos z, if_pos z]
    · rw [if_neg z, if_neg z]
set_option maxHeartbeats 1000000 in
/-- A FUNCTION OF THE TEXT -/
theorem ca_7 (hG : om_okG G) (P : Pop G io M cd cs h0 m h ls c mx f F lv) (hx : vC G io M cd h m v true x) (hw : vC G io M cd h m w true (fI h 369 F)) (w7 : xtg w = 7) (w14 : eTg (xcd w) = 14) : (c < 4000 → ∃ h', C_10_apply G m (fI h 369 F) x h = some (0, h') ∧ mTc G io M cd cs h0 m h' (eLf (xcd w), xvE v (xl w), xow w, ls, c + 1, mx) ∧ kZ m h h') ∧ (¬ c < 4000 → ∃ h', C_10_apply G m (fI h 369 F) x h = some (0, sI h' 280 m 4) ∧ mMc G io M cd h0 m h' ls c mx ∧ kZ m h h') := by
  obtain ⟨i0, pp, mm, hl, hm, ef, kf, e90, he, hr, e60, hz0, hc⟩ := P
  have I := mm.2.1
  have nu := mm.2.2.1
  obtain ⟨k, hk, ex, ek, g1, g2, g3⟩ := vC_7 hw w7
  have kl : k < (ll h (fR h 262 m)).length := by have := nu.1; have := nu.2.1; omega
  obtain ⟨_, mem, ⟨_, g4, k40⟩, rw0, rw1, rw2⟩ := MC_at I kl
  have k4 : k < 4000 := by have := nu.1; have := nu.2.2; omega
  have is0 : C_10_is G (fI h 369 F) 12884901888 h = some 0 := c_is0 (q := 3) (by omega) (by omega) (by omega)
  have ce : C_10_cell G m (fI h 369 F) h = some (cO h m k) := by rw [ex]; exact c_cell I kl
  have rA := I.2.2.2.1.1
  have nR : fR h 1718 (cO h m k) ≠ fR h 302 m := (I.2.1.2 _ mem).2.2.2.1
  have W0 : WSt m [296] h (sI h 296 m (fI h 1708 (cO h m k))) := WSt_sI WSt_refl (by decide)
  obtain ⟨hb, p1, p2, p3⟩ := row_loop (B := fR h 302 m) (h := sI h 296 m (fI h 1708 (cO h m k))) (S := C_10_apply_113s G m x (cO h m k)) (fun j => aI h (fR h 1718 (cO h m k)) j) (fun g => by
    unfold C_10_apply_113s
    rw [if_pos (by show (4 : Int) ≤ 4; omega)]) (fun i g hi Y => by
    unfold C_10_apply_113s
    simp only
    have k1 : ∀ a, kd g a = kd h a := fun a => (Y.2 a).1
    have n1 : ∀ a, an g a = an h a := fun a => (Y.2 a).2.2.2.1
    have R1 : fR g 302 m = fR h 302 m := (Y.2 m).2.2.1 302
    have R2 : fR g 1718 (cO h m k) = fR h 1718 (cO h m k) := (Y.2 _).2.2.1 1718
    rw [if_neg (by omega), gd_pos ⟨by rw [k1]; exact I.1.1, by rw [k1]; exact k40, by rw [R2, k1]; exact rw1, by omega, by rw [R2, n1, rw2]; omega, by rw [R1, k1]; exact rA.2.1, by rw [R1, n1, rA.2.2]; omega⟩, w32_s (by omega) (by omega), R1, R2, show ((i : Int)).toNat = i by omega, (Y.2 _).2.2.2.2.1 i nR]
    rfl)
  have Wb : WSt m [296] h hb := WSt_pF W0 p2 (.inr (.inr (.inl rfl)))
  have mb : mMc G io M cd h0 m hb ls c mx := mMc_W mm Wb (by decide) (fun i hi => by
    obtain ⟨n1, n2⟩ := MC_fm I (i := i) (by omega)
    obtain ⟨⟨q1, q2, q3⟩, ⟨r1, r2, r3⟩, q5, _⟩ := MC_f I (i := i) (by omega)
    obtain ⟨a1, a2, a3, a4, a5, a6, a7, a8⟩ := p2.2 (fO h m i)
    obtain ⟨b1, b2, b3, b4, b5, b6, b7, b8⟩ := p2.2 (fR h 374 (fO h m i))
    exact ⟨⟨a1, fun f => (a2 f).trans (fI_na n1), a3, a4, fun k => a5 k (fun z => by have := rA.2.1; rw [← z] at this; omega), a6, a7, a8⟩, ⟨b1, fun f => (b2 f).trans (fI_na n2), b3, b4, fun k => b5 k q5, b6, b7, b8⟩⟩)
  have Ib := mb.2.1
  have gb := WSt_gr I nu Wb (by decide)
  have e96 : fI hb 296 m = fI h 1708 (cO h m k) := by
    rw [(p2.2 m).2.1 296]
    exact fI_eq
  have ap : C_10_apply G m (fI h 369 F) x h = (C_10_bind G m x hb).bind fun p4 => if p4.1 = 0 then some (0, p4.2) else gd (kd p4.2 (cO h m k) = 40 ∧ kd p4.2 (fR p4.2 1706 (cO h m k)) = 24 ∧ kd p4.2 m = 11) ((C_10_next G m (fR p4.2 1398 (fR p4.2 1706 (cO h m k))) p4.2).bind fun p5 => some (0, p5)) := by
    unfold C_10_apply
    rw [is0, Option.bind_some, if_pos rfl, gd_pos I.1.1, ce, Option.bind_some, gd_pos k40, ek, if_pos (om_cA_ne hG (by decide) (by decide) (by decide)), gd_pos ⟨k40, I.1.1⟩, p1, Option.bind_some, gd_pos Ib.1.1]
  refine ⟨fun h4 => ?_, fun h4 => ⟨hb, ?_, mb, kZ_W Wb (by decide)⟩⟩
  · obtain ⟨h1, b1, b2, b3⟩ := c_bindM (x := x) (en := xl w) (v := v) Ib mb.2.2.1 h4 (by rw [e96]; exact vC_gr gb g2) (vC_gr gb hx)
    have m1 := mMc_C mb b2 (by decide)
    have gg := mGc_trans gb b2.2.2.1
    have cOe : cO h1 m k = cO h m k := by
      obtain ⟨d, d1, _⟩ := b2.2.2.2.2.2.1
      have l1 : ll hb (fR hb 262 m) = ll h (fR h 262 m) := by
        rw [Wb.2.2.2 262 (by decide)]
        exact (Wb.1.2.1 _).2.2.1
      unfold cO
      rw [b2.2.2.2.2.1.2 262, d1, l1, List.getElem?_append_left kl]
    obtain ⟨⟨_, y2, _⟩, _⟩ := gg.2 k hk
    rw [cOe] at y2
    have k40' : kd h1 (cO h m k) = 40 := (b2.2.2.2.1.2.2.1 _ (by have := Wb.1.1.1; omega)).trans ((Wb.1.2.1 _).1.trans k40)
    obtain ⟨_, _, _, s14, _⟩ := cdP_keep i0 m1.1 pp _ _ _ _ _ g1
    obtain ⟨u1, u2⟩ := s14 w14 rfl
    have hr' : rC G io M.2.2.2 h1 m (gvW M (xow w).1) (xow w).2 (fR h1 302 m) := by
      rw [b2.2.2.2.2.1.2 302]
      refine rC_gr b2.2.2.1 (fun j _ => row_CSt Ib b2 j) ?_
      rw [Wb.2.2.2 302 (by decide)]
      exact rC_gr gb (fun j hj => p3 j hj) g3
    obtain ⟨h', n1, n2, n3⟩ := c_mkT (Z := h) (s := (eLf (xcd w), xvE v (xl w), xow w, ls, c + 1, mx)) (a := fR h1 1398 (fR h 1706 (cO h m k))) m1 (by
      have el : (xls (xvE v (xl w))).length = (xls (xl w)).length + 1 := by
        show (xls (xl w) ++ [v]).length = _
        rw [List.length_append, List.length_singleton]
      show cs _ _ _ 0 (xls (xvE v (xl w))).length
      rw [el]; exact u2) b3 hr' (kZ_trans (kZ_W Wb (by decide)) (kZ_C b2 (by decide)))
    refine ⟨h', ?_, n2, n3⟩
    rw [ap, b1, Option.bind_some]
    show (if (1 : Int) = 0 then _ else gd (kd h1 (cO h m k) = 40 ∧ kd h1 (fR h1 1706 (cO h m k)) = 24 ∧ kd h1 m = 11) ((C_10_next G m (fR h1 1398 (fR h1 1706 (cO h m k))) h1).bind _)) = _
    rw [if_neg (by decide), y2, gd_pos ⟨k40', u1, m1.2.1.1.1⟩, n1, Option.bind_some]
  · rw [ap, c_bindF Ib mb.2.2.1 h4, Option.bind_some]
    exact if_pos rfl
set_option maxHeartbeats 1000000 in
/-- A HALF -/
theorem ca_6 (hG : om_okG G) (P : Pop G io M cd cs h0 m h ls c mx f F lv) (hx : vC G io M cd h m v true x) (hw : vC G io M cd h m w true (fI h 369 F)) (w6 : xtg w = 6) (wn : xnm w = 1 ∨ xnm w = 2) : (c < 4000 → ∃ h', C_10_apply G m (fI h 369 F) x h = some (17179869184 + (c : Int), h') ∧ CSt G m c (c + 1) [] h h' ∧ vC G io M cd h' m (if xnm w = 1 then xvL (xl w) v else xvP (xl w) v) true (17179869184 + (c : Int))) ∧ (¬ c < 4000 → C_10_apply G m (fI h 369 F) x h = some (0, sI h 280 m 4)) := by
  obtain ⟨i0, pp, mm, hl, hm, ef, kf, e90, he, hr, e60, hz0, hc⟩ := P
  have I := mm.2.1
  have nu := mm.2.2.1
  obtain ⟨k, hk, ex, ek, g1, g2⟩ := vC_6 hw w6
  have kl : k < (ll h (fR h 262 m)).length := by have := nu.1; have := nu.2.1; omega
  obtain ⟨_, mem, ⟨_, g4, k40⟩, _⟩ := MC_at I kl
  have k4 : k < 4000 := by have := nu.1; have := nu.2.2; omega
  have is0 : C_10_is G (fI h 369 F) 12884901888 h = some 0 := c_is0 (q := 3) (by omega) (by omega) (by omega)
  have ce : C_10_cell G m (fI h 369 F) h = some (cO h m k) := by rw [ex]; exact c_cell I kl
  have lo : C_10_low G (fI h 1697 (cO h m k)) h = some (xnm w) := by
    rw [g1]
    unfold C_10_low
    rw [l2i_w, w32_s (by omega) (by omega)]
  have ap : C_10_apply G m (fI h 369 F) x h = C_10_apply_60 G m x (cO h m k) m (om_cA G (if xnm w = 1 then 15 else 16)) h := by
    unfold C_10_apply
    rw [is0, Option.bind_some, if_pos rfl, gd_pos I.1.1, ce, Option.bind_some, gd_pos k40, ek, if_neg (fun z => z rfl), gd_pos k40, lo, Option.bind_some]
    by_cases q : xnm w = 1
    · rw [if_neg (fun z => z q), if_pos q]
    · rw [if_pos q, if_neg q]
  rw [ap]
  refine ⟨fun h4 => ?_, fun h4 => ?_⟩
  · obtain ⟨c1, h1, h', t1, ⟨t2, t3, t4, t5⟩, t6, t7, t8, t9, t10, t11⟩ := c_two (kk := om_cA G (if xnm w = 1 then 15 else 16)) (x := fI h 1701 (cO h m k)) (y := x) I nu h4
    have g := t7.2.2.1
    have wn' : w32 (fI h1 264 m - 1) = (c : Int) := by rw [t5]; exact (w32_s (by omega) (by omega)).trans (by omega)
    obtain ⟨c0, h1', a1, a2, a3, a4, a5, a6⟩ := c_fresh (kk := om_cA G (if xnm w = 1 then 15 else 16)) I nu h4
    have e1 : (c1, h1) = (c0, h1') := Option.some.inj (t1.symm.trans a1)
    injection e1 with e1 e2
    have e01 : fI h1 1701 (cO h m k) = fI h 1701 (cO h m k) := by
      rw [e2]
      obtain ⟨_, ⟨_, q5, _⟩, _⟩ := a6.2 k hk
      rw [a5.2.2.2.2.1.2.1 k (by have := nu.1; omega)] at q5
      exact q5
    have k40' : kd h1 (cO h m k) = 40 := by
      rw [e2]
      exact (a5.1.1.2.2.1 _ g4).trans k40
    refine ⟨h', ?_, t7, ?_⟩
    · unfold C_10_apply_60
      rw [gd_pos I.1.1, t1, Option.bind_some]
      show (if c1 ≠ 0 then gd (kd h1 (cO h m k) = 40 ∧ kd h1 c1 = 40 ∧ kd h1 m = 11) ((C_10_of G 17179869184 (w32 (fI h1 264 m - 1)) (sI (sI h1 1697 c1 (fI h1 1701 (cO h m k))) 1701 c1 x)).bind fun p2 => some (p2, sI (sI h1 1697 c1 (fI h1 1701 (cO h m k))) 1701 c1 x)) else _) = _
      rw [if_pos t2, gd_pos ⟨k40', t3, t4⟩, wn', c_of4 h4, Option.bind_some, e01, t6]
    · have nn : (c : Int) < fI h' 264 m := by rw [t7.2.1.1]; omega
      by_cases q : xnm w = 1
      · rw [if_pos q]
        rw [if_pos q] at t9
        exact .inr (.inr (.inr ⟨c, nn, rfl, .inl ⟨rfl, by rw [t8]; exact t9, by rw [t8, t10]; exact vC_gr g g2, by rw [t8, t11]; exact vC_gr g hx⟩⟩))
      · rw [if_neg q]
        rw [if_neg q] at t9
        exact .inr (.inr (.inr ⟨c, nn, rfl, .inr (.inl ⟨rfl, by rw [t8]; exact t9, by rw [t8, t10]; exact vC_gr g g2, by rw [t8, t11]; exact vC_gr g hx⟩)⟩))
  · unfold C_10_apply_60
    rw [gd_pos I.1.1, c_freshF I nu h4, Option.bind_some]
    exact if_neg (fun z => z rfl)
set_option maxHeartbeats 1000000 in
/-- WHAT IS BUILT IN -/
theorem ca_3 (P : Pop G io M cd cs h0 m h ls c mx f F lv) (hx : vC G io M cd h m v true x) (hw : vC G io M cd h m w true (fI h 369 F)) (w3 : xtg w = 3) : ((xnm w = 1 ∨ xnm w = 2) → (c < 4000 → ∃ h', C_10_apply G m (fI h 369 F) x h = some (17179869184 + (c : Int), h') ∧ CSt G m c (c + 1) [] h h' ∧ vC G io M cd h' m (xvH (xnm w) v) true (17179869184 + (c : Int))) ∧ (¬ c < 4000 → C_10_apply G m (fI h 369 F) x h = some (0, sI h 280 m 4))) ∧ (xtg v = 5 → xnm w = 3 → ∃ y, C_10_apply G m (fI h 369 F) x h = some (y, h) ∧ vC G io M cd h m (xl v) true y) ∧ (xtg v = 5 → xnm w = 4 → ∃ y, C_10_apply G m (fI h 369 F) x h = some (y, h) ∧ vC G io M cd h m (xr v) true y) := by
  obtain ⟨i0, pp, mm, hl, hm, ef, kf, e90, he, hr, e60, hz0, hc⟩ := P
  have I := mm.2.1
  have nu := mm.2.2.1
  have ex := vC_3 hw w3
  have ap : xnm w = 1 ∨ xnm w = 2 ∨ xnm w = 3 ∨ xnm w = 4 → C_10_apply G m (fI h 369 F) x h = C_10_built G m (xnm w) x h := fun z => by
    have is1 : C_10_is G (fI h 369 F) 12884901888 h = some 1 := c_is1 (q := 3) (by omega) (by omega) (by omega)
    have lo : C_10_low G (fI h 369 F) h = some (xnm w) := by
      have e := c_low (G := G) (h := h) (a := xnm w) (k := 3) (by omega) (by omega)
      rw [show (4294967296 * 3 : Int) = 12884901888 by decide, Int.emod_eq_of_lt (by omega) (by omega), ← ex] at e
      exact e
    unfold C_10_apply
    rw [is1, Option.bind_some, if_neg (by decide), lo, Option.bind_some, gd_pos I.1.1]
    cases C_10_built G m (xnm w) x h <;> rfl
  refine ⟨fun z => ⟨fun h4 => ?_, fun h4 => ?_⟩, fun v5 z => ?_, fun v5 z => ?_⟩
  · obtain ⟨c1, h1, h', t1, ⟨t2, t3, t4, t5⟩, t6, t7, t8, t9, t10, t11⟩ := c_two (kk := om_cA G 17) (x := xnm w) (y := x) I nu h4
    have g := t7.2.2.1
    have wn' : w32 (fI h1 264 m - 1) = (c : Int) := by rw [t5]; exact (w32_s (by omega) (by omega)).trans (by omega)
    refine ⟨h', ?_, t7, .inr (.inr (.inr ⟨c, by rw [t7.2.1.1]; omega, rfl, .inr (.inr (.inl ⟨rfl, by rw [t8]; exact t9, by rw [t8, t10], by rw [t8, t11]; exact vC_gr g hx⟩))⟩))⟩
    rw [ap (by omega)]
    unfold C_10_built
    rw [if_pos (by omega), if_pos (by omega), gd_pos I.1.1, t1, Option.bind_some]
    show (if c1 ≠ 0 then gd (kd h1 c1 = 40 ∧ kd h1 m = 11) ((C_10_of G 17179869184 (w32 (fI h1 264 m - 1)) (sI (sI h1 1697 c1 (xnm w)) 1701 c1 x)).bind fun p2 => some (p2, sI (sI h1 1697 c1 (xnm w)) 1701 c1 x)) else _) = _
    rw [if_pos t2, gd_pos ⟨t3, t4⟩, wn', c_of4 h4, Option.bind_some, t6]
  · rw [ap (by omega)]
    unfold C_10_built
    rw [if_pos (by omega), if_pos (by omega), gd_pos I.1.1, c_freshF I nu h4, Option.bind_some]
    exact if_neg (fun z => z rfl)
  · obtain ⟨k, hk, ek, _, v1, v2⟩ := vC_45 hx (.inr v5)
    have kl : k < (ll h (fR h 262 m)).length := by have := nu.1; have := nu.2.1; omega
    obtain ⟨_, mem, ⟨_, g4, k40⟩, _⟩ := MC_at I kl
    refine ⟨_, ?_, v1⟩
    rw [ap (by omega)]
    unfold C_10_built
    rw [if_neg (fun y => y z), gd_pos I.1.1, ek, c_cell I kl, Option.bind_some, gd_pos k40]
  · obtain ⟨k, hk, ek, _, v1, v2⟩ := vC_45 hx (.inr v5)
    have kl : k < (ll h (fR h 262 m)).length := by have := nu.1; have := nu.2.1; omega
    obtain ⟨_, mem, ⟨_, g4, k40⟩, _⟩ := MC_at I kl
    refine ⟨_, ?_, v2⟩
    rw [ap (by omega)]
    unfold C_10_built
    rw [if_pos (by omega), if_neg (fun y => y z), gd_pos I.1.1, ek, c_cell I kl, Option.bind_some, gd_pos k40]
end LC3
