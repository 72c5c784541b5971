set_option maxRecDepth 100000
/-! THE COMPONENT'S MACHINE: a thing comes to a use, to a chain -/
section LC1
variable {G : om_G} {io : Nat → Nat} {ins : List INs} {M : MPg} {cd cs : Nat → Et → Nat → Nat → Nat → Prop} {h0 h h1 h2 Z : om_H} {m nu nu1 nu2 kk A B n mx c c' F lv : Nat} {fs : List Nat} {ls : List Fr} {f : Fr} {x : Int} {v : Vt}
/-- a frame f was taken; a is its ex, lv how far in -/
def Pop (G : om_G) (io : Nat → Nat) (M : MPg) (cd cs : Nat → Et → Nat → Nat → Nat → Prop) (h0 : om_H) (m : Nat) (h : om_H) (ls : List Fr) (c mx : Nat) (f : Fr) (F lv : Nat) : Prop := MC G h0 m ∧ cdP G h0 m cd cs ∧ mMc G io M cd h0 m h ls c mx ∧ ls.length < 300 ∧ ls.length + 1 ≤ mx ∧ F = fO h m ls.length ∧ kd h F = 12 ∧ fR h 290 m = fR h 358 F ∧ vC G io M cd h m f.2.2.1 false (fI h 296 m) ∧ rC G io M.2.2.2 h m (gvW M f.2.2.2.1.1) f.2.2.2.1.2 (fR h 302 m) ∧ fI h 360 F = (lv : Int) ∧ (f.1 = 15 ∨ f.1 = 16 ∨ f.1 = 17 → lv = 0) ∧ cd f.2.2.2.1.1 f.2.1 (fR h 358 F) lv (xls f.2.2.1).length
set_option maxHeartbeats 1000000 in
/-- A USE: the function came -/
theorem c87_12 (P : Pop G io M cd cs h0 m h ls c mx f F lv) (t : eTg f.2.1 = 12) (hx : vC G io M cd h m v true x) : ∃ h', C_10_comes_87 G m x 0 F 0 h = some (.inl (x, 0, h')) ∧ mTc G io M cd cs h0 m h' (eRt f.2.1, f.2.2.1, f.2.2.2.1, (112, f.2.1, f.2.2.1, f.2.2.2.1, v) :: ls, c, mx) ∧ kZ m h h' := by
  obtain ⟨i0, pp, mm, hl, hm, ef, kf, e90, he, hr, e60, hz0, hc⟩ := P
  obtain ⟨⟨_, _, _, _, _, lv5, _⟩, q12, _⟩ := cdP_keep i0 mm.1 pp _ _ _ _ _ hc
  obtain ⟨r1, _⟩ := q12 t
  obtain ⟨h1, p1, p2, p3, p4, p5, p6, p7, p8, p9, p10, p11, p12⟩ := c_frM (f := (112, f.2.1, f.2.2.1, f.2.2.2.1, v)) (lv := lv) (x := x) mm hl (by rw [e90]; exact hc) he hr (fun _ => hx) (fun z => by have z' : (112 : Nat) = 15 ∨ (112 : Nat) = 16 ∨ (112 : Nat) = 17 := z; omega)
  rw [← ef] at p4 p5 p6 p7 p8 p9 p10 p11 p12
  rw [show max mx (ls.length + 1) = mx by omega] at p6
  obtain ⟨_, s12, _⟩ := cdP_keep i0 p6.1 pp _ _ _ _ _ hc
  obtain ⟨u1, ⟨u2, u3, u4⟩, ⟨u5, u5'⟩, ⟨i, u6, ⟨u7, u8, u9⟩, u10⟩, _⟩ := s12 t
  obtain ⟨h', n1, n2, n3⟩ := c_mkT (Z := h) (s := (eRt f.2.1, f.2.2.1, f.2.2.2.1, (112, f.2.1, f.2.2.1, f.2.2.2.1, v) :: ls, c, mx)) (a := fR (sI h1 369 F x) 1498 i) p6 u10 (by rw [p9.1]; exact vC_gr p7 he) (by rw [p10]; exact rC_gr p7 (fun j _ => p11 j) hr) p8
  have p1' : C_10_push G m (om_cA G 20) (lv : Int) h = some (1, h1) := p1
  have w1 : w32 (((ls.length + 1 : Nat) : Int) - 1) = (ls.length : Int) := (w32_s (by omega) (by omega)).trans (by omega)
  have eA : aR h1 (fR h1 270 m) ls.length = F := p4
  have k60 := p2.2.2.1.1
  refine ⟨h', ?_, n2, n3⟩
  unfold C_10_comes_87
  rw [if_pos rfl, gd_pos ⟨kf, .inr r1, mm.2.1.1.1⟩, e60, p1', Option.bind_some]
  show (if (1 : Int) ≠ 0 then gd (kd h1 m = 11 ∧ kd h1 (fR h1 270 m) = 60 ∧ 0 ≤ w32 (fI h1 272 m - 1) ∧ w32 (fI h1 272 m - 1) < (an h1 (fR h1 270 m) : Int) ∧ kd h1 (aR h1 (fR h1 270 m) (w32 (fI h1 272 m - 1)).toNat) = 12 ∧ kd h1 (fR h 358 F) = 30 ∧ kd h1 (fR h1 1494 (fR h 358 F)) = 42) ((P_J2_size G (fR h1 1494 (fR h 358 F)) (sI h1 369 (aR h1 (fR h1 270 m) (w32 (fI h1 272 m - 1)).toNat) x)).bind fun p2 => C_10_comes_179 G m x 0 F m (fR h1 1494 (fR h 358 F)) p2 (sI h1 369 (aR h1 (fR h1 270 m) (w32 (fI h1 272 m - 1)).toNat) x)) else _) = _
  rw [if_pos (by decide), p3, w1, show ((ls.length : Int)).toNat = ls.length by omega, eA, gd_pos ⟨p2.1.1, k60.2.1, by omega, by rw [k60.2.2]; omega, p5, u1, u3⟩]
  unfold P_J2_size C_10_comes_179 P_J2_get
  have u3' : kd (sI h1 369 F x) (fR h1 1494 (fR h 358 F)) = 42 := u3
  have u5a : lv < (ll (sI h1 369 F x) (fR h1 1494 (fR h 358 F))).length := u5
  have u5b : (ll (sI h1 369 F x) (fR h1 1494 (fR h 358 F))).length ≤ 4200 := u5'
  rw [gd_pos u3', Option.bind_some, gd_pos ⟨p5, u3⟩, p12, w32_s (x := ((ll (sI h1 369 F x) (fR h1 1494 (fR h 358 F))).length : Int) - 1) (by omega) (by omega)]
  have u6' : (ll (sI h1 369 F x) (fR h1 1494 (fR h 358 F)))[(ll (sI h1 369 F x) (fR h1 1494 (fR h 358 F))).length - 1 - lv]? = some i := u6
  rw [w32_s (by omega) (by omega), gd_pos ⟨u3, by omega⟩, show (((ll (sI h1 369 F x) (fR h1 1494 (fR h 358 F))).length : Int) - 1 - (lv : Int)).toNat = (ll (sI h1 369 F x) (fR h1 1494 (fR h 358 F))).length - 1 - lv by omega, u6', Option.bind_some, gd_pos ⟨.inr u9, u9, p2.1.1⟩, n1, Option.bind_some]
set_option maxHeartbeats 1000000 in
/-- A CHAIN: the left side came -/
theorem c87_18 (P : Pop G io M cd cs h0 m h ls c mx f F lv) (t : eTg f.2.1 = 18) (hx : vC G io M cd h m v true x) : ∃ h', C_10_comes_87 G m x 0 F 5 h = some (.inl (x, 0, h')) ∧ mTc G io M cd cs h0 m h' (eRt f.2.1, f.2.2.1, f.2.2.2.1, (118, f.2.1, f.2.2.1, f.2.2.2.1, v) :: ls, c, mx) ∧ kZ m h h' := by
  obtain ⟨i0, pp, mm, hl, hm, ef, kf, e90, he, hr, e60, hz0, hc⟩ := P
  obtain ⟨⟨_, _, _, _, _, lv5, _⟩, _, q18, _⟩ := cdP_keep i0 mm.1 pp _ _ _ _ _ hc
  obtain ⟨r1, _⟩ := q18 t
  obtain ⟨h1, p1, p2, p3, p4, p5, p6, p7, p8, p9, p10, p11, p12⟩ := c_frM (f := (118, f.2.1, f.2.2.1, f.2.2.2.1, v)) (lv := lv) (x := x) mm hl (by rw [e90]; exact hc) he hr (fun _ => hx) (fun z => by have z' : (118 : Nat) = 15 ∨ (118 : Nat) = 16 ∨ (118 : Nat) = 17 := z; omega)
  rw [← ef] at p4 p5 p6 p7 p8 p9 p10 p11 p12
  rw [show max mx (ls.length + 1) = mx by omega] at p6
  have cP := cdP_keep i0 p6.1 pp
  obtain ⟨_, _, s18, _⟩ := cP _ _ _ _ _ hc
  obtain ⟨u1, uL, ⟨u5, u5'⟩, ⟨i, u6, ⟨_, v3, v4, v5⟩, u10⟩, _⟩ := s18 t
  obtain ⟨u2, u3, u4⟩ := uL 1522 (by decide)
  obtain ⟨h', n1, n2, n3⟩ := c_mkT (Z := h) (s := (eRt f.2.1, f.2.2.1, f.2.2.2.1, (118, f.2.1, f.2.2.1, f.2.2.2.1, v) :: ls, c, mx)) (a := i) p6 u10 (by rw [p9.1]; exact vC_gr p7 he) (by rw [p10]; exact rC_gr p7 (fun j _ => p11 j) hr) p8
  have p1' : C_10_push G m (om_cA G 25) (lv : Int) h = some (1, h1) := p1
  have w1 : w32 (((ls.length + 1 : Nat) : Int) - 1) = (ls.length : Int) := (w32_s (by omega) (by omega)).trans (by omega)
  have eA : aR h1 (fR h1 270 m) ls.length = F := p4
  have k60 := p2.2.2.1.1
  refine ⟨h', ?_, n2, n3⟩
  unfold C_10_comes_87
  rw [if_neg (by decide), if_neg (by decide), if_neg (by decide), if_neg (by decide), if_neg (by decide), if_pos rfl, gd_pos ⟨kf, .inr r1, mm.2.1.1.1⟩, e60, p1', Option.bind_some]
  show (if (1 : Int) ≠ 0 then gd (kd h1 m = 11 ∧ kd h1 (fR h1 270 m) = 60 ∧ 0 ≤ w32 (fI h1 272 m - 1) ∧ w32 (fI h1 272 m - 1) < (an h1 (fR h1 270 m) : Int) ∧ kd h1 (aR h1 (fR h1 270 m) (w32 (fI h1 272 m - 1)).toNat) = 12 ∧ kd h1 (fR h 358 F) = 32 ∧ kd h1 (fR h1 1522 (fR h 358 F)) = 42) ((P_J2_size G (fR h1 1522 (fR h 358 F)) (sI h1 369 (aR h1 (fR h1 270 m) (w32 (fI h1 272 m - 1)).toNat) x)).bind fun p2 => C_10_comes_379 G m x 0 F m (fR h1 1522 (fR h 358 F)) p2 (sI h1 369 (aR h1 (fR h1 270 m) (w32 (fI h1 272 m - 1)).toNat) x)) else _) = _
  rw [if_pos (by decide), p3, w1, show ((ls.length : Int)).toNat = ls.length by omega, eA, gd_pos ⟨p2.1.1, k60.2.1, by omega, by rw [k60.2.2]; omega, p5, u1, u3⟩]
  unfold P_J2_size C_10_comes_379 P_J2_get
  have u3' : kd (sI h1 369 F x) (fR h1 1522 (fR h 358 F)) = 42 := u3
  have u5a : lv < (ll (sI h1 369 F x) (fR h1 1522 (fR h 358 F))).length := u5
  have u5b : (ll (sI h1 369 F x) (fR h1 1522 (fR h 358 F))).length ≤ 4200 := u5'
  rw [gd_pos u3', Option.bind_some, gd_pos ⟨p5, u3⟩, p12, w32_s (x := ((ll (sI h1 369 F x) (fR h1 1522 (fR h 358 F))).length : Int) - 1) (by omega) (by omega)]
  have u6' : (ll (sI h1 369 F x) (fR h1 1522 (fR h 358 F)))[(ll (sI h1 369 F x) (fR h1 1522 (fR h 358 F))).length - 1 - lv]? = some i := u6
  rw [w32_s (by omega) (by omega), gd_pos ⟨u3, by omega⟩, show (((ll (sI h1 369 F x) (fR h1 1522 (fR h 358 F))).length : Int) - 1 - (lv : Int)).toNat = (ll (sI h1 369 F x) (fR h1 1522 (fR h 358 F))).length - 1 - lv by omega, u6', Option.bind_some, gd_pos ⟨.inr (exk_kd v3 v4 v5), p2.1.1⟩, n1, Option.bind_some]
end LC1
