set_option maxRecDepth 100000
/-! THE COMPONENT TELLS EXS: all but uses and chains -/
/-- an ex is told -/
def RXt (G : om_G) (te s : Nat) (E : om_H → Prop) (K : om_H → om_H → Prop) (h0 : om_H) (r : Nat → Nat → om_H → Option ((Nat ⊕ Unit) × om_H)) (b : Nat) (L : List Int) : Prop := ∀ h M, okD E K s h0 h (L ++ M) → TDw E K s h wDr (C_6_ex G r te b h) L
/-- without its cast -/
def RPt (s : Nat) (E : om_H → Prop) (K : om_H → om_H → Prop) (h0 : om_H) (te : Nat) (r : Nat → Nat → om_H → Option ((Nat ⊕ Unit) × om_H)) (b : Nat) (L : List Int) : Prop := ∀ h M, okD E K s h0 h (L ++ M) → TDw E K s h wDr (r te b h) L
section LPT2
variable {G : om_G} {h0 h h1 : om_H} {N : List (List Int)} {cl : Nat → Nat} {U Sx Sl : Nat → Prop} {ins : List INs} {gv : List GVs} {ab : List (Option Nat)} {nm con fam cnm : Nat → List Int} {te s : Nat} {E : om_H → Prop} {K : om_H → om_H → Prop} {k2 : Ty → Ty → Prop} {fo mo : Nat → Nat} {r : Nat → Nat → om_H → Option ((Nat ⊕ Unit) × om_H)} {β : Type} {L M : List Int} {b : Nat}
theorem TDi (H : TH E K te s) (o : okD E K s h0 h (M ++ L)) {w2 : om_H → β} {x : Option om_H} {f : om_H → Option β} (A : TDw E K s h id x M) (B : ∀ h1, okD E K s h0 h1 L → TDw E K s h1 w2 (f h1) L) : TDw E K s h w2 (x.bind f) (M ++ L) := TDw_seq H o A B
theorem exk_of (h1 : 24 ≤ kd h b ∧ kd h b ≤ 32) (h2 : kd h b ≠ 31) : ∃ k ∈ om_exk, kd h b = k + 1 := by
  have : kd h b = 24 ∨ kd h b = 25 ∨ kd h b = 26 ∨ kd h b = 27 ∨ kd h b = 28 ∨ kd h b = 29 ∨ kd h b = 30 ∨ kd h b = 32 := by omega
  rcases this with c | c | c | c | c | c | c | c
  · exact ⟨23, by decide, c⟩
  · exact ⟨24, by decide, c⟩
  · exact ⟨25, by decide, c⟩
  · exact ⟨26, by decide, c⟩
  · exact ⟨27, by decide, c⟩
  · exact ⟨28, by decide, c⟩
  · exact ⟨29, by decide, c⟩
  · exact ⟨31, by decide, c⟩
/-- an ex, with its cast -/
theorem c_exC (I : TI G N cl U ins gv nm con fam te s E K h0 Sx k2) {T C : Ty} {cor : List Int} (hb : b < hz h0) (kb : 24 ≤ kd h0 b ∧ kd h0 b ≤ 32 ∧ kd h0 b ≠ 31) (cT : tyC h0 N cl U T (fR h0 1378 b)) (cC : tyC h0 N cl U C (fR h0 1382 b)) (hk : C ≠ .leaf → k2 T C) (P : RPt s E K h0 te r b cor) : RXt G te s E K h0 r b ((if lfB C = true then [] else [40]) ++ cor ++ cstB nm con fam ins gv T C) := by
  intro h M o
  have H := I.1
  have o := okD_l o
  have eb : ∀ h, K h0 h → eqA b h0 h := fun h k => I.2.1 h b k hb (by omega)
  have gx : ∀ h, K h0 h → ∃ k ∈ om_exk, kd h b = k + 1 := fun h k => exk_of (by rw [(eb h k).1]; omega) (by rw [(eb h k).1]; omega)
  unfold C_6_ex
  refine TD_over H o ?_
  rw [gd_pos (gx h o.2.1), (eb h o.2.1).2.2.1]
  unfold cstB at o ⊢
  by_cases c : C = .leaf
  · have c0 : fR h0 1382 b = 0 := (tyC_0 cC).mpr c
    have lf := lfB_t.mpr c
    rw [if_pos lf, if_pos lf, List.nil_append, List.append_nil] at o ⊢
    rw [if_pos c0]
    unfold C_6_ex_27
    refine TDw_gd (TH_g H o.1).1 (TDw_nil (TDw_xc H (okD_nil o) (P h [] (okD_nil o)) (fun h1 o1 => ?_)))
    rw [gd_pos (gx h1 o1.2.1), (eb h1 o1.2.1).2.2.1, if_neg (fun z => z c0)]
    exact TDw_end H o1.1
  · have c0 : fR h0 1382 b ≠ 0 := fun z => c ((tyC_0 cC).mp z)
    have lf : ¬ lfB C = true := fun z => c (lfB_t.mp z)
    rw [if_neg lf, if_neg lf, show [40] ++ cor ++ ([124, 62] ++ oneB nm con fam ins gv T C ++ [41]) = [40] ++ (cor ++ ([124, 62] ++ (oneB nm con fam ins gv T C ++ [41]))) by simp] at o ⊢
    rw [if_neg c0]
    refine TP_b H o (fun h1 o1 => ?_)
    unfold C_6_ex_27
    refine TDw_gd (TH_g H o1.1).1 (TDw_xc H o1 (P h1 _ o1) (fun h2 o2 => ?_))
    rw [gd_pos (gx h2 o2.2.1), (eb h2 o2.2.1).2.2.1, if_pos c0]
    refine TP_s H (j := 36) (M := [124, 62]) rfl (by decide) o2 (fun h3 o3 => ?_)
    refine TDw_gd ⟨gx h3 o3.2.1, (TH_g H o3.1).1⟩ ?_
    rw [(eb h3 o3.2.1).2.2.1, (eb h3 o3.2.1).2.2.1]
    exact TDw_xc H o3 (I.2.2.2.2.2 h3 T C _ _ _ o3 (hk c) cT cC) (fun h4 o4 => TP_e (w2 := wDr) H o4)
/-- the last thing: an ex -/
theorem c_exE (I : TI G N cl U ins gv nm con fam te s E K h0 Sx k2) (R : RXt G te s E K h0 r b L) (o : okD E K s h0 h L) : TDw E K s h wDr (xc (C_6_ex G r te b h) (fun t h => some (Sum.inl t, h)) (fun _ h => some (Sum.inr (), h))) L := TDw_nil (TDw_xc I.1 (okD_nil o) (R h [] (okD_nil o)) (fun _ o1 => TDw_end I.1 o1.1))
/-- a name -/
theorem c_pl10 (I : TI G N cl U ins gv nm con fam te s E K h0 Sx k2) (hb : b < hz h0) (kb : kd h0 b = 28) (R : ∀ h M, okD E K s h0 h (L ++ M) → TDw E K s h wDr (C_6_name G te b h) L) : RPt s E K h0 te (C_6_plainB G r) b L := by
  intro h M o
  have e := I.2.1 h b o.2.1 hb (by omega)
  have kh : kd h b = 28 := by rw [e.1]; exact kb
  have o' := okD_l o
  unfold C_6_plainB
  rw [gd_pos (exk_of (by omega) (by omega)), if_neg (fun z => z kh), gd_pos ⟨.inr kh, (TH_g I.1 o.1).1⟩]
  exact TDw_nil (TDw_xc I.1 (okD_nil o') (R h M o) (fun _ o1 => TDw_end I.1 o1.1))
/-- a number -/
theorem c_pl11 (I : TI G N cl U ins gv nm con fam te s E K h0 Sx k2) {v : Nat} (hb : b < hz h0) (kb : kd h0 b = 29) (e1 : fI h0 1484 b = (v : Int)) (hv : v ≤ 2147483647) : RPt s E K h0 te (C_6_plainB G r) b (numB v) := by
  intro h M o
  have e := I.2.1 h b o.2.1 hb (by omega)
  have kh : kd h b = 29 := by rw [e.1]; exact kb
  have o' := okD_l o
  have q := TH_g I.1 o.1
  have ex := exk_of (h := h) (b := b) (by omega) (by omega)
  unfold C_6_plainB
  rw [gd_pos ex, if_pos (by omega), gd_pos ex, if_neg (fun z => z kh), gd_pos ⟨.inr kh, q.1, kh, q.2⟩, e.2.1, e1]
  exact TDw_nil (TDi I.1 (okD_nil o') (TD_n I.1 hv (okD_nil o')) (fun _ o1 => TDw_end I.1 o1.1))
/-- a function -/
theorem c_pl14 (I : TI G N cl U ins gv nm con fam te s E K h0 Sx k2) (hnm : ∀ (w : Nat) (L : List Int), N[w]? = some L → nm w = L) {w : Nat} {T : Ty} {L1 : List Int} (hb : b < hz h0) (kb : kd h0 b = 24) (cT : tyC h0 N cl U T (fR h0 1394 b)) (gT : tyG N cl nm con fam h0 T) (W : wN h0 N w (fR h0 1386 b)) (R : RXt G te s E K h0 r (fR h0 1398 b) L1) : RPt s E K h0 te (C_6_plainB G r) b (92 :: nm w ++ [58] ++ tyB nm con fam T ++ [46] ++ L1) := by
  intro h M o
  have H := I.1
  have eb : ∀ h, K h0 h → eqA b h0 h := fun h k => I.2.1 h b k hb (by omega)
  have kh : kd h b = 24 := by rw [(eb h o.2.1).1]; exact kb
  have o := okD_l o
  have ex := exk_of (h := h) (b := b) (by omega) (by omega)
  unfold C_6_plainB
  rw [gd_pos ex, if_pos (by omega), gd_pos ex, if_pos (by omega), gd_pos ex, if_neg (fun z => z kh)]
  rw [show 92 :: nm w ++ [58] ++ tyB nm con fam T ++ [46] ++ L1 = [92] ++ (nm w ++ ([58] ++ (tyB nm con fam T ++ ([46] ++ L1)))) by simp] at o ⊢
  have q := TH_g H o.1
  refine TDw_gd ⟨.inr kh, q.1, q.2⟩ (TDi H o (TD_b H o) (fun h1 o1 => ?_))
  have q1 := TH_g H o1.1
  rw [(eb h1 o1.2.1).2.2.1]
  refine TDw_gd ⟨q1.1, by rw [(eb h1 o1.2.1).1]; exact kb, q1.2⟩ (TDi H o1 (TD_w H (wN_at I hnm W o1.2.1) o1) (fun h2 o2 => ?_))
  refine TP_b H o2 (fun h3 o3 => ?_)
  rw [(eb h3 o3.2.1).2.2.1]
  refine TDw_gd ⟨(TH_g H o3.1).1, by rw [(eb h3 o3.2.1).1]; exact kb⟩ (TDi H o3 (TD_t H gT.1 (I.2.2.2.1 h3 _ _ o3.2.1 cT) gT.2.2.1 gT.2.1 (I.2.2.2.2.1 h3 _ o3.2.1 gT.2.2.2) o3) (fun h4 o4 => ?_))
  refine TP_b H o4 (fun h5 o5 => ?_)
  rw [(eb h5 o5.2.1).2.2.1]
  exact TDw_gd ⟨by rw [(eb h5 o5.2.1).1]; exact kb, (TH_g H o5.1).1⟩ (c_exE I R o5)
/-- a let -/
theorem c_pl15 (I : TI G N cl U ins gv nm con fam te s E K h0 Sx k2) (hnm : ∀ (w : Nat) (L : List Int), N[w]? = some L → nm w = L) {w : Nat} {T : Ty} {L1 L2 : List Int} (hb : b < hz h0) (kb : kd h0 b = 25) (cT : tyC h0 N cl U T (fR h0 1410 b)) (gT : tyG N cl nm con fam h0 T) (W : wN h0 N w (fR h0 1402 b)) (R1 : RXt G te s E K h0 r (fR h0 1414 b) L1) (R2 : RXt G te s E K h0 r (fR h0 1418 b) L2) : RPt s E K h0 te (C_6_plainB G r) b ([108, 101, 116, 32] ++ nm w ++ [58] ++ tyB nm con fam T ++ [61] ++ L1 ++ [32, 105, 110, 32] ++ L2) := by
  intro h M o
  have H := I.1
  have eb : ∀ h, K h0 h → eqA b h0 h := fun h k => I.2.1 h b k hb (by omega)
  have kh : kd h b = 25 := by rw [(eb h o.2.1).1]; exact kb
  have o := okD_l o
  have ex := exk_of (h := h) (b := b) (by omega) (by omega)
  unfold C_6_plainB
  rw [gd_pos ex, if_pos (by omega), gd_pos ex, if_pos (by omega), gd_pos ex, if_pos (by omega), gd_pos ex, if_neg (fun z => z kh)]
  rw [show [108, 101, 116, 32] ++ nm w ++ [58] ++ tyB nm con fam T ++ [61] ++ L1 ++ [32, 105, 110, 32] ++ L2 = [108, 101, 116, 32] ++ (nm w ++ ([58] ++ (tyB nm con fam T ++ ([61] ++ (L1 ++ ([32, 105, 110, 32] ++ L2)))))) by simp] at o ⊢
  have q := TH_g H o.1
  refine TDw_gd ⟨.inr kh, q.1, q.2⟩ (TDi H o (TD_s H (j := 40) (M := [108, 101, 116, 32]) rfl (by decide) o) (fun h1 o1 => ?_))
  have q1 := TH_g H o1.1
  rw [(eb h1 o1.2.1).2.2.1]
  refine TDw_gd ⟨q1.1, by rw [(eb h1 o1.2.1).1]; exact kb, q1.2⟩ (TDi H o1 (TD_w H (wN_at I hnm W o1.2.1) o1) (fun h2 o2 => ?_))
  refine TP_b H o2 (fun h3 o3 => ?_)
  rw [(eb h3 o3.2.1).2.2.1]
  refine TDw_gd ⟨(TH_g H o3.1).1, by rw [(eb h3 o3.2.1).1]; exact kb⟩ (TDi H o3 (TD_t H gT.1 (I.2.2.2.1 h3 _ _ o3.2.1 cT) gT.2.2.1 gT.2.1 (I.2.2.2.2.1 h3 _ o3.2.1 gT.2.2.2) o3) (fun h4 o4 => ?_))
  refine TP_b H o4 (fun h5 o5 => ?_)
  rw [(eb h5 o5.2.1).2.2.1]
  refine TDw_gd ⟨by rw [(eb h5 o5.2.1).1]; exact kb, (TH_g H o5.1).1⟩ (TDw_xc H o5 (R1 h5 _ o5) (fun h6 o6 => ?_))
  refine TP_s H (j := 41) (M := [32, 105, 110, 32]) rfl (by decide) o6 (fun h7 o7 => ?_)
  rw [(eb h7 o7.2.1).2.2.1]
  exact TDw_gd ⟨by rw [(eb h7 o7.2.1).1]; exact kb, (TH_g H o7.1).1⟩ (c_exE I R2 o7)
/-- an if -/
theorem c_pl16 (I : TI G N cl U ins gv nm con fam te s E K h0 Sx k2) {L1 L2 L3 : List Int} (hb : b < hz h0) (kb : kd h0 b = 26) (R1 : RXt G te s E K h0 r (fR h0 1422 b) L1) (R2 : RXt G te s E K h0 r (fR h0 1426 b) L2) (R3 : RXt G te s E K h0 r (fR h0 1430 b) L3) : RPt s E K h0 te (C_6_plainB G r) b ([105, 102, 32] ++ L1 ++ [32, 116, 104, 101, 110, 32] ++ (L2 ++ [32, 101, 108, 115, 101, 32] ++ L3)) := by
  intro h M o
  have H := I.1
  have eb : ∀ h, K h0 h → eqA b h0 h := fun h k => I.2.1 h b k hb (by omega)
  have kh : kd h b = 26 := by rw [(eb h o.2.1).1]; exact kb
  have o := okD_l o
  have ex := exk_of (h := h) (b := b) (by omega) (by omega)
  unfold C_6_plainB
  rw [gd_pos ex, if_pos (by omega), gd_pos ex, if_pos (by omega), gd_pos ex, if_pos (by omega), gd_pos ex, if_pos (by omega), gd_pos ex, if_neg (fun z => z kh)]
  rw [show [105, 102, 32] ++ L1 ++ [32, 116, 104, 101, 110, 32] ++ (L2 ++ [32, 101, 108, 115, 101, 32] ++ L3) = [105, 102, 32] ++ (L1 ++ ([32, 116, 104, 101, 110, 32] ++ (L2 ++ ([32, 101, 108, 115, 101, 32] ++ L3)))) by simp] at o ⊢
  have q := TH_g H o.1
  refine TDw_gd ⟨.inr kh, q.1, q.2⟩ (TDi H o (TD_s H (j := 42) (M := [105, 102, 32]) rfl (by decide) o) (fun h1 o1 => ?_))
  rw [(eb h1 o1.2.1).2.2.1]
  refine TDw_gd ⟨by rw [(eb h1 o1.2.1).1]; exact kb, (TH_g H o1.1).1⟩ (TDw_xc H o1 (R1 h1 _ o1) (fun h2 o2 => ?_))
  refine TP_s H (j := 43) (M := [32, 116, 104, 101, 110, 32]) rfl (by decide) o2 (fun h3 o3 => ?_)
  rw [(eb h3 o3.2.1).2.2.1]
  refine TDw_gd ⟨by rw [(eb h3 o3.2.1).1]; exact kb, (TH_g H o3.1).1⟩ (TDw_xc H o3 (R2 h3 _ o3) (fun h4 o4 => ?_))
  refine TP_s H (j := 44) (M := [32, 101, 108, 115, 101, 32]) rfl (by decide) o4 (fun h5 o5 => ?_)
  rw [(eb h5 o5.2.1).2.2.1]
  exact TDw_gd ⟨by rw [(eb h5 o5.2.1).1]; exact kb, (TH_g H o5.1).1⟩ (c_exE I R3 o5)
/-- a case -/
theorem c_pl17 (I : TI G N cl U ins gv nm con fam te s E K h0 Sx k2) (hnm : ∀ (w : Nat) (L : List Int), N[w]? = some L → nm w = L) {w w' : Nat} {L1 L2 L3 : List Int} (hb : b < hz h0) (kb : kd h0 b = 27) (W : wN h0 N w (fR h0 1446 b)) (W' : wN h0 N w' (fR h0 1450 b)) (R1 : RXt G te s E K h0 r (fR h0 1434 b) L1) (R2 : RXt G te s E K h0 r (fR h0 1438 b) L2) (R3 : RXt G te s E K h0 r (fR h0 1442 b) L3) : RPt s E K h0 te (C_6_plainB G r) b ([99, 97, 115, 101, 32] ++ L1 ++ [32, 111, 102, 32, 123, 110, 105, 108, 45, 62] ++ (L2 ++ ([59, 99, 111, 110, 115, 32] ++ nm w ++ [32] ++ nm w' ++ [45, 62]) ++ L3) ++ [125]) := by
  intro h M o
  have H := I.1
  have eb : ∀ h, K h0 h → eqA b h0 h := fun h k => I.2.1 h b k hb (by omega)
  have kh : kd h b = 27 := by rw [(eb h o.2.1).1]; exact kb
  have o := okD_l o
  have ex := exk_of (h := h) (b := b) (by omega) (by omega)
  unfold C_6_plainB
  rw [gd_pos ex, if_pos (by omega), gd_pos ex, if_pos (by omega), gd_pos ex, if_pos (by omega), gd_pos ex, if_pos (by omega), gd_pos ex, if_pos (by omega), gd_pos ex, if_neg (fun z => z kh)]
  rw [show [99, 97, 115, 101, 32] ++ L1 ++ [32, 111, 102, 32, 123, 110, 105, 108, 45, 62] ++ (L2 ++ ([59, 99, 111, 110, 115, 32] ++ nm w ++ [32] ++ nm w' ++ [45, 62]) ++ L3) ++ [125] = [99, 97, 115, 101, 32] ++ (L1 ++ ([32, 111, 102, 32, 123, 110, 105, 108, 45, 62] ++ (L2 ++ ([59, 99, 111, 110, 115, 32] ++ (nm w ++ ([32] ++ (nm w' ++ ([45, 62] ++ (L3 ++ [125]))))))))) by simp] at o ⊢
  have q := TH_g H o.1
  refine TDw_gd ⟨.inr kh, q.1, q.2⟩ (TDi H o (TD_s H (j := 45) (M := [99, 97, 115, 101, 32]) rfl (by decide) o) (fun h1 o1 => ?_))
  rw [(eb h1 o1.2.1).2.2.1]
  refine TDw_gd ⟨by rw [(eb h1 o1.2.1).1]; exact kb, (TH_g H o1.1).1⟩ (TDw_xc H o1 (R1 h1 _ o1) (fun h2 o2 => ?_))
  refine TP_s H (j := 46) (M := [32, 111, 102, 32, 123, 110, 105, 108, 45, 62]) rfl (by decide) o2 (fun h3 o3 => ?_)
  rw [(eb h3 o3.2.1).2.2.1]
  refine TDw_gd ⟨by rw [(eb h3 o3.2.1).1]; exact kb, (TH_g H o3.1).1⟩ (TDw_xc H o3 (R2 h3 _ o3) (fun h4 o4 => ?_))
  refine TP_s H (j := 47) (M := [59, 99, 111, 110, 115, 32]) rfl (by decide) o4 (fun h5 o5 => ?_)
  have q5 := TH_g H o5.1
  rw [(eb h5 o5.2.1).2.2.1]
  refine TDw_gd ⟨q5.1, by rw [(eb h5 o5.2.1).1]; exact kb, q5.2⟩ (TDi H o5 (TD_w H (wN_at I hnm W o5.2.1) o5) (fun h6 o6 => ?_))
  refine TP_b H o6 (fun h7 o7 => ?_)
  have q7 := TH_g H o7.1
  rw [(eb h7 o7.2.1).2.2.1]
  refine TDw_gd ⟨q7.1, by rw [(eb h7 o7.2.1).1]; exact kb, q7.2⟩ (TDi H o7 (TD_w H (wN_at I hnm W' o7.2.1) o7) (fun h8 o8 => ?_))
  refine TP_s H (j := 37) (M := [45, 62]) rfl (by decide) o8 (fun h9 o9 => ?_)
  rw [(eb h9 o9.2.1).2.2.1]
  exact TDw_gd ⟨by rw [(eb h9 o9.2.1).1]; exact kb, (TH_g H o9.1).1⟩ (TDw_xc H o9 (R3 h9 _ o9) (fun h10 o10 => TP_e (w2 := wDr) H o10))
end LPT2
