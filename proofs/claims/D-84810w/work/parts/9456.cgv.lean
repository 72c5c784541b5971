set_option maxRecDepth 100000
/-! THE THIRD RULE: givens of functions (the component) -/
section LCG
variable {G : om_G} {N : List (List Int)} {cl : Nat → Nat} {pr : Nat} {h : om_H} {U Sl : Nat → Prop} {so : Nat} {gv : List GVs} {B : List Int}
theorem fI_ru {g a : Nat} (hg : g ≠ 112) : fI (ruH h pr B) g a = fI h g a := by
  show fI (sI h 112 pr _) g a = _
  rw [fI_sI, if_neg (fun z => hg z.1)]
theorem ruH_fR {g a : Nat} : fR (ruH h pr B) g a = fR h g a := rfl
theorem wN_ru {w a : Nat} (H : wN h N w a) : wN (ruH h pr B) N w a := wN_hS (Sl := fun _ => True) (tF_hS (pr := pr) (I := fun _ => False) (W := fun _ => False) tF_ru (fun _ z => z.elim) (fun _ z => z.elim)) H
theorem clO_inj {c c' : Nat} (H : clO h cl c) (H' : clO h cl c') (e : cl c = cl c') : c = c' := by
  have a := H.2.2.2
  have b := H'.2.2.2
  rw [e] at a
  omega
/-- where the greats of givens lie -/
def GvP (h : om_H) (so : Nat) (q : Nat → Nat) : Prop := ∀ k x, (ll h (fR h 166 so))[k]? = some x → fR h 1338 x < hz h ∧ kd h (fR h 1338 x) = 17 ∧ fI h 1188 (fR h 1338 x) = (q k : Int)
set_option maxHeartbeats 1000000 in
theorem c_gdup (nd : ndN N) (kp : kd h pr = 2) (V : GVC h N cl U Sl so gv) {q : Nat → Nat} (P : GvP h so q) {k x : Nat} {g : GVs} (ex : (ll h (fR h 166 so))[k]? = some x) (eg : gv[k]? = some g) (g100 : 100 ≤ g.1) : ∀ (d j : Nat), j + d = k → om_loop (C_1_judgeGivens_53s G pr (fR h 166 so) (k : Int) x) ((j : Int), ruH h pr (B ++ (if (gv.take j).any (gvE g) = true then [(q k : Int)] else []))) = some (ruH h pr (B ++ (if (gv.take k).any (gvE g) = true then [(q k : Int)] else [])))
  | 0, j, e => by
    rw [show k = j by omega]
    refine om_loop_out ?_
    unfold C_1_judgeGivens_53s
    simp only
    rw [if_pos (by omega)]
  | d + 1, j, e => by
    obtain ⟨⟨a1, a2⟩, ⟨b1, b2, b3⟩, ⟨l1, l2⟩, H⟩ := id V
    have kl := (List.getElem?_eq_some_iff.mp eg).1
    have ej : gv[j]? = some (gv[j]'(by omega)) := List.getElem?_eq_getElem (by omega)
    generalize gv[j]'(by omega) = g' at ej
    have ey : (ll h (fR h 166 so))[j]? = some ((ll h (fR h 166 so))[j]'(by omega)) := List.getElem?_eq_getElem (by omega)
    generalize (ll h (fR h 166 so))[j]'(by omega) = y at ey
    obtain ⟨⟨x1, x2⟩, x3, x4⟩ := H k x g ex eg
    obtain ⟨⟨y1, y2⟩, y3, y4⟩ := H j y g' ey ej
    obtain ⟨p1, p2, p3⟩ := P k x ex
    have tk : gv.take (j + 1) = gv.take j ++ [g'] := by rw [List.take_succ, ej]; rfl
    have any1 : (gv.take (j + 1)).any (gvE g) = ((gv.take j).any (gvE g) || gvE g g') := by rw [tk, List.any_append]; simp
    have wk : w32 ((j : Int) + 1) = ((j + 1 : Nat) : Int) := by rw [w32_s (by omega) (by omega)]; rfl
    have ky : kd h (fR h 1342 y) = 17 := by obtain ⟨_, L, _, e⟩ := y3; exact e.1
    have IH := c_gdup nd kp V P ex eg g100 d (j + 1) (by omega)
    obtain ⟨xc1, xc2, xc3, xc4, xc5⟩ : 100 ≤ g.1 ∧ fR h 1346 x ≠ 0 ∧ fR h 1350 x = cl (g.1 - 100) ∧ clO h cl (g.1 - 100) ∧ tyC h N cl U g.2.2 (fR h 1354 x) := by
      rcases x4 with z | z
      · exact z
      · omega
    rw [any1] at IH
    generalize hD : (B ++ (if (gv.take j).any (gvE g) = true then [(q k : Int)] else [])) = D
    have gt : P_J2_get G (fR h 166 so) (j : Int) (ruH h pr D) = some y := by
      have g0 : P_J2_get G (fR h 166 so) (j : Int) h = some y := by
        unfold P_J2_get
        rw [gd_pos ⟨b3, by omega⟩, show ((j : Int)).toNat = j by omega, ey]
      exact g0
    have ie : C_21_isEqual G y (ruH h pr D) = some (if fR h 1346 y ≠ 0 then 1 else 0) := c_isEqual (h := ruH h pr D) y2
    have st : C_1_judgeGivens_53s G pr (fR h 166 so) (k : Int) x ((j : Int), ruH h pr D) = some (.inl (((j + 1 : Nat) : Int), if gvE g g' = true then ruH h pr (D ++ [(q k : Int)]) else ruH h pr D)) := by
      unfold C_1_judgeGivens_53s
      simp only [ruH_kd, ruH_fR]
      rw [if_neg (by omega), gd_pos b3, gt, Option.bind_some, gd_pos ⟨.inr y2, y2⟩, ie, Option.bind_some]
      rcases y4 with ⟨z1, z2, z3, z4, z5⟩ | ⟨z1, z2, z3, z4⟩
      · rw [if_pos z2, if_neg (by decide), gd_pos b3, Option.bind_some, gd_pos ⟨.inr y2, y2, x2⟩]
        show (if fR h 1350 y ≠ fR h 1350 x then _ else _) = _
        rw [z3, xc3]
        by_cases c1 : g'.1 = g.1
        · rw [if_neg (fun z => z (by rw [c1])), gd_pos b3, Option.bind_some, gd_pos ⟨.inr y2, y2, x2, ky⟩, c_isN nd (wN_ru y3) (wN_ru x3), Option.bind_some]
          by_cases c2 : g'.2.1 = g.2.1
          · have gE : gvE g g' = true := by unfold gvE; simp [c1, c2]
            rw [if_pos c2, if_neg (by decide), gd_pos ⟨x2, p2, kp⟩, fI_ru (by decide)]
            show ((C_1_rule G pr (fI h 1188 (fR h 1338 x)) (ruH h pr D)).bind fun p6 => some (Sum.inl (w32 ((j : Int) + 1), p6))) = _
            rw [p3, c_rule' (h := ruH h pr D) kp, Option.bind_some, wk, gE, if_pos rfl, ruH_app]
          · have gE : gvE g g' = false := by unfold gvE; simp [c2]
            rw [if_neg c2, if_pos rfl, wk, gE, if_neg (by decide)]
        · have gE : gvE g g' = false := by unfold gvE; simp [c1]
          rw [if_pos (fun z => c1 (by have := clO_inj z4 xc4 z; omega)), wk, gE, if_neg (by decide)]
      · have gE : gvE g g' = false := by
          unfold gvE
          have : g'.1 ≠ g.1 := by omega
          simp [this]
        rw [if_neg (show ¬ (fR h 1346 y ≠ 0) from fun z => z z2), if_pos rfl, wk, gE, if_neg (by decide)]
    rw [om_loop_in st]
    cases gE : gvE g g' with
    | true =>
      rw [if_pos rfl]
      rw [gE, Bool.or_true, if_pos rfl] at IH
      have er : ruH h pr (D ++ [(q k : Int)]) = ruH h pr (B ++ [(q k : Int)]) := by
        rw [← hD]
        refine ruH_eq (fun z => ?_)
        split
        · rw [mnl_app, mnl_app]
          show min (min _ _) _ = min _ _
          omega
        · rw [List.append_nil]
      rw [er]
      exact IH
    | false =>
      rw [if_neg (by decide)]
      rw [gE, Bool.or_false, hD] at IH
      exact IH
set_option maxHeartbeats 1000000 in
/-- GIVENS OF A FUNCTION, IN THE COMPONENT -/
theorem c_jgv (nd : ndN N) (kp : kd h pr = 2) (V : GVC h N cl U Sl so gv) (hT : ∀ g ∈ gv, 100 ≤ g.1 → g.2.2 ≠ .leaf) {q : Nat → Nat} (P : GvP h so q) : ∀ (d k : Nat), k + d = gv.length → om_loop (C_1_judgeGivens_2s G pr (fR h 166 so)) ((k : Int), ruH h pr (B ++ gvBs gv (fun k => (q k : Int)) k)) = some (ruH h pr (B ++ gvBs gv (fun k => (q k : Int)) gv.length))
  | 0, k, e => by
    obtain ⟨⟨a1, a2⟩, ⟨b1, b2, b3⟩, ⟨l1, l2⟩, H⟩ := id V
    rw [show gv.length = k by omega]
    refine om_loop_out ?_
    unfold C_1_judgeGivens_2s P_J2_size
    simp only [ruH_kd, ruH_fR]
    rw [gd_pos b3, gd_pos b3, Option.bind_some]
    show (if ((ll h (fR h 166 so)).length : Int) ≤ (k : Int) then _ else _) = _
    rw [if_pos (by omega)]
  | d + 1, k, e => by
    obtain ⟨⟨a1, a2⟩, ⟨b1, b2, b3⟩, ⟨l1, l2⟩, H⟩ := id V
    have eg : gv[k]? = some (gv[k]'(by omega)) := List.getElem?_eq_getElem (by omega)
    generalize gv[k]'(by omega) = g at eg
    have ex : (ll h (fR h 166 so))[k]? = some ((ll h (fR h 166 so))[k]'(by omega)) := List.getElem?_eq_getElem (by omega)
    generalize (ll h (fR h 166 so))[k]'(by omega) = x at ex
    obtain ⟨⟨x1, x2⟩, x3, x4⟩ := H k x g ex eg
    obtain ⟨p1, p2, p3⟩ := P k x ex
    have wk : w32 ((k : Int) + 1) = ((k + 1 : Nat) : Int) := by rw [w32_s (by omega) (by omega)]; rfl
    have IH := c_jgv nd kp V hT P d (k + 1) (by omega)
    generalize hD : B ++ gvBs gv (fun k => (q k : Int)) k = D
    have e1 : B ++ gvBs gv (fun k => (q k : Int)) (k + 1) = D ++ gv1 gv k (q k : Int) := by
      rw [← hD, List.append_assoc]; rfl
    have gt : P_J2_get G (fR h 166 so) (k : Int) (ruH h pr D) = some x := by
      have g0 : P_J2_get G (fR h 166 so) (k : Int) h = some x := by
        unfold P_J2_get
        rw [gd_pos ⟨b3, by omega⟩, show ((k : Int)).toNat = k by omega, ex]
      exact g0
    have ie : C_21_isEqual G x (ruH h pr D) = some (if fR h 1346 x ≠ 0 then 1 else 0) := c_isEqual (h := ruH h pr D) x2
    have sz : P_J2_size G (fR h 166 so) (ruH h pr D) = some (((ll h (fR h 166 so)).length : Nat) : Int) := by
      have s0 : P_J2_size G (fR h 166 so) h = some (((ll h (fR h 166 so)).length : Nat) : Int) := by
        unfold P_J2_size
        rw [gd_pos b3]
      exact s0
    have st : C_1_judgeGivens_2s G pr (fR h 166 so) ((k : Int), ruH h pr D) = some (.inl (((k + 1 : Nat) : Int), ruH h pr (D ++ gv1 gv k (q k : Int)))) := by
      unfold C_1_judgeGivens_2s
      simp only [ruH_kd, ruH_fR]
      rw [gd_pos b3, sz, Option.bind_some, if_neg (by omega), gd_pos b3, gt, Option.bind_some, gd_pos ⟨.inr x2, x2⟩, ie, Option.bind_some]
      unfold gv1
      rw [eg]
      show _ = some (Sum.inl (((k + 1 : Nat) : Int), ruH h pr (D ++ (if 100 ≤ g.1 then _ else _))))
      rcases x4 with ⟨z1, z2, z3, z4, z5⟩ | ⟨z1, z2, z3, z4⟩
      · have nl := hT g (List.mem_of_getElem? eg) z1
        obtain ⟨kk, w, u, l, r, eT⟩ : ∃ kk w u l r, g.2.2 = .inner kk w u l r := by
          cases gg : g.2.2 with
          | leaf => exact absurd gg nl
          | inner kk w u l r => exact ⟨kk, w, u, l, r, rfl⟩
        have z5' := z5
        rw [eT] at z5'
        obtain ⟨_, k34, _, _, _, _, _, hs, _⟩ := z5'
        have hs' : fI h 1591 (fR h 1354 x) = if thB g.2.2 = true then 1 else 0 := by rw [hs, eT]; rfl
        have l50 : ∀ D', C_1_judgeGivens_50 G pr (fR h 166 so) (k : Int) x (ruH h pr D') = some (.inl (((k + 1 : Nat) : Int), ruH h pr (D' ++ (if (gv.take k).any (gvE g) = true then [(q k : Int)] else [])))) := fun D' => by
          unfold C_1_judgeGivens_50
          have := c_gdup (G := G) (B := D') nd kp V P ex eg z1 k 0 (by omega)
          have t0 : (if ((gv.take 0).any (gvE g)) = true then [(q k : Int)] else []) = [] := rfl
          rw [t0, List.append_nil, show ((0 : Nat) : Int) = 0 from rfl] at this
          rw [this, Option.bind_some, wk]
        rw [if_pos z2, if_pos (by decide), gd_pos ⟨x2, k34⟩]
        simp only [fI_ru (h := h) (pr := pr) (B := D) (show (1591 : Nat) ≠ 112 by decide)]
        rw [hs', if_pos z1]
        cases th : thB g.2.2 with
        | true =>
          rw [if_pos rfl, if_neg (by decide), gd_pos ⟨x2, p2, kp⟩, fI_ru (by decide)]
          show ((C_1_rule G pr (fI h 1188 (fR h 1338 x)) (ruH h pr D)).bind fun p4 => C_1_judgeGivens_50 G pr (fR h 166 so) (k : Int) x p4) = _
          rw [p3, c_rule' (h := ruH h pr D) kp, Option.bind_some, ruH_app, l50, if_pos rfl, List.append_assoc]
        | false =>
          rw [if_pos (show (if false = true then (1 : Int) else 0) = 0 by decide), l50, if_neg (show ¬ (false = true) by decide), List.nil_append]
      · rw [if_neg (show ¬ (fR h 1346 x ≠ 0) from fun z => z z2), if_neg (fun z => z rfl), wk, if_neg (by omega), List.append_nil]
    rw [om_loop_in st, ← e1]
    exact IH
end LCG
