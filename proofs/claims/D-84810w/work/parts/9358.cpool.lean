set_option maxRecDepth 100000
/-! THE COMPONENT: the pool of dictionaries -/
/-- a list of a dictionary's own -/
def lsD (h : om_H) (tb : Nat) (Sl : Nat → Prop) (L cap : Nat) : Prop := (L < hz h ∧ kd h L = 42) ∧ (lc h L = cap ∧ (ll h L).length ≤ cap) ∧ ¬ Sl L ∧ L ≠ fR h 138 tb ∧ L ≠ fR h 122 tb
/-- the pool; Dk: all dictionaries -/
def PoolC (G : om_G) (h : om_H) (tb : Nat) (Sl Dk : Nat → Prop) (ds : List Nat) (dm : Nat) : Prop := (okV G h (fR h 138 tb) ∧ ¬ Sl (fR h 138 tb) ∧ fR h 138 tb ≠ fR h 122 tb) ∧ ll h (fR h 138 tb) = ds ∧ (fI h 140 tb = (dm : Int) ∧ dm ≤ ds.length ∧ ds.length ≤ 50000) ∧ ds.Nodup ∧ (∀ d ∈ ds, Dk d) ∧ (∀ d, Dk d → (d ≠ 0 ∧ d < hz h ∧ kd h d = 36) ∧ (fR h 1630 d = 0 ∨ lsD h tb Sl (fR h 1630 d) 2) ∧ (fR h 1634 d = 0 ∨ lsD h tb Sl (fR h 1634 d) 4)) ∧ ∀ d d' f f', Dk d → Dk d' → (f = 1630 ∨ f = 1634) → (f' = 1630 ∨ f' = 1634) → fR h f d ≠ 0 → fR h f d = fR h f' d' → d = d' ∧ f = f'
section LPL
variable {G : om_G} {h : om_H} {N : List (List Int)} {cl : Nat → Nat} {tb c dm : Nat} {us fs ds : List Nat} {rest : List (Nat × List Nat)} {Sl Dk : Nat → Prop}
/-- what is there to take, and one more in use -/
theorem c_pool30 (nd : ndN N) (T : TB G h N cl tb us fs rest) (P : PoolC G h tb Sl Dk ds dm) (hd : dm < ds.length) : ∃ d h', C_2_dictionary_30 G tb c h = some (d, h') ∧ ds[dm]? = some d ∧ TB G h' N cl tb us fs rest ∧ PoolC G h' tb Sl Dk ds (dm + 1) ∧ (∀ X a, tyC h N cl (UU us rest) X a → tyC h' N cl (UU us rest) X a) ∧ hT (fun y => y = tb ∨ y = d ∨ (y ≠ 0 ∧ (y = fR h 1630 d ∨ y = fR h 1634 d))) h h' ∧ ((∀ f, f ≠ 140 → fI h' f tb = fI h f tb) ∧ ∀ f, fR h' f tb = fR h f tb) ∧ (hz h' = hz h ∧ hu h' = hu h ∧ ∀ y, lc h' y = lc h y) ∧ (fR h' 1614 d = c ∧ fI h' 1616 d = -1 ∧ fR h' 1622 d = 0 ∧ fR h' 1626 d = 0 ∧ fR h' 1638 d = 0 ∧ fR h' 1642 d = 0 ∧ fR h' 1630 d = fR h 1630 d ∧ fR h' 1634 d = fR h 1634 d) ∧ (∀ L, L ≠ 0 → L = fR h 1630 d ∨ L = fR h 1634 d → ll h' L = []) ∧ ∀ y, fR h' 1630 y = fR h 1630 y ∧ fR h' 1634 y = fR h 1634 y := by
  obtain ⟨⟨p1, p2, p3⟩, p4, ⟨p5, p6, p7⟩, p8, p9, p10, p11⟩ := P
  obtain ⟨t1, t2, t3⟩ := TB_3 T
  have ed : ds[dm]? = some ds[dm] := List.getElem?_eq_getElem hd
  have hm := p9 _ (List.mem_of_getElem? ed)
  generalize ds[dm] = d at *
  obtain ⟨⟨q1, q2, q3⟩, l1, l2⟩ := p10 d hm
  have e1 : w32 (fI h 140 tb + 1) = ((dm + 1 : Nat) : Int) := by rw [p5, w32_s (by omega) (by omega)]; rfl
  have e2 : w32 (((dm + 1 : Nat) : Int) - 1) = (dm : Int) := by rw [w32_s (by omega) (by omega)]; omega
  have ntd : d ≠ tb := fun z => by rw [z, t1] at q3; omega
  have k42 := p1.2.1
  generalize eh1 : sI h 140 tb ((dm + 1 : Nat) : Int) = h1
  have r1 : ∀ f y, fR h1 f y = fR h f y := fun f y => by rw [← eh1]; rfl
  have k1 : ∀ y, kd h1 y = kd h y := fun y => by rw [← eh1]; rfl
  have z1 : hz h1 = hz h := by rw [← eh1]; rfl
  have u1 : hu h1 = hu h := by rw [← eh1]; rfl
  have ll1 : ∀ y, ll h1 y = ll h y := fun y => by rw [← eh1]; rfl
  have lc1 : ∀ y, lc h1 y = lc h y := fun y => by rw [← eh1]; rfl
  have X1 : hT (fun y => y = tb) h h1 := by rw [← eh1]; exact hT_sI
  have T1 : TB G h1 N cl tb us fs rest := by rw [← eh1]; exact TB_sI (by decide) T
  have get : P_J2_get G (fR h 138 tb) (dm : Int) h1 = some d := by
    unfold P_J2_get
    rw [gd_pos ⟨by rw [k1]; exact k42, by omega⟩, show ((dm : Int)).toNat = dm by omega, ll1, p4]
    exact ed
  have bg := c_dBegin (G := G) (h := h1) (d := d) (c := c) (by rw [k1]; exact q3) (by rw [r1, k1]; exact l1.imp id (fun z => z.1.2)) (by rw [r1, k1]; exact l2.imp id (fun z => z.1.2))
  obtain ⟨g1, g2, g3, g4, g5, g6, g7, g8, g9⟩ := c_dBegun (h := h1) (d := d) (c := c)
  obtain ⟨w1, w2, w3, w4, w5, w6, w7, w8⟩ := wDb_f (h := h1) (d := d) (c := c)
  have wR : ∀ f y, y ≠ d → fR (wDb h1 d c) f y = fR h1 f y := fun f y hy => by
    unfold wDb
    rw [fR_na hy, fR_na hy, fR_na hy, fR_na hy, fR_sI, fR_na hy]
  have wI : ∀ f y, y ≠ d → fI (wDb h1 d c) f y = fI h1 f y := fun f y hy => fI_na (h := sR h1 1614 d c) hy
  generalize eh2 : clL (clL (wDb h1 d c) (fR h1 1630 d)) (fR h1 1634 d) = h2 at *
  rw [r1, r1] at g1
  have fR2 : ∀ f y, y ≠ d → fR h2 f y = fR h f y := fun f y hy => by rw [g4, wR f y hy, r1]
  have fl : ∀ y, fR h2 1630 y = fR h 1630 y ∧ fR h2 1634 y = fR h 1634 y := fun y => by
    by_cases z : y = d
    · rw [z, g4, g4, w7, w8, r1, r1]; exact ⟨rfl, rfl⟩
    · exact ⟨fR2 _ _ z, fR2 _ _ z⟩
  have lsk : ∀ {L cap : Nat}, lsD h tb Sl L cap → (L < hz h ∧ kd h L = 42) := fun z => z.1
  -- the lists of d are no lists of weight
  have nW : ∀ y, (y ≠ 0 ∧ (y = fR h 1630 d ∨ y = fR h 1634 d)) → kd h y = 42 ∧ y ≠ fR h 138 tb ∧ y ≠ fR h 122 tb ∧ ¬ Sl y := fun y z => by
    rcases z with ⟨z0, z | z⟩
    · have := l1.resolve_left (by rw [← z]; exact z0)
      rw [z]; exact ⟨this.1.2, this.2.2.2.1, this.2.2.2.2, this.2.2.1⟩
    · have := l2.resolve_left (by rw [← z]; exact z0)
      rw [z]; exact ⟨this.1.2, this.2.2.2.1, this.2.2.2.2, this.2.2.1⟩
  have pk : ∀ y, (y = d ∨ (y ≠ 0 ∧ (y = fR h 1630 d ∨ y = fR h 1634 d))) → y < hz h1 → kd h1 y ≠ 3 ∧ kd h1 y ≠ 34 ∧ kd h1 y ≠ 56 ∧ y ≠ fR h1 122 tb := fun y z _ => by
    rw [k1, r1]
    rcases z with z | z
    · rw [z, q3]
      refine ⟨by decide, by decide, by decide, fun e => ?_⟩
      have k := T.2.1.1.2.1
      rw [← e, q3] at k; omega
    · have w := nW y z
      rw [w.1]
      exact ⟨by decide, by decide, by decide, w.2.2.1⟩
  have dk : dOK (fun y => y = d ∨ (y ≠ 0 ∧ (y = fR h 1630 d ∨ y = fR h 1634 d))) h1 h2 := fun y z => by
    rw [k1]
    rcases z with z | z
    · rw [z, q3]; exact ⟨by decide, by decide, fun e => by omega⟩
    · rw [(nW y z).1]; exact ⟨by decide, by decide, fun e => by omega⟩
  have T2 : TB G h2 N cl tb us fs rest := TB_hT T1 nd g1 pk dk
  have C2 := CS_write (N := N) (cl := cl) (z := 0) (u := 0) T1 g1 pk dk (by omega) (by omega)
  have X1' : ∀ X a, tyC h N cl (UU us rest) X a → tyC h1 N cl (UU us rest) X a := fun X a cX => by rw [← eh1]; exact (tyC_sI (by decide)).mpr cX
  have nd138 : ¬ (fR h 138 tb = d ∨ (fR h 138 tb ≠ 0 ∧ (fR h 138 tb = fR h 1630 d ∨ fR h 138 tb = fR h 1634 d))) := fun z => by
    rcases z with z | z
    · rw [z, q3] at k42; omega
    · exact (nW _ z).2.1 rfl
  have X2 : hT (fun y => y = tb ∨ y = d ∨ (y ≠ 0 ∧ (y = fR h 1630 d ∨ y = fR h 1634 d))) h h2 := hT_trans (hT_mono X1 (fun y _ z => .inl z)) g1 (fun y _ z => .inr z)
  have etb : eqA tb h1 h2 := g1.2.2.2 tb (by rw [z1]; exact t3) (fun z => by
    rcases z with z | z
    · exact ntd z.symm
    · have := (nW tb z).1; omega)
  have eR : ∀ f, fR h2 f tb = fR h f tb := fun f => by rw [etb.2.2.1, r1]
  have kd2 : ∀ y, kd h2 y = kd h y := fun y => by rw [g6, k1]
  have n138 : ¬ (fR h 138 tb = tb ∨ fR h 138 tb = d ∨ (fR h 138 tb ≠ 0 ∧ (fR h 138 tb = fR h 1630 d ∨ fR h 138 tb = fR h 1634 d))) := fun z => by
    rcases z with z | z
    · rw [z, t1] at k42; omega
    · exact nd138 z
  have lsk2 : ∀ {L cap : Nat}, lsD h tb Sl L cap → lsD h2 tb Sl L cap := fun {L cap} z => by
    obtain ⟨⟨a1, a2⟩, ⟨a3, a4⟩, a5, a6, a7⟩ := z
    refine ⟨⟨by rw [g2, z1]; exact a1, by rw [kd2]; exact a2⟩, ⟨by rw [g7, lc1]; exact a3, ?_⟩, a5, by rw [eR]; exact a6, by rw [eR]; exact a7⟩
    by_cases o : (L ≠ 0 ∧ (L = fR h 1630 d ∨ L = fR h 1634 d))
    · rw [g8 L o.1 (by rw [r1, r1]; exact o.2)]; exact Nat.zero_le _
    · rw [(X2.2.2.2 L a1 (fun z => by
        rcases z with z | z | z
        · rw [z, t1] at a2; omega
        · rw [z, q3] at a2; omega
        · exact o z)).2.2.2.2.2.2.1]
      exact a4
  refine ⟨d, h2, ?_, ed, T2, ⟨⟨?_, by rw [eR]; exact p2, by rw [eR, eR]; exact p3⟩, ?_, ⟨?_, by omega, p7⟩, p8, p9, fun y hy => ?_, fun y y' f f' h3 h4 o1 o2 n1 e3 => ?_⟩, fun X a cX => C2.2.2.2.2.2.1 X a (X1' X a cX), X2, ⟨fun f hf => ?_, eR⟩, ⟨by rw [g2, z1], by rw [g3, u1], fun y => by rw [g7, lc1]⟩, ⟨by rw [g4]; exact w1, by rw [g5]; exact w2, by rw [g4]; exact w3, by rw [g4]; exact w4, by rw [g4]; exact w5, by rw [g4]; exact w6, (fl d).1, (fl d).2⟩, fun L hL eL => g8 L hL (by rw [r1, r1]; exact eL), fl⟩
  · unfold C_2_dictionary_30
    rw [gd_pos ⟨t1, k42⟩, e1, e2, eh1, get, Option.bind_some]
    unfold C_2_dictionary_53
    rw [gd_pos ⟨.inr (by rw [k1]; exact q3), by rw [k1]; exact q3⟩, bg]
    rfl
  · rw [eR]
    exact okV_hT p1 X2 n138
  · rw [eR, (X2.2.2.2 _ p1.1 n138).2.2.2.2.2.2.1]
    exact p4
  · rw [etb.2.1, ← eh1, fI_eq]
  · rw [(fl y).1, (fl y).2]
    obtain ⟨⟨y0, y00, y01⟩, y1, y2⟩ := p10 y hy
    exact ⟨⟨y0, by rw [g2, z1]; exact y00, by rw [kd2]; exact y01⟩, y1.imp id lsk2, y2.imp id lsk2⟩
  · have ef : ∀ y f, (f = 1630 ∨ f = 1634) → fR h2 f y = fR h f y := fun y f o => by
      rcases o with o | o
      · rw [o]; exact (fl y).1
      · rw [o]; exact (fl y).2
    rw [ef y f o1] at n1 e3
    rw [ef y' f' o2] at e3
    exact p11 y y' f f' h3 h4 o1 o2 n1 e3
  · rw [etb.2.1, ← eh1, fI_ne hf]
end LPL
