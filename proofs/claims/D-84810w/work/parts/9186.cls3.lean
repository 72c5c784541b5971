set_option maxRecDepth 100000
section LK3
variable {G : om_G} {A t : Nat} {N : List (List Int)} {S : List Int} {b m i : Nat} {n : Int} {M : Nat} {σ τ : tS} {h h' h1 h2 : om_H} {c pr : Nat} {Z Z' : Nat → Prop}
variable {σ0 : tS} {M0 d0 : Nat} {h0 : om_H} {HZ HU : Nat}
theorem At_hp {x : Nat} (H : At G A t N S b m i n M σ h) (X : hp Z x h h') (hc : x ≠ t) : At G A t N S b m i n M σ h' := by
  obtain ⟨c0, c1, c2, c3, c4, c5, c6, c7, c8, c9⟩ := X
  have h1 := At_t H
  have h2 := At_A H
  exact ⟨H.1, Cst_gen H.2.1 (c2 _ h1) (by rw [H.2.2]; exact c2 _ h2) (by rw [H.2.2]; exact c5 _ h2) (fun p => by rw [H.2.2]; exact c6 _ p h2) (fun f => c3 f _ h1 (Ne.symm hc)) (fun f => c4 f _ h1 (Ne.symm hc)) c0, by rw [c4 _ _ h1 (Ne.symm hc)]; exact H.2.2⟩
theorem At_tw (H : At G A t N S b m i n M σ h) {τ : tS} {j M' : Nat} (T : Tst τ N S b m j n M') (e : j = i) : At G A t N S b m j n M' τ h := ⟨T, by rw [e]; exact H.2.1, H.2.2⟩
theorem hp_hpO {x : Nat} (X : hp Z t h h1) (Y : hp Z' x h1 h') (hx' : hz h ≤ x) (hZ : ∀ a, Z' a → Z a ∨ hz h ≤ a) : hp Z t h h' := by
  obtain ⟨c0, c1, c2, c3, c4, c5, c6, c7, c8, c9⟩ := X
  obtain ⟨d0, d1, d2, d3, d4, d5, d6, d7, d8, d9⟩ := Y
  have key : ∀ a, a < hz h → ¬ Z a → ¬ Z' a := fun a q r z => by rcases hZ a z with z | z; exact r z; omega
  exact ⟨by omega, by omega, fun a q => by rw [d2 a (by omega)]; exact c2 a q, fun f a q r => by rw [d3 f a (by omega) (by omega)]; exact c3 f a q r, fun f a q r => by rw [d4 f a (by omega) (by omega)]; exact c4 f a q r, fun a q => by rw [d5 a (by omega)]; exact c5 a q, fun a i q => by rw [d6 a i (by omega)]; exact c6 a i q, fun a i q => by rw [d7 a i (by omega)]; exact c7 a i q, fun a q r => by rw [d8 a (by omega) (key a q r)]; exact c8 a q r, fun a q r => by rw [d9 a (by omega) (key a q r)]; exact c9 a q r⟩
theorem hp_sRx {x f y : Nat} (h : om_H) : hp Z x h (sR h f x y) := ⟨Nat.le_refl _, Nat.le_refl _, fun _ _ => rfl, fun _ _ _ _ => rfl, fun g a _ r => by rw [fR_na r], fun _ _ => rfl, fun _ _ _ => rfl, fun _ _ _ => rfl, fun _ _ _ => rfl, fun _ _ _ => rfl⟩
theorem hp_sIx {x f : Nat} {y : Int} (h : om_H) : hp Z x h (sI h f x y) := ⟨Nat.le_refl _, Nat.le_refl _, fun _ _ => rfl, fun g a _ r => by rw [fI_na r], fun _ _ _ _ => rfl, fun _ _ => rfl, fun _ _ _ => rfl, fun _ _ _ => rfl, fun _ _ _ => rfl, fun _ _ _ => rfl⟩
theorem size_eq {a : Nat} (hk : kd h a = 42) : P_J2_size G a h = some ((ll h a).length : Int) := gd_pos hk
/-- a Method is filled and put into its lists -/
theorem meth_add {x w wr Lm : Nat} (P : PL G h pr t Z) (O : okV G h Lm) (hLm : ¬ Z Lm) (hc : kd h c = 18 ∧ fR h 1230 c = Lm ∧ c ≠ x ∧ c < hz h) (hx' : kd h x = 19 ∧ x < hz h ∧ x ≠ pr) (hw : objY G h w) (hl : ∀ f ∈ PFs, (ll h (fR h f pr)).length ≤ 40000) (hm : (ll h Lm).length ≤ 100000) :
    ∃ h9, (∀ (K : om_H → Option ((Nat ⊕ Unit) × om_H)), (C_18_init G x w wr h).bind (fun p4 => gd (kd p4 x = 19 ∧ kd p4 c = 18 ∧ kd p4 (fR p4 1230 c) = 42) ((P_J2_size G (fR p4 1230 c) (sR p4 1250 x c)).bind fun p5 => gd (kd (sR p4 1250 x c) x = 19 ∧ kd (sR p4 1250 x c) c = 18 ∧ kd (sR p4 1250 x c) (fR (sR p4 1250 x c) 1230 c) = 42) ((P_J2_add G (fR (sR p4 1250 x c) 1230 c) x (sI (sR p4 1250 x c) 1252 x p5)).bind fun p6 => gd (kd p6.2 pr = 2 ∧ kd p6.2 (fR p6.2 98 pr) = 42) ((P_J2_add G (fR p6.2 98 pr) w p6.2).bind fun p7 => gd (kd p7.2 pr = 2 ∧ kd p7.2 (fR p7.2 106 pr) = 42) ((P_J2_add G (fR p7.2 106 pr) 0 p7.2).bind fun p8 => gd (kd p8.2 pr = 2 ∧ kd p8.2 (fR p8.2 110 pr) = 42) ((P_J2_add G (fR p8.2 110 pr) x p8.2).bind fun p9 => K p9.2)))))) = K h9) ∧
      hp (fun a => Z a ∨ a = Lm) x h h9 ∧ (fR h9 1242 x = w ∧ fR h9 1246 x = wr ∧ fR h9 1250 x = c ∧ fI h9 1252 x = ((ll h Lm).length : Int) ∧ fI h9 1259 x = fI h 1259 x ∧ fR h9 1262 x = fR h 1262 x) ∧ okV G h9 Lm ∧ ll h9 Lm = ll h Lm ++ [x] ∧ PL G h9 pr t Z ∧ (∀ g, fR h9 g pr = fR h g pr) ∧ (∀ f ∈ PFs, ll h9 (fR h f pr) = if f = 98 then ll h (fR h 98 pr) ++ [w] else if f = 106 then ll h (fR h 106 pr) ++ [0] else if f = 110 then ll h (fR h 110 pr) ++ [x] else ll h (fR h f pr)) ∧ hz h9 ≤ hz h + 4 ∧ hu h9 + 4 * lcs h pr + 4 * lc h Lm ≤ hu h + 4 * lcs h9 pr + 4 * lc h9 Lm := by
  have xpr := hx'.2.2
  -- the object
  have eA : C_18_init G x w wr h = some (sR (sR h 1242 x w) 1246 x wr) := by unfold C_18_init; exact gd_pos hx'.1
  have F1 : hp (fun a => Z a ∨ a = Lm) x h (sI (sR (sR (sR h 1242 x w) 1246 x wr) 1250 x c) 1252 x ((ll h Lm).length : Int)) := hp_trans (hp_trans (hp_trans (hp_sRx h) (hp_sRx _)) (hp_sRx _)) (hp_sIx _)
  have P1 : PL G (sI (sR (sR (sR h 1242 x w) 1246 x wr) 1250 x c) 1252 x ((ll h Lm).length : Int)) pr t Z ∧ lcs (sI (sR (sR (sR h 1242 x w) 1246 x wr) 1250 x c) 1252 x ((ll h Lm).length : Int)) pr = lcs h pr := by
    obtain ⟨a1, a2⟩ := PL_sR (f := 1242) (x := w) P xpr
    obtain ⟨b1, b2⟩ := PL_sR (f := 1246) (x := wr) a1 xpr
    obtain ⟨c1, c2⟩ := PL_sR (f := 1250) (x := c) b1 xpr
    obtain ⟨d1, d2⟩ := PL_sI (f := 1252) (a := x) (x := ((ll h Lm).length : Int)) c1
    exact ⟨d1, d2.trans (c2.trans (b2.trans a2))⟩
  have R1 : fR (sI (sR (sR (sR h 1242 x w) 1246 x wr) 1250 x c) 1252 x ((ll h Lm).length : Int)) 1242 x = w ∧ fR (sI (sR (sR (sR h 1242 x w) 1246 x wr) 1250 x c) 1252 x ((ll h Lm).length : Int)) 1246 x = wr ∧ fR (sI (sR (sR (sR h 1242 x w) 1246 x wr) 1250 x c) 1252 x ((ll h Lm).length : Int)) 1250 x = c ∧ fR (sI (sR (sR (sR h 1242 x w) 1246 x wr) 1250 x c) 1252 x ((ll h Lm).length : Int)) 1262 x = fR h 1262 x :=
    ⟨by rw [fR_sI, fR_ne (by decide), fR_ne (by decide), fR_eq], by rw [fR_sI, fR_ne (by decide), fR_eq], by rw [fR_sI, fR_eq], by rw [fR_sI, fR_ne (by decide), fR_ne (by decide), fR_ne (by decide)]⟩
  have I1 : fI (sI (sR (sR (sR h 1242 x w) 1246 x wr) 1250 x c) 1252 x ((ll h Lm).length : Int)) 1252 x = ((ll h Lm).length : Int) ∧ fI (sI (sR (sR (sR h 1242 x w) 1246 x wr) 1250 x c) 1252 x ((ll h Lm).length : Int)) 1259 x = fI h 1259 x := ⟨fI_eq, by rw [fI_ne (by decide)]; rfl⟩
  have rc : fR (sR (sR h 1242 x w) 1246 x wr) 1230 c = Lm := by rw [fR_ne (by decide), fR_ne (by decide)]; exact hc.2.1
  have rc' : fR (sR (sR (sR h 1242 x w) 1246 x wr) 1250 x c) 1230 c = Lm := by rw [fR_ne (by decide)]; exact rc
  have sz : P_J2_size G Lm (sR (sR (sR h 1242 x w) 1246 x wr) 1250 x c) = some ((ll h Lm).length : Int) := size_eq O.2.1
  have O1 : okV G (sI (sR (sR (sR h 1242 x w) 1246 x wr) 1250 x c) 1252 x ((ll h Lm).length : Int)) Lm := O
  have g1 : kd (sR (sR h 1242 x w) 1246 x wr) x = 19 ∧ kd (sR (sR h 1242 x w) 1246 x wr) c = 18 ∧ kd (sR (sR h 1242 x w) 1246 x wr) (fR (sR (sR h 1242 x w) 1246 x wr) 1230 c) = 42 := ⟨hx'.1, hc.1, by rw [rc]; exact O.2.1⟩
  have g2 : kd (sR (sR (sR h 1242 x w) 1246 x wr) 1250 x c) x = 19 ∧ kd (sR (sR (sR h 1242 x w) 1246 x wr) 1250 x c) c = 18 ∧ kd (sR (sR (sR h 1242 x w) 1246 x wr) 1250 x c) (fR (sR (sR (sR h 1242 x w) 1246 x wr) 1250 x c) 1230 c) = 42 := ⟨hx'.1, hc.1, by rw [rc']; exact O.2.1⟩
  have l1 : ll (sI (sR (sR (sR h 1242 x w) 1246 x wr) 1250 x c) 1252 x ((ll h Lm).length : Int)) = ll h := rfl
  have c1 : lc (sI (sR (sR (sR h 1242 x w) 1246 x wr) 1250 x c) 1252 x ((ll h Lm).length : Int)) = lc h := rfl
  have k1 : kd (sI (sR (sR (sR h 1242 x w) 1246 x wr) 1250 x c) 1252 x ((ll h Lm).length : Int)) = kd h := rfl
  have z1 : hz (sI (sR (sR (sR h 1242 x w) 1246 x wr) 1250 x c) 1252 x ((ll h Lm).length : Int)) = hz h := rfl
  have y1 : hu (sI (sR (sR (sR h 1242 x w) 1246 x wr) 1250 x c) 1252 x ((ll h Lm).length : Int)) = hu h := rfl
  have p1 : ∀ g, fR (sI (sR (sR (sR h 1242 x w) 1246 x wr) 1250 x c) 1252 x ((ll h Lm).length : Int)) g pr = fR h g pr := fun g => by rw [fR_sI, fR_na (Ne.symm xpr), fR_na (Ne.symm xpr), fR_na (Ne.symm xpr)]
  simp only [eA, Option.bind_some]
  simp only [gd_pos g1]
  simp only [rc, sz, Option.bind_some]
  simp only [gd_pos g2]
  simp only [rc']
  generalize sI (sR (sR (sR h 1242 x w) 1246 x wr) 1250 x c) 1252 x ((ll h Lm).length : Int) = h3 at *
  clear eA g1 g2 rc rc' sz
  obtain ⟨P1, Pl1⟩ := P1
  -- its class's list
  obtain ⟨a1, a2, a3, a4, a5, a6⟩ := v_add (x := x) O1 (.inl ⟨by omega, by rw [k1]; omega, by rw [k1]; omega⟩) (by rw [l1]; exact hm)
  generalize addL h3 Lm x = h4 at *
  obtain ⟨P2, Pl2⟩ := PL_hxL P1 a2 hLm
  have p2 : ∀ g, fR h4 g pr = fR h g pr := fun g => by rw [a2.2.2.2.2.1 g pr P1.1.2.1]; exact p1 g
  have q2 : ∀ f ∈ PFs, ll h4 (fR h f pr) = ll h (fR h f pr) := fun f hf => by
    have e := P1.2.1 f hf
    rw [p1] at e
    rw [a2.2.2.2.2.2.2.2.2.1 _ e.1.1 (fun z => hLm (z ▸ e.2)), l1]
  have F2 := hp_trans F1 (hxL_hp (Z := fun a => Z a ∨ a = Lm) (t := x) a2 (.inr rfl))
  -- the program's lists
  obtain ⟨h5, b1, b2, b3, b4, b5, b6, b7, b8⟩ := PL_add (f := 98) (x := w) P2 (by simp) (objY_mono (by have := F2.1; omega) F2.2.2.1 hw) (by rw [p2, q2 98 (by simp)]; exact hl 98 (by simp))
  rw [p2] at b1 b2 b5
  obtain ⟨h6, d1, d2, d3, d4, d5, d6, d7, d8⟩ := PL_add (f := 106) (x := 0) b3 (by simp) (.inr (.inl rfl)) (by rw [b4, b6 106 (by simp) (by decide), p2, q2 106 (by simp)]; exact hl 106 (by simp))
  rw [b4, p2] at d1 d2 d5
  have F4 := hp_trans (hp_trans F2 (hxL_hp (Z := fun a => Z a ∨ a = Lm) (t := x) b2 (.inl (by have := (P2.2.1 98 (by simp)).2; rw [p2] at this; exact this)))) (hxL_hp (Z := fun a => Z a ∨ a = Lm) (t := x) d2 (.inl (by have := (b3.2.1 106 (by simp)).2; rw [b4, p2] at this; exact this)))
  have z6 := F4.1
  obtain ⟨h7, e1, e2, e3, e4, e5, e6, e7, e8⟩ := PL_add (f := 110) (x := x) d3 (by simp) (.inl ⟨by omega, by rw [F4.2.2.1 x hx'.2.1]; omega, by rw [F4.2.2.1 x hx'.2.1]; omega⟩) (by rw [d4, d6 110 (by simp) (by decide), b4, b6 110 (by simp) (by decide), p2, q2 110 (by simp)]; exact hl 110 (by simp))
  rw [d4, b4, p2] at e1 e2 e5
  have F5 := hp_trans F4 (hxL_hp (Z := fun a => Z a ∨ a = Lm) (t := x) e2 (.inl (by have := (d3.2.1 110 (by simp)).2; rw [d4, b4, p2] at this; exact this)))
  have z7 := F5.1
  have z45 := b2.1
  have z56 := d2.1
  have z67 := e2.1
  have z34 := a2.1
  have OL := O.1
  have rx : ∀ f, fR h7 f x = fR h3 f x := fun f => by rw [e2.2.2.2.2.1 f x (by omega), d2.2.2.2.2.1 f x (by omega), b2.2.2.2.2.1 f x (by omega), a2.2.2.2.2.1 f x (by omega)]
  have ix : ∀ f, fI h7 f x = fI h3 f x := fun f => by rw [e2.2.2.2.1 f x (by omega), d2.2.2.2.1 f x (by omega), b2.2.2.2.1 f x (by omega), a2.2.2.2.1 f x (by omega)]
  have nL : ∀ f ∈ PFs, Lm ≠ fR h f pr := fun f hf z => by
    have e := (P1.2.1 f hf).2
    rw [p1, ← z] at e
    exact hLm e
  have O5 := okV_hxL (okV_hxL (okV_hxL a3 (nL 98 (by simp)) b2) (nL 106 (by simp)) d2) (nL 110 (by simp)) e2
  have lL : ll h7 Lm = ll h4 Lm := by rw [e2.2.2.2.2.2.2.2.2.1 Lm (by omega) (nL 110 (by simp)), d2.2.2.2.2.2.2.2.2.1 Lm (by omega) (nL 106 (by simp)), b2.2.2.2.2.2.2.2.2.1 Lm (by omega) (nL 98 (by simp))]
  have cL : lc h7 Lm = lc h4 Lm := by rw [e2.2.2.2.2.2.2.2.2.2 Lm (by omega) (nL 110 (by simp)), d2.2.2.2.2.2.2.2.2.2 Lm (by omega) (nL 106 (by simp)), b2.2.2.2.2.2.2.2.2.2 Lm (by omega) (nL 98 (by simp))]
  have p7 : ∀ g, fR h7 g pr = fR h g pr := fun g => by rw [e4, d4, b4, p2]
  refine ⟨h7, fun K => ?_, F5, ⟨by rw [rx]; exact R1.1, by rw [rx]; exact R1.2.1, by rw [rx]; exact R1.2.2.1, by rw [ix]; exact I1.1, by rw [ix]; exact I1.2, by rw [rx]; exact R1.2.2.2⟩, O5, by rw [lL, a4, l1], e3, p7, fun f hf => ?_, by omega, ?_⟩
  · rw [a1]
    simp only [Option.bind_some]
    rw [gd_pos ⟨P2.1.1, (P2.2.1 98 (by simp)).1.2.1⟩, p2, b1]
    simp only [Option.bind_some]
    rw [gd_pos ⟨b3.1.1, (b3.2.1 106 (by simp)).1.2.1⟩, b4, p2, d1]
    simp only [Option.bind_some]
    rw [gd_pos ⟨d3.1.1, (d3.2.1 110 (by simp)).1.2.1⟩, d4, b4, p2, e1]
    rfl
  · by_cases f98 : f = 98
    · rw [if_pos f98, f98]
      have := e6 98 (by simp) (by decide)
      rw [d4, b4, p2] at this
      rw [this]
      have := d6 98 (by simp) (by decide)
      rw [b4, p2] at this
      rw [this, b5, q2 98 (by simp)]
    · rw [if_neg f98]
      by_cases f106 : f = 106
      · rw [if_pos f106, f106]
        have := e6 106 (by simp) (by decide)
        rw [d4, b4, p2] at this
        rw [this, d5]
        have := b6 106 (by simp) (by decide)
        rw [p2] at this
        rw [this, q2 106 (by simp)]
      · rw [if_neg f106]
        by_cases f110 : f = 110
        · rw [if_pos f110, f110, e5]
          have := d6 110 (by simp) (by decide)
          rw [b4, p2] at this
          rw [this]
          have := b6 110 (by simp) (by decide)
          rw [p2] at this
          rw [this, q2 110 (by simp)]
        · rw [if_neg f110]
          have := e6 f hf f110
          rw [d4, b4, p2] at this
          rw [this]
          have := d6 f hf f106
          rw [b4, p2] at this
          rw [this]
          have := b6 f hf f98
          rw [p2] at this
          rw [this, q2 f hf]
  · rw [cL]
    rw [c1] at a6
    omega
end LK3
