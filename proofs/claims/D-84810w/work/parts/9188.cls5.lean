set_option maxRecDepth 100000
section LK5
variable {G : om_G} {A t : Nat} {N : List (List Int)} {S : List Int} {b m i : Nat} {n : Int} {M : Nat} {σ τ : tS} {h h' h1 h2 : om_H} {c pr : Nat} {Z Z' : Nat → Prop}
variable {σ0 : tS} {M0 d0 : Nat} {h0 : om_H} {HZ HU sz su sM : Nat}
theorem DS_ua {f d : Nat} {x : Int} (Q : DS G t m Z pr σ0 M0 d0 h0 HZ HU sz su sM i M σ h) (hf : f ∈ DA) (hd : d0 ≤ d) : DS G t m Z pr σ0 M0 d0 h0 HZ HU sz su sM i M (ua σ f d x) h := ⟨ndD_ua Q.1 hf hd, Q.2⟩
theorem At_ua {f d : Nat} {x : Int} (H : At G A t N S b m i n M σ h) (hf : f ∈ DA) : At G A t N S b m i n M (ua σ f d x) h := ⟨Tst_ua H.1 hf, H.2⟩
theorem hx_hpx {x : Nat} (X : hx x h h') : hp Z x h h' := hx_hp X
/-- a ClassDecl is filled and put into the program's lists -/
theorem class_put {w1 w2 : Nat} {pl : Int} (P : PL G h pr t Z) (hc : c < hz h ∧ kd h c = 18 ∧ c ≠ pr) (zI : ∀ f, fI h f c = 0) (zR : ∀ f, fR h f c = 0) (o1 : objY G h w1) (o2 : objY G h w2) (hZ : ∀ a, Z a → a < c) (hl : ∀ f ∈ PFs, (ll h (fR h f pr)).length ≤ 40000) :
    ∃ h6, (∀ (K : om_H → Option ((Nat ⊕ Unit) × om_H)), (C_17_init G c pl w1 w2 h).bind (fun p3 => gd (kd p3 pr = 2 ∧ kd p3 (fR p3 82 pr) = 42) ((P_J2_size G (fR p3 82 pr) p3).bind fun p4 => gd (kd p3 c = 18 ∧ kd p3 pr = 2 ∧ kd p3 (fR p3 82 pr) = 42) ((P_J2_add G (fR p3 82 pr) c (sI p3 1200 c p4)).bind fun p5 => gd (kd p5.2 pr = 2 ∧ kd p5.2 (fR p5.2 94 pr) = 42) ((P_J2_add G (fR p5.2 94 pr) w1 p5.2).bind fun p6 => gd (kd p6.2 pr = 2 ∧ kd p6.2 (fR p6.2 102 pr) = 42) ((P_J2_add G (fR p6.2 102 pr) c p6.2).bind fun p7 => K p7.2))))) = K h6) ∧
      hp Z c h h6 ∧ clsO h6 c w1 w2 (hz h) (hz h + 1) (hz h + 2) 0 0 pl ((ll h (fR h 82 pr)).length : Int) ∧ okV G h6 (hz h) ∧ ll h6 (hz h) = [] ∧ lc h6 (hz h) = 0 ∧ PL G h6 pr t Z ∧ (∀ g, fR h6 g pr = fR h g pr) ∧ (∀ f ∈ PFs, ll h6 (fR h f pr) = if f = 82 then ll h (fR h 82 pr) ++ [c] else if f = 94 then ll h (fR h 94 pr) ++ [w1] else if f = 102 then ll h (fR h 102 pr) ++ [c] else ll h (fR h f pr)) ∧ hz h6 ≤ hz h + 7 ∧ hz h + 3 ≤ hz h6 ∧ hu h6 + 4 * lcs h pr ≤ hu h + 20 + 4 * lcs h6 pr := by
  obtain ⟨h3, a1, a2, a3, a4, a5, a6, a7, a8, a9⟩ := class_new (G := G) (w1 := w1) (pl := pl) hc.1 hc.2.1 zI zR o2
  obtain ⟨P3, L3⟩ := PL_hxO P a2 hc.2.2
  have p3 : ∀ g, fR h3 g pr = fR h g pr := fun g => a2.2.2.2.2.1 g pr P.1.2.1 (Ne.symm hc.2.2)
  have l3 : ∀ f ∈ PFs, ll h3 (fR h f pr) = ll h (fR h f pr) := fun f hf => a2.2.2.2.2.2.2.2.2.1 _ (P.2.1 f hf).1.1
  have k3c : kd h3 c = 18 := a3.1.1
  have sz : P_J2_size G (fR h 82 pr) h3 = some ((ll h (fR h 82 pr)).length : Int) := by
    have e := (P3.2.1 82 (by simp)).1.2.1
    rw [p3] at e
    rw [size_eq e, l3 82 (by simp)]
  -- its number
  obtain ⟨P4, L4⟩ := PL_sI (f := 1200) (a := c) (x := ((ll h (fR h 82 pr)).length : Int)) P3
  have p4 : ∀ g, fR (sI h3 1200 c ((ll h (fR h 82 pr)).length : Int)) g pr = fR h g pr := p3
  have l4 : ∀ f ∈ PFs, ll (sI h3 1200 c ((ll h (fR h 82 pr)).length : Int)) (fR h f pr) = ll h (fR h f pr) := l3
  have F4 : hp Z c h (sI h3 1200 c ((ll h (fR h 82 pr)).length : Int)) := hp_trans (hx_hp a2) (hp_sIx h3)
  have c4 : clsO (sI h3 1200 c ((ll h (fR h 82 pr)).length : Int)) c w1 w2 (hz h) (hz h + 1) (hz h + 2) 0 0 pl ((ll h (fR h 82 pr)).length : Int) := by
    obtain ⟨b1, b2, b3, b4, b5⟩ := a3
    exact ⟨⟨b1.1, by rw [fI_ne (by decide)]; exact b1.2.1, fI_eq, b1.2.2.2⟩, ⟨by rw [fI_ne (by decide)]; exact b2.1, by rw [fI_ne (by decide)]; exact b2.2.1, b2.2.2⟩, b3, b4, b5⟩
  have v4 : okV G (sI h3 1200 c ((ll h (fR h 82 pr)).length : Int)) (hz h) := okV_sI a4
  have z4 : hz (sI h3 1200 c ((ll h (fR h 82 pr)).length : Int)) = hz h3 := rfl
  have y4 : hu (sI h3 1200 c ((ll h (fR h 82 pr)).length : Int)) = hu h3 := rfl
  have m4 : ll (sI h3 1200 c ((ll h (fR h 82 pr)).length : Int)) (hz h) = [] ∧ lc (sI h3 1200 c ((ll h (fR h 82 pr)).length : Int)) (hz h) = 0 := ⟨a5, a6⟩
  have g3 : (kd h3 pr = 2 ∧ kd h3 (fR h3 82 pr) = 42) := ⟨P3.1.1, (P3.2.1 82 (by simp)).1.2.1⟩
  simp only [a1, Option.bind_some]
  simp only [gd_pos g3]
  simp only [gd_pos (show kd h3 c = 18 ∧ kd h3 pr = 2 ∧ kd h3 (fR h3 82 pr) = 42 from ⟨k3c, g3⟩)]
  simp only [p3, sz, Option.bind_some]
  generalize sI h3 1200 c ((ll h (fR h 82 pr)).length : Int) = h4 at *
  clear a1 sz g3 k3c a2 a3 a4 a5 a6
  obtain ⟨h5, b1, b2, b3, b4, b5, b6, b7, b8⟩ := PL_add (f := 82) (x := c) P4 (by simp) (.inl ⟨by have := F4.1; omega, by rw [F4.2.2.1 c hc.1]; omega, by rw [F4.2.2.1 c hc.1]; omega⟩) (by rw [p4, l4 82 (by simp)]; exact hl 82 (by simp))
  rw [p4] at b1 b2 b5
  have Zf : ∀ f ∈ PFs, Z (fR h f pr) := fun f hf => (P.2.1 f hf).2
  have F5 := hp_trans F4 (hxL_hp (Z := Z) (t := c) b2 (Zf 82 (by simp)))
  obtain ⟨h6, d1, d2, d3, d4, d5, d6, d7, d8⟩ := PL_add (f := 94) (x := w1) b3 (by simp) (objY_mono F5.1 F5.2.2.1 o1) (by rw [b4, b6 94 (by simp) (by decide), p4, l4 94 (by simp)]; exact hl 94 (by simp))
  rw [b4, p4] at d1 d2 d5
  have F6 := hp_trans F5 (hxL_hp (Z := Z) (t := c) d2 (Zf 94 (by simp)))
  obtain ⟨h7, e1, e2, e3, e4, e5, e6, e7, e8⟩ := PL_add (f := 102) (x := c) d3 (by simp) (.inl ⟨by have := F6.1; omega, by rw [F6.2.2.1 c hc.1]; omega, by rw [F6.2.2.1 c hc.1]; omega⟩) (by rw [d4, d6 102 (by simp) (by decide), b4, b6 102 (by simp) (by decide), p4, l4 102 (by simp)]; exact hl 102 (by simp))
  rw [d4, b4, p4] at e1 e2 e5
  have F7 := hp_trans F6 (hxL_hp (Z := Z) (t := c) e2 (Zf 102 (by simp)))
  have z45 := b2.1
  have z56 := d2.1
  have z67 := e2.1
  have nZ : ∀ a f, c ≤ a → f ∈ PFs → a ≠ fR h f pr := fun a f q hf z => by have := hZ _ (Zf f hf); omega
  have s7 : ∀ a, c ≤ a → a < hz h4 → sameA a h4 h7 := fun a q r => sameA_trans (sameA_trans (hxL_same b2 (by omega) (nZ a 82 q (by simp))) (hxL_same d2 (by omega) (nZ a 94 q (by simp)))) (hxL_same e2 (by omega) (nZ a 102 q (by simp)))
  have p7 : ∀ g, fR h7 g pr = fR h g pr := fun g => by rw [e4, d4, b4, p4]
  refine ⟨h7, fun K => ?_, F7, clsO_keep c4 (s7 c (by omega) (by omega)) (s7 _ (by omega) (by omega)) (s7 _ (by omega) (by omega)), okV_hxL (okV_hxL (okV_hxL v4 (nZ _ 82 (by omega) (by simp)) b2) (nZ _ 94 (by omega) (by simp)) d2) (nZ _ 102 (by omega) (by simp)) e2, ?_, ?_, e3, p7, fun f hf => ?_, by omega, by omega, by omega⟩
  · rw [b1]
    simp only [Option.bind_some]
    rw [gd_pos ⟨b3.1.1, (b3.2.1 94 (by simp)).1.2.1⟩, b4, p4, d1]
    simp only [Option.bind_some]
    rw [gd_pos ⟨d3.1.1, (d3.2.1 102 (by simp)).1.2.1⟩, d4, b4, p4, e1]
    rfl
  · rw [(s7 _ (by omega) (by omega)).2.2.2.2.2.1]; exact m4.1
  · rw [(s7 _ (by omega) (by omega)).2.2.2.2.2.2]; exact m4.2
  · by_cases f82 : f = 82
    · rw [if_pos f82, f82]
      have := e6 82 (by simp) (by decide)
      rw [d4, b4, p4] at this
      rw [this]
      have := d6 82 (by simp) (by decide)
      rw [b4, p4] at this
      rw [this, b5, l4 82 (by simp)]
    · rw [if_neg f82]
      by_cases f94 : f = 94
      · rw [if_pos f94, f94]
        have := e6 94 (by simp) (by decide)
        rw [d4, b4, p4] at this
        rw [this, d5]
        have := b6 94 (by simp) (by decide)
        rw [p4] at this
        rw [this, l4 94 (by simp)]
      · rw [if_neg f94]
        by_cases f102 : f = 102
        · rw [if_pos f102, f102, e5]
          have := d6 102 (by simp) (by decide)
          rw [b4, p4] at this
          rw [this]
          have := b6 102 (by simp) (by decide)
          rw [p4] at this
          rw [this, l4 102 (by simp)]
        · rw [if_neg f102]
          have := e6 f hf f102
          rw [d4, b4, p4] at this
          rw [this]
          have := d6 f hf f94
          rw [b4, p4] at this
          rw [this]
          have := b6 f hf f82
          rw [p4] at this
          rw [this, l4 f hf]
end LK5
