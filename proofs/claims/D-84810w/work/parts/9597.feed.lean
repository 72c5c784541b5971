set_option maxRecDepth 100000
/-! FEEDING, in both -/
/-- a byte of a word -/
def wdB (w : Int) (k : Nat) : Int := b8 (b8 (shr32 w (24 - 8 * (k : Int))))
theorem c_wordL {G : om_G} {m0 T c : Nat} {w : Int} (hc : c + 4 ≤ 2000) : ∀ (d k : Nat) (h : om_H), k + d = 4 → kd h m0 = 1 → (fR h 6 m0 = T ∧ kd h T = 50 ∧ an h T = 2000) → fI h 8 m0 = ((c + k : Nat) : Int) → ∃ h', om_loop (C_0_word_3s G m0 w) (24 - 8 * (k : Int), h) = some h' ∧ tkF m0 T h h' ∧ fI h' 8 m0 = ((c + 4 : Nat) : Int) ∧ (∀ i, i < c + k → aI h' T i = aI h T i) ∧ ∀ i, k ≤ i → i < 4 → aI h' T (c + i) = wdB w i
  | 0, k, h, e, _, _, e8 => by
    have k4 : k = 4 := by omega
    refine ⟨h, om_loop_out ?_, tkF_refl _ _ _, by rw [e8, k4], fun _ _ => rfl, fun i h1 h2 => by omega⟩
    unfold C_0_word_3s
    simp only
    rw [if_pos (by omega)]
  | d + 1, k, h, e, km, ⟨t1, t2, t3⟩, e8 => by
    have st : C_0_word_3s G m0 w (24 - 8 * (k : Int), h) = some (.inl (24 - 8 * ((k + 1 : Nat) : Int), sI (pI h T (c + k) (wdB w k)) 8 m0 ((c + (k + 1) : Nat) : Int))) := by
      unfold C_0_word_3s
      simp only
      rw [if_neg (by omega), t1, gd_pos ⟨km, t2, by omega, by rw [t3, e8]; omega⟩, e8, show (((c + k : Nat) : Int)).toNat = c + k by omega, w32_s (x := 24 - 8 * (k : Int) + -8) (by omega) (by omega), w32_s (x := ((c + k : Nat) : Int) + 1) (by omega) (by omega), show 24 - 8 * (k : Int) + -8 = 24 - 8 * ((k + 1 : Nat) : Int) by omega]
      rfl
    obtain ⟨h', a1, a2, a3, a4, a5⟩ := c_wordL (G := G) (T := T) (w := w) hc d (k + 1) (sI (pI h T (c + k) (wdB w k)) 8 m0 ((c + (k + 1) : Nat) : Int)) (by omega) km ⟨t1, t2, t3⟩ (by rw [fI_sI, if_pos ⟨rfl, rfl⟩])
    have F0 : tkF m0 T h (sI (pI h T (c + k) (wdB w k)) 8 m0 ((c + (k + 1) : Nat) : Int)) := ⟨⟨rfl, rfl⟩, fun _ => rfl, fun f a n => by rw [fI_sI, if_neg n]; rfl, fun _ _ => rfl, fun _ => rfl, fun a j n => by show aI (pI h T (c + k) (wdB w k)) a j = _; rw [aI_pI, if_neg (fun z => n z.1)], fun _ _ => rfl, fun _ => rfl, fun _ => rfl⟩
    have ai : ∀ i, aI (sI (pI h T (c + k) (wdB w k)) 8 m0 ((c + (k + 1) : Nat) : Int)) T i = if i = c + k then wdB w k else aI h T i := fun i => by
      show aI (pI h T (c + k) (wdB w k)) T i = _
      rw [aI_pI]
      by_cases q : i = c + k
      · rw [if_pos ⟨rfl, q⟩, if_pos q]
      · rw [if_neg (fun z => q z.2), if_neg q]
    refine ⟨h', by rw [om_loop_in st]; exact a1, tkF_trans F0 a2, a3, fun i hi => by rw [a4 i (by omega), ai, if_neg (by omega)], fun i h1 h2 => ?_⟩
    by_cases q : i = k
    · rw [q, a4 (c + k) (by omega), ai, if_pos rfl]
    · exact a5 i (by omega) h2
theorem c_word4 {G : om_G} {m0 T c : Nat} {w : Int} {h : om_H} (hc : c + 4 ≤ 2000) (km : kd h m0 = 1) (t : fR h 6 m0 = T ∧ kd h T = 50 ∧ an h T = 2000) (e8 : fI h 8 m0 = (c : Int)) : ∃ h', C_0_word G m0 w h = some h' ∧ tkF m0 T h h' ∧ fI h' 8 m0 = ((c + 4 : Nat) : Int) ∧ (∀ i, i < c → aI h' T i = aI h T i) ∧ ∀ i, i < 4 → aI h' T (c + i) = wdB w i := by
  obtain ⟨h', a1, a2, a3, a4, a5⟩ := c_wordL (G := G) (T := T) (w := w) hc 4 0 h (by omega) km t e8
  have a1' : om_loop (C_0_word_3s G m0 w) (24, h) = some h' := a1
  refine ⟨h', ?_, a2, a3, fun i hi => a4 i (by omega), fun i hi => a5 i (Nat.zero_le _) hi⟩
  unfold C_0_word
  rw [a1', Option.bind_some]
/-- the twenty bytes -/
def fdB (l1 l2 l3 l4 l5 : Int) (i : Nat) : Int := wdB (if i < 4 then l1 else if i < 8 then l2 else if i < 12 then l3 else if i < 16 then l4 else l5) (i % 4)
theorem rem_4 : ∀ i : Nat, i < 20 → rem32 (i : Int) 4 = ((i % 4 : Nat) : Int) := by decide +kernel
theorem t_fdL {l1 l2 l3 l4 l5 : Int} {c : Nat} (hc : c + 20 ≤ 2000) : ∀ (d k : Nat) (σ : tS), k + d = 20 → gs σ 416 = (c : Int) → ∃ τ, om_loop (T_feed_23s l1 l2 l3 l4 l5) ((k : Int), σ) = some τ ∧ fr [] [402] σ τ ∧ (∀ i, i < c + k → ga τ 402 i = ga σ 402 i) ∧ ∀ i, k ≤ i → i < 20 → ga τ 402 (c + i) = fdB l1 l2 l3 l4 l5 i
  | 0, k, σ, e, e4 => by
    refine ⟨σ, om_loop_out ?_, fr_refl _ _ _, fun _ _ => rfl, fun i h1 h2 => by omega⟩
    unfold T_feed_23s
    simp only
    rw [if_pos (by omega)]
  | d + 1, k, σ, e, e4 => by
    have r4 := rem_4 k (by omega)
    have s76 : ∀ s0, T_feed_76 l1 l2 l3 l4 l5 (k : Int) s0 σ = some (.inl (((k + 1 : Nat) : Int), ua σ 402 (c + k) (wdB s0 (k % 4)))) := fun s0 => by
      have m4 : k % 4 < 4 := Nat.mod_lt _ (by decide)
      unfold T_feed_76 wdB
      rw [e4, w32_s (x := (c : Int) + (k : Int)) (by omega) (by omega), if_pos ⟨by omega, by omega⟩, show ((c : Int) + (k : Int)).toNat = c + k by omega, r4, w32_s (x := 8 * ((k % 4 : Nat) : Int)) (by omega) (by omega), w32_s (x := 24 - 8 * ((k % 4 : Nat) : Int)) (by omega) (by omega), w32_s (x := (k : Int) + 1) (by omega) (by omega)]
      rfl
    have st : T_feed_23s l1 l2 l3 l4 l5 ((k : Int), σ) = some (.inl (((k + 1 : Nat) : Int), ua σ 402 (c + k) (fdB l1 l2 l3 l4 l5 k))) := by
      unfold T_feed_23s fdB
      simp only
      rw [if_neg (by omega)]
      by_cases q1 : k < 4
      · rw [if_neg (by omega), s76, if_pos q1]
      · rw [if_pos (by omega), if_neg q1]
        by_cases q2 : k < 8
        · rw [if_neg (by omega), s76, if_pos q2]
        · rw [if_pos (by omega), if_neg q2]
          by_cases q3 : k < 12
          · rw [if_neg (by omega), s76, if_pos q3]
          · rw [if_pos (by omega), if_neg q3]
            by_cases q4 : k < 16
            · rw [if_neg (by omega), s76, if_pos q4]
            · rw [if_pos (by omega), s76, if_neg q4]
    obtain ⟨τ, a1, a2, a3, a4⟩ := t_fdL (l1 := l1) (l2 := l2) (l3 := l3) (l4 := l4) (l5 := l5) hc d (k + 1) (ua σ 402 (c + k) (fdB l1 l2 l3 l4 l5 k)) (by omega) e4
    refine ⟨τ, by rw [om_loop_in st]; exact a1, fr_trans (fr_ua (fr_refl _ _ _) (by decide)) a2, fun i hi => by rw [a3 i (by omega), ga_ua, if_neg (by omega)], fun i h1 h2 => ?_⟩
    by_cases q : i = k
    · rw [q, a3 (c + k) (by omega), ga_ua, if_pos ⟨rfl, rfl⟩]
    · exact a4 i (by omega) h2
/-- FEEDING -/
theorem feed_both {G : om_G} {m0 T c : Nat} {l1 l2 l3 l4 l5 : Int} {h : om_H} {σ : tS} (km : kd h m0 = 1) (t : fR h 6 m0 = T ∧ kd h T = 50 ∧ an h T = 2000) (e8 : fI h 8 m0 = (c : Int)) (hc : c ≤ 2000) (e4 : gs σ 416 = (c : Int)) : (2000 < c + 20 → C_0_feed G m0 l1 l2 l3 l4 l5 h = some (-1, h) ∧ T_feed l1 l2 l3 l4 l5 σ = some (-1, us σ 396 0)) ∧ (c + 20 ≤ 2000 → ∃ h' σ', C_0_feed G m0 l1 l2 l3 l4 l5 h = some (((c + 20 : Nat) : Int), h') ∧ T_feed l1 l2 l3 l4 l5 σ = some (((c + 20 : Nat) : Int), σ') ∧ tkF m0 T h h' ∧ fI h' 8 m0 = ((c + 20 : Nat) : Int) ∧ gs σ' 416 = ((c + 20 : Nat) : Int) ∧ fr [396, 416] [402] σ σ' ∧ (∀ i, i < c → aI h' T i = aI h T i ∧ ga σ' 402 i = ga σ 402 i) ∧ ∀ i, i < 20 → aI h' T (c + i) = fdB l1 l2 l3 l4 l5 i ∧ ga σ' 402 (c + i) = fdB l1 l2 l3 l4 l5 i ∧ -128 ≤ fdB l1 l2 l3 l4 l5 i ∧ fdB l1 l2 l3 l4 l5 i ≤ 127) := by
  have w20 : w32 ((c : Int) + 20) = ((c + 20 : Nat) : Int) := by rw [w32_s (by omega) (by omega)]; omega
  refine ⟨fun w => ⟨?_, ?_⟩, fun w => ?_⟩
  · unfold C_0_feed
    rw [gd_pos km, e8, w20, if_neg (by omega)]
  · unfold T_feed
    rw [e4, w20, if_neg (by omega)]
  · obtain ⟨h1, a1, F1, e1, p1, q1⟩ := c_word4 (G := G) (w := l1) (c := c) (by omega) km t e8
    obtain ⟨h2, a2, F2, e2, p2, q2⟩ := c_word4 (G := G) (w := l2) (c := c + 4) (T := T) (h := h1) (by omega) (by rw [F1.2.1]; exact km) ⟨by rw [F1.2.2.2.1]; exact t.1, by rw [F1.2.1]; exact t.2.1, by rw [F1.2.2.2.2.1]; exact t.2.2⟩ e1
    have F12 := tkF_trans F1 F2
    obtain ⟨h3, a3, F3, e3, p3, q3⟩ := c_word4 (G := G) (w := l3) (c := c + 4 + 4) (T := T) (h := h2) (by omega) (by rw [F12.2.1]; exact km) ⟨by rw [F12.2.2.2.1]; exact t.1, by rw [F12.2.1]; exact t.2.1, by rw [F12.2.2.2.2.1]; exact t.2.2⟩ e2
    have F13 := tkF_trans F12 F3
    obtain ⟨h4, a4, F4, e4', p4, q4⟩ := c_word4 (G := G) (w := l4) (c := c + 4 + 4 + 4) (T := T) (h := h3) (by omega) (by rw [F13.2.1]; exact km) ⟨by rw [F13.2.2.2.1]; exact t.1, by rw [F13.2.1]; exact t.2.1, by rw [F13.2.2.2.2.1]; exact t.2.2⟩ e3
    have F14 := tkF_trans F13 F4
    obtain ⟨h5, a5, F5, e5, p5, q5⟩ := c_word4 (G := G) (w := l5) (c := c + 4 + 4 + 4 + 4) (T := T) (h := h4) (by omega) (by rw [F14.2.1]; exact km) ⟨by rw [F14.2.2.2.1]; exact t.1, by rw [F14.2.1]; exact t.2.1, by rw [F14.2.2.2.2.1]; exact t.2.2⟩ e4'
    have F15 := tkF_trans F14 F5
    obtain ⟨τ, b1, b2, b3, b4⟩ := t_fdL (l1 := l1) (l2 := l2) (l3 := l3) (l4 := l4) (l5 := l5) w 20 0 (us σ 396 0) (by omega) (by rw [gs_us, if_neg (by decide)]; exact e4)
    have b1' : om_loop (T_feed_23s l1 l2 l3 l4 l5) (0, us σ 396 0) = some τ := b1
    have g4 : gs τ 416 = (c : Int) := by rw [b2.1 416 List.not_mem_nil, gs_us, if_neg (by decide)]; exact e4
    refine ⟨h5, us τ 416 ((c + 20 : Nat) : Int), ?_, ?_, F15, by rw [e5], by rw [gs_us, if_pos rfl], fr_us (fr_trans (fr_us (fr_refl _ _ _) (by decide)) (fr_mono b2 (fun f hf => absurd hf List.not_mem_nil) (fun f hf => hf))) (by decide), fun i hi => ⟨by rw [p5 i (by omega), p4 i (by omega), p3 i (by omega), p2 i (by omega), p1 i hi], ?_⟩, fun i hi => ⟨?_, ?_, ?_⟩⟩
    · unfold C_0_feed
      rw [gd_pos km, e8, w20, if_pos (by omega), gd_pos km, a1, Option.bind_some, gd_pos (by rw [F1.2.1]; exact km), a2, Option.bind_some, gd_pos (by rw [F12.2.1]; exact km), a3, Option.bind_some, gd_pos (by rw [F13.2.1]; exact km), a4, Option.bind_some, gd_pos (by rw [F14.2.1]; exact km), a5, Option.bind_some, gd_pos (by rw [F15.2.1]; exact km), e5]
    · unfold T_feed
      rw [e4, w20, if_pos (by omega), b1', Option.bind_some, g4, w20]
    · rw [ga_us, b3 i (by omega)]
      rfl
    · unfold fdB
      by_cases c1 : i < 4
      · rw [if_pos c1, p5 _ (by omega), p4 _ (by omega), p3 _ (by omega), p2 _ (by omega), q1 i c1, Nat.mod_eq_of_lt c1]
      rw [if_neg c1]
      by_cases c2 : i < 8
      · rw [if_pos c2, p5 _ (by omega), p4 _ (by omega), p3 _ (by omega), show c + i = c + 4 + (i - 4) by omega, q2 (i - 4) (by omega), show i % 4 = i - 4 by omega]
      rw [if_neg c2]
      by_cases c3 : i < 12
      · rw [if_pos c3, p5 _ (by omega), p4 _ (by omega), show c + i = c + 4 + 4 + (i - 8) by omega, q3 (i - 8) (by omega), show i % 4 = i - 8 by omega]
      rw [if_neg c3]
      by_cases c4 : i < 16
      · rw [if_pos c4, p5 _ (by omega), show c + i = c + 4 + 4 + 4 + (i - 12) by omega, q4 (i - 12) (by omega), show i % 4 = i - 12 by omega]
      · rw [if_neg c4, show c + i = c + 4 + 4 + 4 + 4 + (i - 16) by omega, q5 (i - 16) (by omega), show i % 4 = i - 16 by omega]
    · rw [ga_us, b4 i (Nat.zero_le _) hi]
    · unfold fdB wdB
      exact b8_rng _
/-- WHAT A FAULT WAS, in both -/
theorem fault_both {G : om_G} {m0 : Nat} {l1 : Int} {h : om_H} {σ : tS} (km : kd h m0 = 1) (e39 : fI h 39 m0 = 0 ↔ gs σ 451 = 0) (e40 : gs σ 451 ≠ 0 → gs σ 460 = fI h 40 m0 ∧ gs σ 464 = fI h 44 m0) : ∃ v, C_0_fault G m0 l1 h = some v ∧ T_fault l1 σ = some (v, us σ 396 0) := by
  unfold C_0_fault T_fault
  rw [gd_pos km]
  by_cases c : gs σ 451 = 0
  · rw [if_neg (fun z => z (e39.mpr c)), if_pos c]
    exact ⟨-1, rfl, rfl⟩
  · have c' : fI h 39 m0 ≠ 0 := fun z => c (e39.mp z)
    obtain ⟨g1, g2⟩ := e40 c
    rw [if_pos c', if_neg c]
    unfold T_fault_25 T_fault_21
    by_cases c1 : l1 = 0
    · rw [if_neg (fun z => z c1), if_pos c1, if_neg (fun z => z c1), gd_pos km]
      exact ⟨_, rfl, by rw [← g1]; rfl⟩
    · rw [if_pos c1, if_neg c1]
      by_cases c2 : l1 = 1
      · rw [if_neg (fun z => z c2), if_pos c2, if_pos c1, gd_pos km]
        exact ⟨_, rfl, by rw [← g2]; rfl⟩
      · rw [if_pos c2, if_neg c2]
        exact ⟨-1, rfl, rfl⟩
