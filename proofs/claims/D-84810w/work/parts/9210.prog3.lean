set_option maxRecDepth 100000
/-- the outcome of reading a program -/
def RP (G : om_G) (A t : Nat) (N : List (List Int)) (S : List Int) (b m : Nat) (Z : Nat → Prop) (pr : Nat) (σ0 : tS) (h0 : om_H) (HZ HU : Nat) (X : Option tS) (Y : Option ((Nat ⊕ Unit) × om_H)) : Prop :=
  (∃ j M' τ h' qs, X = some τ ∧ Y = some (.inr (), h') ∧ At G A t N S b m j 0 M' τ h' ∧ tokk S j = 0 ∧ PB G A t S b m Z pr σ0 h0 HZ HU j M' τ h' qs) ∨
  (∃ jf M' τ e h', X = some τ ∧ Y = some (.inl e, h') ∧ jf ≤ m ∧ Tfl τ N S b m (tokq S jf) 0 M' ∧ ndP σ0 τ 0 0 ∧ FH G t Z pr h0 HZ HU h' ∧ flt h' e 1 (tokq S jf))
section LPG3
variable {G : om_G} {A t : Nat} {N : List (List Int)} {S : List Int} {b m i : Nat} {M : Nat} {σ τ υ : tS} {h h' h1 h2 : om_H} {c pr : Nat} {Z Z' : Nat → Prop}
variable {σ0 : tS} {h0 : om_H} {HZ HU : Nat}
theorem prgL_app {q : dcl} : ∀ {qs : List dcl} {Lf : Nat → List Nat}, prgL h (qs ++ [q]) Lf = dclLf h (prgL h qs Lf) q
  | [], _ => rfl
  | p :: qs, Lf => prgL_app (qs := qs) (Lf := dclLf h Lf p)
/-- PROGRAMS ARE READ ALIKE -/
theorem prog_loop (hG : om_okG G) (hN : ∃ N', N = [110, 105, 108] :: [99, 111, 110, 115] :: N') (ht : t < hz h0) (hZ : ∀ a, Z a → a < hz h0) (hpr : pr < hz h0) (hm : m ≤ 1300) : ∀ (dd i M : Nat) (σ : tS) (h : om_H) (qs : List dcl), m - i < dd → At G A t N S b m i 0 M σ h → PB G A t S b m Z pr σ0 h0 HZ HU i M σ h qs → RP G A t N S b m Z pr σ0 h0 HZ HU (TP σ) (CPr G pr t h) := by
  intro dd
  induction dd with
  | zero =>
    intro i M σ h qs hd'
    exact absurd hd' (Nat.not_lt_zero _)
  | succ dd ih =>
    intro i M σ h qs hd' H B
    have hi := At_i H
    have htz := At_t H
    by_cases ck : tokk S i = 5 ∨ tokk S i = 6 ∨ tokk S i = 2
    · obtain ⟨Y, k, ⟨ek, e1⟩, R⟩ := decl_rel hG hN hZ hpr hm H B ck
      obtain ⟨T1, D1, G1⟩ := dw_st (d := qs.length) (k := tokk S i) (q := ((b + i : Nat) : Int)) H.1
      rw [TP_in H.1 ck, e1]
      obtain ⟨B1, B2, B3, B4, B5, B6, B7, B8, B9⟩ := B
      rcases R with ⟨j, M', r, h', w, q1, q2, q3, q4⟩ | ⟨jf, M', r, e, h', q1, q2, q3, q4, q5, q6, q7⟩
      · rw [q1, q2]
        obtain ⟨p1, p2, p3, p4, p5, p6, ⟨a, p7, p8⟩, p9, p10⟩ := q4
        have hj := At_i q3
        have Dr := ndP_trans D1 (ndD_P p2) (Nat.le_refl _) (Nat.le_refl _)
        have z0 := B2.1
        have s1 : ∀ x, hz h0 ≤ x → x < hz h → sameA x h h' := fun x q r => hp_same p4 r (by omega) (fun z => by have := hZ x z; omega)
        obtain ⟨pk1, pk2⟩ := prows_keep B7 s1 (fun f hf x hx => Dr.2.1 f hf x hx) (fun f hf x hx => Dr.2.2 f hf x (by omega))
        have eL : prgL h' qs (fun _ => []) = prgL h qs (fun _ => []) := pk2
        refine ih j M' r h' (qs ++ [(k, a, i)]) (by omega) q3 ⟨ndP_trans B1 Dr (by omega) (by omega), hp_trans B2 p4, p5, p6, ?_, ⟨by rw [List.length_append]; simp; omega, List.pairwise_append.mpr ⟨B6.2.1, List.pairwise_singleton _ _, fun q hq q' hq' => by rw [List.mem_singleton.mp hq']; exact B6.2.2 q hq⟩, fun q hq => by
          rcases List.mem_append.mp hq with hq | hq
          · have := B6.2.2 q hq
            omega
          · rw [List.mem_singleton.mp hq]; show i < j; omega⟩, ?_, ?_, p9⟩
        · rw [p2.1.1 624 (by simp), G1, List.length_append]; simp
        · have iv := iw_decl (M := M) (d := qs.length) B5 H.1.2.2.2.2.2 q1
          have e432 : gs σ 432 = ((b + i : Nat) : Int) := H.1.2.1
          have e564 : gs r 564 = (M' : Int) := q3.1.2.2.2.2.2
          rw [e432] at iv
          exact prows_app pk1 (by have := p4.1; omega) ⟨p3, by rw [Nat.zero_add]; exact ⟨iv.1.2 (by omega), fun x c d => iv.2.2 x c (by rw [e564]; omega)⟩, by rw [Nat.zero_add]; exact p10, ek⟩ (by rw [eL, Nat.zero_add]; exact p7)
        · rw [prgL_app, eL]; exact p8
      · rw [q1, q2]
        simp only [Option.bind_some, xc_t]
        rw [TP_F q4]
        exact .inr ⟨jf, M', r, e, h', rfl, rfl, q3, q4, ndP_trans B1 (ndP_trans D1 (ndD_P q5) (Nat.le_refl _) (Nat.le_refl _)) (by omega) (by omega), ⟨hp_trans B2 q6.1, q6.2⟩, q7⟩
    · rw [TP_out H.1 ck]
      by_cases c0 : tokk S i = 0
      · rw [if_pos c0, CPr_0 hG H.2.1 c0]
        exact .inl ⟨i, M, σ, h, qs, rfl, rfl, H, c0, B⟩
      · rw [if_neg c0]
        obtain ⟨B1, B2, B3, B4, B5, B6, B7, B8, B9⟩ := B
        obtain ⟨ca1, ca2⟩ := c_passes hG H.2.1 (j := 11) (kk := 5) (bs := [99, 108, 97, 115, 115]) (by rfl) (by decide)
        obtain ⟨cb1, cb2⟩ := c_passes hG H.2.1 (j := 13) (kk := 6) (bs := [105, 110, 115, 116, 97, 110, 99, 101]) (by rfl) (by decide)
        rw [CPr_f hG H.2.1 c0 (ca2 (by omega)) (cb2 (by omega)) B3.1.1]
        obtain ⟨τ2, u1, u2, u3⟩ := t_wrong H.1
        have Hn := At_nO H 33 7
        obtain ⟨e, h2, v1, v2, v3, v4, v5⟩ := (c_need hG Hn.2.1 (e := 2) (by omega)).2 (by omega)
        have eC : C_1_readFunction G pr t h = some (.inl e, h2) := by
          unfold C_1_readFunction
          rw [gd_pos (At_kd Hn), v1]
          rfl
        rw [u1, eC]
        have zn : hz (nO h 33 7) = hz h + 1 := rfl
        have yn : hu (nO h 33 7) = hu h + 7 := rfl
        have X := hx_trans (hx_nO (t := t) h 33 7) v2
        obtain ⟨P2, L2⟩ := PL_hx B3 X
        obtain ⟨R1, R2, R3⟩ := B4
        exact .inr ⟨i, M, τ2, e, h2, rfl, rfl, hi, u2, ndP_trans B1 (ndD_P (nd_ndD (d := 0) u3 (Nat.zero_le _))) (Nat.le_refl _) (Nat.le_refl _), ⟨hp_trans B2 (hx_hp X), P2, by omega, by rw [L2]; omega⟩, v3⟩
end LPG3
