set_option maxRecDepth 100000
section LC3
variable {G : om_G} {A t : Nat} {N : List (List Int)} {S : List Int} {b m K : Nat} {nc p : Int} {i M : Nat} {h h' : om_H} {σ τ : tS} {rT : tS → Option (Int × tS)} {rC : Nat → om_H → Option ((Nat ⊕ Nat) × om_H)}
variable {ib Mb a L1 L2 hd nh mh a3 top : Nat} {σb : tS} {hb : om_H}
/-- the sign's value that the Tokens object holds -/
theorem Cst_v (H : Cst G h t S i nc) (c : 17 ≤ tokk S i) : (fI h 1144 t ≠ 256 → fI h 1144 t = sgv (tokk S i)) ∧ (fI h 1144 t = 256 → sgv (tokk S i) = 61) := by
  have a2 : tokk S i = 17 → fI h 1144 t = 256 := H.1.2.2.2.2.2.2.1
  have a3 : 18 ≤ tokk S i → fI h 1144 t = tokk S i := H.1.2.2.2.2.2.2.2.1
  have hr := (tokk_r S i).2
  by_cases d : tokk S i = 17
  · rw [a2 d]
    exact ⟨fun z => absurd rfl z, fun _ => by rw [d]; rfl⟩
  · rw [a3 (by omega)]
    unfold sgv
    rw [if_neg d]
    exact ⟨fun _ => rfl, fun z => by omega⟩
noncomputable def TLs (r : tS → Option (Int × tS)) (x : Int × tS) : Option (Int × tS) := (om_loop (T_sum_5s r) x).bind fun y2 => some (y2.1, y2.2)
noncomputable def CLs (G : om_G) (r : Nat → om_H → Option ((Nat ⊕ Nat) × om_H)) (t a : Nat) (x : om_H) : Option ((Nat ⊕ Nat) × om_H) := (om_loop (C_0_readSum_38s G r t a) x).bind (Sum.elim (fun v2 => some (.inr a, v2)) (fun v2 => some v2))
abbrev isPM (S : List Int) (i : Nat) : Prop := tokk S i = 43 ∨ tokk S i = 45
theorem TLs_F (H : Tfl σ N S b m p nc M) (x : Int) : TLs rT (x, σ) = some (x, σ) := by
  unfold TLs
  rw [om_loop_eq]
  unfold T_sum_5s
  rw [H.2.2.2.1, if_pos (by decide)]
  rfl
theorem TLs_end (H : Tst σ N S b m i nc M) (c : ¬ isPM S i) (x : Int) : TLs rT (x, σ) = some (x, σ) := by
  have c1 : tokk S i ≠ 43 := fun z => c (.inl z)
  have c2 : tokk S i ≠ 45 := fun z => c (.inr z)
  unfold TLs
  rw [om_loop_eq]
  unfold T_sum_5s
  rw [H.2.2.2.2.1, if_neg (by decide), t_is H, if_neg c1]
  simp only [Option.bind_some]
  rw [if_neg (by decide), t_is H, if_neg c2]
  rfl
theorem TLs_in (H : Tst σ N S b m i nc M) (c : isPM S i) (x : Int) : TLs rT (x, σ) = (T_product rT (us σ 432 ((b + (i + 1) : Nat) : Int))).bind fun p2 => (T_node 18 ((b + i : Nat) : Int) x p2.1 (-1) (-1) p2.2).bind fun p3 => TLs rT (p3.1, p3.2) := by
  have h4 := H.1.2.1
  have hi := H.2.2.1
  have e2 : us σ 432 (w32 (gs σ 432 + 1)) = us σ 432 ((b + (i + 1) : Nat) : Int) := by rw [H.2.1, w32_s (by omega) (by omega), show ((b + i : Nat) : Int) + 1 = ((b + (i + 1) : Nat) : Int) by omega]
  have e : T_sum_5s rT (x, σ) = T_sum_30 rT x σ := by
    unfold T_sum_5s
    simp only
    rw [H.2.2.2.2.1, if_neg (by decide), t_is H]
    simp only [Option.bind_some]
    by_cases c1 : tokk S i = 43
    · rw [if_pos (by rw [if_pos c1]; decide)]
    · rw [if_neg (by rw [if_neg c1]; decide), t_is H]
      simp only [Option.bind_some]
      rw [if_neg (by rw [if_pos (by rcases c with z | z; exact absurd z c1; exact z)]; decide)]
  unfold TLs
  rw [om_loop_eq, e]
  unfold T_sum_30
  rw [e2, H.2.1]
  simp only [Option.bind_assoc, Option.bind_some, Sum.elim_inl]
theorem CLs_end (hG : om_okG G) (H : Cst G h t S i nc) (c : ¬ isPM S i) (a : Nat) : CLs G rC t a h = some (.inr a, h) := by
  have c1 : tokk S i ≠ 43 := fun z => c (.inl z)
  have c2 : tokk S i ≠ 45 := fun z => c (.inr z)
  unfold CLs
  rw [om_loop_eq]
  unfold C_0_readSum_38s
  rw [gd_pos (Cst_kd H), c_isSign hG H (by omega), show sc 43 = 43 by decide, if_neg c1]
  simp only [Option.bind_some]
  rw [if_neg (by decide), gd_pos (Cst_kd H), c_isSign hG H (by omega), show sc 45 = 45 by decide, if_neg c2]
  rfl
theorem CLs_in (hG : om_okG G) (H : Cst G h t S i nc) (c : isPM S i) (a : Nat) {h1 : om_H} (e : C_14_advance G t h = some h1) : CLs G rC t a h = xc (C_0_readProduct G rC t h1) (fun t h => some (.inl t, h)) (fun w h2 => (C_0_link G t a w (fI h 1144 t) (tokq S i : Int) h2).bind fun p4 => CLs G rC t a p4) := by
  have e' : C_0_readSum_38s G rC t a h = C_0_readSum_56 G rC t a h := by
    unfold C_0_readSum_38s
    rw [gd_pos (Cst_kd H), c_isSign hG H (by omega), show sc 43 = 43 by decide]
    simp only [Option.bind_some]
    by_cases c1 : tokk S i = 43
    · rw [if_pos (by rw [if_pos c1]; decide)]
    · rw [if_neg (by rw [if_neg c1]; decide), gd_pos (Cst_kd H), c_isSign hG H (by omega), show sc 45 = 45 by decide]
      simp only [Option.bind_some]
      rw [if_neg (by rw [if_pos (by rcases c with z | z; exact absurd z c1; exact z)]; decide)]
  unfold CLs
  rw [om_loop_eq, e']
  unfold C_0_readSum_56
  rw [gd_pos (Cst_kd H), e, Cst_q H]
  simp only [xc_bind, gd_bind, Option.bind_assoc, Option.bind_some, Sum.elim_inl, Sum.elim_inr]
theorem sum_loop (hG : om_okG G) (hn : 0 ≤ nc ∧ nc ≤ 20) (R : RXall G A t N S b m K nc rT rC) (RF : RFall N S b m nc 1 rT) (ht : t < hz hb) (h84 : Mb + 3 * (m - ib) + 60 ≤ 8400) : ∀ (d i M : Nat) (σ : tS) (h : om_H) (top : Nat), m - i < d → At G A t N S b m i nc M σ h → lnk t ib Mb σb hb i M σ h → CC false G A S b (K + 3) (hz hb) Mb a L1 L2 hd nh mh a3 top M (hz h) σ h → CB ib Mb hb i M h L1 L2 → (ll h L1 ≠ [] ∨ isPM S i) → RO G A t N S b m ib nc Mb σb hb (PX G A S b (K + 4) ib Mb hb) (TLs rT ((top : Int), σ)) (CLs G rC t a h) := by
  intro d
  induction d with
  | zero =>
    intro i M σ h top hd'
    exact absurd hd' (Nat.not_lt_zero _)
  | succ d ih =>
    intro i M σ h top hd' H Q U B hne
    by_cases c : isPM S i
    · have c17 : 17 ≤ tokk S i := by rcases c with z | z <;> omega
      obtain ⟨e2, e3⟩ := Tst_at H.1 (by omega)
      obtain ⟨h1, f1, f2, f3⟩ := c_next H.2.1 (by omega)
      have z1 : hz h1 = hz h := f3.2.2.2.2.2.2.2.2.1
      have y1 : hu h1 = hu h := f3.2.2.2.2.2.2.2.2.2.1
      have l1 : ll h1 = ll h := f3.2.2.2.2.2.2.1
      have c1 : lc h1 = lc h := f3.2.2.2.2.2.2.2.1
      rw [TLs_in H.1 c, CLs_in hG H.2.1 c a f1]
      refine chain_step (fT := T_product rT) (fC := C_0_readProduct G rC) (product_rel hG hn R RF) (productF RF) ht h84 (At_onlyT H f3 f2 e2) (lnk_only Q f3 e3) (by rw [z1]; exact CC_hx U ht (hx_onlyT f3) e3) (by unfold CB; rw [z1, y1, l1, c1]; exact B) (by rcases c with z | z; exact .inr (.inr (.inl z)); exact .inr (.inr (.inr (.inl z)))) (Cst_v H.2.1 c17) (.inl ⟨rfl, by rcases c with z | z; exact ⟨43, .inr (.inl rfl), by rw [z]; rfl⟩; exact ⟨45, .inr (.inr rfl), by rw [z]; rfl⟩⟩) (fun p x τ M T => TLs_F T x) (fun j M' σ' h' top' q H' Q' U' B' n' => ih j M' σ' h' top' (by have := At_i H'; omega) H' Q' U' B' (.inl n'))
    · rw [TLs_end H.1 c, CLs_end hG H.2.1 c]
      refine chain_fin H Q U B ?_
      rcases hne with q | q
      · exact q
      · exact absurd q c
theorem sum_rel (hG : om_okG G) (hn : 0 ≤ nc ∧ nc ≤ 20) (R : RXall G A t N S b m K nc rT rC) (RF : RFall N S b m nc 1 rT) : RXall G A t N S b m (K + 4) nc (T_sum rT) (C_0_readSum G rC) := by
  intro i M σ h H h84
  have ht := At_t H
  have hi := At_i H
  show RO G A t N S b m i nc M σ h (PX G A S b (K + 4) i M h) ((T_product rT σ).bind fun p1 => TLs rT (p1.1, p1.2)) _
  unfold C_0_readSum
  refine RO_bind 0 lnk_refl (by omega) h84 hi (product_rel hG hn R RF i M σ h H h84) (fun j M' τ h' v w q1 H1 D1 X1 m1 P1 => ?_) (fun p v τ M' T1 T2 T3 T4 => by rw [TLs_F T1]; exact TF_end T1 T2)
  obtain ⟨nT, rfl, g2, W2, g3, g4, g5, g6⟩ := P1
  have hj := At_i H1
  by_cases c : isPM S j
  · have e : (gd (kd h' t = 15) ((C_14_isSign G t 43 h').bind fun p2 => if p2 ≠ 0 then C_0_readSum_25 G rC t w h' else gd (kd h' t = 15) ((C_14_isSign G t 45 h').bind fun p3 => if p3 ≠ 0 then C_0_readSum_25 G rC t w h' else some (.inr w, h')))) = C_0_readSum_25 G rC t w h' := by
      rw [gd_pos (At_kd H1), c_isSign hG H1.2.1 (by omega), show sc 43 = 43 by decide]
      simp only [Option.bind_some]
      by_cases c1 : tokk S j = 43
      · rw [if_pos (by rw [if_pos c1]; decide)]
      · rw [if_neg (by rw [if_neg c1]; decide), gd_pos (At_kd H1), c_isSign hG H1.2.1 (by omega), show sc 45 = 45 by decide]
        simp only [Option.bind_some]
        rw [if_pos (by rw [if_pos (by rcases c with z | z; exact absurd z c1; exact z)]; decide)]
    rw [e]
    unfold C_0_readSum_25
    obtain ⟨h1, h2, c1, c2, c3, c4, c5, c6, c7, c8, c9, c10, c11⟩ := chain_start (fl := false) ht H1 ⟨q1, D1, m1, X1, by omega, by omega⟩ W2 ⟨g2, g4, g5, g6⟩
    rw [gd_pos c2, c1]
    simp only [Option.bind_some]
    rw [gd_pos c3, ← c6]
    exact sum_loop hG hn R RF ht h84 (m - j + 1) j M' τ h2 nT (by omega) c7 c8 c9 c10 (.inr c)
  · have c1 : tokk S j ≠ 43 := fun z => c (.inl z)
    have c2 : tokk S j ≠ 45 := fun z => c (.inr z)
    rw [gd_pos (At_kd H1), c_isSign hG H1.2.1 (by omega), show sc 43 = 43 by decide, if_neg c1]
    simp only [Option.bind_some]
    rw [if_neg (by decide), gd_pos (At_kd H1), c_isSign hG H1.2.1 (by omega), show sc 45 = 45 by decide, if_neg c2]
    simp only [Option.bind_some]
    rw [if_neg (by decide), TLs_end H1.1 c]
    exact .inl ⟨j, M', τ, h', _, _, rfl, rfl, by omega, H1, D1, X1, by omega, nT, rfl, by omega, XR_more W2, by omega, by omega, by omega, by omega⟩
theorem sumF (RF : RFall N S b m nc 1 rT) : RFall N S b m nc 1 (T_sum rT) := by
  intro p M σ H hM
  obtain ⟨x, τ, M1, e1, e2, e3, e4, e5⟩ := productF RF p M σ H hM
  refine ⟨x, τ, M1, ?_, e2, e3, e4, e5⟩
  show ((T_product rT σ).bind fun p1 => TLs rT (p1.1, p1.2)) = _
  rw [e1]
  exact TLs_F e2 x
/-! comparisons -/
abbrev isCm (S : List Int) (i : Nat) : Prop := tokk S i = 60 ∨ tokk S i = 17
theorem cmp_T (H : Tst σ N S b m i nc M) (x : Int) : (if (gs σ 452) ≠ 0 then some (x, σ) else (T_is 60 σ).bind fun p2 => if p2 ≠ 0 then T_compare_32 rT x σ else (T_is 17 σ).bind fun p3 => if p3 ≠ 0 then T_compare_32 rT x σ else some (x, σ)) = if isCm S i then (T_sum rT (us σ 432 ((b + (i + 1) : Nat) : Int))).bind fun p2 => (T_node 18 ((b + i : Nat) : Int) x p2.1 (-1) (-1) p2.2).bind fun p3 => some (p3.1, p3.2) else some (x, σ) := by
  have h4 := H.1.2.1
  have hi := H.2.2.1
  have e2 : us σ 432 (w32 (gs σ 432 + 1)) = us σ 432 ((b + (i + 1) : Nat) : Int) := by rw [H.2.1, w32_s (by omega) (by omega), show ((b + i : Nat) : Int) + 1 = ((b + (i + 1) : Nat) : Int) by omega]
  rw [H.2.2.2.2.1, if_neg (by decide), t_is H, t_is H]
  simp only [Option.bind_some]
  have e3 : T_compare_32 rT x σ = (T_sum rT (us σ 432 ((b + (i + 1) : Nat) : Int))).bind fun p2 => (T_node 18 ((b + i : Nat) : Int) x p2.1 (-1) (-1) p2.2).bind fun p3 => some (p3.1, p3.2) := by
    unfold T_compare_32
    rw [e2, H.2.1]
  by_cases c1 : tokk S i = 60
  · rw [if_pos (by rw [if_pos c1]; decide), if_pos (.inl c1), e3]
  · rw [if_neg (by rw [if_neg c1]; decide)]
    by_cases c2 : tokk S i = 17
    · rw [if_pos (by rw [if_pos c2]; decide), if_pos (.inr c2), e3]
    · rw [if_neg (by rw [if_neg c2]; decide), if_neg (by rintro (z | z); exact c1 z; exact c2 z)]
theorem cmp_C (hG : om_okG G) (H : Cst G h t S i nc) (w : Nat) : gd (kd h t = 15) ((C_14_isSign G t 60 h).bind fun p2 => if p2 ≠ 0 then C_0_readCompare_26 G rC t w h else gd (kd h t = 15) ((C_14_isSign G t 256 h).bind fun p3 => if p3 ≠ 0 then C_0_readCompare_26 G rC t w h else some (.inr w, h))) = if isCm S i then C_0_readCompare_26 G rC t w h else some (.inr w, h) := by
  rw [gd_pos (Cst_kd H), c_isSign hG H (by omega), show sc 60 = 60 by decide, gd_pos (Cst_kd H), c_isSign hG H (by omega), show sc 256 = 17 by decide]
  simp only [Option.bind_some]
  by_cases c1 : tokk S i = 60
  · rw [if_pos (by rw [if_pos c1]; decide), if_pos (.inl c1)]
  · rw [if_neg (by rw [if_neg c1]; decide)]
    by_cases c2 : tokk S i = 17
    · rw [if_pos (by rw [if_pos c2]; decide), if_pos (.inr c2)]
    · rw [if_neg (by rw [if_neg c2]; decide), if_neg (by rintro (z | z); exact c1 z; exact c2 z)]
theorem compare_rel (hG : om_okG G) (hn : 0 ≤ nc ∧ nc ≤ 20) (R : RXall G A t N S b m K nc rT rC) (RF : RFall N S b m nc 1 rT) : RXall G A t N S b m (K + 5) nc (T_compare rT) (C_0_readCompare G rC) := by
  intro i M σ h H h84
  have ht := At_t H
  have hi := At_i H
  unfold T_compare C_0_readCompare
  refine RO_bind 0 lnk_refl (by omega) h84 hi (sum_rel hG hn R RF i M σ h H h84) (fun j M' τ h' v w q1 H1 D1 X1 m1 P1 => ?_) (fun p v τ M' T1 T2 T3 T4 => by rw [T1.2.2.2.1, if_pos (by decide)]; exact TF_end T1 T2)
  obtain ⟨nT, rfl, g2, W2, g3, g4, g5, g6⟩ := P1
  have hj := At_i H1
  rw [cmp_T H1.1, cmp_C hG H1.2.1]
  by_cases c : isCm S j
  · rw [if_pos c, if_pos c]
    have c17 : 17 ≤ tokk S j := by rcases c with z | z <;> omega
    unfold C_0_readCompare_26
    obtain ⟨h1, h2, c1, c2, c3, c4, c5, c6, c7, c8, c9, c10, c11⟩ := chain_start (fl := true) ht H1 ⟨q1, D1, m1, X1, by omega, by omega⟩ W2 ⟨g2, g4, g5, g6⟩
    rw [gd_pos c2, c1]
    simp only [Option.bind_some]
    rw [gd_pos ⟨c3, by rw [c5]; exact At_kd H1⟩, ← c6, c4, c4, Cst_q H1.2.1]
    obtain ⟨e2, e3⟩ := Tst_at c7.1 (by omega)
    obtain ⟨h3, f1, f2, f3⟩ := c_next c7.2.1 (by omega)
    rw [f1]
    simp only [Option.bind_some]
    have z1 : hz h3 = hz h2 := f3.2.2.2.2.2.2.2.2.1
    have y1 : hu h3 = hu h2 := f3.2.2.2.2.2.2.2.2.2.1
    have l1 : ll h3 = ll h2 := f3.2.2.2.2.2.2.1
    have c1 : lc h3 = lc h2 := f3.2.2.2.2.2.2.2.1
    exact chain_step (kT := fun p3 => some (p3.1, p3.2)) (kC := fun p4 => some (.inr (hz h'), p4)) (fT := T_sum rT) (fC := C_0_readSum G rC) (sum_rel hG hn R RF) (sumF RF) ht h84 (At_onlyT c7 f3 f2 e2) (lnk_only c8 f3 e3) (by rw [z1]; exact CC_hx c9 ht (hx_onlyT f3) e3) (by unfold CB; rw [z1, y1, l1, c1]; exact c10) (by rcases c with z | z; exact .inr (.inl z); exact .inl z) (Cst_v H1.2.1 c17) (.inr ⟨rfl, by rw [l1]; exact c11⟩) (fun p x τ M T => rfl) (fun j M' σ' h' top' q H' Q' U' B' n' => chain_fin H' Q' U' B' n')
  · rw [if_neg c, if_neg c]
    exact .inl ⟨j, M', τ, h', _, _, rfl, rfl, by omega, H1, D1, X1, by omega, nT, rfl, by omega, XR_more W2, by omega, by omega, by omega, by omega⟩
theorem compareF (RF : RFall N S b m nc 1 rT) : RFall N S b m nc 1 (T_compare rT) := by
  intro p M σ H hM
  obtain ⟨x, τ, M1, e1, e2, e3, e4, e5⟩ := sumF RF p M σ H hM
  refine ⟨x, τ, M1, ?_, e2, e3, e4, e5⟩
  unfold T_compare
  rw [e1]
  simp only [Option.bind_some]
  rw [e2.2.2.2.1, if_pos (by decide)]
end LC3
