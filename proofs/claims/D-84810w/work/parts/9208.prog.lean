set_option maxRecDepth 100000
section LPG
variable {G : om_G} {A t : Nat} {N : List (List Int)} {S : List Int} {b m i : Nat} {n : Int} {M : Nat} {σ τ υ : tS} {h h' h1 h2 : om_H} {c pr : Nat} {Z Z' : Nat → Prop}
variable {σ0 : tS} {M0 d0 : Nat} {h0 : om_H} {HZ HU : Nat}
theorem ndD_mono {M' d d' : Nat} (D : ndD σ τ M d) (h1 : M' ≤ M) (h2 : d' ≤ d) : ndD σ τ M' d' := ⟨D.1, fun f hf i hi => D.2.1 f hf i (by omega), fun f hf i hi => D.2.2 f hf i (by omega)⟩
theorem DS_trans {d j M' sz su sM sz' su' sM' : Nat} (Q : DS G t m Z pr σ0 M0 d0 h0 HZ HU sz su sM i M σ h) (hd : d0 ≤ d) (R : DS G t m Z pr σ M d h HZ HU sz' su' sM' j M' τ h') : DS G t m Z pr σ0 M0 d0 h0 HZ HU sz' su' sM' j M' τ h' := ⟨ndD_trans Q.1 (ndD_mono R.1 Q.2.1 hd), by have := Q.2.1; have := R.2.1; omega, hp_trans Q.2.2.1 R.2.2.1, R.2.2.2⟩
/-- one behind another, from the same state on -/
theorem RD_then {P1 P : Nat → Nat → tS → om_H → Unit → Prop} {X : Option tS} {Y : Option ((Nat ⊕ Unit) × om_H)} {F : tS → Option tS} {g : Unit → om_H → Option ((Nat ⊕ Unit) × om_H)} (R : RD G A t N S b m n Z pr σ0 M0 d0 h0 HZ HU (fun τ : tS => τ) P1 X Y)
    (ok : ∀ (j M' : Nat) (τ : tS) (h' : om_H), At G A t N S b m j n M' τ h' → P1 j M' τ h' () → RD G A t N S b m n Z pr σ0 M0 d0 h0 HZ HU (fun τ : tS => τ) P (F τ) (g () h'))
    (tf : ∀ (p : Int) (τ : tS) (M' : Nat), Tfl τ N S b m p n M' → ndD σ0 τ M0 d0 → TFv N S b m n σ0 M0 d0 p (F τ)) :
    RD G A t N S b m n Z pr σ0 M0 d0 h0 HZ HU (fun τ : tS => τ) P (X.bind F) (xc Y (fun t h => some (.inl t, h)) g) := by
  rcases R with ⟨j, M', r, h', w, q1, q2, q3, q4⟩ | ⟨jf, M', r, e, h', q1, q2, q3, q4, q5, q6, q7⟩
  · rw [q1, q2]
    exact ok j M' r h' q3 q4
  · rw [q1, q2]
    obtain ⟨r', M2, e1, e2, e3⟩ := tf _ r M' q4 q5
    exact .inr ⟨jf, M2, r', e, h', e1, rfl, q3, e2, e3, q6, q7⟩
/-- all that reading a program may write of the twin -/
def ndP (σ τ : tS) (M d : Nat) : Prop := fr PFD PAD σ τ ∧ (∀ f ∈ PA, ∀ i, i < M → ga τ f i = ga σ f i) ∧ ∀ f ∈ DA, ∀ i, i < d → ga τ f i = ga σ f i
theorem ndD_P {d : Nat} (D : ndD σ τ M d) : ndP σ τ M d := ⟨fr_mono D.1 (fun f hf => List.mem_cons_of_mem _ hf) (fun f hf => hf), D.2⟩
theorem ndP_trans {d M' d' : Nat} (D : ndP σ τ M d) (E : ndP τ υ M' d') (h1 : M ≤ M') (h2 : d ≤ d') : ndP σ υ M d := ⟨fr_trans D.1 E.1, fun f hf i hi => (E.2.1 f hf i (by omega)).trans (D.2.1 f hf i hi), fun f hf i hi => (E.2.2 f hf i (by omega)).trans (D.2.2 f hf i hi)⟩
/-- the twin's loop over declarations and its end -/
noncomputable def TPe (y : tS) : Option tS := if gs y 452 ≠ 0 then some y else (T_is 0 y).bind fun p1 => if p1 ≠ 0 then some y else (T_wrong y).bind fun p2 => some p2
noncomputable def TP (x : tS) : Option tS := (om_loop T_isProgram_90s x).bind fun y => TPe y
theorem TP_F {p : Int} (H : Tfl σ N S b m p n M) : TP σ = some σ := by
  have s : T_isProgram_90s σ = some (.inr σ) := by
    unfold T_isProgram_90s
    rw [if_pos (by rw [H.2.2.2.1]; decide)]
  unfold TP
  rw [om_loop_out s]
  show TPe σ = _
  unfold TPe
  rw [if_pos (by rw [H.2.2.2.1]; decide)]
theorem TP_in (H : Tst σ N S b m i n M) (c : tokk S i = 5 ∨ tokk S i = 6 ∨ tokk S i = 2) : TP σ = (T_decl σ).bind fun p => TP p := by
  have s : T_isProgram_90s σ = T_isProgram_122 σ := by
    unfold T_isProgram_90s
    rw [if_neg (by rw [H.2.2.2.2.1]; decide), t_is H, t_is H, t_is H]
    simp only [Option.bind_some]
    by_cases c5 : tokk S i = 5
    · rw [if_pos (by rw [if_pos c5]; decide)]
    · rw [if_neg (by rw [if_neg c5]; decide)]
      by_cases c6 : tokk S i = 6
      · rw [if_pos (by rw [if_pos c6]; decide)]
      · rw [if_neg (by rw [if_neg c6]; decide), if_neg (by rw [if_pos (by omega)]; decide)]
  unfold TP
  rw [om_loop_eq, s]
  unfold T_isProgram_122
  simp only [Option.bind_assoc, Option.bind_some, Sum.elim_inl]
theorem TP_out (H : Tst σ N S b m i n M) (c : ¬ (tokk S i = 5 ∨ tokk S i = 6 ∨ tokk S i = 2)) : TP σ = if tokk S i = 0 then some σ else (T_wrong σ).bind fun p2 => some p2 := by
  have s : T_isProgram_90s σ = some (.inr σ) := by
    unfold T_isProgram_90s
    rw [if_neg (by rw [H.2.2.2.2.1]; decide), t_is H, t_is H, t_is H]
    simp only [Option.bind_some]
    rw [if_neg (by rw [if_neg (by omega)]; decide), if_neg (by rw [if_neg (by omega)]; decide), if_pos (by rw [if_neg (by omega)])]
  unfold TP
  rw [om_loop_out s]
  show TPe σ = _
  unfold TPe
  rw [if_neg (by rw [H.2.2.2.2.1]; decide), t_is H]
  simp only [Option.bind_some]
  by_cases c0 : tokk S i = 0
  · rw [if_pos (by rw [if_pos c0]; decide), if_pos c0]
  · rw [if_neg (by rw [if_neg c0]; decide), if_neg c0]
/-- what is written for a declaration first -/
def dvl (k q : Int) : List (Nat × Int) := [(570, k), (574, q), (578, q), (582, -1), (586, -1), (590, 0), (594, -1), (598, 0), (602, -1), (606, -1), (610, -1), (614, -1), (618, -1), (622, -1)]
def dws (d : Nat) : List (Nat × Int) → tS → tS
  | [], σ => σ
  | p :: ps, σ => dws d ps (ua σ p.1 d p.2)
def dw (σ : tS) (d : Nat) (k q : Int) : tS := dws d (dvl k q) (us σ 624 ((d : Int) + 1))
theorem dws_st {d : Nat} : ∀ (ps : List (Nat × Int)) (σ : tS), (∀ p ∈ ps, p.1 ∈ DA) → Tst σ N S b m i n M → Tst (dws d ps σ) N S b m i n M ∧ ndD σ (dws d ps σ) M d ∧ ∀ f, gs (dws d ps σ) f = gs σ f
  | [], σ, _, H => ⟨H, ndD_refl _ _ _, fun _ => rfl⟩
  | p :: ps, σ, hp, H => by
    have h1 := hp p List.mem_cons_self
    obtain ⟨r1, r2, r3⟩ := dws_st ps (ua σ p.1 d p.2) (fun q hq => hp q (List.mem_cons_of_mem _ hq)) (Tst_ua H h1)
    exact ⟨r1, ndD_trans (ndD_ua (ndD_refl _ _ _) h1 (Nat.le_refl _)) r2, fun f => by rw [show dws d (p :: ps) σ = dws d ps (ua σ p.1 d p.2) from rfl, r3]; rfl⟩
theorem dws_no {d f : Nat} : ∀ (ps : List (Nat × Int)) (σ : tS), (∀ p ∈ ps, p.1 ≠ f) → ga (dws d ps σ) f d = ga σ f d
  | [], _, _ => rfl
  | p :: ps, σ, hp => by
    rw [show dws d (p :: ps) σ = dws d ps (ua σ p.1 d p.2) from rfl, dws_no ps _ (fun q hq => hp q (List.mem_cons_of_mem _ hq)), ga_ua, if_neg (fun z => hp p List.mem_cons_self z.1.symm)]
theorem dws_ga {d f : Nat} {v : Int} : ∀ (ps : List (Nat × Int)) (σ : tS), (f, v) ∈ ps → ps.Pairwise (fun p q => p.1 ≠ q.1) → ga (dws d ps σ) f d = v
  | p :: ps, σ, hm, hp => by
    rw [show dws d (p :: ps) σ = dws d ps (ua σ p.1 d p.2) from rfl]
    rcases List.mem_cons.mp hm with rfl | hm
    · rw [dws_no ps _ (fun q hq => fun z => (List.pairwise_cons.mp hp).1 q hq z.symm), ga_ua, if_pos ⟨rfl, rfl⟩]
    · exact dws_ga ps _ hm (List.pairwise_cons.mp hp).2
theorem dvl_pw (k q : Int) : (dvl k q).Pairwise (fun p q => p.1 ≠ q.1) := by
  unfold dvl
  simp
theorem dw_st {d : Nat} {k q : Int} (H : Tst σ N S b m i n M) : Tst (dw σ d k q) N S b m i n M ∧ ndP σ (dw σ d k q) M d ∧ gs (dw σ d k q) 624 = (d : Int) + 1 := by
  have T0 : Tst (us σ 624 ((d : Int) + 1)) N S b m i n M := by
    obtain ⟨T, ha, hi, hn, hf, hM⟩ := H
    exact ⟨TT_frD (fr_us (fr_refl _ _ _) (by simp)) T, by rw [gs_us, if_neg (by decide)]; exact ha, hi, by rw [gs_us, if_neg (by decide)]; exact hn, by rw [gs_us, if_neg (by decide)]; exact hf, by rw [gs_us, if_neg (by decide)]; exact hM⟩
  have D0 : ndP σ (us σ 624 ((d : Int) + 1)) M d := ⟨fr_us (fr_refl _ _ _) (by simp), fun _ _ _ _ => rfl, fun _ _ _ _ => rfl⟩
  have hA : ∀ p ∈ dvl k q, p.1 ∈ DA := by
    intro p hp
    simp only [dvl, List.mem_cons, List.not_mem_nil, or_false] at hp
    rcases hp with rfl | rfl | rfl | rfl | rfl | rfl | rfl | rfl | rfl | rfl | rfl | rfl | rfl | rfl <;> simp
  obtain ⟨r1, r2, r3⟩ := dws_st (d := d) (dvl k q) _ hA T0
  exact ⟨r1, ndP_trans D0 (ndD_P r2) (Nat.le_refl _) (Nat.le_refl _), by show gs (dws d (dvl k q) (us σ 624 ((d : Int) + 1))) 624 = _; rw [r3, gs_us, if_pos rfl]⟩
theorem dw_ga {d f : Nat} {k q v : Int} (hm : (f, v) ∈ dvl k q) : ga (dw σ d k q) f d = v := dws_ga (dvl k q) _ hm (dvl_pw k q)
theorem T_decl_eq {d : Nat} (H : Tst σ N S b m i n M) (hd : gs σ 624 = (d : Int)) (h7 : d < 700) : T_decl σ = (T_takes 5 (dw σ d (tokk S i) ((b + i : Nat) : Int))).bind fun p1 => if p1.1 = 0 then (T_takes 6 p1.2).bind fun p2 => if p2.1 = 0 then (T_aFunction (d : Int) p2.2).bind fun p3 => T_decl_165 p3 else (T_anInstance (d : Int) p2.2).bind fun p4 => T_decl_165 p4 else (T_aClass (d : Int) p1.2).bind fun p5 => T_decl_165 p5 := by
  have h4 := H.1.2.1
  have hi := H.2.2.1
  unfold T_decl T_decl_78
  rw [if_pos ⟨by rw [H.2.1]; omega, by rw [H.2.1]; omega, by omega, by omega⟩, hd, H.2.1, if_pos ⟨by omega, by omega⟩, show (((b + i : Nat) : Int)).toNat = b + i by omega, show ((d : Int)).toNat = d by omega, (H.1.1 i hi).1, w32_s (by omega) (by omega)]
  rfl
/-- the component's -/
noncomputable def CPr (G : om_G) (pr t : Nat) (x : om_H) : Option ((Nat ⊕ Unit) × om_H) := (om_loop (C_1_reads G pr t) x).bind (Sum.elim (fun v1 => some (.inr (), v1)) (fun v1 => some v1))
theorem CPr_0 (hG : om_okG G) (H : Cst G h t S i n) (c : tokk S i = 0) : CPr G pr t h = some (.inr (), h) := by
  have e0 := Cst_kind hG H (e := 0) (by decide)
  have s0 := kE_s (tokk_r S i).1 (e := 0) (by decide)
  unfold CPr
  rw [om_loop_eq]
  unfold C_1_reads
  rw [gd_pos (Cst_kd H), if_pos (e0.mpr (s0.mpr c))]
  rfl
noncomputable def CP59 (G : om_G) (t : Nat) (Y : Option ((Nat ⊕ Unit) × om_H)) : Option ((Nat ⊕ Unit) × om_H) := xc Y (fun t h => some (.inl t, h)) (fun _ h5 => gd (kd h5 t = 15) (xc (C_14_need_2 G t 59 h5) (fun t h => some (.inl t, h)) (fun _ h6 => some (.inr (), h6))))
noncomputable def CPs (G : om_G) (pr t : Nat) (Y : Option ((Nat ⊕ Unit) × om_H)) : Option ((Nat ⊕ Unit) × om_H) := xc (CP59 G t Y) (fun t h => some (.inl t, h)) (fun _ h6 => CPr G pr t h6)
theorem CPs_eq (Y : Option ((Nat ⊕ Unit) × om_H)) : xc Y (fun t h => some (.inl t, h)) (fun _ h5 => gd (kd h5 t = 15) (xc (C_14_need_2 G t 59 h5) (fun t h => some (.inl t, h)) (fun _ h6 => CPr G pr t h6))) = CPs G pr t Y := by
  unfold CPs CP59
  rcases Y with _ | ⟨e | v, g⟩
  · rfl
  · rfl
  · show gd (kd g t = 15) _ = xc (gd (kd g t = 15) _) _ _
    by_cases q : kd g t = 15
    · rw [gd_pos q, gd_pos q]
      rcases C_14_need_2 G t 59 g with _ | ⟨e | v, g'⟩ <;> rfl
    · have e : ∀ {α : Type} (x : Option α), gd (kd g t = 15) x = none := fun x => by unfold gd; rw [if_neg q]
      rw [e, e]; rfl
theorem CPr_5 (hG : om_okG G) (H : Cst G h t S i n) (c : tokk S i = 5) (e : C_14_passes G t 11 h = some (1, h1)) (k : kd h1 pr = 2) : CPr G pr t h = CPs G pr t (C_1_readClass G pr t (tokq S i : Int) h1) := by
  have e0 := Cst_kind hG H (e := 0) (by decide)
  have s0 := kE_s (tokk_r S i).1 (e := 0) (by decide)
  rw [← CPs_eq]
  unfold CPr
  rw [om_loop_eq]
  unfold C_1_reads C_1_read_56
  rw [gd_pos (Cst_kd H), if_neg (fun z => by have := s0.mp (e0.mp z); omega), gd_pos (Cst_kd H), e, Cst_q H]
  simp only [Option.bind_some]
  rw [if_neg (by decide), gd_pos k]
  simp only [xc_bind, gd_bind, Option.bind_some, Sum.elim_inl, Sum.elim_inr]
theorem CPr_6 (hG : om_okG G) (H : Cst G h t S i n) (c : tokk S i = 6) (e : C_14_passes G t 11 h = some (0, h)) (e' : C_14_passes G t 13 h = some (1, h1)) (k : kd h1 pr = 2) : CPr G pr t h = CPs G pr t (C_1_readInstance G pr t (tokq S i : Int) h1) := by
  have e0 := Cst_kind hG H (e := 0) (by decide)
  have s0 := kE_s (tokk_r S i).1 (e := 0) (by decide)
  rw [← CPs_eq]
  unfold CPr
  rw [om_loop_eq]
  unfold C_1_reads C_1_read_56
  rw [gd_pos (Cst_kd H), if_neg (fun z => by have := s0.mp (e0.mp z); omega), gd_pos (Cst_kd H), e, Cst_q H]
  simp only [Option.bind_some]
  rw [if_pos trivial, gd_pos (Cst_kd H), e']
  simp only [Option.bind_some]
  rw [if_neg (by decide), gd_pos k]
  simp only [xc_bind, gd_bind, Option.bind_some, Sum.elim_inl, Sum.elim_inr]
theorem CPr_f (hG : om_okG G) (H : Cst G h t S i n) (c : tokk S i ≠ 0) (e : C_14_passes G t 11 h = some (0, h)) (e' : C_14_passes G t 13 h = some (0, h)) (k : kd h pr = 2) : CPr G pr t h = CPs G pr t (C_1_readFunction G pr t h) := by
  have e0 := Cst_kind hG H (e := 0) (by decide)
  have s0 := kE_s (tokk_r S i).1 (e := 0) (by decide)
  rw [← CPs_eq]
  unfold CPr
  rw [om_loop_eq]
  unfold C_1_reads C_1_read_56
  rw [gd_pos (Cst_kd H), if_neg (fun z => by have := s0.mp (e0.mp z); omega), gd_pos (Cst_kd H), e]
  simp only [Option.bind_some]
  rw [if_pos trivial, gd_pos (Cst_kd H), e']
  simp only [Option.bind_some]
  rw [if_pos trivial, gd_pos k]
  simp only [xc_bind, gd_bind, Option.bind_some, Sum.elim_inl, Sum.elim_inr]
end LPG
