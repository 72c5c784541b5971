set_option maxRecDepth 100000
/-- an instance that is just made -/
def insO (h : om_H) (f s Lh Ll cn con fam fw : Nat) (pl nb : Int) : Prop := (kd h f = 21 ∧ fI h 1276 f = pl ∧ fI h 1280 f = nb ∧ fR h 1286 f = s ∧ fR h 1290 f = cn ∧ fR h 1294 f = con ∧ fR h 1298 f = fam ∧ fR h 1310 f = fw ∧ fR h 1322 f = Lh ∧ fR h 1326 f = Ll) ∧ (fR h 1302 f = 0 ∧ fI h 1304 f = 0 ∧ fR h 1314 f = 0 ∧ fR h 1318 f = 0 ∧ fR h 1330 f = 0 ∧ fR h 1334 f = 0)
section LI0
variable {G : om_G} {A t : Nat} {N : List (List Int)} {S : List Int} {b m i : Nat} {M : Nat} {σ τ : tS} {h h' h1 h2 : om_H} {c pr : Nat} {Z Z' : Nat → Prop}
theorem insO_keep {f s Lh Ll cn con fam fw : Nat} {pl nb : Int} (O : insO h f s Lh Ll cn con fam fw pl nb) (X : sameA f h h') : insO h' f s Lh Ll cn con fam fw pl nb := by
  obtain ⟨x1, x2, x3, x4, x5, x6, x7⟩ := X
  unfold insO
  rw [x1, x2, x2, x2, x3, x3, x3, x3, x3, x3, x3, x3, x3, x3, x3, x3]
  exact O
/-- a list of one's own is made for a field -/
theorem field_L {f g : Nat} (hf : f < hz h) (hk : kd h f = c) : kd (nO h 41 3) (hz h) = 41 ∧ P_J2_init G (hz h) (nO h 41 3) = some (mkL h 0 0 0) ∧ kd (mkL h 0 0 0) f = c ∧ hx f h (sR (mkL h 0 0 0) g f (hz h)) ∧ okV G (sR (mkL h 0 0 0) g f (hz h)) (hz h) ∧ ll (sR (mkL h 0 0 0) g f (hz h)) (hz h) = [] ∧ lc (sR (mkL h 0 0 0) g f (hz h)) (hz h) = 0 ∧ (∀ k, fI (sR (mkL h 0 0 0) g f (hz h)) k f = fI h k f) ∧ fR (sR (mkL h 0 0 0) g f (hz h)) g f = hz h ∧ (∀ k, k ≠ g → fR (sR (mkL h 0 0 0) g f (hz h)) k f = fR h k f) ∧ hz (sR (mkL h 0 0 0) g f (hz h)) = hz h + 1 ∧ hu (sR (mkL h 0 0 0) g f (hz h)) = hu h + 3 := by
  obtain ⟨q1, q2⟩ := new_L G h
  refine ⟨q1, q2, by rw [mkL_kd, if_neg (by omega)]; exact hk, ?_, okV_sR (mkL_ok (by omega)), ?_, ?_, fun k => by rw [fI_sR, mkL_fI hf], fR_eq, fun k q => by rw [fR_ne q, mkL_fR hf], rfl, rfl⟩
  · have X := mkL_hx (g := h) (c := 0) (n := 0) (u := 0) f
    exact ⟨X.1, X.2.1, X.2.2.1, X.2.2.2.1, fun f a q r => by rw [fR_na r]; exact X.2.2.2.2.1 f a q r, X.2.2.2.2.2.1, X.2.2.2.2.2.2.1, X.2.2.2.2.2.2.2.1, X.2.2.2.2.2.2.2.2.1, X.2.2.2.2.2.2.2.2.2⟩
  · show ll (mkL h 0 0 0) (hz h) = []; rw [mkL_ll, if_pos rfl]
  · show lc (mkL h 0 0 0) (hz h) = 0; rw [mkL_lc, if_pos rfl]
theorem inst_new {f : Nat} {pl : Int} (hf : f < hz h) (hk : kd h f = 21) (zI : ∀ g, fI h g f = 0) (zR : ∀ g, fR h g f = 0) : ∃ h', C_20_init G f pl h = some h' ∧ hx f h h' ∧ insO h' f (hz h) (hz h + 3) (hz h + 4) 0 0 0 0 pl 0 ∧ scpO h' (hz h) (hz h + 1) (hz h + 2) ∧ (∀ k, k < 4 → okV G h' (hz h + 1 + k) ∧ ll h' (hz h + 1 + k) = [] ∧ lc h' (hz h + 1 + k) = 0) ∧ hz h' = hz h + 5 ∧ hu h' = hu h + 14 := by
  have kS : kd (nO h 5 2) (hz h) = 5 := by rw [kd_nO, if_pos rfl]
  have zS : hz (nO h 5 2) = hz h + 1 := rfl
  have yS : hu (nO h 5 2) = hu h + 2 := rfl
  have XS := hx_nO (t := f) h 5 2
  have fS : kd (nO h 5 2) f = kd h f ∧ (∀ g, fI (nO h 5 2) g f = fI h g f) ∧ ∀ g, fR (nO h 5 2) g f = fR h g f := ⟨by rw [kd_nO, if_neg (by omega)], fun g => by rw [fI_nO, if_neg (by omega)], fun g => by rw [fR_nO, if_neg (by omega)]⟩
  obtain ⟨h3, a1, a2, a3, a4, a5, a6, a7, a8, a9, a10, a11⟩ := scope_new (G := G) (h := nO h 5 2) (s := hz h) (by omega) kS
  have sf := hx_same a2 (a := f) (by omega) (by omega)
  have kf3 : kd h3 f = 21 := by rw [sf.1, fS.1]; exact hk
  have X3 : hx f h h3 := by
    have X : hp (fun _ => False) f h h3 := hp_hpO (hx_hp XS) (hx_hp (Z := fun _ => False) a2) (by omega) (fun a z => .inl z)
    obtain ⟨c0, c1, c2, c3, c4, c5, c6, c7, c8, c9⟩ := X
    exact ⟨c0, c1, c2, c3, c4, c5, c6, c7, fun a q => c8 a q (fun z => z), fun a q => c9 a q (fun z => z)⟩
  have I3 : ∀ g, fI h3 g f = 0 := fun g => by rw [sf.2.1, fS.2.1]; exact zI g
  have R3 : ∀ g, fR h3 g f = 0 := fun g => by rw [sf.2.2.1, fS.2.2]; exact zR g
  rw [zS] at a4 a5 a6 a7 a8 a9 a10
  unfold C_20_init
  rw [gd_pos ⟨hk, kS⟩, a1]
  simp only [Option.bind_some]
  clear a1 sf XS fS kS
  -- the scope's field
  have X4 : hx f h (sR h3 1286 f (hz h)) := ⟨X3.1, X3.2.1, X3.2.2.1, X3.2.2.2.1, fun g a q r => by rw [fR_na r]; exact X3.2.2.2.2.1 g a q r, X3.2.2.2.2.2.1, X3.2.2.2.2.2.2.1, X3.2.2.2.2.2.2.2.1, X3.2.2.2.2.2.2.2.2.1, X3.2.2.2.2.2.2.2.2.2⟩
  have I4 : ∀ g, fI (sR h3 1286 f (hz h)) g f = 0 := I3
  have R4 : fR (sR h3 1286 f (hz h)) 1286 f = hz h ∧ ∀ g, g ≠ 1286 → fR (sR h3 1286 f (hz h)) g f = 0 := ⟨fR_eq, fun g q => by rw [fR_ne q]; exact R3 g⟩
  have s4 : scpO (sR h3 1286 f (hz h)) (hz h) (hz h + 1) (hz h + 2) := by
    unfold scpO
    rw [fR_na (by omega), fR_na (by omega)]; exact a3
  have o4 : okV G (sR h3 1286 f (hz h)) (hz h + 1) ∧ okV G (sR h3 1286 f (hz h)) (hz h + 2) := ⟨okV_sR a4, okV_sR a5⟩
  have l4 : (ll (sR h3 1286 f (hz h)) (hz h + 1) = [] ∧ lc (sR h3 1286 f (hz h)) (hz h + 1) = 0) ∧ (ll (sR h3 1286 f (hz h)) (hz h + 2) = [] ∧ lc (sR h3 1286 f (hz h)) (hz h + 2) = 0) := ⟨⟨a6, a8⟩, ⟨a7, a9⟩⟩
  have z4 : hz (sR h3 1286 f (hz h)) = hz h + 3 := by show hz h3 = _; omega
  have y4 : hu (sR h3 1286 f (hz h)) = hu h + 8 := by show hu h3 = _; omega
  have k4 : kd (sR h3 1286 f (hz h)) f = 21 := kf3
  have e41 : kd (nO h3 41 3) (hz (sR h3 1286 f (hz h))) = 41 := by show kd (nO h3 41 3) (hz h3) = 41; rw [kd_nO, if_pos rfl]
  rw [gd_pos ⟨kf3, e41⟩]
  generalize sR h3 1286 f (hz h) = h4 at *
  clear e41 X3 I3 R3 a2 a3 a4 a5 a6 a7 a8 a9 a10 a11 kf3
  obtain ⟨b1, b2, b3, b4, b5, b6, b7, b8, b9, b10, b11, b12⟩ := field_L (G := G) (g := 1322) (show f < hz h4 by omega) k4
  rw [b2]
  simp only [Option.bind_some]
  have e42 : kd (nO (mkL h4 0 0 0) 41 3) (hz (sR (mkL h4 0 0 0) 1322 f (hz h4))) = 41 := by show kd (nO (mkL h4 0 0 0) 41 3) (hz (mkL h4 0 0 0)) = 41; rw [kd_nO, if_pos rfl]
  rw [gd_pos ⟨b3, e42⟩]
  have k5 : kd (sR (mkL h4 0 0 0) 1322 f (hz h4)) f = 21 := b3
  generalize sR (mkL h4 0 0 0) 1322 f (hz h4) = h5 at *
  clear e42 b1 b2 b3
  obtain ⟨d1, d2, d3, d4, d5, d6, d7, d8, d9, d10, d11, d12⟩ := field_L (G := G) (g := 1326) (show f < hz h5 by omega) k5
  rw [d2]
  simp only [Option.bind_some]
  rw [gd_pos ⟨d3, d3⟩]
  have k6 : kd (sR (mkL h5 0 0 0) 1326 f (hz h5)) f = 21 := d3
  generalize sR (mkL h5 0 0 0) 1326 f (hz h5) = h6 at *
  clear d1 d2 d3
  have X6 := hx_trans (hx_trans X4 b4) d4
  have X7 : hx f h (sI h6 1276 f pl) := ⟨X6.1, X6.2.1, X6.2.2.1, fun g a q r => by rw [fI_na r]; exact X6.2.2.2.1 g a q r, X6.2.2.2.2.1, X6.2.2.2.2.2.1, X6.2.2.2.2.2.2.1, X6.2.2.2.2.2.2.2.1, X6.2.2.2.2.2.2.2.2.1, X6.2.2.2.2.2.2.2.2.2⟩
  have R6 : ∀ g, g ≠ 1286 → g ≠ 1322 → g ≠ 1326 → fR h6 g f = 0 := fun g c1 c2 c3 => by rw [d10 g c3, b10 g c2]; exact R4.2 g c1
  have I6 : ∀ g, fI h6 g f = 0 := fun g => by rw [d8, b8]; exact I4 g
  have X56 := hx_trans b4 d4
  have sl : ∀ a, a < hz h4 → a ≠ f → sameA a h4 h6 := fun a q r => hx_same X56 q r
  refine ⟨sI h6 1276 f pl, rfl, X7, ⟨⟨k6, fI_eq, by rw [fI_ne (by decide)]; exact I6 _, ?_, R6 _ (by decide) (by decide) (by decide), R6 _ (by decide) (by decide) (by decide), R6 _ (by decide) (by decide) (by decide), R6 _ (by decide) (by decide) (by decide), ?_, ?_⟩, R6 _ (by decide) (by decide) (by decide), by rw [fI_ne (by decide)]; exact I6 _, R6 _ (by decide) (by decide) (by decide), R6 _ (by decide) (by decide) (by decide), R6 _ (by decide) (by decide) (by decide), R6 _ (by decide) (by decide) (by decide)⟩, ?_, fun k hk => ?_, by rw [hz_sI]; omega, by rw [hu_sI]; omega⟩
  · show fR h6 1286 f = hz h; rw [d10 _ (by decide), b10 _ (by decide)]; exact R4.1
  · show fR h6 1322 f = hz h + 3; rw [d10 _ (by decide), b9]; exact z4
  · show fR h6 1326 f = hz h + 4; rw [d9]; omega
  · have e := scpO_keep s4 (sl (hz h) (by omega) (by omega))
    exact ⟨e.1, e.2.1, e.2.2⟩
  · rcases (show k = 0 ∨ k = 1 ∨ k = 2 ∨ k = 3 by omega) with rfl | rfl | rfl | rfl
    · have s := sl (hz h + 1) (by omega) (by omega)
      exact ⟨okV_sI (okV_hx o4.1 X56), by show ll h6 (hz h + 1) = []; rw [s.2.2.2.2.2.1]; exact l4.1.1, by show lc h6 (hz h + 1) = 0; rw [s.2.2.2.2.2.2]; exact l4.1.2⟩
    · have s := sl (hz h + 2) (by omega) (by omega)
      exact ⟨okV_sI (okV_hx o4.2 X56), by show ll h6 (hz h + 2) = []; rw [s.2.2.2.2.2.1]; exact l4.2.1, by show lc h6 (hz h + 2) = 0; rw [s.2.2.2.2.2.2]; exact l4.2.2⟩
    · have s := hx_same d4 (a := hz h4) (by omega) (by omega)
      rw [show hz h + 1 + 2 = hz h4 by omega]
      exact ⟨okV_sI (okV_hx b5 d4), by show ll h6 (hz h4) = []; rw [s.2.2.2.2.2.1]; exact b6, by show lc h6 (hz h4) = 0; rw [s.2.2.2.2.2.2]; exact b7⟩
    · rw [show hz h + 1 + 3 = hz h5 by omega]
      exact ⟨okV_sI d5, d6, d7⟩
/-- it is made and put into the program's list -/
theorem inst_put {f : Nat} {pl : Int} {Lf : Nat → List Nat} (P : PL G h pr t Z) (C : PC h pr Lf) (hf : f < hz h ∧ kd h f = 21 ∧ f ≠ pr) (zI : ∀ g, fI h g f = 0) (zR : ∀ g, fR h g f = 0) (hZ : ∀ a, Z a → a < f) (hl : ∀ g ∈ PFs, (Lf g).length ≤ 30000) :
    ∃ h6, (∀ (K : om_H → Option ((Nat ⊕ Unit) × om_H)), (C_20_init G f pl h).bind (fun p1 => gd (kd p1 pr = 2 ∧ kd p1 (fR p1 86 pr) = 42) ((P_J2_size G (fR p1 86 pr) p1).bind fun p2 => gd (kd p1 f = 21 ∧ kd p1 pr = 2 ∧ kd p1 (fR p1 86 pr) = 42) ((P_J2_add G (fR p1 86 pr) f (sI p1 1280 f p2)).bind fun p3 => K p3.2))) = K h6) ∧
      hp Z f h h6 ∧ insO h6 f (hz h) (hz h + 3) (hz h + 4) 0 0 0 0 pl ((Lf 86).length : Int) ∧ scpO h6 (hz h) (hz h + 1) (hz h + 2) ∧ (∀ k, k < 4 → okV G h6 (hz h + 1 + k) ∧ ll h6 (hz h + 1 + k) = [] ∧ lc h6 (hz h + 1 + k) = 0) ∧ PL G h6 pr t Z ∧ PC h6 pr (updL Lf 86 f) ∧ hz h6 ≤ hz h + 6 ∧ hz h + 5 ≤ hz h6 ∧ hu h6 + 4 * lcs h pr ≤ hu h + 14 + 4 * lcs h6 pr := by
  obtain ⟨h3, a1, a2, a3, a4, a5, a6, a7⟩ := inst_new (G := G) (pl := pl) hf.1 hf.2.1 zI zR
  obtain ⟨P3, L3⟩ := PL_hxO P a2 hf.2.2
  have p3 : ∀ g, fR h3 g pr = fR h g pr := fun g => a2.2.2.2.2.1 g pr P.1.2.1 (Ne.symm hf.2.2)
  have C3 : PC h3 pr Lf := fun g hg => by rw [p3, a2.2.2.2.2.2.2.2.2.1 _ (P.2.1 g hg).1.1]; exact C g hg
  have g3 : kd h3 pr = 2 ∧ kd h3 (fR h3 86 pr) = 42 := ⟨P3.1.1, (P3.2.1 86 (by simp)).1.2.1⟩
  have sz : P_J2_size G (fR h3 86 pr) h3 = some ((Lf 86).length : Int) := by rw [size_eq g3.2, C3 86 (by simp)]
  simp only [a1, Option.bind_some]
  simp only [gd_pos g3]
  simp only [sz, Option.bind_some]
  simp only [gd_pos (show kd h3 f = 21 ∧ kd h3 pr = 2 ∧ kd h3 (fR h3 86 pr) = 42 from ⟨a3.1.1, g3⟩)]
  obtain ⟨P4, L4⟩ := PL_sI (f := 1280) (a := f) (x := ((Lf 86).length : Int)) P3
  have C4 : PC (sI h3 1280 f ((Lf 86).length : Int)) pr Lf := C3
  have e86 : fR h3 86 pr = fR (sI h3 1280 f ((Lf 86).length : Int)) 86 pr := rfl
  have F4 : hp Z f h (sI h3 1280 f ((Lf 86).length : Int)) := hp_trans (hx_hp a2) (hp_sIx h3)
  have i4 : insO (sI h3 1280 f ((Lf 86).length : Int)) f (hz h) (hz h + 3) (hz h + 4) 0 0 0 0 pl ((Lf 86).length : Int) := by
    obtain ⟨⟨b1, b2, b3, b4⟩, b5, b6, b7⟩ := a3
    exact ⟨⟨b1, by rw [fI_ne (by decide)]; exact b2, fI_eq, b4⟩, b5, by rw [fI_ne (by decide)]; exact b6, b7⟩
  have s4 : scpO (sI h3 1280 f ((Lf 86).length : Int)) (hz h) (hz h + 1) (hz h + 2) := a4
  have o4 : ∀ k, k < 4 → okV G (sI h3 1280 f ((Lf 86).length : Int)) (hz h + 1 + k) ∧ ll (sI h3 1280 f ((Lf 86).length : Int)) (hz h + 1 + k) = [] ∧ lc (sI h3 1280 f ((Lf 86).length : Int)) (hz h + 1 + k) = 0 := fun k hk => ⟨okV_sI (a5 k hk).1, (a5 k hk).2.1, (a5 k hk).2.2⟩
  have z4 : hz (sI h3 1280 f ((Lf 86).length : Int)) = hz h + 5 := a6
  have y4 : hu (sI h3 1280 f ((Lf 86).length : Int)) = hu h + 14 := a7
  rw [e86]
  generalize sI h3 1280 f ((Lf 86).length : Int) = h4 at *
  have h86 := hl 86 (by simp)
  have kf4 : kd h4 f = 21 := i4.1.1
  obtain ⟨h6, b1, b2, b3, b4, b5, b6, b7, b8, b9⟩ := PL_addC (f := 86) (x := f) P4 C4 (by simp) (.inl ⟨by omega, by omega, by omega⟩) (by omega)
  have Z86 := (P4.2.1 86 (by simp)).2
  have s6 : ∀ a, f ≤ a → a < hz h4 → sameA a h4 h6 := fun a q r => hxL_sameZ b3 Z86 hZ q r
  refine ⟨h6, fun K => by rw [b1]; rfl, hp_trans F4 (hxL_hp (Z := Z) (t := f) b3 Z86), insO_keep i4 (s6 f (Nat.le_refl _) (by omega)), scpO_keep s4 (s6 _ (by omega) (by omega)), fun k hk => ?_, b4, b5, by omega, by omega, by omega⟩
  have s := s6 (hz h + 1 + k) (by omega) (by omega)
  exact ⟨okV_hxL (o4 k hk).1 (fun z => by have := hZ _ Z86; omega) b3, by rw [s.2.2.2.2.2.1]; exact (o4 k hk).2.1, by rw [s.2.2.2.2.2.2]; exact (o4 k hk).2.2⟩
end LI0
