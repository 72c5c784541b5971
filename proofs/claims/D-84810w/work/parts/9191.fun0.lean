set_option maxRecDepth 100000
/-- what the program's lists hold -/
def PC (h : om_H) (pr : Nat) (Lf : Nat → List Nat) : Prop := ∀ f ∈ PFs, ll h (fR h f pr) = Lf f
def updL (Lf : Nat → List Nat) (f x g : Nat) : List Nat := if g = f then Lf f ++ [x] else Lf g
section LF0
variable {G : om_G} {A t : Nat} {N : List (List Int)} {S : List Int} {b m i : Nat} {n : Int} {M : Nat} {σ τ : tS} {h h' h1 h2 : om_H} {c pr : Nat} {Z Z' : Nat → Prop}
theorem PL_addC {f x : Nat} {Lf : Nat → List Nat} (P : PL G h pr t Z) (C : PC h pr Lf) (hf : f ∈ PFs) (hx' : objY G h x) (hn : (Lf f).length ≤ 40000) : ∃ h', P_J2_add G (fR h f pr) x h = some (1, h') ∧ (kd h pr = 2 ∧ kd h (fR h f pr) = 42) ∧ hxL (fR h f pr) h h' ∧ PL G h' pr t Z ∧ PC h' pr (updL Lf f x) ∧ (∀ g, fR h' g pr = fR h g pr) ∧ hz h' ≤ hz h + 1 ∧ hz h ≤ hz h' ∧ hu h' + 4 * lcs h pr ≤ hu h + 4 * lcs h' pr := by
  obtain ⟨h', a1, a2, a3, a4, a5, a6, a7, a8⟩ := PL_add P hf hx' (by rw [C f hf]; exact hn)
  refine ⟨h', a1, ⟨P.1.1, (P.2.1 f hf).1.2.1⟩, a2, a3, fun g hg => ?_, a4, a7, a2.1, a8⟩
  rw [a4]
  unfold updL
  by_cases q : g = f
  · rw [if_pos q, q, a5, C f hf]
  · rw [if_neg q, a6 g hg q, C g hg]
/-- a list of the program, seen from objects of one's own -/
theorem hxL_sameZ {L : Nat} (X : hxL L h h') (hL : Z L) {z0 : Nat} (hZ : ∀ a, Z a → a < z0) {a : Nat} (q : z0 ≤ a) (r : a < hz h) : sameA a h h' := hxL_same X r (fun z => by have := hZ _ hL; omega)
def scpO (h : om_H) (s Ls Lg : Nat) : Prop := kd h s = 5 ∧ fR h 162 s = Ls ∧ fR h 166 s = Lg
/-- a Scope is made -/
theorem scope_new {s : Nat} (hs : s < hz h) (hk : kd h s = 5) : ∃ h', C_4_init G s h = some h' ∧ hx s h h' ∧ scpO h' s (hz h) (hz h + 1) ∧ okV G h' (hz h) ∧ okV G h' (hz h + 1) ∧ ll h' (hz h) = [] ∧ ll h' (hz h + 1) = [] ∧ lc h' (hz h) = 0 ∧ lc h' (hz h + 1) = 0 ∧ hz h' = hz h + 2 ∧ hu h' = hu h + 6 := by
  obtain ⟨q1, q2⟩ := new_L G h
  have k3 : kd (mkL h 0 0 0) s = 5 := by rw [mkL_kd, if_neg (by omega)]; exact hk
  have X2 : hx s h (sR (mkL h 0 0 0) 162 s (hz h)) := by
    have X := mkL_hx (g := h) (c := 0) (n := 0) (u := 0) s
    exact ⟨X.1, X.2.1, X.2.2.1, X.2.2.2.1, fun f a q r => by rw [fR_na r]; exact X.2.2.2.2.1 f a q r, X.2.2.2.2.2.1, X.2.2.2.2.2.2.1, X.2.2.2.2.2.2.2.1, X.2.2.2.2.2.2.2.2.1, X.2.2.2.2.2.2.2.2.2⟩
  have O2 : okV G (sR (mkL h 0 0 0) 162 s (hz h)) (hz h) := okV_sR (mkL_ok (by omega))
  have R2 : fR (sR (mkL h 0 0 0) 162 s (hz h)) 162 s = hz h := fR_eq
  have l2 : ll (sR (mkL h 0 0 0) 162 s (hz h)) (hz h) = [] := by show ll (mkL h 0 0 0) (hz h) = []; rw [mkL_ll, if_pos rfl]
  have c2 : lc (sR (mkL h 0 0 0) 162 s (hz h)) (hz h) = 0 := by show lc (mkL h 0 0 0) (hz h) = 0; rw [mkL_lc, if_pos rfl]
  have z2 : hz (sR (mkL h 0 0 0) 162 s (hz h)) = hz h + 1 := rfl
  have y2 : hu (sR (mkL h 0 0 0) 162 s (hz h)) = hu h + 3 := rfl
  have e41 : kd (nO (mkL h 0 0 0) 41 3) (hz (sR (mkL h 0 0 0) 162 s (hz h))) = 41 := by show kd (nO (mkL h 0 0 0) 41 3) (hz (mkL h 0 0 0)) = 41; rw [kd_nO, if_pos rfl]
  unfold C_4_init
  rw [gd_pos ⟨hk, q1⟩, q2]
  simp only [Option.bind_some]
  rw [gd_pos ⟨k3, e41⟩]
  have k2 : kd (sR (mkL h 0 0 0) 162 s (hz h)) s = 5 := k3
  generalize sR (mkL h 0 0 0) 162 s (hz h) = h2 at *
  clear q1 q2 e41 k3
  obtain ⟨q3, q4⟩ := new_L G h2
  rw [q4]
  simp only [Option.bind_some]
  have k3 : kd (mkL h2 0 0 0) s = 5 := by rw [mkL_kd, if_neg (by omega)]; exact k2
  rw [gd_pos k3]
  have X3 : hx s h2 (sR (mkL h2 0 0 0) 166 s (hz h2)) := by
    have X := mkL_hx (g := h2) (c := 0) (n := 0) (u := 0) s
    exact ⟨X.1, X.2.1, X.2.2.1, X.2.2.2.1, fun f a q r => by rw [fR_na r]; exact X.2.2.2.2.1 f a q r, X.2.2.2.2.2.1, X.2.2.2.2.2.2.1, X.2.2.2.2.2.2.2.1, X.2.2.2.2.2.2.2.2.1, X.2.2.2.2.2.2.2.2.2⟩
  refine ⟨_, rfl, hx_trans X2 X3, ⟨k3, by rw [fR_ne (by decide), mkL_fR (by omega)]; exact R2, by rw [fR_eq]; exact z2⟩, okV_hx O2 X3, ?_, ?_, ?_, ?_, ?_, ?_, ?_⟩
  · rw [← z2]; exact okV_sR (mkL_ok (by omega))
  · rw [X3.2.2.2.2.2.2.2.2.1 _ (by omega)]; exact l2
  · show ll (mkL h2 0 0 0) (hz h + 1) = []; rw [mkL_ll, if_pos z2.symm]
  · rw [X3.2.2.2.2.2.2.2.2.2 _ (by omega)]; exact c2
  · show lc (mkL h2 0 0 0) (hz h + 1) = 0; rw [mkL_lc, if_pos z2.symm]
  · show hz h2 + 1 + 0 = _; omega
  · show hu h2 + 3 + 0 = _; omega
/-- a function that is just made -/
def funO (h : om_H) (f w s Ls Lg wr ex : Nat) (nb : Int) : Prop := (kd h f = 33 ∧ fR h 1530 f = w ∧ fI h 1532 f = nb ∧ fR h 1542 f = s ∧ fR h 1546 f = wr ∧ fR h 1554 f = ex) ∧ (fI h 1539 f = 0 ∧ fR h 1550 f = 0) ∧ scpO h s Ls Lg
theorem scpO_keep {s Ls Lg : Nat} (O : scpO h s Ls Lg) (X : sameA s h h') : scpO h' s Ls Lg := by
  unfold scpO
  rw [X.1, X.2.2.1, X.2.2.1]; exact O
theorem funO_keep {f w s Ls Lg wr ex : Nat} {nb : Int} (O : funO h f w s Ls Lg wr ex nb) (X : sameA f h h') (Y : sameA s h h') : funO h' f w s Ls Lg wr ex nb := by
  obtain ⟨x1, x2, x3, x4, x5, x6, x7⟩ := X
  unfold funO
  rw [x1, x2, x2, x3, x3, x3, x3, x3]
  exact ⟨O.1, O.2.1, scpO_keep O.2.2 Y⟩
/-- it is made and put into the program's lists -/
theorem fun_put {f w : Nat} {Lf : Nat → List Nat} (P : PL G h pr t Z) (C : PC h pr Lf) (hf : f < hz h ∧ kd h f = 33 ∧ f ≠ pr) (zI : ∀ g, fI h g f = 0) (zR : ∀ g, fR h g f = 0) (ow : objY G h w) (hZ : ∀ a, Z a → a < f) (hl : ∀ g ∈ PFs, (Lf g).length ≤ 30000) :
    ∃ h6, (∀ (K : om_H → Option ((Nat ⊕ Unit) × om_H)), (C_33_init G f w h).bind (fun p2 => gd (kd p2 pr = 2 ∧ kd p2 (fR p2 90 pr) = 42) ((P_J2_size G (fR p2 90 pr) p2).bind fun p3 => gd (kd p2 f = 33 ∧ kd p2 pr = 2 ∧ kd p2 (fR p2 90 pr) = 42) ((P_J2_add G (fR p2 90 pr) f (sI p2 1532 f p3)).bind fun p4 => gd (kd p4.2 pr = 2 ∧ kd p4.2 f = 33 ∧ kd p4.2 (fR p4.2 98 pr) = 42) ((P_J2_add G (fR p4.2 98 pr) (fR p4.2 1530 f) p4.2).bind fun p5 => gd (kd p5.2 pr = 2 ∧ kd p5.2 (fR p5.2 106 pr) = 42) ((P_J2_add G (fR p5.2 106 pr) f p5.2).bind fun p6 => gd (kd p6.2 pr = 2 ∧ kd p6.2 (fR p6.2 110 pr) = 42) ((P_J2_add G (fR p6.2 110 pr) 0 p6.2).bind fun p7 => K p7.2)))))) = K h6) ∧
      hp Z f h h6 ∧ funO h6 f w (hz h) (hz h + 1) (hz h + 2) 0 0 ((Lf 90).length : Int) ∧ okV G h6 (hz h + 1) ∧ okV G h6 (hz h + 2) ∧ ll h6 (hz h + 1) = [] ∧ ll h6 (hz h + 2) = [] ∧ PL G h6 pr t Z ∧ PC h6 pr (updL (updL (updL (updL Lf 90 f) 98 w) 106 f) 110 0) ∧ hz h6 ≤ hz h + 7 ∧ hz h + 3 ≤ hz h6 ∧ hu h6 + 4 * lcs h pr ≤ hu h + 8 + 4 * lcs h6 pr := by
  have kS : kd (nO h 5 2) (hz h) = 5 := by rw [kd_nO, if_pos rfl]
  have zS : hz (nO h 5 2) = hz h + 1 := rfl
  have yS : hu (nO h 5 2) = hu h + 2 := rfl
  have XS := hx_nO (t := f) h 5 2
  have fS := hx_same (hx_nO (t := pr) h 5 2) (a := f) hf.1 hf.2.2
  obtain ⟨h3, a1, a2, a3, a4, a5, a6, a7, a8, a9, a10, a11⟩ := scope_new (G := G) (h := nO h 5 2) (s := hz h) (by omega) kS
  have sf := hx_same a2 (a := f) (by omega) (by omega)
  have kf3 : kd h3 f = 33 := by rw [sf.1, fS.1]; exact hf.2.1
  have eC : C_33_init G f w h = some (sR (sR h3 1542 f (hz h)) 1530 f w) := by
    unfold C_33_init
    rw [gd_pos ⟨hf.2.1, kS⟩, a1]
    simp only [Option.bind_some]
    rw [gd_pos ⟨kf3, kf3⟩]
  have X3 : hx f h (sR (sR h3 1542 f (hz h)) 1530 f w) := by
    have X : hp (fun _ => False) f h h3 := hp_hpO (hx_hp XS) (hx_hp (Z := fun _ => False) a2) (by omega) (fun a z => .inl z)
    have Y := hp_trans (hp_trans X (hp_sRx (Z := fun _ => False) h3)) (hp_sRx (Z := fun _ => False) (f := 1530) (y := w) (sR h3 1542 f (hz h)))
    obtain ⟨c0, c1, c2, c3, c4, c5, c6, c7, c8, c9⟩ := Y
    exact ⟨c0, c1, c2, c3, c4, c5, c6, c7, fun a q => c8 a q (fun z => z), fun a q => c9 a q (fun z => z)⟩
  obtain ⟨P3, L3⟩ := PL_hxO P X3 hf.2.2
  have p3 : ∀ g, fR (sR (sR h3 1542 f (hz h)) 1530 f w) g pr = fR h g pr := fun g => X3.2.2.2.2.1 g pr P.1.2.1 (Ne.symm hf.2.2)
  have C3 : PC (sR (sR h3 1542 f (hz h)) 1530 f w) pr Lf := fun g hg => by rw [p3, X3.2.2.2.2.2.2.2.2.1 _ (P.2.1 g hg).1.1]; exact C g hg
  have ssx : scpO (sR (sR h3 1542 f (hz h)) 1530 f w) (hz h) (hz h + 1) (hz h + 2) := by
    unfold scpO
    rw [fR_na (by omega), fR_na (by omega), fR_na (by omega), fR_na (by omega)]
    exact a3
  have fI3 : ∀ g, fI (sR (sR h3 1542 f (hz h)) 1530 f w) g f = 0 := fun g => by rw [fI_sR, fI_sR, sf.2.1, fS.2.1]; exact zI g
  have fR3 : fR (sR (sR h3 1542 f (hz h)) 1530 f w) 1530 f = w ∧ fR (sR (sR h3 1542 f (hz h)) 1530 f w) 1542 f = hz h ∧ ∀ g, g ≠ 1530 → g ≠ 1542 → fR (sR (sR h3 1542 f (hz h)) 1530 f w) g f = 0 := ⟨fR_eq, by rw [fR_ne (by decide), fR_eq], fun g hg hg' => by rw [fR_ne hg, fR_ne hg', sf.2.2.1, fS.2.2.1]; exact zR g⟩
  have kf : kd (sR (sR h3 1542 f (hz h)) 1530 f w) f = 33 := kf3
  have O3 : okV G (sR (sR h3 1542 f (hz h)) 1530 f w) (hz h + 1) ∧ okV G (sR (sR h3 1542 f (hz h)) 1530 f w) (hz h + 2) := ⟨okV_sR (okV_sR a4), okV_sR (okV_sR a5)⟩
  have l3 : ll (sR (sR h3 1542 f (hz h)) 1530 f w) (hz h + 1) = [] ∧ ll (sR (sR h3 1542 f (hz h)) 1530 f w) (hz h + 2) = [] := ⟨a6, a7⟩
  have z3 : hz (sR (sR h3 1542 f (hz h)) 1530 f w) = hz h + 3 := by show hz h3 = _; omega
  have y3 : hu (sR (sR h3 1542 f (hz h)) 1530 f w) = hu h + 8 := by show hu h3 = _; omega
  simp only [eC, Option.bind_some]
  generalize sR (sR h3 1542 f (hz h)) 1530 f w = h4 at *
  clear a1 a2 a3 a4 a5 a6 a7 a8 a9 a10 a11 eC sf kf3 kS zS yS XS fS
  have g3 : kd h4 pr = 2 ∧ kd h4 (fR h4 90 pr) = 42 := ⟨P3.1.1, (P3.2.1 90 (by simp)).1.2.1⟩
  have sz : P_J2_size G (fR h4 90 pr) h4 = some ((Lf 90).length : Int) := by rw [size_eq g3.2, C3 90 (by simp)]
  simp only [gd_pos g3]
  simp only [sz, Option.bind_some]
  simp only [gd_pos (show kd h4 f = 33 ∧ kd h4 pr = 2 ∧ kd h4 (fR h4 90 pr) = 42 from ⟨kf, g3⟩)]
  obtain ⟨P4, L4⟩ := PL_sI (f := 1532) (a := f) (x := ((Lf 90).length : Int)) P3
  have C4 : PC (sI h4 1532 f ((Lf 90).length : Int)) pr Lf := C3
  have e90 : fR h4 90 pr = fR (sI h4 1532 f ((Lf 90).length : Int)) 90 pr := rfl
  have F4 : hp Z f h (sI h4 1532 f ((Lf 90).length : Int)) := hp_trans (hx_hp X3) (hp_sIx h4)
  have f4 : funO (sI h4 1532 f ((Lf 90).length : Int)) f w (hz h) (hz h + 1) (hz h + 2) 0 0 ((Lf 90).length : Int) := ⟨⟨kf, fR3.1, fI_eq, fR3.2.1, fR3.2.2 _ (by decide) (by decide), fR3.2.2 _ (by decide) (by decide)⟩, ⟨by rw [fI_ne (by decide)]; exact fI3 _, fR3.2.2 _ (by decide) (by decide)⟩, ssx⟩
  have O4 : okV G (sI h4 1532 f ((Lf 90).length : Int)) (hz h + 1) ∧ okV G (sI h4 1532 f ((Lf 90).length : Int)) (hz h + 2) := ⟨okV_sI O3.1, okV_sI O3.2⟩
  have l4 : ll (sI h4 1532 f ((Lf 90).length : Int)) (hz h + 1) = [] ∧ ll (sI h4 1532 f ((Lf 90).length : Int)) (hz h + 2) = [] := l3
  have z4 : hz (sI h4 1532 f ((Lf 90).length : Int)) = hz h + 3 := z3
  have y4 : hu (sI h4 1532 f ((Lf 90).length : Int)) = hu h + 8 := y3
  have k4 : ∀ a, kd (sI h4 1532 f ((Lf 90).length : Int)) a = kd h4 a := fun _ => rfl
  rw [e90]
  generalize sI h4 1532 f ((Lf 90).length : Int) = h5 at *
  clear e90 sz g3 C3 fR3 fI3 l3 O3 ssx
  have kf5 : kd h5 f = 33 := f4.1.1
  have of : ∀ g, hp Z f h g → objY G g f := fun g F => .inl ⟨by have := F.1; omega, by rw [F.2.2.1 f hf.1]; omega, by rw [F.2.2.1 f hf.1]; omega⟩
  have Zf : ∀ g, PL G g pr t Z → ∀ k ∈ PFs, Z (fR g k pr) := fun g Q k hk => (Q.2.1 k hk).2
  have h90 := hl 90 (by simp)
  have h98 := hl 98 (by simp)
  have h106 := hl 106 (by simp)
  have h110 := hl 110 (by simp)
  obtain ⟨h6, b1, b2, b3, b4, b5, b6, b7, b8, b9⟩ := PL_addC (f := 90) (x := f) P4 C4 (by simp) (of _ F4) (by omega)
  have F5 := hp_trans F4 (hxL_hp (Z := Z) (t := f) b3 (Zf _ P4 90 (by simp)))
  obtain ⟨h7, d1, d2, d3, d4, d5, d6, d7, d8, d9⟩ := PL_addC (f := 98) (x := w) b4 b5 (by simp) (objY_mono F5.1 F5.2.2.1 ow) (by unfold updL; rw [if_neg (by decide)]; omega)
  have F6 := hp_trans F5 (hxL_hp (Z := Z) (t := f) d3 (Zf _ b4 98 (by simp)))
  obtain ⟨h8, e1, e2, e3, e4, e5, e6, e7, e8, e9⟩ := PL_addC (f := 106) (x := f) d4 d5 (by simp) (of _ F6) (by unfold updL; rw [if_neg (by decide), if_neg (by decide)]; omega)
  have F7 := hp_trans F6 (hxL_hp (Z := Z) (t := f) e3 (Zf _ d4 106 (by simp)))
  obtain ⟨h9, i1, i2, i3, i4, i5, i6, i7, i8, i9⟩ := PL_addC (f := 110) (x := 0) e4 e5 (by simp) (.inr (.inl rfl)) (by unfold updL; rw [if_neg (by decide), if_neg (by decide), if_neg (by decide)]; omega)
  have F8 := hp_trans F7 (hxL_hp (Z := Z) (t := f) i3 (Zf _ e4 110 (by simp)))
  have s8 : ∀ a, f ≤ a → a < hz h5 → sameA a h5 h9 := fun a q r => sameA_trans (sameA_trans (sameA_trans (hxL_sameZ b3 (Zf _ P4 90 (by simp)) hZ q r) (hxL_sameZ d3 (Zf _ b4 98 (by simp)) hZ q (by omega))) (hxL_sameZ e3 (Zf _ d4 106 (by simp)) hZ q (by omega))) (hxL_sameZ i3 (Zf _ e4 110 (by simp)) hZ q (by omega))
  have nZ : ∀ a, f ≤ a → ∀ g, PL G g pr t Z → ∀ k ∈ PFs, a ≠ fR g k pr := fun a q g Q k hk z => by have := hZ _ (Zf g Q k hk); omega
  have ok9 : ∀ a, f ≤ a → okV G h5 a → okV G h9 a := fun a q O => okV_hxL (okV_hxL (okV_hxL (okV_hxL O (nZ a q _ P4 90 (by simp)) b3) (nZ a q _ b4 98 (by simp)) d3) (nZ a q _ d4 106 (by simp)) e3) (nZ a q _ e4 110 (by simp)) i3
  have w6 : fR h6 1530 f = w := by rw [b3.2.2.2.2.1 _ _ (by omega)]; exact f4.1.2.1
  have kf6 : kd h6 f = 33 := by rw [b3.2.2.1 _ (by omega)]; exact kf5
  refine ⟨h9, fun K => ?_, F8, funO_keep f4 (s8 f (Nat.le_refl _) (by omega)) (s8 (hz h) (by omega) (by omega)), ok9 _ (by omega) O4.1, ok9 _ (by omega) O4.2, by rw [(s8 (hz h + 1) (by omega) (by omega)).2.2.2.2.2.1]; exact l4.1, by rw [(s8 (hz h + 2) (by omega) (by omega)).2.2.2.2.2.1]; exact l4.2, i4, i5, by omega, by omega, by omega⟩
  rw [b1]
  simp only [Option.bind_some]
  rw [gd_pos ⟨d2.1, kf6, d2.2⟩, w6, d1]
  simp only [Option.bind_some]
  rw [gd_pos e2, e1]
  simp only [Option.bind_some]
  rw [gd_pos i2, i1]
  rfl
end LF0
