set_option maxRecDepth 100000
/-! NAMES OF TERMS: bound, or what they stand for -/
/-- the last place ahead of x where it stands -/
def lst {α : Type} [DecidableEq α] (L : α) (l : List α) : Nat → Option Nat
  | 0 => none
  | x + 1 => if l[x]? = some L then some x else lst L l x
theorem lst_lt {α : Type} [DecidableEq α] {L : α} {l : List α} : ∀ {x k : Nat}, lst L l x = some k → k < x
  | 0, _, e => by cases e
  | x + 1, k, e => by
    unfold lst at e
    split at e
    · have := Option.some.inj e; omega
    · have := lst_lt e; omega
theorem lst_eq {N : List (List Int)} {bd : List Nat} {bLs : List (List Int)} {w : Nat} {L : List Int} (hN : ndN N) (B : bdL N bd bLs) (hw : N[w]? = some L) : ∀ x : Nat, lst w bd x = lst L bLs x
  | 0 => rfl
  | x + 1 => by
    unfold lst
    rw [lst_eq hN B hw x]
    have iff : bd[x]? = some w ↔ bLs[x]? = some L := by
      constructor
      · intro e
        have xl : x < bLs.length := by have := (List.getElem?_eq_some_iff.mp e).1; have := B.1; omega
        have e2 := B.2 x w _ e (List.getElem?_eq_getElem xl)
        rw [hw] at e2
        rw [List.getElem?_eq_getElem xl, Option.some.inj e2]
      · intro e
        have xl : x < bd.length := by have := (List.getElem?_eq_some_iff.mp e).1; have := B.1; omega
        have e2 := B.2 x _ L (List.getElem?_eq_getElem xl) e
        rw [List.getElem?_eq_getElem xl, hN _ _ _ e2 hw]
    by_cases c : bLs[x]? = some L
    · rw [if_pos c, if_pos (iff.mpr c)]
    · rw [if_neg c, if_neg (fun z => c (iff.mp z))]
section LNM
variable {G : om_G} {A : Nat} {S : List Int} {b m : Nat} {N : List (List Int)} {cs : List Nat} {K : KT} {pr Ln : Nat} {Ls : List (List Int)} {sc : List Nat} {tb : Nat} {rest : List (Nat × List Nat)} {fo : List Nat} {F : FT} {mo : List (List Nat)} {Ms : List FT} {rs so Lb : Nat} {bLs : List (List Int)} {bd : List Nat}
variable {h h' h0 : om_H} {us fs us' fs' us0 fs0 : List Nat} {σ τ : tS} {n n' q lo hi alo ahi sp a : Nat} {X : Int} {L : List Int} {r : Int → tS → Option tS}
/-- the component looks for a name that is bound -/
theorem c_bound (H : EC G A S N cs K pr Ln Ls tb rest fo F mo Ms rs so Lb h us fs bLs) (k28 : kd h a = 28) (W : wb h (fR h 1454 a) L) (u0 : fI h 1464 a = -1) : ∀ x : Nat, x ≤ bLs.length → om_loop (C_35_name_71s G rs a) ((x : Int) - 1, h) = some (match lst L bLs x with | some k => sI h 1464 a (((bLs.length : Int) - 1) - (k : Int)) | none => h)
  | 0, _ => by
    refine om_loop_out ?_
    unfold C_35_name_71s
    rw [if_pos (by show (((0 : Nat) : Int) - 1) < 0; omega)]
    rfl
  | x + 1, hx => by
    obtain ⟨hK, _, ⟨r1, r2, r3, r4, r5, r6⟩, _, ⟨l1, l2, l3, l4⟩, _⟩ := id H
    have len := WL_len l2
    have il : x < (ll h Lb).length := by omega
    have ec : (ll h Lb)[x]? = some (ll h Lb)[x] := List.getElem?_eq_getElem il
    have ek : bLs[x]? = some bLs[x] := List.getElem?_eq_getElem (by omega)
    generalize (ll h Lb)[x] = v at ec
    generalize bLs[x] = M at ek
    obtain ⟨v1, v2, v3⟩ := WL_get l2 ec ek
    have e0 : (((x + 1 : Nat) : Int) - 1) = (x : Int) := by omega
    have eg : P_J2_get G Lb (x : Int) h = some v := by
      unfold P_J2_get
      rw [gd_pos ⟨l1.2.1, by omega⟩, show ((x : Int)).toNat = x by omega, ec]
    have es : P_J2_size G Lb h = some ((bLs.length : Nat) : Int) := by unfold P_J2_size; rw [gd_pos l1.2.1, len]
    have e2 := c_is2 (G := G) v3 W
    rw [e0]
    have st : C_35_name_71s G rs a ((x : Int), h) = if M = L then some (.inl ((x : Int) - 1, sI h 1464 a (((bLs.length : Int) - 1) - (x : Int)))) else some (.inl ((x : Int) - 1, h)) := by
      unfold C_35_name_71s
      simp only
      rw [if_neg (by omega), gd_pos k28, if_neg (by rw [u0]; omega), r6, gd_pos ⟨r1, l1.2.1⟩, eg, Option.bind_some, gd_pos ⟨.inr v3.1, k28, v3.1⟩, e2]
      by_cases c : M = L
      · rw [if_pos c, if_pos c, Option.bind_some, if_neg (by decide), gd_pos ⟨r1, l1.2.1⟩, es, Option.bind_some, gd_pos k28, w32_s (by omega) (by omega), w32_s (x := (bLs.length : Int) - 1) (by omega) (by omega), w32_s (by omega) (by omega)]
        rfl
      · rw [if_neg c, if_neg c, Option.bind_some, if_pos rfl, w32_s (by omega) (by omega)]
        rfl
    by_cases c : M = L
    · rw [if_pos c] at st
      rw [om_loop_in st]
      have el : lst L bLs (x + 1) = some x := by
        unfold lst
        rw [if_pos (by rw [ek, c])]
      rw [el]
      refine om_loop_out ?_
      unfold C_35_name_71s
      simp only
      by_cases z : ((x : Int) - 1) < 0
      · rw [if_pos z]
      · rw [if_neg z, gd_pos (show kd (sI h 1464 a (((bLs.length : Int) - 1) - (x : Int))) a = 28 from k28), fI_eq, if_pos (by omega)]
    · rw [if_neg c] at st
      rw [om_loop_in st, c_bound H k28 W u0 x (by omega)]
      have el : lst L bLs (x + 1) = lst L bLs x := by
        conv => lhs; unfold lst
        rw [if_neg (fun z => c (by rw [ek] at z; exact Option.some.inj z))]
      rw [el]
/-- the twin looks for a name that is bound -/
theorem t_bound {w v : Nat} {l2 : Int} (hv : v < 8400) (hb : bd.length ≤ 600) (B : ∀ i v : Nat, bd[i]? = some v → ga σ 782 i = (v : Int)) (u0 : ga σ 550 v = -1) : ∀ x : Nat, x ≤ bd.length → om_loop (T_oneKnown_116s r (v : Int) l2 (w : Int)) ((x : Int) - 1, σ) = some (match lst w bd x with | some k => ua σ 550 v (k : Int) | none => σ)
  | 0, _ => by
    refine om_loop_out ?_
    unfold T_oneKnown_116s
    rw [if_pos (by show (((0 : Nat) : Int) - 1) < 0; omega)]
    rfl
  | x + 1, hx => by
    have il : x < bd.length := by omega
    have ec : bd[x]? = some bd[x] := List.getElem?_eq_getElem il
    generalize bd[x] = y at ec
    have e1 := B x y ec
    have e0 : (((x + 1 : Nat) : Int) - 1) = (x : Int) := by omega
    have ev : ((v : Int)).toNat = v := by omega
    rw [e0]
    have st : T_oneKnown_116s r (v : Int) l2 (w : Int) ((x : Int), σ) = if y = w then some (.inl ((x : Int) - 1, ua σ 550 v (x : Int))) else some (.inl ((x : Int) - 1, σ)) := by
      unfold T_oneKnown_116s
      simp only
      rw [if_neg (by omega), if_pos (by omega), ev, u0, if_neg (fun z => z rfl), if_pos (by omega), show ((x : Int)).toNat = x by omega, e1]
      by_cases c : y = w
      · rw [if_neg (by omega), if_pos (by omega), if_pos c, w32_s (by omega) (by omega)]
        rfl
      · rw [if_pos (by omega), if_neg c, w32_s (by omega) (by omega)]
        rfl
    by_cases c : y = w
    · rw [if_pos c] at st
      rw [om_loop_in st]
      have el : lst w bd (x + 1) = some x := by
        unfold lst
        rw [if_pos (by rw [ec, c])]
      rw [el]
      refine om_loop_out ?_
      unfold T_oneKnown_116s
      simp only
      by_cases z : ((x : Int) - 1) < 0
      · rw [if_pos z]
      · rw [if_neg z, if_pos (by omega), ev, show ga (ua σ 550 v (x : Int)) 550 v = (x : Int) by rw [ga_ua, if_pos ⟨rfl, rfl⟩], if_pos (by omega)]
    · rw [if_neg c] at st
      rw [om_loop_in st, t_bound hv hb B u0 x (by omega)]
      have el : lst w bd (x + 1) = lst w bd x := by
        conv => lhs; unfold lst
        rw [if_neg (fun z => c (by rw [ec] at z; exact Option.some.inj z))]
      rw [el]
/-- writes of an ex's own fields -/
theorem hT_sI {f : Nat} {x : Int} : hT (fun y => y = a) h (sI h f a x) := ⟨Nat.le_refl _, Nat.le_refl _, fun _ _ => rfl, fun y _ nd => ⟨rfl, fun g => fI_na nd, fun g => rfl, rfl, fun g => rfl, fun g => rfl, rfl, rfl⟩⟩
theorem hT_sR {f x : Nat} : hT (fun y => y = a) h (sR h f a x) := ⟨Nat.le_refl _, Nat.le_refl _, fun _ _ => rfl, fun y _ nd => ⟨rfl, fun g => rfl, fun g => fR_na nd, rfl, fun g => rfl, fun g => rfl, rfl, rfl⟩⟩
theorem hs_sI {f : Nat} {x : Int} (hf : f ∈ mI) : hs alo ahi h (sI h f a x) := fun y _ _ => ⟨rfl, fun g hg => by rw [fI_sI, if_neg (fun (z : g = f ∧ y = a) => hg (z.1 ▸ hf))], fun g _ => rfl, rfl⟩
theorem hs_sR {f x : Nat} (hf : f ∈ mR) : hs alo ahi h (sR h f a x) := fun y _ _ => ⟨rfl, fun g _ => rfl, fun g hg => by rw [fR_sR, if_neg (fun (z : g = f ∧ y = a) => hg (z.1 ▸ hf))], rfl⟩
theorem SE_sI {f : Nat} {x : Int} (H0 : EC G A S N cs K pr Ln Ls tb rest fo F mo Ms rs so Lb h0 us0 fs0 bLs) (C : SE G A S N cs K pr Ln Ls tb rest fo F mo Ms rs so Lb bLs alo ahi h0 us0 fs0 h us fs q X) (hf : f ∈ mI) (h1 : alo ≤ a) (h2 : a < ahi) (k : kd h a = 24 ∨ kd h a = 25 ∨ kd h a = 28) : SE G A S N cs K pr Ln Ls tb rest fo F mo Ms rs so Lb bLs alo ahi h0 us0 fs0 (sI h f a x) us fs q X := SE_more (q2 := 0) H0 C hT_sI (fun y hy => .inr (by have hy' : y = a := hy; rw [hy']; exact ⟨h1, h2, k⟩)) (hs_sI hf) (by show hz h ≤ _; omega) (by show hu h ≤ _; omega)
theorem SE_sR {f x : Nat} (H0 : EC G A S N cs K pr Ln Ls tb rest fo F mo Ms rs so Lb h0 us0 fs0 bLs) (C : SE G A S N cs K pr Ln Ls tb rest fo F mo Ms rs so Lb bLs alo ahi h0 us0 fs0 h us fs q X) (hf : f ∈ mR) (h1 : alo ≤ a) (h2 : a < ahi) (k : kd h a = 24 ∨ kd h a = 25 ∨ kd h a = 28) : SE G A S N cs K pr Ln Ls tb rest fo F mo Ms rs so Lb bLs alo ahi h0 us0 fs0 (sR h f a x) us fs q X := SE_more (q2 := 0) H0 C hT_sR (fun y hy => .inr (by have hy' : y = a := hy; rw [hy']; exact ⟨h1, h2, k⟩)) (hs_sR hf) (by show hz h ≤ _; omega) (by show hu h ≤ _; omega)
/-- what a name that is not bound stands for, in the component -/
def nmF (fo : List Nat) (F : FT) (mo : List (List Nat)) (Ms : List FT) (h : om_H) (a : Nat) (L : List Int) : Prop := fI h 1464 a = -1 ∧ fI h 1476 a = oI (btI L) ∧ fR h 1470 a = (if btI L = none then clA fo (FI id L F) else 0) ∧ fR h 1474 a = (if btI L = none ∧ FI id L F = none then moA mo (MI L Ms) else 0)
theorem foA_ne {k : Nat} (C : SLs h (fR h 90 pr) 33 1539 1530 fo F) (e : FI id L F = some k) : clA fo (FI id L F) ≠ 0 := by
  obtain ⟨c0, c1, c2, c3, c4, c5⟩ := C
  have fl := FI_lt e
  have ec : fo[k]? = some fo[k] := List.getElem?_eq_getElem (by omega)
  obtain ⟨d1, _⟩ := c5 k _ _ ec (List.getElem?_eq_getElem fl)
  rw [e]
  show fo.getD k 0 ≠ 0
  rw [List.getD_eq_getElem?_getD, ec]
  exact d1.1
theorem moA_ne {p : Nat × Nat} (M : FNS h pr cs fo F mo Ms) (e : MI L Ms = some p) : moA mo (MI L Ms) ≠ 0 := by
  obtain ⟨m1, m2, m3, m4⟩ := M
  obtain ⟨Fm, f1, f2⟩ := MI_lt (p := p.1) (j := p.2) e
  have pl := (List.getElem?_eq_some_iff.mp f1).1
  have em : mo[p.1]? = some mo[p.1] := List.getElem?_eq_getElem (by omega)
  have ec : cs[p.1]? = some cs[p.1] := List.getElem?_eq_getElem (by omega)
  obtain ⟨s0, s1, s2, s3, s4, s5⟩ := m4 p.1 _ _ Fm ec em f1
  have jl := FI_lt f2
  have eo : (mo[p.1])[p.2]? = some (mo[p.1])[p.2] := List.getElem?_eq_getElem (by omega)
  obtain ⟨d1, _⟩ := s5 p.2 _ _ eo (List.getElem?_eq_getElem jl)
  rw [e]
  show (mo.getD p.1 []).getD p.2 0 ≠ 0
  have em' : mo.getD p.1 [] = mo[p.1] := by rw [List.getD_eq_getElem?_getD, em]; rfl
  rw [em', List.getD_eq_getElem?_getD, eo]
  exact d1.1
set_option maxHeartbeats 1000000 in
/-- a name that is not bound, in the component -/
theorem c_free {j : Nat} (H0 : EC G A S N cs K pr Ln Ls tb rest fo F mo Ms rs so Lb h0 us0 fs0 bLs) (C : SE G A S N cs K pr Ln Ls tb rest fo F mo Ms rs so Lb bLs alo ahi h0 us0 fs0 h us fs q X) (hA : ahi ≤ hz h0) (D : djE h0 tb fs0 pr Lb alo ahi) (k28 : kd h a = 28) (h1 : alo ≤ a) (h2 : a < ahi) (W : wd h A S (fR h 1454 a) j) (w1 : alo ≤ fR h 1454 a) (w2 : fR h 1454 a < ahi) (u0 : fI h 1464 a = -1) (f0 : fR h 1470 a = 0) (m0 : fR h 1474 a = 0) : ∃ h', C_35_name_124 G rs a h = some h' ∧ SE G A S N cs K pr Ln Ls tb rest fo F mo Ms rs so Lb bLs alo ahi h0 us0 fs0 h' us fs q (min X (if btI (tokw S j) = none ∧ FI id (tokw S j) F = none ∧ MI (tokw S j) Ms = none then (tokq S j : Int) else 2147483647)) ∧ nmF fo F mo Ms h' a (tokw S j) ∧ (∀ f, f ∉ [1470, 1474] → fR h' f a = fR h f a) ∧ (∀ y, y ≠ a → y ≠ pr → y < hz h → eqA y h h') ∧ (hz h' = hz h ∧ hu h' = hu h) := by
  have E := C.1
  obtain ⟨hK, hF, ⟨r1, r2, r3, r4, r5, r6⟩, _⟩ := id E
  have k2 := hK.2.2.1.1.1.1
  have opr : pr < hz h0 := H0.1.2.2.1.1.1.2
  have wb1 := wd_wb hK.2.1.1 W
  have hx : X ≤ 2147483647 ∨ True := .inr trivial
  have aw : a ≠ fR h 1454 a := fun z => by have := W.1; rw [← z] at this; omega
  have kk : ∀ (f : Nat) (x : Int), kd (sI h f a x) a = 28 := fun f x => k28
  -- first what is always there
  have C1 := SE_sI (x := oI (btI (tokw S j))) (f := 1476) H0 C (by decide) h1 h2 (.inr (.inr k28))
  have wb2 : wb (sI h 1476 a (oI (btI (tokw S j)))) (fR h 1454 a) (tokw S j) := wb_keep wb1 rfl rfl (fun f => fI_na (fun z => aw z.symm)) (fun f => rfl) rfl (fun i => rfl)
  unfold C_35_name_124
  rw [gd_pos k28, if_pos (by omega), gd_pos k28, c_builtOf wb1, Option.bind_some, gd_pos ⟨k28, k28⟩, fI_eq]
  have g1476 : fI (sI h 1476 a (oI (btI (tokw S j)))) 1476 a = oI (btI (tokw S j)) := fI_eq
  have g1464 : fI (sI h 1476 a (oI (btI (tokw S j)))) 1464 a = -1 := by rw [fI_ne (by decide)]; exact u0
  have gR : ∀ f, fR (sI h 1476 a (oI (btI (tokw S j)))) f a = fR h f a := fun f => rfl
  have gE : ∀ y, y ≠ a → y ≠ pr → y < hz h → eqA y h (sI h 1476 a (oI (btI (tokw S j)))) := fun y hy _ hy2 => hT_sI.2.2.2 y hy2 hy
  generalize e1 : sI h 1476 a (oI (btI (tokw S j))) = g1 at *
  have k28' : kd g1 a = 28 := by rw [← e1]; exact k28
  have hz1 : hz g1 = hz h := by rw [← e1]; rfl
  have hu1 : hu g1 = hu h := by rw [← e1]; rfl
  have E1 := C1.1
  obtain ⟨hK1, hF1, ⟨s1, s2, s3, s4, s5, s6⟩, _⟩ := id E1
  have k2' := hK1.2.2.1.1.1.1
  cases qb : btI (tokw S j) with
  | some p =>
    rw [qb] at g1476
    rw [if_pos (show (0 : Int) ≤ oI (some p) by show (0 : Int) ≤ (p : Int); omega)]
    have e165 : C_35_name_165 G rs a g1 = some g1 := by
      unfold C_35_name_165
      rw [gd_pos k28', g1476, if_pos (show (0 : Int) ≤ oI (some p) by show (0 : Int) ≤ (p : Int); omega)]
      unfold C_35_name_194
      rw [gd_pos k28', g1476, if_pos (show (0 : Int) ≤ oI (some p) by show (0 : Int) ≤ (p : Int); omega)]
    refine ⟨g1, e165, ?_, ⟨g1464, by rw [qb]; exact g1476, by rw [gR, f0, if_neg (by simp [qb])], by rw [gR, m0, if_neg (by simp [qb])]⟩, fun f _ => gR f, gE, hz1, hu1⟩
    rw [if_neg (by simp)]
    have : min X 2147483647 = X ∨ X > 2147483647 := by omega
    obtain ⟨c1, c2, c3, c4, c5, c6⟩ := C1
    exact ⟨c1, c2, c3, c4, c5, by have := H0.1.2.2.1.2.2; omega⟩
  | none =>
    rw [qb] at g1476
    rw [if_neg (show ¬ (0 : Int) ≤ oI none by show ¬ (0 : Int) ≤ -1; omega)]
    have g6 : ¬ (0 : Int) ≤ fI g1 1476 a := by rw [g1476]; show ¬ (0 : Int) ≤ -1; omega
    unfold C_35_name_150
    rw [s3, gd_pos ⟨s1, k28', k2'⟩, gR, c_functionOf k2' hF1.1 wb2, Option.bind_some, gd_pos k28']
    have C2 := SE_sR (x := clA fo (FI id (tokw S j) F)) (f := 1470) H0 C1 (by decide) h1 h2 (.inr (.inr k28'))
    have wb3 : wb (sR g1 1470 a (clA fo (FI id (tokw S j) F))) (fR h 1454 a) (tokw S j) := wb_keep wb2 rfl rfl (fun f => rfl) (fun f => fR_na (fun z => aw z.symm)) rfl (fun i => rfl)
    have i1 : fR (sR g1 1470 a (clA fo (FI id (tokw S j) F))) 1470 a = clA fo (FI id (tokw S j) F) := fR_eq
    have i2 : ∀ f, f ≠ 1470 → fR (sR g1 1470 a (clA fo (FI id (tokw S j) F))) f a = fR h f a := fun f hf => (fR_ne hf).trans (gR f)
    have i3 : ∀ f, fI (sR g1 1470 a (clA fo (FI id (tokw S j) F))) f a = fI g1 f a := fun f => rfl
    have iE : ∀ y, y ≠ a → y ≠ pr → y < hz h → eqA y h (sR g1 1470 a (clA fo (FI id (tokw S j) F))) := fun y hy hp hy2 => eqA_trans (gE y hy hp hy2) (hT_sR.2.2.2 y (by omega) hy)
    generalize e2 : sR g1 1470 a (clA fo (FI id (tokw S j) F)) = g2 at *
    have k28'' : kd g2 a = 28 := by rw [← e2]; exact k28'
    have hz2 : hz g2 = hz h := by rw [← e2]; exact hz1
    have hu2 : hu g2 = hu h := by rw [← e2]; exact hu1
    obtain ⟨hK2, hF2, ⟨t1, t2, t3, t4, t5, t6⟩, _⟩ := id C2.1
    have k2'' := hK2.2.2.1.1.1.1
    have g6' : ¬ (0 : Int) ≤ fI g2 1476 a := by rw [i3]; exact g6
    unfold C_35_name_165
    rw [gd_pos k28'', if_neg g6', gd_pos k28'', i1]
    cases qf : FI id (tokw S j) F with
    | some p =>
      have ne := foA_ne hF1.1 qf
      rw [qf] at ne i1
      rw [if_pos ne]
      have e194 : C_35_name_194 G rs a g2 = some g2 := by
        unfold C_35_name_194
        rw [gd_pos k28'', if_neg g6', gd_pos k28'', i1, if_pos ne]
      refine ⟨g2, e194, ?_, ⟨by rw [i3]; exact g1464, by rw [i3, qb]; exact g1476, by rw [i1, qb, qf, if_pos rfl], by rw [i2 _ (by decide), m0, if_neg (by simp [qf])]⟩, fun f hf => i2 f (fun z => hf (by rw [z]; decide)), iE, hz2, hu2⟩
      rw [if_neg (by simp)]
      obtain ⟨c1, c2, c3, c4, c5, c6⟩ := C2
      exact ⟨c1, c2, c3, c4, c5, by have := H0.1.2.2.1.2.2; omega⟩
    | none =>
      rw [qf] at i1
      rw [if_neg (fun z => z rfl), t3, gd_pos ⟨t1, k28'', k2''⟩, i2 _ (by decide), c_methodOf hK2.2.2.1.1 hF2 wb3, Option.bind_some, gd_pos k28'']
      have C3 := SE_sR (x := moA mo (MI (tokw S j) Ms)) (f := 1474) H0 C2 (by decide) h1 h2 (.inr (.inr k28''))
      have j1 : fR (sR g2 1474 a (moA mo (MI (tokw S j) Ms))) 1474 a = moA mo (MI (tokw S j) Ms) := fR_eq
      have j2 : ∀ f, f ≠ 1474 → fR (sR g2 1474 a (moA mo (MI (tokw S j) Ms))) f a = fR g2 f a := fun f hf => fR_ne hf
      have j3 : ∀ f, fI (sR g2 1474 a (moA mo (MI (tokw S j) Ms))) f a = fI g1 f a := fun f => i3 f
      have jE : ∀ y, y ≠ a → y ≠ pr → y < hz h → eqA y h (sR g2 1474 a (moA mo (MI (tokw S j) Ms))) := fun y hy hp hy2 => eqA_trans (iE y hy hp hy2) (hT_sR.2.2.2 y (by omega) hy)
      have jw : fI (sR g2 1474 a (moA mo (MI (tokw S j) Ms))) 1188 (fR h 1454 a) = (tokq S j : Int) := by
        show fI g2 1188 (fR h 1454 a) = _
        rw [← e2]
        show fI g1 1188 (fR h 1454 a) = _
        rw [← e1, fI_na (fun z => aw z.symm)]
        exact W.2.2.1
      have jk : kd (sR g2 1474 a (moA mo (MI (tokw S j) Ms))) (fR h 1454 a) = 17 := by
        show kd g2 (fR h 1454 a) = 17
        rw [← e2]
        show kd g1 (fR h 1454 a) = 17
        rw [← e1]
        exact W.1
      generalize e3 : sR g2 1474 a (moA mo (MI (tokw S j) Ms)) = g3 at *
      have k28t : kd g3 a = 28 := by rw [← e3]; exact k28''
      have hz3 : hz g3 = hz h := by rw [← e3]; exact hz2
      have hu3 : hu g3 = hu h := by rw [← e3]; exact hu2
      obtain ⟨hK3, hF3, ⟨v1, v2, v3, v4, v5, v6⟩, _⟩ := id C3.1
      have k2t := hK3.2.2.1.1.1.1
      have g6t : ¬ (0 : Int) ≤ fI g3 1476 a := by rw [j3]; exact g6
      have nf : ∀ g' : om_H, eqA a g3 g' → nmF fo F mo Ms g' a (tokw S j) := fun g' e => by
        refine ⟨by rw [e.2.1, j3]; exact g1464, by rw [e.2.1, j3, qb]; exact g1476, ?_, ?_⟩
        · rw [e.2.2.1, j2 _ (by decide), i1, qb, qf, if_pos rfl]
        · rw [e.2.2.1, j1, if_pos ⟨qb, qf⟩]
      unfold C_35_name_194
      rw [gd_pos k28t, if_neg g6t, gd_pos k28t, j2 _ (by decide), i1, if_neg (fun z => z rfl), gd_pos k28t, j1]
      cases qm : MI (tokw S j) Ms with
      | some p =>
        have ne := moA_ne hF2 qm
        rw [qm] at ne
        rw [if_pos ne]
        refine ⟨g3, rfl, ?_, nf g3 (eqA_refl _ _), fun f hf => (j2 f (fun z => hf (by rw [z]; decide))).trans (i2 f (fun z => hf (by rw [z]; decide))), jE, hz3, hu3⟩
        rw [if_neg (by simp)]
        obtain ⟨c1, c2, c3, c4, c5, c6⟩ := C3
        exact ⟨c1, c2, c3, c4, c5, by have := H0.1.2.2.1.2.2; omega⟩
      | none =>
        rw [if_neg (fun z => z rfl), v3, j2 _ (by decide), i2 _ (by decide), gd_pos ⟨v1, k28t, jk, k2t⟩, jw]
        obtain ⟨g4, x1, x2⟩ := SC_rule hK3 (tokq S j : Int)
        rw [x1, Option.bind_some]
        have C4 := SE_trans C3 (SE_of C3.1 x2 (by have := C3.2.1.1.1; omega) (djE_step D C3 hA))
        have ep : ∀ y, y ≠ pr → y < hz g3 → eqA y g3 g4 := fun y hy hy2 => by
          obtain ⟨c1, c2, c3, c4⟩ := x2
          refine ⟨c2.1.2.2.1 y hy2, ?_⟩
          unfold C_1_rule at x1
          rw [gd_pos k2t] at x1
          have := Option.some.inj x1
          rw [← this]
          exact ⟨fun f => fI_na hy, fun f => rfl, rfl, fun f => rfl, fun f => rfl, rfl, rfl⟩
        have hz4 : hz g4 = hz h := by
          unfold C_1_rule at x1
          rw [gd_pos k2t] at x1
          have := Option.some.inj x1
          rw [← this]
          exact hz3
        have hu4 : hu g4 = hu h := by
          unfold C_1_rule at x1
          rw [gd_pos k2t] at x1
          have := Option.some.inj x1
          rw [← this]
          exact hu3
        have apr : a ≠ pr := fun z => by rw [z] at k28t; omega
        have al : a < hz g3 := by have := C.2.1.1.1; omega
        refine ⟨g4, rfl, ?_, nf g4 (ep a apr al), fun f hf => ((ep a apr al).2.2.1 f).trans ((j2 f (fun z => hf (by rw [z]; decide))).trans (i2 f (fun z => hf (by rw [z]; decide)))), fun y hy hp hy2 => eqA_trans (jE y hy hp hy2) (ep y hp (by omega)), hz4, hu4⟩
        rw [if_pos ⟨rfl, rfl, rfl⟩]
        exact C4
end LNM
