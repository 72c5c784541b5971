set_option maxRecDepth 100000
/-! THE THIRD RULE: an inst in the component -/
/-- .. as far as the family's line -/
def thA (ins : List INs) (f : Nat) (d : INs) (cfam fam : Option Nat) (ms : List (Nat × Ty)) (lns : List (Nat × Nat)) (q : Int) : List Int := dpB ins f d.1 d.2.1 q ++ ((if fam = cfam then [] else [q]) ++ (lnB ms 0 [] lns ++ msB (lnA ms 0 [] lns) q ms.length))
theorem nn {g k : Nat} {Q : Prop} (h : g ≠ k) : ¬ (g = k ∧ Q) := fun z => h z.1
theorem thX_eq {ins : List INs} {f : Nat} {d : INs} {cfam fam : Option Nat} {ms : List (Nat × Ty)} {lns : List (Nat × Nat)} {q : Int} {B : List Int} : thX ins f d cfam fam ms lns q B = thA ins f d cfam fam ms lns q ++ B := by
  unfold thX thA
  simp only [List.append_assoc]
/-- what is done behind the lines -/
noncomputable def thK (G : om_G) (pr io : Nat) (f : Int) (y3 : om_H) : Option ((Int × om_H) ⊕ (om_H)) := gd (kd y3 io = 21) (if (fR y3 1310 io) = 0 then some (.inl ((w32 (f + 1)), y3)) else gd (kd y3 io = 21 ∧ kd y3 (fR y3 1286 io) = 5 ∧ kd y3 pr = 2) ((C_1_families G pr (fR y3 1310 io) (fR y3 162 (fR y3 1286 io)) 2147483647 y3).bind fun p4 => gd (kd y3 pr = 2) ((C_1_rule G pr p4 y3).bind fun p5 => some (.inl ((w32 (f + 1)), p5)))))
/-- where an inst and its class lie, before its lines go to methods -/
def LC0 (N : List (List Int)) (pr io cls : Nat) (ms : List (Nat × Ty)) (mo : Nat → Nat) (xs : List Nat) (ls : List (Nat × Nat)) (h : om_H) : Prop := (kd h pr = 2 ∧ pr < hz h) ∧ (kd h io = 21 ∧ io < hz h) ∧ (kd h (fR h 1326 io) = 42 ∧ fR h 1326 io < hz h ∧ ll h (fR h 1326 io) = xs ∧ xs.length ≤ 9000 ∧ xs.length = ls.length) ∧ (kd h cls = 18 ∧ cls < hz h) ∧ (kd h (fR h 1230 cls) = 42 ∧ fR h 1230 cls < hz h ∧ (ll h (fR h 1230 cls)).length = ms.length ∧ ms.length ≤ 4) ∧ (∀ (k : Nat) (y : Nat × Ty), ms[k]? = some y → (ll h (fR h 1230 cls))[k]? = some (mo k) ∧ (mo k ≠ 0 ∧ mo k < hz h ∧ kd h (mo k) = 19) ∧ wN h N y.1 (fR h 1242 (mo k)) ∧ fI h 1252 (mo k) = (k : Int)) ∧ ∀ (j x : Nat) (l : Nat × Nat), xs[j]? = some x → ls[j]? = some l → (x ≠ 0 ∧ x < hz h ∧ kd h x = 23) ∧ wN h N l.1 (fR h 1362 x) ∧ fI h 1188 (fR h 1362 x) = (l.2 : Int)
section LCT
variable {G : om_G} {N : List (List Int)} {pr : Nat} {I W : Nat → Prop} {h h' : om_H} {io cls : Nat} {ms : List (Nat × Ty)} {mo : Nat → Nat} {xs : List Nat} {ls : List (Nat × Nat)}
theorem LC0_keep (A : tF pr I W h h') (hI : ∀ y, I y → kd h y = 21) (hW : ∀ y, W y → kd h y ≠ 50) (H : LC0 N pr io cls ms mo xs ls h) : LC0 N pr io cls ms mo xs ls h' := by
  obtain ⟨⟨a1, a2⟩, ⟨b1, b2⟩, ⟨c1, c2, c3, c4, c5⟩, ⟨e1, e2⟩, ⟨f1, f2, f3, f4⟩, g1, g2⟩ := H
  have X : hSg False (fun _ => True) h h' := tF_hS A (fun y z => by rw [hI y z]; decide) hW
  have kk := fun y hy => (A.2 y hy).1
  have rr : ∀ y, y < hz h → ∀ g, g ≠ 1330 → fR h' g y = fR h g y := fun y hy g hg => (A.2 y hy).2.2.1 g (fun z => hg z.1)
  have ll' := fun y hy => (A.2 y hy).2.2.2.2.2.2.1
  have zz := A.1.1
  refine ⟨⟨by rw [kk _ a2]; exact a1, by omega⟩, ⟨by rw [kk _ b2]; exact b1, by omega⟩, ?_, ⟨by rw [kk _ e2]; exact e1, by omega⟩, ?_, fun k y e => ?_, fun j x l e1' e2' => ?_⟩
  · rw [rr _ b2 _ (by decide), kk _ c2, ll' _ c2]
    exact ⟨c1, by omega, c3, c4, c5⟩
  · rw [rr _ e2 _ (by decide), kk _ f2, ll' _ f2]
    exact ⟨f1, by omega, f3, f4⟩
  · obtain ⟨q1, ⟨q2, q3, q4⟩, q5, q6⟩ := g1 k y e
    rw [rr _ e2 _ (by decide), ll' _ f2, kk _ q3, rr _ q3 _ (by decide)]
    exact ⟨q1, ⟨q2, by omega, q4⟩, wN_hS X q5, by rw [(A.2 _ q3).2.1 1252 (by omega)]; exact q6⟩
  · obtain ⟨⟨q1, q2, q3⟩, q4, q5⟩ := g2 j x l e1' e2'
    rw [kk _ q2, rr _ q2 _ (by decide)]
    exact ⟨⟨q1, by omega, q3⟩, wN_hS X q4, by rw [(A.2 _ q4.1.1).2.1 1188 (by omega)]; exact q5⟩
/-- the array of lines is made -/
theorem LC_new (H : LC0 N pr io cls ms mo xs ls h) : LC N pr io cls (hz h) ms mo xs ls (sR (nA h 59 ms.length) 1330 io (hz h)) := by
  have A : tF pr (fun y => y = io) (fun _ => False) h (sR (nA h 59 ms.length) 1330 io (hz h)) := tF_trans tF_nA (tF_sR rfl)
  have hk := H.2.1.1
  obtain ⟨⟨a1, a2⟩, ⟨b1, b2⟩, c, e, f, g⟩ := LC0_keep A (fun y z => by rw [z]; exact hk) (fun y z => z.elim) H
  refine ⟨⟨a1, a2⟩, ⟨b1, b2⟩, c, ⟨?_, ?_, ?_, ?_⟩, e, f, g⟩
  · rw [fR_sR, if_pos ⟨rfl, rfl⟩]
  · show hz h < hz h + 1
    omega
  · show kd (nA h 59 ms.length) (hz h) = 59
    rw [kd_nA, if_pos rfl]
  · show an (nA h 59 ms.length) (hz h) = ms.length
    rw [an_nA, if_pos rfl]
set_option maxHeartbeats 1000000 in
/-- AN INST, IN THE COMPONENT, as far as its family's line -/
theorem c_thI (nd : ndN N) {ins : List INs} {io' : Nat → Nat} {f arr q wc : Nat} {d : INs} {cfam fam : Option Nat} {li : List Nat} (H : LC0 N pr io cls ms mo xs ls h) (kL : kd h (fR h 86 pr) = 42) (eli : ll h (fR h 86 pr) = li) (ef : li[f]? = some io) (ecls : fR h 1302 io = cls) (earr : fR h 1238 cls = arr ∧ arr < hz h ∧ kd h arr = 58 ∧ an h arr = 4) (econ : fI h 1304 io = (d.2.1 : Int) ∧ d.2.1 < 4) (e58 : aR h arr d.2.1 = (iOf (ins.take f) d.1 d.2.1).elim 0 io') (io0 : ∀ k, iOf (ins.take f) d.1 d.2.1 = some k → io' k ≠ 0) (hw : fR h 1290 io = wc ∧ wc < hz h ∧ kd h wc = 17 ∧ fI h 1188 wc = (q : Int)) (hcf : (cfam = none ∧ fR h 1214 cls = 0) ∨ ∃ w, cfam = some w ∧ fR h 1214 cls ≠ 0 ∧ wN h N w (fR h 1214 cls)) (hfm : (fam = none ∧ fR h 1298 io = 0) ∨ ∃ w, fam = some w ∧ fR h 1298 io ≠ 0 ∧ wN h N w (fR h 1298 io)) : ∃ h', C_1_judgeInstances_9s G pr ((f : Int), h) = thK G pr io (f : Int) h' ∧ tF pr (fun y => y = io) (fun y => y = arr) h h' ∧ (hz h' = hz h + 1 ∧ hu h' = hu h + ms.length) ∧ (fR h' 1330 io = hz h ∧ kd h' (hz h) = 59 ∧ an h' (hz h) = ms.length ∧ ∀ m, m < ms.length → aR h' (hz h) m = lnV (lnA ms 0 [] ls) m (fun k => xs.getD k 0) 0) ∧ (∀ k, aR h' arr k = if iOf (ins.take f) d.1 d.2.1 = none ∧ k = d.2.1 then io else aR h arr k) ∧ fI h' 112 pr = mnl (fI h 112 pr) (thA ins f d cfam fam ms ls (q : Int)) := by
  obtain ⟨⟨a1, a2⟩, ⟨b1, b2⟩, ⟨c1, c2, c3, c4, c5⟩, ⟨e1, e2⟩, ⟨f1, f2, f3, f4⟩, g1, g2⟩ := id H
  have fl := (List.getElem?_eq_some_iff.mp ef).1
  have I21 : ∀ y, (fun y => y = io) y → kd h y = 21 := fun y z => by rw [z]; exact b1
  -- the same class and con
  obtain ⟨h1, s1, F1, z1, r1, n1⟩ : ∃ h1, C_1_judgeInstances_9s G pr ((f : Int), h) = C_1_judgeInstances_73 G pr (f : Int) io cls h1 ∧ tF pr (fun y => y = io) (fun y => y = arr) h h1 ∧ (hz h1 = hz h ∧ hu h1 = hu h) ∧ (∀ k, aR h1 arr k = if iOf (ins.take f) d.1 d.2.1 = none ∧ k = d.2.1 then io else aR h arr k) ∧ fI h1 112 pr = mnl (fI h 112 pr) (dpB ins f d.1 d.2.1 (q : Int)) := by
    unfold C_1_judgeInstances_9s P_J2_size P_J2_get
    simp only
    rw [gd_pos ⟨a1, kL⟩, gd_pos kL, eli, Option.bind_some, if_neg (by omega), gd_pos ⟨a1, kL⟩, gd_pos ⟨kL, by omega⟩, show ((f : Int)).toNat = f by omega, ef, Option.bind_some, ecls, earr.1, econ.1, gd_pos ⟨.inr b1, b1, e1, earr.2.2.1, by omega, by rw [earr.2.2.2]; omega⟩, show ((d.2.1 : Int)).toNat = d.2.1 by omega, e58]
    cases qq : iOf (ins.take f) d.1 d.2.1 with
    | none =>
      rw [show (none : Option Nat).elim 0 io' = 0 from rfl, if_pos rfl, gd_pos ⟨e1, b1, earr.2.2.1, by omega, by rw [earr.2.2.2]; omega⟩]
      refine ⟨_, rfl, tF_pR rfl, ⟨rfl, rfl⟩, fun k => ?_, ?_⟩
      · rw [aR_pR]
        by_cases z : k = d.2.1
        · rw [if_pos ⟨rfl, z⟩, if_pos ⟨rfl, z⟩]
        · rw [if_neg (fun w => z w.2), if_neg (fun w => z w.2)]
      · unfold dpB
        rw [if_pos qq]
        rfl
    | some k0 =>
      rw [show (some k0).elim 0 io' = io' k0 from rfl, if_neg (io0 k0 qq), hw.1, gd_pos ⟨b1, hw.2.2.1, a1⟩, hw.2.2.2, c_rule' a1, Option.bind_some]
      refine ⟨_, rfl, tF_ru, ⟨rfl, rfl⟩, fun k => ?_, ?_⟩
      · rw [if_neg (fun w => by cases w.1)]
        rfl
      · unfold dpB
        rw [if_neg (fun w => by rw [qq] at w; cases w)]
        show fI (sI h 112 pr _) 112 pr = _
        rw [fI_sI, if_pos ⟨rfl, rfl⟩]
  have H1 := LC0_keep F1 I21 (fun y z => by rw [z, earr.2.2.1]; decide) H
  -- the family's name
  obtain ⟨x1, x2, x3, _⟩ := F1.2 io b2
  obtain ⟨y1, y2, y3, _⟩ := F1.2 cls e2
  obtain ⟨w1, w2, w3, _⟩ := F1.2 wc hw.2.1
  have X1 : hSg False (fun _ => True) h h1 := tF_hS F1 (fun y z => by rw [I21 y z]; decide) (fun y z => by rw [z, earr.2.2.1]; decide)
  obtain ⟨h2, s2, F2, z2, r2, n2⟩ : ∃ h2, C_1_judgeInstances_73 G pr (f : Int) io cls h1 = C_1_judgeInstances_139 G pr (f : Int) io cls h2 ∧ tF pr (fun y => y = io) (fun y => y = arr) h1 h2 ∧ (hz h2 = hz h1 ∧ hu h2 = hu h1) ∧ (∀ k, aR h2 arr k = aR h1 arr k) ∧ fI h2 112 pr = mnl (fI h1 112 pr) (if fam = cfam then [] else [(q : Int)]) := by
    obtain ⟨⟨a1', _⟩, ⟨b1', _⟩, _, ⟨e1', _⟩, _⟩ := id H1
    have brk : ∃ h2, C_1_judgeInstances_121 G pr (f : Int) io cls 0 h1 = C_1_judgeInstances_139 G pr (f : Int) io cls h2 ∧ tF pr (fun y => y = io) (fun y => y = arr) h1 h2 ∧ (hz h2 = hz h1 ∧ hu h2 = hu h1) ∧ (∀ k, aR h2 arr k = aR h1 arr k) ∧ fI h2 112 pr = mnl (fI h1 112 pr) [(q : Int)] := by
      refine ⟨ruH h1 pr [(q : Int)], ?_, tF_ru, ⟨rfl, rfl⟩, fun _ => rfl, by show fI (sI h1 112 pr _) 112 pr = _; rw [fI_sI, if_pos ⟨rfl, rfl⟩]⟩
      unfold C_1_judgeInstances_121
      rw [if_neg (fun z => z rfl), x3 1290 (nn (by decide)), hw.1, gd_pos ⟨b1', by rw [w1]; exact hw.2.2.1, a1'⟩, w2 1188 (by omega), hw.2.2.2, c_rule' a1', Option.bind_some]
    have ok : C_1_judgeInstances_121 G pr (f : Int) io cls 1 h1 = C_1_judgeInstances_139 G pr (f : Int) io cls h1 := by
      unfold C_1_judgeInstances_121
      rw [if_pos (by decide)]
    unfold C_1_judgeInstances_73
    rw [gd_pos b1', x3 1298 (nn (by decide)), y3 1214 (nn (by decide))]
    rcases hfm with ⟨m1, m2⟩ | ⟨w, m1, m2, m3⟩
    · rw [if_neg (fun z => z m2), gd_pos e1']
      rcases hcf with ⟨t1, t2⟩ | ⟨w', t1, t2, t3⟩
      · rw [if_neg (fun z => z t2), ok, m1, t1, if_pos rfl]
        exact ⟨h1, rfl, tF_refl, ⟨rfl, rfl⟩, fun _ => rfl, rfl⟩
      · rw [if_pos t2, m1, t1, if_neg (by simp)]
        exact brk
    · rw [if_pos m2, gd_pos e1']
      rcases hcf with ⟨t1, t2⟩ | ⟨w', t1, t2, t3⟩
      · rw [if_pos t2, m1, t1, if_neg (by simp)]
        exact brk
      · have k17 : kd h1 (fR h 1214 cls) = 17 := by obtain ⟨_, L, _, e⟩ := wN_hS X1 t3; exact e.1
        rw [if_neg t2, gd_pos ⟨e1', b1', k17⟩, c_isN nd (wN_hS X1 t3) (wN_hS X1 m3), Option.bind_some, m1, t1]
        by_cases z : w' = w
        · rw [if_pos z, if_neg (by decide), ok, if_pos (by rw [z])]
          exact ⟨h1, rfl, tF_refl, ⟨rfl, rfl⟩, fun _ => rfl, rfl⟩
        · rw [if_neg z, if_pos rfl, if_neg (fun y => z (Option.some.inj y).symm)]
          exact brk
  have F12 := tF_trans F1 F2
  have H2 := LC0_keep F12 I21 (fun y z => by rw [z, earr.2.2.1]; decide) H
  have L3 := LC_new H2
  obtain ⟨⟨a1', a2'⟩, ⟨b1', b2'⟩, _, ⟨e1', e2'⟩, ⟨f1', f2', f3', f4'⟩, _⟩ := id H2
  -- lines
  obtain ⟨h4, s4, F4, z4, r4, n4⟩ := c_lns (G := G) (l1 := (f : Int)) nd xs ls 0 [] _ rfl rfl (Nat.zero_le _) L3 (fun m hm => by
    show aR (nA h2 59 ms.length) (hz h2) m = _
    rw [aR_nA, if_pos rfl]
    rfl) (fun p hp => absurd hp List.not_mem_nil)
  have L4 := LC_keep F4 L3
  have kio : (sR (nA h2 59 ms.length) 1330 io (hz h2)) = (sR (nA h2 59 ms.length) 1330 io (hz h2)) := rfl
  have A3 : tF pr (fun y => y = io) (fun y => y = arr) h2 (sR (nA h2 59 ms.length) 1330 io (hz h2)) := tF_trans tF_nA (tF_sR rfl)
  have A4 : tF pr (fun y => y = io) (fun y => y = arr) h2 h4 := by
    refine ⟨⟨by have := A3.1; have := F4.1; omega, by have := A3.1; have := F4.1; omega⟩, fun y hy => ?_⟩
    obtain ⟨p1, p2, p3, p4, p5, p6, p7, p8⟩ := A3.2 y hy
    obtain ⟨t1, t2, t3, t4, t5, t6, t7, t8⟩ := F4.2 y (by have := A3.1; omega)
    exact ⟨t1.trans p1, fun g hg => (t2 g hg).trans (p2 g hg), fun g hg => (t3 g (fun z => z.2)).trans (p3 g hg), t4.trans p4, fun k => (t5 k).trans (p5 k), fun w k => (t6 (by omega) k).trans (p6 w k), t7.trans p7, t8.trans p8⟩
  have F14 := tF_trans F12 A4
  have w4 : fR h4 1290 io = wc ∧ wc < hz h4 ∧ kd h4 wc = 17 ∧ fI h4 1188 wc = (q : Int) := by
    obtain ⟨p1, p2, p3, _⟩ := F14.2 io b2
    obtain ⟨t1, t2, _⟩ := F14.2 wc hw.2.1
    exact ⟨by rw [p3 1290 (nn (by decide))]; exact hw.1, by have := F14.1; have := hw.2.1; omega, by rw [t1]; exact hw.2.2.1, by rw [t2 1188 (by omega)]; exact hw.2.2.2⟩
  have nz : ∀ k, tkn (lnA ms 0 [] ls) k = true → lnV (lnA ms 0 [] ls) k (fun k => xs.getD k 0) 0 ≠ 0 := fun k tk => by
    obtain ⟨k', km, lv⟩ := lnV_yes (α := Nat) tk
    rw [lv]
    have k'l : k' < xs.length := by
      have : ∀ (rs : List (Nat × Nat)) (k0 : Nat) (acc : List (Nat × Nat)), k0 + rs.length = xs.length → (∀ p ∈ acc, p.2 < xs.length) → ∀ p ∈ lnA ms k0 acc rs, p.2 < xs.length := by
        intro rs
        induction rs with
        | nil => intro k0 acc _ ha p hp; exact ha p hp
        | cons l rs ih =>
          intro k0 acc e ha p hp
          have e' : k0 + (rs.length + 1) = xs.length := e
          refine ih (k0 + 1) (lnN ms acc k0 l.1) (by omega) (fun p hp => ?_) p hp
          unfold lnN at hp
          cases gg : lnG ms acc l.1 with
          | none => rw [gg] at hp; exact ha p hp
          | some m =>
            rw [gg] at hp
            rcases List.mem_append.mp hp with hp | hp
            · exact ha p hp
            · rw [List.mem_singleton.mp hp]; show k0 < _; omega
      exact this ls 0 [] (by omega) (fun p hp => absurd hp List.not_mem_nil) _ km
    have e3 : xs[k']? = some xs[k'] := List.getElem?_eq_getElem k'l
    have e4 : ls[k']? = some (ls[k']'(by omega)) := List.getElem?_eq_getElem (by omega)
    have := (g2 k' _ _ e3 e4).1.1
    rw [List.getD_eq_getElem?_getD, e3]
    exact this
  obtain ⟨h5, s5, F5, z5, r5, n5⟩ := c_miss (G := G) (l1 := (f : Int)) w4 nz ms.length 0 h4 (by omega) L4 tF_refl r4 (L4.2.1.2) rfl
  have A5 : tF pr (fun y => y = io) (fun y => y = arr) h h5 := by
    refine ⟨⟨by have := F14.1; have := F5.1; omega, by have := F14.1; have := F5.1; omega⟩, fun y hy => ?_⟩
    obtain ⟨p1, p2, p3, p4, p5, p6, p7, p8⟩ := F14.2 y hy
    obtain ⟨t1, t2, t3, t4, t5, t6, t7, t8⟩ := F5.2 y (by have := F14.1; omega)
    exact ⟨t1.trans p1, fun g hg => (t2 g hg).trans (p2 g hg), fun g hg => (t3 g (fun z => z.2)).trans (p3 g hg), t4.trans p4, fun k => (t5 k).trans (p5 k), fun w k => (t6 (by omega) k).trans (p6 w k), t7.trans p7, t8.trans p8⟩
  have L5 := LC_keep F5 L4
  have zz3 : hz (sR (nA h2 59 ms.length) 1330 io (hz h2)) = hz h2 + 1 := rfl
  have uu3 : hu (sR (nA h2 59 ms.length) 1330 io (hz h2)) = hu h2 + ms.length := rfl
  have eh2 : hz h2 = hz h := by omega
  refine ⟨h5, ?_, A5, ⟨by omega, by omega⟩, ⟨?_, ?_, ?_, fun m hm => ?_⟩, fun k => ?_, ?_⟩
  · rw [s1, s2]
    unfold C_1_judgeInstances_139 P_J2_size
    rw [gd_pos ⟨e1', f1'⟩, gd_pos f1', f3', Option.bind_some, show (((ms.length : Nat) : Int)).toNat = ms.length by omega, gd_pos ⟨by omega, by omega, by rw [kd_nA, if_neg (by omega)]; exact b1'⟩]
    rw [show ((0 : Nat) : Int) = 0 from rfl] at s4 s5
    rw [s4, Option.bind_some, s5, Option.bind_some]
    rfl
  · rw [← eh2]; exact L5.2.2.2.1.1
  · rw [← eh2]; exact L5.2.2.2.1.2.2.1
  · rw [← eh2]; exact L5.2.2.2.1.2.2.2
  · rw [← eh2, r5]; exact r4 m hm
  · have k1 : aR h5 arr k = aR h4 arr k := (F5.2 arr (by have := F14.1; omega)).2.2.2.2.2.1 (by omega) k
    have k2 : aR h4 arr k = aR h2 arr k := by
      have t := (F4.2 arr (by omega)).2.2.2.2.2.1 (by omega) k
      rw [t]
      show aR (nA h2 59 ms.length) arr k = _
      rw [aR_nA, if_neg (by omega)]
    rw [k1, k2, r2 k, r1 k]
  · have n3 : fI (sR (nA h2 59 ms.length) 1330 io (hz h2)) 112 pr = fI h2 112 pr := rfl
    rw [n5, n4, n3, n2, n1]
    unfold thA
    rw [mnl_app, mnl_app, mnl_app]
/-- behind the lines: no family -/
theorem thK_0 {f : Nat} (hf : f < 1300) (k : kd h io = 21) (e : fR h 1310 io = 0) : thK G pr io (f : Int) h = some (.inl (((f + 1 : Nat) : Int), h)) := by
  unfold thK
  rw [gd_pos k, if_pos e, w32_s (by omega) (by omega)]
  rfl
/-- behind the lines: a family's line -/
theorem thK_1 {f fw : Nat} {B : List Int} (hf : f < 1300) (k : kd h io = 21) (e : fR h 1310 io = fw) (f0 : fw ≠ 0) (k5 : kd h (fR h 1286 io) = 5) (kp : kd h pr = 2) (n : naC G pr (fR h 162 (fR h 1286 io)) h 60 fw B) : thK G pr io (f : Int) h = some (.inl (((f + 1 : Nat) : Int), ruH h pr [mnl 2147483647 B])) := by
  unfold thK
  have n' : C_1_families G pr fw (fR h 162 (fR h 1286 io)) 2147483647 h = some (mnl 2147483647 B) := n _
  rw [gd_pos k, e, if_neg f0, gd_pos ⟨k, k5, kp⟩, n', Option.bind_some, gd_pos kp, c_rule' kp, Option.bind_some, w32_s (by omega) (by omega)]
  rfl
end LCT
