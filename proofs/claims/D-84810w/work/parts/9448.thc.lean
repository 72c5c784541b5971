set_option maxRecDepth 100000
/-! THE THIRD RULE: lines of an inst go to methods (the component) -/
/-- what the third rule leaves: but for the least break, 1330 of the insts I, arrays W -/
def tF (pr : Nat) (I W : Nat → Prop) (h h' : om_H) : Prop := (hz h ≤ hz h' ∧ hu h ≤ hu h') ∧ ∀ y, y < hz h → kd h' y = kd h y ∧ (∀ g, ¬ (g = 112 ∧ y = pr) → fI h' g y = fI h g y) ∧ (∀ g, ¬ (g = 1330 ∧ I y) → fR h' g y = fR h g y) ∧ an h' y = an h y ∧ (∀ k, aI h' y k = aI h y k) ∧ (¬ W y → ∀ k, aR h' y k = aR h y k) ∧ ll h' y = ll h y ∧ lc h' y = lc h y
section LTF
variable {G : om_G} {N : List (List Int)} {pr : Nat} {I W I' W' : Nat → Prop} {h h' h2 : om_H}
theorem tF_refl : tF pr I W h h := ⟨⟨Nat.le_refl _, Nat.le_refl _⟩, fun _ _ => ⟨rfl, fun _ _ => rfl, fun _ _ => rfl, rfl, fun _ => rfl, fun _ _ => rfl, rfl, rfl⟩⟩
theorem tF_trans (A : tF pr I W h h') (B : tF pr I W h' h2) : tF pr I W h h2 := by
  obtain ⟨⟨a1, a2⟩, a3⟩ := A
  obtain ⟨⟨b1, b2⟩, b3⟩ := B
  refine ⟨⟨by omega, by omega⟩, fun y hy => ?_⟩
  obtain ⟨c1, c2, c3, c4, c5, c6, c7, c8⟩ := a3 y hy
  obtain ⟨d1, d2, d3, d4, d5, d6, d7, d8⟩ := b3 y (by omega)
  exact ⟨d1.trans c1, fun g hg => (d2 g hg).trans (c2 g hg), fun g hg => (d3 g hg).trans (c3 g hg), d4.trans c4, fun k => (d5 k).trans (c5 k), fun w k => (d6 w k).trans (c6 w k), d7.trans c7, d8.trans c8⟩
/-- more may be written; what is new does not count -/
theorem tF_mono (A : tF pr I W h h') (hI : ∀ y, y < hz h → I y → I' y) (hW : ∀ y, y < hz h → W y → W' y) : tF pr I' W' h h' := ⟨A.1, fun y hy => by
  obtain ⟨c1, c2, c3, c4, c5, c6, c7, c8⟩ := A.2 y hy
  exact ⟨c1, c2, fun g hg => c3 g (fun z => hg ⟨z.1, hI y hy z.2⟩), c4, c5, fun w => c6 (fun z => w (hW y hy z)), c7, c8⟩⟩
theorem tF_ru {B : List Int} : tF pr I W h (ruH h pr B) := ⟨⟨Nat.le_refl _, Nat.le_refl _⟩, fun y _ => ⟨rfl, fun g hg => by
  show fI (sI h 112 pr _) g y = _
  rw [fI_sI, if_neg hg], fun _ _ => rfl, rfl, fun _ => rfl, fun _ _ => rfl, rfl, rfl⟩⟩
theorem tF_pR {a i x : Nat} (w : W a) : tF pr I W h (pR h a i x) := ⟨⟨Nat.le_refl _, Nat.le_refl _⟩, fun y _ => ⟨rfl, fun _ _ => rfl, fun _ _ => rfl, rfl, fun _ => rfl, fun q k => by rw [aR_pR, if_neg (fun (z : y = a ∧ k = i) => q (by rw [z.1]; exact w))], rfl, rfl⟩⟩
theorem tF_nA {k n : Nat} : tF pr I W h (nA h k n) := ⟨⟨Nat.le_succ _, Nat.le_add_right _ _⟩, fun y hy => by
  have ne : y ≠ hz h := by omega
  exact ⟨by rw [kd_nA, if_neg ne], fun _ _ => rfl, fun _ _ => rfl, by rw [an_nA, if_neg ne], fun k => by rw [aI_nA, if_neg ne], fun _ k => by rw [aR_nA, if_neg ne], rfl, rfl⟩⟩
theorem tF_sR {a x : Nat} (i : I a) : tF pr I W h (sR h 1330 a x) := ⟨⟨Nat.le_refl _, Nat.le_refl _⟩, fun y _ => ⟨rfl, fun _ _ => rfl, fun g hg => by rw [fR_sR, if_neg (fun (z : g = 1330 ∧ y = a) => hg ⟨z.1, by rw [z.2]; exact i⟩)], rfl, fun _ => rfl, fun _ _ => rfl, rfl, rfl⟩⟩
/-- as what stays -/
theorem tF_hS {Sl : Nat → Prop} (A : tF pr I W h h') (hI : ∀ y, I y → kd h y ≠ 50) (hW : ∀ y, W y → kd h y ≠ 50) : hSg False Sl h h' := ⟨A.1.1, fun a ha => (A.2 a ha).1, fun a ha hk => by
    obtain ⟨c1, c2, c3, _⟩ := A.2 a ha
    refine ⟨fun f hf => c2 f (fun z => ?_), fun f hf => c3 f (fun z => ?_)⟩
    · rw [z.1] at hf
      exact absurd hf (by decide)
    · rw [z.1] at hf
      exact absurd hf (by decide), fun a ha hk => by
    obtain ⟨c1, c2, c3, c4, c5, c6, _⟩ := A.2 a ha
    rcases hk with k50 | ⟨z, _⟩
    · exact ⟨⟨c4, c5, c6 (fun w => hW a w k50)⟩, c3 1330 (fun w => hI a w.2 k50)⟩
    · exact z.elim, fun a ha _ => (A.2 a ha).2.2.2.2.2.2.1⟩
/-- where an inst's lines and its class's methods lie -/
def LC (N : List (List Int)) (pr io cls arr : Nat) (ms : List (Nat × Ty)) (mo : Nat → Nat) (xs : List Nat) (ls : List (Nat × Nat)) (h : om_H) : Prop := (kd h pr = 2 ∧ pr < hz h) ∧ (kd h io = 21 ∧ io < hz h) ∧ (kd h (fR h 1326 io) = 42 ∧ fR h 1326 io < hz h ∧ ll h (fR h 1326 io) = xs ∧ xs.length ≤ 9000 ∧ xs.length = ls.length) ∧ (fR h 1330 io = arr ∧ arr < hz h ∧ kd h arr = 59 ∧ an h arr = ms.length) ∧ (kd h cls = 18 ∧ cls < hz h) ∧ (kd h (fR h 1230 cls) = 42 ∧ fR h 1230 cls < hz h ∧ (ll h (fR h 1230 cls)).length = ms.length ∧ ms.length ≤ 4) ∧ (∀ (k : Nat) (y : Nat × Ty), ms[k]? = some y → (ll h (fR h 1230 cls))[k]? = some (mo k) ∧ (mo k ≠ 0 ∧ mo k < hz h ∧ kd h (mo k) = 19) ∧ wN h N y.1 (fR h 1242 (mo k)) ∧ fI h 1252 (mo k) = (k : Int)) ∧ ∀ (j x : Nat) (l : Nat × Nat), xs[j]? = some x → ls[j]? = some l → (x ≠ 0 ∧ x < hz h ∧ kd h x = 23) ∧ wN h N l.1 (fR h 1362 x) ∧ fI h 1188 (fR h 1362 x) = (l.2 : Int)
variable {io cls arr : Nat} {ms : List (Nat × Ty)} {mo : Nat → Nat} {xs : List Nat} {ls : List (Nat × Nat)}
theorem LC_keep (A : tF pr (fun _ => False) (fun y => y = arr) h h') (H : LC N pr io cls arr ms mo xs ls h) : LC N pr io cls arr ms mo xs ls h' := by
  obtain ⟨⟨a1, a2⟩, ⟨b1, b2⟩, ⟨c1, c2, c3, c4, c5⟩, ⟨d1, d2, d3, d4⟩, ⟨e1, e2⟩, ⟨f1, f2, f3, f4⟩, g1, g2⟩ := H
  have X : hSg False (fun _ => True) h h' := tF_hS A (fun _ z => z.elim) (fun y z => by rw [z, d3]; decide)
  have kk := fun y hy => (A.2 y hy).1
  have rr : ∀ y, y < hz h → ∀ g, fR h' g y = fR h g y := fun y hy g => (A.2 y hy).2.2.1 g (fun z => z.2)
  have ll' := fun y hy => (A.2 y hy).2.2.2.2.2.2.1
  have zz := A.1.1
  refine ⟨⟨by rw [kk _ a2]; exact a1, by omega⟩, ⟨by rw [kk _ b2]; exact b1, by omega⟩, ?_, ⟨by rw [rr _ b2]; exact d1, by omega, by rw [kk _ d2]; exact d3, by rw [(A.2 _ d2).2.2.2.1]; exact d4⟩, ⟨by rw [kk _ e2]; exact e1, by omega⟩, ?_, fun k y e => ?_, fun j x l e1' e2' => ?_⟩
  · rw [rr _ b2, kk _ c2, ll' _ c2]
    exact ⟨c1, by omega, c3, c4, c5⟩
  · rw [rr _ e2, kk _ f2, ll' _ f2]
    exact ⟨f1, by omega, f3, f4⟩
  · obtain ⟨q1, ⟨q2, q3, q4⟩, q5, q6⟩ := g1 k y e
    rw [rr _ e2, ll' _ f2, kk _ q3, rr _ q3]
    exact ⟨q1, ⟨q2, by omega, q4⟩, wN_hS X q5, by rw [(A.2 _ q3).2.1 1252 (by omega)]; exact q6⟩
  · obtain ⟨⟨q1, q2, q3⟩, q4, q5⟩ := g2 j x l e1' e2'
    rw [kk _ q2, rr _ q2]
    exact ⟨⟨q1, by omega, q3⟩, wN_hS X q4, by rw [(A.2 _ q4.1.1).2.1 1188 (by omega)]; exact q5⟩
/-- a method is looked for -/
theorem c_find_lp (nd : ndN N) {w wo : Nat} (kc : kd h cls = 18) (kL : kd h (fR h 1230 cls) = 42) (el : (ll h (fR h 1230 cls)).length = ms.length) (h4 : ms.length ≤ 4) (hm : ∀ (k : Nat) (y : Nat × Ty), ms[k]? = some y → (ll h (fR h 1230 cls))[k]? = some (mo k) ∧ (mo k ≠ 0 ∧ mo k < hz h ∧ kd h (mo k) = 19) ∧ wN h N y.1 (fR h 1242 (mo k)) ∧ fI h 1252 (mo k) = (k : Int)) (B : wN h N w wo) : ∀ (zs : List (Nat × Ty)) (k : Nat), ms.drop k = zs → k ≤ ms.length → om_loop (C_17_find_2s G cls wo h) (k : Int) = some ((ixF (fun y => y.1 == w) zs).elim (.inr ()) (fun j => .inl ((k + j : Nat) : Int)))
  | [], k, hd, hk => by
    have lk : ms.length ≤ k := List.drop_eq_nil_iff.mp hd
    refine om_loop_out ?_
    unfold C_17_find_2s P_J2_size
    rw [gd_pos ⟨kc, kL⟩, gd_pos kL, Option.bind_some, if_pos (by omega)]
    rfl
  | z :: zs, k, hd, hk => by
    have ez : ms[k]? = some z := by
      have := congrArg (fun q => q[0]?) hd
      simpa using this
    have kl := (List.getElem?_eq_some_iff.mp ez).1
    have hd2 : ms.drop (k + 1) = zs := by rw [← List.tail_drop, hd]; rfl
    obtain ⟨q1, ⟨q2, q3, q4⟩, q5, q6⟩ := hm k z ez
    have kw : kd h (fR h 1242 (mo k)) = 17 := by obtain ⟨_, L, _, e⟩ := q5; exact e.1
    have st : C_17_find_2s G cls wo h (k : Int) = if z.1 = w then some (.inr (.inl (k : Int))) else some (.inl (((k + 1 : Nat) : Int))) := by
      unfold C_17_find_2s P_J2_size P_J2_get
      rw [gd_pos ⟨kc, kL⟩, gd_pos kL, Option.bind_some, if_neg (by omega), gd_pos ⟨kc, kL⟩, gd_pos ⟨kL, by omega⟩, show ((k : Int)).toNat = k by omega, q1, Option.bind_some, gd_pos ⟨.inr q4, q4, kw⟩, c_isN nd q5 B, Option.bind_some]
      by_cases c : z.1 = w
      · rw [if_pos c, if_pos c, if_neg (by decide)]
      · rw [if_neg c, if_neg c, if_pos rfl, w32_s (by omega) (by omega)]
        rfl
    by_cases c : z.1 = w
    · rw [if_pos c] at st
      rw [om_loop_out st]
      unfold ixF
      rw [if_pos (by simpa using c)]
      rfl
    · rw [if_neg c] at st
      rw [om_loop_in st, c_find_lp nd kc kL el h4 hm B zs (k + 1) hd2 (by omega)]
      have ei : ixF (fun y : Nat × Ty => y.1 == w) (z :: zs) = (ixF (fun y => y.1 == w) zs).map (fun i => i + 1) := by
        show (if (z.1 == w) = true then some 0 else _) = _
        rw [if_neg (by simpa using c)]
      rw [ei]
      cases e : ixF (fun y : Nat × Ty => y.1 == w) zs with
      | none => rfl
      | some j =>
        show some (Sum.inl (((k + 1 + j : Nat) : Int))) = some (Sum.inl (((k + (j + 1) : Nat) : Int)))
        rw [show k + 1 + j = k + (j + 1) by omega]
/-- a method is looked for -/
theorem c_find (nd : ndN N) {w wo : Nat} (kc : kd h cls = 18) (kL : kd h (fR h 1230 cls) = 42) (el : (ll h (fR h 1230 cls)).length = ms.length) (h4 : ms.length ≤ 4) (hm : ∀ (k : Nat) (y : Nat × Ty), ms[k]? = some y → (ll h (fR h 1230 cls))[k]? = some (mo k) ∧ (mo k ≠ 0 ∧ mo k < hz h ∧ kd h (mo k) = 19) ∧ wN h N y.1 (fR h 1242 (mo k)) ∧ fI h 1252 (mo k) = (k : Int)) (B : wN h N w wo) : C_17_find G cls wo h = some ((mIx ms w).elim 0 mo) := by
  have l0 := c_find_lp (G := G) nd kc kL el h4 hm B ms 0 rfl (Nat.zero_le _)
  rw [show ((0 : Nat) : Int) = 0 from rfl] at l0
  unfold C_17_find
  rw [l0]
  unfold mIx
  cases e : ixF (fun y => y.1 == w) ms with
  | none => rfl
  | some j =>
    obtain ⟨y, y1, _⟩ := ixF_some e
    have jl := ixF_lt e
    obtain ⟨q1, ⟨q2, q3, q4⟩, _⟩ := hm j y y1
    show (gd (kd h cls = 18 ∧ kd h (fR h 1230 cls) = 42) ((P_J2_get G (fR h 1230 cls) ((0 + j : Nat) : Int) h).bind fun p2 => gd (p2 = 0 ∨ kd h p2 = 19) (some p2))) = _
    unfold P_J2_get
    rw [gd_pos ⟨kc, kL⟩, gd_pos ⟨kL, by omega⟩, show (((0 + j : Nat) : Int)).toNat = j by omega, q1, Option.bind_some, gd_pos (.inr q4)]
    rfl
set_option maxHeartbeats 1000000 in
/-- LINES IN THE COMPONENT -/
theorem c_lns (nd : ndN N) {l1 : Int} : ∀ (zs : List Nat) (rs : List (Nat × Nat)) (k : Nat) (acc : List (Nat × Nat)) (h : om_H), xs.drop k = zs → ls.drop k = rs → k ≤ xs.length → LC N pr io cls arr ms mo xs ls h → (∀ m, m < ms.length → aR h arr m = lnV acc m (fun k => xs.getD k 0) 0) → (∀ p ∈ acc, p.2 < xs.length) → ∃ h', om_loop (C_1_judgeInstances_156s G pr l1 io cls) ((k : Int), h) = some h' ∧ tF pr (fun _ => False) (fun y => y = arr) h h' ∧ (hz h' = hz h ∧ hu h' = hu h) ∧ (∀ m, m < ms.length → aR h' arr m = lnV (lnA ms k acc rs) m (fun k => xs.getD k 0) 0) ∧ fI h' 112 pr = mnl (fI h 112 pr) (lnB ms k acc rs)
  | [], rs, k, acc, h, hd, hd', hk, H, h26, _ => by
    obtain ⟨⟨a1, a2⟩, ⟨b1, b2⟩, ⟨c1, c2, c3, c4, c5⟩, _⟩ := id H
    have lk : xs.length ≤ k := List.drop_eq_nil_iff.mp hd
    have er : rs = [] := by rw [← hd', List.drop_eq_nil_iff]; omega
    subst er
    refine ⟨h, om_loop_out ?_, tF_refl, ⟨rfl, rfl⟩, h26, rfl⟩
    unfold C_1_judgeInstances_156s P_J2_size
    simp only
    rw [gd_pos ⟨b1, c1⟩, gd_pos c1, c3, Option.bind_some, if_pos (by omega)]
  | x :: zs, rs, k, acc, h, hd, hd', hk, H, h26, hacc => by
    obtain ⟨⟨a1, a2⟩, ⟨b1, b2⟩, ⟨c1, c2, c3, c4, c5⟩, ⟨d1, d2, d3, d4⟩, ⟨e1, e2⟩, ⟨f1, f2, f3, f4⟩, g1, g2⟩ := id H
    have ex : xs[k]? = some x := by
      have := congrArg (fun q => q[0]?) hd
      simpa using this
    have kl := (List.getElem?_eq_some_iff.mp ex).1
    obtain ⟨l, rs', er⟩ : ∃ l rs', rs = l :: rs' := by
      cases rs with
      | nil => have := List.drop_eq_nil_iff.mp hd'; omega
      | cons l rs' => exact ⟨l, rs', rfl⟩
    subst er
    have el : ls[k]? = some l := by
      have := congrArg (fun q => q[0]?) hd'
      simpa using this
    have hd2 : xs.drop (k + 1) = zs := by rw [← List.tail_drop, hd]; rfl
    have hd2' : ls.drop (k + 1) = rs' := by rw [← List.tail_drop, hd']; rfl
    obtain ⟨⟨q1, q2, q3⟩, q4, q5⟩ := g2 k x l ex el
    have kw : kd h (fR h 1362 x) = 17 := by obtain ⟨_, L, _, e⟩ := q4; exact e.1
    have fd := c_find (G := G) (ms := ms) (mo := mo) nd e1 f1 f3 f4 g1 q4
    have wk : w32 ((k : Int) + 1) = ((k + 1 : Nat) : Int) := by rw [w32_s (by omega) (by omega)]; rfl
    have e211 : C_1_judgeInstances_211 G pr l1 io cls (k : Int) x h = some (.inl (((k + 1 : Nat) : Int), ruH h pr [(l.2 : Int)])) := by
      unfold C_1_judgeInstances_211
      rw [gd_pos ⟨q3, kw, a1⟩, q5, c_rule' a1, Option.bind_some, wk]
    have xk : xs.getD k 0 = x := by rw [List.getD_eq_getElem?_getD, ex]; rfl
    -- one line
    obtain ⟨h1, s1, F1, z1, v1, b1', n1⟩ : ∃ h1, C_1_judgeInstances_156s G pr l1 io cls ((k : Int), h) = some (.inl (((k + 1 : Nat) : Int), h1)) ∧ tF pr (fun _ => False) (fun y => y = arr) h h1 ∧ (hz h1 = hz h ∧ hu h1 = hu h) ∧ (∀ m, m < ms.length → aR h1 arr m = lnV (lnN ms acc k l.1) m (fun k => xs.getD k 0) 0) ∧ fI h1 112 pr = mnl (fI h 112 pr) ((lnG ms acc l.1).elim [(l.2 : Int)] (fun _ => [])) ∧ ∀ p ∈ lnN ms acc k l.1, p.2 < xs.length := by
      have brk : ∃ h1, (some (.inl (((k + 1 : Nat) : Int), ruH h pr [(l.2 : Int)])) : Option ((Int × om_H) ⊕ om_H)) = some (.inl (((k + 1 : Nat) : Int), h1)) ∧ tF pr (fun _ => False) (fun y => y = arr) h h1 ∧ (hz h1 = hz h ∧ hu h1 = hu h) ∧ (∀ m, aR h1 arr m = aR h arr m) ∧ fI h1 112 pr = mnl (fI h 112 pr) [(l.2 : Int)] := ⟨_, rfl, tF_ru, ⟨rfl, rfl⟩, fun _ => rfl, by show fI (sI h 112 pr _) 112 pr = _; rw [fI_sI, if_pos ⟨rfl, rfl⟩]⟩
      unfold C_1_judgeInstances_156s P_J2_size P_J2_get
      simp only
      rw [gd_pos ⟨b1, c1⟩, gd_pos c1, c3, Option.bind_some, if_neg (by omega), gd_pos ⟨b1, c1⟩, gd_pos ⟨c1, by omega⟩, show ((k : Int)).toNat = k by omega, ex, Option.bind_some, gd_pos ⟨.inr q3, q3, e1⟩, fd, Option.bind_some]
      cases q : mIx ms l.1 with
      | none =>
        have eg : lnG ms acc l.1 = none := by unfold lnG; rw [q]; rfl
        have en : lnN ms acc k l.1 = acc := by unfold lnN; rw [eg]; rfl
        rw [eg, en]
        show ∃ h1, (if (0 : Nat) = 0 then C_1_judgeInstances_211 G pr l1 io cls (k : Int) x h else _) = _ ∧ _
        rw [if_pos rfl, e211]
        obtain ⟨h1, a1, a2, a3, a4, a5⟩ := brk
        exact ⟨h1, a1, a2, a3, fun m hm => by rw [a4]; exact h26 m hm, a5, hacc⟩
      | some m =>
        obtain ⟨y, y1, _⟩ := ixF_some q
        have ml := ixF_lt q
        obtain ⟨_, ⟨m2, m3, m4⟩, _, m6⟩ := g1 m y y1
        have mN : ((m : Int)).toNat = m := by omega
        rw [show (some m).elim 0 mo = mo m from rfl, if_neg m2, m6, d1, gd_pos ⟨b1, m4, d3, by omega, by omega⟩, mN, h26 m ml]
        cases tk : tkn acc m with
        | true =>
          have eg : lnG ms acc l.1 = none := by unfold lnG; rw [q]; simp [tk]
          have en : lnN ms acc k l.1 = acc := by unfold lnN; rw [eg]; rfl
          obtain ⟨k', km, lv⟩ := lnV_yes (α := Nat) tk
          have k'l := hacc _ km
          have nz : xs.getD k' 0 ≠ 0 := by
            have e3 : xs[k']? = some xs[k'] := List.getElem?_eq_getElem k'l
            have e4 : ls[k']? = some (ls[k']'(by omega)) := List.getElem?_eq_getElem (by omega)
            have := (g2 k' _ _ e3 e4).1.1
            rw [List.getD_eq_getElem?_getD, e3]
            exact this
          rw [eg, en, lv, if_neg nz, e211]
          obtain ⟨h1, a1, a2, a3, a4, a5⟩ := brk
          exact ⟨h1, a1, a2, a3, fun m hm => by rw [a4]; exact h26 m hm, a5, hacc⟩
        | false =>
          have eg : lnG ms acc l.1 = some m := by unfold lnG; rw [q]; simp [tk]
          have en : lnN ms acc k l.1 = acc ++ [(m, k)] := by unfold lnN; rw [eg]; rfl
          rw [eg, en, lnV_no tk, if_pos rfl, gd_pos ⟨b1, m4, d3, by omega, by omega, q3⟩, wk]
          refine ⟨_, rfl, tF_pR rfl, ⟨rfl, rfl⟩, fun m' hm => ?_, rfl, fun p hp => ?_⟩
          · rw [lnV_add tk, aR_pR]
            by_cases z : m' = m
            · rw [if_pos ⟨rfl, z⟩, if_pos z, xk]
            · rw [if_neg (fun w => z w.2), if_neg z]; exact h26 m' hm
          · rcases List.mem_append.mp hp with hp | hp
            · exact hacc p hp
            · rw [List.mem_singleton.mp hp]; exact kl
    obtain ⟨h', r1, r2, r3, r4, r5⟩ := c_lns nd (l1 := l1) zs rs' (k + 1) (lnN ms acc k l.1) h1 hd2 hd2' (by omega) (LC_keep F1 H) v1 n1
    refine ⟨h', by rw [om_loop_in s1]; exact r1, tF_trans F1 r2, ⟨by omega, by omega⟩, r4, ?_⟩
    show fI h' 112 pr = mnl (fI h 112 pr) ((lnG ms acc l.1).elim [(l.2 : Int)] (fun _ => []) ++ lnB ms (k + 1) (lnN ms acc k l.1) rs')
    rw [r5, b1', mnl_app]
/-- methods without a line, in the component -/
theorem c_miss {l1 : Int} {acc : List (Nat × Nat)} {wc q : Nat} (hw : fR h 1290 io = wc ∧ wc < hz h ∧ kd h wc = 17 ∧ fI h 1188 wc = (q : Int)) (n0 : ∀ k, tkn acc k = true → lnV acc k (fun k => xs.getD k 0) 0 ≠ 0) : ∀ (d k : Nat) (h1 : om_H), k + d = ms.length → LC N pr io cls arr ms mo xs ls h1 → tF pr (fun _ => False) (fun y => y = arr) h h1 → (∀ m, m < ms.length → aR h1 arr m = lnV acc m (fun k => xs.getD k 0) 0) → io < hz h → fI h1 112 pr = mnl (fI h 112 pr) (msB acc (q : Int) k) → ∃ h', om_loop (C_1_judgeInstances_247s G pr l1 io) ((k : Int), h1) = some h' ∧ tF pr (fun _ => False) (fun y => y = arr) h1 h' ∧ (hz h' = hz h1 ∧ hu h' = hu h1) ∧ (∀ m, aR h' arr m = aR h1 arr m) ∧ fI h' 112 pr = mnl (fI h 112 pr) (msB acc (q : Int) ms.length)
  | 0, k, h1, hk, H, F, h26, hio, e => by
    obtain ⟨⟨a1, a2⟩, ⟨b1, b2⟩, _, ⟨d1, d2, d3, d4⟩, _⟩ := id H
    refine ⟨h1, om_loop_out ?_, tF_refl, ⟨rfl, rfl⟩, fun _ => rfl, by rw [← hk, Nat.add_zero]; exact e⟩
    unfold C_1_judgeInstances_247s
    simp only
    rw [d1, gd_pos ⟨b1, d3⟩, d4, if_pos (by omega)]
  | d + 1, k, h1, hk, H, F, h26, hio, e => by
    obtain ⟨⟨a1, a2⟩, ⟨b1, b2⟩, _, ⟨d1, d2, d3, d4⟩, _, ⟨_, _, _, f4⟩, _⟩ := id H
    have kl : k < ms.length := by omega
    have wk : w32 ((k : Int) + 1) = ((k + 1 : Nat) : Int) := by rw [w32_s (by omega) (by omega)]; rfl
    obtain ⟨t1, t2, t3, _⟩ := F.2 io hio
    obtain ⟨u1, u2, u3, _⟩ := F.2 wc hw.2.1
    have ew : fR h1 1290 io = wc := by rw [t3 1290 (fun z => z.2)]; exact hw.1
    obtain ⟨h2, s1, F2, z2, v2, e2⟩ : ∃ h2, C_1_judgeInstances_247s G pr l1 io ((k : Int), h1) = some (.inl (((k + 1 : Nat) : Int), h2)) ∧ tF pr (fun _ => False) (fun y => y = arr) h1 h2 ∧ (hz h2 = hz h1 ∧ hu h2 = hu h1) ∧ (∀ m, aR h2 arr m = aR h1 arr m) ∧ fI h2 112 pr = mnl (fI h 112 pr) (msB acc (q : Int) (k + 1)) := by
      unfold C_1_judgeInstances_247s
      simp only
      rw [d1, gd_pos ⟨b1, d3⟩, d4, if_neg (by omega), gd_pos ⟨b1, d3, by omega, by omega⟩, show ((k : Int)).toNat = k by omega, h26 k kl]
      show ∃ h2, _ ∧ _ ∧ _ ∧ _ ∧ fI h2 112 pr = mnl (fI h 112 pr) (msB acc (q : Int) k ++ (if tkn acc k then [] else [(q : Int)]))
      cases tk : tkn acc k with
      | true =>
        rw [if_pos (n0 k tk), wk]
        exact ⟨h1, rfl, tF_refl, ⟨rfl, rfl⟩, fun _ => rfl, by rw [if_pos rfl, List.append_nil]; exact e⟩
      | false =>
        rw [lnV_no tk, if_neg (fun z => z rfl), ew, gd_pos ⟨b1, by rw [u1]; exact hw.2.2.1, a1⟩, u2 1188 (by omega), hw.2.2.2, c_rule' a1, Option.bind_some, wk]
        refine ⟨_, rfl, tF_ru, ⟨rfl, rfl⟩, fun _ => rfl, ?_⟩
        show fI (sI h1 112 pr _) 112 pr = _
        rw [fI_sI, if_pos ⟨rfl, rfl⟩, e, if_neg (by decide), mnl_app]
    obtain ⟨h', r1, r2, r3, r4, r5⟩ := c_miss (l1 := l1) hw n0 d (k + 1) h2 (by omega) (LC_keep F2 H) (tF_trans F F2) (fun m hm => by rw [v2]; exact h26 m hm) hio e2
    exact ⟨h', by rw [om_loop_in s1]; exact r1, tF_trans F2 r2, ⟨by omega, by omega⟩, fun m => by rw [r4, v2], r5⟩
end LTF
