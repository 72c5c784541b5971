set_option maxRecDepth 100000
/-! GHOST STEPS: the pure heap is looked at in another way. A LIST is opened (its own fields and its array are seen) and closed. -/
section OM40
variable {G : om_G} {d : Nat} {M : om_M} {pc : Nat} {ls : List (Option om_V)} {st : List om_V} {h h' : om_H} {Q : om_O → Prop}
theorem ok_view (hR : ∀ H, om_R G h H → om_R G h' H) (z1 : hz h' = hz h) (z2 : hu h' = hu h) (hV : om_rng h → om_rng h') (k : OK G d M pc ls st h' Q) : OK G d M pc ls st h Q :=
  ok_step (fun V => ⟨hV V.1, V.2.1, V.2.2⟩) (Nat.le_of_eq z1.symm) (Nat.le_of_eq z2.symm) k (fun p l e R s m args below meth c H locs la u0 Q' V C _ _ kk => by
    have r := kk H locs la (hR H C.2.2.2.2.1) C.2.2.2.2.2.1 C.2.2.2.2.2.2
    rw [z1, z2] at r
    exact r)
/-- a list whose own fields and array are seen -/
def opn (h : om_H) (a e : Nat) (mc : Int) (f : Nat → Nat) : om_H :=
  (fun b => if b = a then 41 else if b = e ∧ 0 < lc h a then 61 else kd h b,
   fun g b => if b = a ∧ g = 1720 then mc else if b = a ∧ g = 1728 then ((ll h a).length : Int) else fI h g b,
   fun g b => if b = a ∧ g = 1726 then e else fR h g b,
   fun b => if b = e ∧ 0 < lc h a then lc h a else an h b, aI h,
   fun b j => if b = e ∧ 0 < lc h a then f j else aR h b j, ll h, lc h, hz h, hu h)
def om_own (G : om_G) (h : om_H) (a e : Nat) (f : Nat → Nat) : Prop :=
  (lc h a = 0 ∧ ll h a = [] ∧ e = om_cA G 600) ∨
  (0 < lc h a ∧ lc h a < 2 ^ 31 ∧ (ll h a).length ≤ lc h a ∧ 0 < e ∧ e ≠ a ∧ kd h e = 0 ∧ e < hz h ∧ om_b G ≤ e ∧ ∀ (i x : Nat), (ll h a)[i]? = some x → f i = x)
theorem kd_opn (a e : Nat) (mc : Int) (f : Nat → Nat) (b : Nat) : kd (opn h a e mc f) b = if b = a then 41 else if b = e ∧ 0 < lc h a then 61 else kd h b := rfl
theorem fI_opn (a e : Nat) (mc : Int) (f : Nat → Nat) (g b : Nat) : fI (opn h a e mc f) g b = if b = a ∧ g = 1720 then mc else if b = a ∧ g = 1728 then ((ll h a).length : Int) else fI h g b := rfl
theorem fR_opn (a e : Nat) (mc : Int) (f : Nat → Nat) (g b : Nat) : fR (opn h a e mc f) g b = if b = a ∧ g = 1726 then e else fR h g b := rfl
theorem an_opn (a e : Nat) (mc : Int) (f : Nat → Nat) (b : Nat) : an (opn h a e mc f) b = if b = e ∧ 0 < lc h a then lc h a else an h b := rfl
theorem aI_opn (a e : Nat) (mc : Int) (f : Nat → Nat) (b j : Nat) : aI (opn h a e mc f) b j = aI h b j := rfl
theorem aR_opn (a e : Nat) (mc : Int) (f : Nat → Nat) (b j : Nat) : aR (opn h a e mc f) b j = if b = e ∧ 0 < lc h a then f j else aR h b j := rfl
theorem ll_opn (a e : Nat) (mc : Int) (f : Nat → Nat) (b : Nat) : ll (opn h a e mc f) b = ll h b := rfl
theorem lc_opn (a e : Nat) (mc : Int) (f : Nat → Nat) (b : Nat) : lc (opn h a e mc f) b = lc h b := rfl
theorem hz_opn (a e : Nat) (mc : Int) (f : Nat → Nat) : hz (opn h a e mc f) = hz h := rfl
theorem hu_opn (a e : Nat) (mc : Int) (f : Nat → Nat) : hu (opn h a e mc f) = hu h := rfl
theorem om_fv_same {h1 h2 : om_H} {b : Nat} (c : ∀ g, fI h2 g b = fI h1 g b ∧ fR h2 g b = fR h1 g b) (g : Nat) : om_fv G h2 g b = om_fv G h1 g b := by
  unfold om_fv
  rw [(c g).1, (c g).2]
theorem om_ev_same {h1 h2 : om_H} {b : Nat} (c : ∀ i, aI h2 b i = aI h1 b i ∧ aR h2 b i = aR h1 b i) (k i : Nat) : om_ev G k h2 b i = om_ev G k h1 b i := by
  unfold om_ev
  rw [(c i).1, (c i).2]
theorem om_cl_40 {r : vw_C} (hc : om_cl[40]? = some r) : r.2.2 = 3 := by
  cases hc
  rfl
theorem om_cl_60 {r : vw_C} (hc : om_cl[60]? = some r) : False := by cases hc
theorem om_cl_41 {r : vw_C} (hc : om_cl[41]? = some r) : False := by cases hc
theorem om_at_61 : om_at 61 = some (.object "java/lang/Object") := rfl
/-- arrays at an address where nothing has changed -/
theorem om_arr.same {h1 h2 : om_H} {H : Heap} {b k : Nat} (c1 : an h2 b = an h1 b) (c2 : ∀ i, aI h2 b i = aI h1 b i ∧ aR h2 b i = aR h1 b i) (q : om_arr G h1 H b k) : om_arr G h2 H b k := by
  obtain ⟨cell, q1, q2, q3, q4, q5, q6⟩ := q
  refine ⟨cell, q1, q2, q3, by rw [c1]; exact q4, by rw [c1]; exact q5, fun i hi => ?_⟩
  rw [c1] at hi
  rw [om_ev_same c2]
  exact q6 i hi
theorem om_lf_fv {h1 : om_H} {a e n : Nat} (he : fR h1 1726 a = e) (e0 : e ≠ 0) (sz : fI h1 1728 a = (n : Int)) : ∀ j, j < 3 → om_fv G h1 ((om_ft 41).getD j 0) a = om_lf (Int32.ofInt (fI h1 1720 a)) (om_ra G e) n j := by
  intro j hj
  match j, hj with
  | 0, _ => rfl
  | 1, _ =>
    show om_rv G (fR h1 1726 a) = _
    rw [he, om_rv_ne e0]
    rfl
  | 2, _ =>
    show Value.int (Int32.ofInt (fI h1 1728 a)) = _
    rw [sz]
    rfl
  | j + 3, hj => omega
theorem om_open {a : Nat} {H : Heap} (hG : om_okG G) (hR : om_R G h H) (ha : kd h a = 42) : ∃ (e : Nat) (mc : Int32) (f : Nat → Nat), om_own G h a e f ∧ om_R G (opn h a e mc.toInt f) H := by
  obtain ⟨r1, r2, r3, r4, r5, r6, r7, E, r8, r9⟩ := hR
  obtain ⟨⟨mc, hob⟩, hl⟩ := r8 a ha
  have key : ∃ (e : Nat) (f : Nat → Nat), om_own G h a e f ∧ om_ra G e = E a ∧ e ≠ 0 ∧ (0 < lc h a → e = E a ∧ ∃ cell : Cell, H[e]? = some cell ∧ cell.cls = om_aC G 61 ∧ cell.vm = .none ∧ cell.slots.size = lc h a ∧ ∀ i, i < lc h a → cell.slots[i]? = some (om_rv G (f i))) := by
    rcases hl with ⟨q1, q2, q3⟩ | ⟨q1, q2, q3, q4, q5, q6, cell, f, w1, w2, w3, w4, w5, w6⟩
    · exact ⟨om_cA G 600, fun _ => 0, Or.inl ⟨q1, q2, rfl⟩, q3.symm, om_cA_0 hG (by omega), fun q => by omega⟩
    · exact ⟨E a, f, Or.inr ⟨q1, q2, q3, by omega, fun q => by rw [q, ha] at q6; omega, q6, q5, q4, w6⟩, om_ra_f r3 ⟨q4, q5⟩, by omega, fun _ => ⟨rfl, cell, w1, w2, w3, w4, w5⟩⟩
  obtain ⟨e, f, ho, hra, e0, hcell⟩ := key
  have hbe : ∀ b, b = e ∧ 0 < lc h a → b ≠ a ∧ kd h b = 0 ∧ om_b G ≤ b ∧ b < hz h := by
    rintro b ⟨rfl, hb⟩
    rcases ho with ⟨q1, -⟩ | ⟨-, -, -, -, q5, q6, q7, q8, -⟩
    · omega
    · exact ⟨q5, q6, q8, q7⟩
  refine ⟨e, mc, f, ho, r1, r2, r3, r4, ?_, ?_, ?_, E, ?_, ?_⟩
  · intro b hb
    rw [kd_opn] at hb
    by_cases c : b = a
    · rw [c]
      exact r5 a (by omega)
    · rw [if_neg c] at hb
      by_cases c2 : b = e ∧ 0 < lc h a
      · exact (hbe b c2).2.2
      · rw [if_neg c2] at hb
        exact r5 b hb
  · intro k r b hc hk
    rw [kd_opn] at hk
    by_cases c : b = a
    · rw [if_pos c] at hk
      have hk0 : k = 40 := by omega
      subst hk0
      subst c
      rw [om_cl_40 hc]
      refine hob.to (fun j hj => ?_)
      have q := om_lf_fv (G := G) (h1 := opn h b e mc.toInt f) (a := b) (e := e) (n := (ll h b).length) (by rw [fR_opn, if_pos ⟨rfl, rfl⟩]) e0 (by rw [fI_opn, if_neg (by omega), if_pos ⟨rfl, rfl⟩]) j hj
      rw [fI_opn, if_pos ⟨rfl, rfl⟩, Int32.ofInt_toInt, hra] at q
      exact q.symm
    · rw [if_neg c] at hk
      by_cases c2 : b = e ∧ 0 < lc h a
      · rw [if_pos c2] at hk
        have hk0 : k = 60 := by omega
        subst hk0
        exact (om_cl_60 hc).elim
      · rw [if_neg c2] at hk
        refine (r6 k r b hc hk).to (fun j _ => (om_fv_same (h1 := h) (h2 := opn h a e mc.toInt f) (fun g => ?_) _).symm)
        rw [fI_opn, fR_opn, if_neg (fun q => c q.1), if_neg (fun q => c q.1), if_neg (fun q => c q.1)]
        exact ⟨rfl, rfl⟩
  · intro k ty b hc hk
    rw [kd_opn] at hk
    have hge := om_at_ge hc
    by_cases c : b = a
    · rw [if_pos c] at hk
      omega
    · rw [if_neg c] at hk
      by_cases c2 : b = e ∧ 0 < lc h a
      · rw [if_pos c2] at hk
        subst hk
        obtain ⟨rfl, c2⟩ := c2
        obtain ⟨-, cell, w1, w2, w3, w4, w5⟩ := hcell c2
        have hlt : lc h a < 2 ^ 31 := by
          rcases ho with ⟨q1, -⟩ | ⟨-, q2, -⟩
          · omega
          · exact q2
        refine ⟨cell, w1, w2, w3, by rw [an_opn, if_pos ⟨rfl, c2⟩]; exact w4, by rw [an_opn, if_pos ⟨rfl, c2⟩]; exact hlt, fun i hi => ?_⟩
        rw [an_opn, if_pos ⟨rfl, c2⟩] at hi
        rw [w5 i hi]
        show _ = some (om_rv G (aR (opn h a b mc.toInt f) b i))
        rw [aR_opn, if_pos ⟨rfl, c2⟩]
      · rw [if_neg c2] at hk
        exact om_arr.same (h1 := h) (by rw [an_opn, if_neg c2]) (fun i => ⟨rfl, by rw [aR_opn, if_neg c2]⟩) (r7 k ty b hc hk)
  · intro b hb
    rw [kd_opn] at hb
    by_cases c : b = a
    · rw [if_pos c] at hb
      omega
    · rw [if_neg c] at hb
      by_cases c2 : b = e ∧ 0 < lc h a
      · rw [if_pos c2] at hb
        omega
      · rw [if_neg c2] at hb
        obtain ⟨q1, q2⟩ := r8 b hb
        refine ⟨q1, ?_⟩
        rcases q2 with q2 | ⟨q1, q2, q3, q4, q5, q6, q7⟩
        · exact Or.inl q2
        · refine Or.inr ⟨q1, q2, q3, q4, q5, ?_, q7⟩
          rw [kd_opn, if_neg (fun q => by rw [q, ha] at q6; omega), if_neg (fun q => c (r9 b a hb ha q1 q.2 (q.1.trans (hcell q.2).1)))]
          exact q6
  · intro b b' hb hb' l1 l2 q
    have t : ∀ x, kd (opn h a e mc.toInt f) x = 42 → kd h x = 42 := by
      intro x hx
      rw [kd_opn] at hx
      by_cases c : x = a
      · rw [c]
        exact ha
      · rw [if_neg c] at hx
        by_cases c2 : x = e ∧ 0 < lc h a
        · rw [if_pos c2] at hx
          omega
        · rw [if_neg c2] at hx
          exact hx
    exact r9 b b' (t b hb) (t b' hb') l1 l2 q
theorem om_rng_opn {a e : Nat} {mc : Int32} {f : Nat → Nat} (V : om_rng h) (ha : kd h a = 42) (ho : om_own G h a e f) : om_rng (opn h a e mc.toInt f) := by
  have hal := om_lt V (show kd h a ≠ 0 by omega)
  obtain ⟨v1, v2, v3, v4, v5, v6, v7⟩ := V
  have hm : iR mc.toInt := by
    have h1 := Int32.le_toInt mc
    have h2 := Int32.toInt_lt mc
    unfold iR
    omega
  have own : ∀ b, b = e ∧ 0 < lc h a → lc h a < 2 ^ 31 ∧ 0 < b := by
    rintro b ⟨rfl, hb⟩
    rcases ho with ⟨q1, -⟩ | ⟨-, q2, -, q4, -⟩
    · omega
    · exact ⟨q2, q4⟩
  have ownz : ∀ b, b = e ∧ 0 < lc h a → b < hz h := by
    rintro b ⟨rfl, hb⟩
    rcases ho with ⟨q1, -⟩ | ⟨-, -, -, -, -, -, q7, -⟩
    · omega
    · exact q7
  refine ⟨fun g b => ?_, fun b i => ?_, fun b => ?_, v4, v5, ?_, fun b hb => ?_⟩
  · rw [fI_opn]
    by_cases c : b = a ∧ g = 1720
    · rw [if_pos c, c.2]
      exact hm
    · rw [if_neg c]
      by_cases c2 : b = a ∧ g = 1728
      · rw [if_pos c2, c2.2]
        have := v4 a
        show iR _
        unfold iR
        omega
      · rw [if_neg c2]
        exact v1 g b
  · rw [kd_opn, aI_opn]
    by_cases c : b = a
    · rw [if_pos c]
      trivial
    · rw [if_neg c]
      by_cases c2 : b = e ∧ 0 < lc h a
      · rw [if_pos c2]
        trivial
      · rw [if_neg c2]
        exact v2 b i
  · rw [an_opn]
    by_cases c2 : b = e ∧ 0 < lc h a
    · rw [if_pos c2]
      have := (own b c2).1
      omega
    · rw [if_neg c2]
      exact v3 b
  · rw [kd_opn, if_neg (fun q => by rw [← q, v6] at ha; omega), if_neg (fun q => by have := (own 0 q).2; omega)]
    exact v6
  · have hb : hz h ≤ b := hb
    rw [kd_opn, if_neg (by omega), if_neg (fun q => by have := ownz b q; omega)]
    exact v7 b hb
theorem ok_open {a : Nat} (hG : om_okG G) (ha : kd h a = 42) (E : om_V0 h ls st → OKe h Q) (k : ∀ (e : Nat) (mc : Int32) (f : Nat → Nat), om_own G h a e f → OK G d M pc ls st (opn h a e mc.toInt f) Q) : OK G d M pc ls st h Q := by
  intro V
  refine ⟨E V, fun p l e R s m args below meth c H locs la u0 C => ?_⟩
  obtain ⟨c1, c2, c3, c4, hR, hlo, hL⟩ := C
  obtain ⟨e', mc, f, ho, hR'⟩ := om_open hG hR ha
  exact ((k e' mc f ho) ⟨om_rng_opn V.1 ha ho, V.2.1, V.2.2⟩).2 p l e R s m args below meth c H locs la u0 ⟨c1, c2, c3, c4, hR', hlo, hL⟩
/-- closed: what the list's fields and its array hold is what the list holds; what has no kind any more is forgotten -/
def om_shut (G : om_G) (h1 h2 : om_H) (a e : Nat) : Prop :=
  kd h1 a = 41 ∧ kd h2 a = 42 ∧ fI h1 1728 a = ((ll h2 a).length : Int) ∧ fR h1 1726 a = e ∧ e ≠ 0 ∧
  ((lc h2 a = 0 ∧ ll h2 a = [] ∧ e = om_cA G 600) ∨ (0 < lc h2 a ∧ lc h2 a < 2 ^ 31 ∧ (ll h2 a).length ≤ lc h2 a ∧ kd h1 e = 61 ∧ kd h2 e = 0 ∧ an h1 e = lc h2 a ∧ ∀ (i x : Nat), (ll h2 a)[i]? = some x → aR h1 e i = x)) ∧
  ∀ b, b ≠ a → kd h2 b ≠ 0 → kd h2 b = kd h1 b ∧ (∀ g, fI h2 g b = fI h1 g b ∧ fR h2 g b = fR h1 g b) ∧ an h2 b = an h1 b ∧ (∀ i, aI h2 b i = aI h1 b i ∧ aR h2 b i = aR h1 b i) ∧ ll h2 b = ll h1 b ∧ lc h2 b = lc h1 b
theorem om_close {a e : Nat} {h1 h2 : om_H} {H : Heap} (R1 : om_R G h1 H) (z : hz h2 = hz h1) (S : om_shut G h1 h2 a e) : om_R G h2 H := by
  obtain ⟨r1, r2, r3, r4, r5, r6, r7, E, r8, r9⟩ := R1
  obtain ⟨k1, k2, sz, he, e0, own, oth⟩ := S
  have hbe : 0 < lc h2 a → kd h1 e = 61 := by
    intro hb
    rcases own with ⟨q1, -⟩ | ⟨-, -, -, q4, q5, -⟩
    · omega
    · exact q4
  refine ⟨by rw [z]; exact r1, by rw [z]; exact r2, by rw [z]; exact r3, r4, ?_, ?_, ?_, fun b => if b = a then om_ra G e else E b, ?_, ?_⟩
  · intro b hb
    rw [z]
    by_cases c : b = a
    · rw [c]
      exact r5 a (by omega)
    · exact r5 b (by rw [← (oth b c hb).1]; exact hb)
  · intro k r b hc hk
    by_cases c : b = a
    · rw [c, k2] at hk
      have hk0 : k = 41 := by omega
      subst hk0
      exact (om_cl_41 hc).elim
    · have o := oth b c (by omega)
      exact (r6 k r b hc (by rw [← o.1]; exact hk)).to (fun j _ => (om_fv_same o.2.1 _).symm)
  · intro k ty b hc hk
    have hge := om_at_ge hc
    by_cases c : b = a
    · rw [c, k2] at hk
      omega
    · have o := oth b c (by omega)
      exact (r7 k ty b hc (by rw [← o.1]; exact hk)).same o.2.2.1 o.2.2.2.1
  · intro b hb
    by_cases c : b = a
    · subst c
      dsimp only
      rw [if_pos rfl]
      refine ⟨⟨Int32.ofInt (fI h1 1720 b), ?_⟩, ?_⟩
      · have q := r6 40 _ b rfl k1
        exact q.to (fun j hj => om_lf_fv he e0 sz j hj)
      · rcases own with q | ⟨q1, q2, q3, q4, q5, q6, q7⟩
        · exact Or.inl ⟨q.1, q.2.1, by rw [q.2.2]⟩
        · obtain ⟨cell, w1, w2, w3, w4, w5, w6⟩ := r7 61 _ e om_at_61 q4
          have hb5 := r5 e (by omega)
          rw [om_ra_f r3 hb5]
          refine Or.inr ⟨q1, q2, q3, hb5.1, by rw [z]; exact hb5.2, q5, cell, fun i => aR h1 e i, w1, w2, w3, by rw [w4, q6], fun i hi => ?_, q7⟩
          exact w6 i (by omega)
    · dsimp only
      rw [if_neg c]
      have o := oth b c (by omega)
      have hb1 : kd h1 b = 42 := by rw [← o.1]; exact hb
      obtain ⟨q1, q2⟩ := r8 b hb1
      have ell := o.2.2.2.2.1
      have elc := o.2.2.2.2.2
      refine ⟨by rw [ell]; exact q1, ?_⟩
      rw [ell, elc]
      rcases q2 with q2 | ⟨q1, q2, q3, q4, q5, q6, q7⟩
      · exact Or.inl q2
      · refine Or.inr ⟨q1, q2, q3, q4, by rw [z]; exact q5, ?_, q7⟩
        have n1 : E b ≠ a := fun q => by rw [q, k1] at q6; omega
        by_cases c0 : kd h2 (E b) = 0
        · exact c0
        · rw [(oth (E b) n1 c0).1]
          exact q6
  · intro b b' hb hb' l1 l2 q
    have t : ∀ x, x ≠ a → kd h2 x = 42 → kd h1 x = 42 ∧ lc h2 x = lc h1 x := fun x hx hk => by
      have o := oth x hx (by omega)
      exact ⟨by rw [← o.1]; exact hk, o.2.2.2.2.2⟩
    have far : ∀ x, x ≠ a → kd h2 x = 42 → 0 < lc h2 x → 0 < lc h2 a → E x ≠ e := by
      intro x hx hk hl hla hq
      obtain ⟨t1, t2⟩ := t x hx hk
      obtain ⟨-, w2⟩ := r8 x t1
      have h61 := hbe hla
      rcases w2 with ⟨w, -⟩ | ⟨-, -, -, -, -, w, -⟩
      · omega
      · rw [hq, h61] at w
        omega
    dsimp only at q
    have hre : 0 < lc h2 a → om_ra G e = e := fun hla => om_ra_f r3 (r5 e (by have := hbe hla; omega))
    by_cases c : b = a
    · by_cases c' : b' = a
      · rw [c, c']
      · rw [if_pos c, if_neg c'] at q
        rw [c] at l1
        rw [hre l1] at q
        exact absurd q.symm (far b' c' hb' l2 l1)
    · by_cases c' : b' = a
      · rw [if_neg c, if_pos c'] at q
        rw [c'] at l2
        rw [hre l2] at q
        exact absurd q (far b c hb l1 l2)
      · rw [if_neg c, if_neg c'] at q
        obtain ⟨t1, t2⟩ := t b c hb
        obtain ⟨t3, t4⟩ := t b' c' hb'
        exact r9 b b' t1 t3 (by omega) (by omega) q
end OM40
