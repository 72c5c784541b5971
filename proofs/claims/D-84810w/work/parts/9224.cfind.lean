set_option maxRecDepth 100000
/-! THE COMPONENT'S TABLES: chains, what is found -/
theorem and32_1023 (x : Int) : 0 ≤ and32 x 1023 ∧ and32 x 1023 < 1024 := by
  unfold and32
  have hb : (Int32.ofInt x &&& Int32.ofInt 1023).toBitVec = (Int32.ofInt x).toBitVec &&& 1023#32 := by rw [Int32.toBitVec_and]; rfl
  show 0 ≤ (Int32.ofInt x &&& Int32.ofInt 1023).toBitVec.toInt ∧ (Int32.ofInt x &&& Int32.ofInt 1023).toBitVec.toInt < 1024
  rw [hb]
  have hm : ((Int32.ofInt x).toBitVec &&& 1023#32).msb = false := by rw [BitVec.msb_and, show (1023#32).msb = false by decide]; simp
  rw [BitVec.toInt_eq_toNat_of_msb hm, BitVec.toNat_and]
  have : (Int32.ofInt x).toBitVec.toNat &&& (1023#32).toNat ≤ 1023 := Nat.and_le_right
  omega
def chC (h : om_H) : Nat → List Nat → Prop
  | a, [] => a = 0
  | a, x :: l => a = x ∧ x ≠ 0 ∧ kd h x = 34 ∧ chC h (fR h 1594 x) l
theorem chC_keep {h h' : om_H} : ∀ {a : Nat} {l : List Nat}, chC h a l → (∀ x ∈ l, kd h' x = kd h x ∧ fR h' 1594 x = fR h 1594 x) → chC h' a l
  | _, [], c, _ => c
  | _, x :: l, ⟨c1, c2, c3, c4⟩, k => ⟨c1, c2, by rw [(k x List.mem_cons_self).1]; exact c3, by rw [(k x List.mem_cons_self).2]; exact chC_keep c4 (fun y hy => k y (List.mem_cons_of_mem _ hy))⟩
/-- a table and the types in it -/
def CT1 (h : om_H) (N : List (List Int)) (cl : Nat → Nat) (U : Nat → Prop) (tb : Nat) (us : List Nat) : Prop := (tb ≠ 0 ∧ tb < hz h ∧ kd h tb = 3) ∧ (fR h 134 tb < hz h ∧ kd h (fR h 134 tb) = 56 ∧ an h (fR h 134 tb) = 1024) ∧ (∀ hh : Nat, hh < 1024 → ∃ l : List Nat, chC h (aR h (fR h 134 tb) hh) l ∧ ∀ x, x ∈ l ↔ x ∈ us ∧ and32 (fI h 1568 x) 1023 = (hh : Int)) ∧ ∀ x ∈ us, U x ∧ ∃ T, tyC h N cl U T x
/-- a table, that behind it -/
def CTs (h : om_H) (N : List (List Int)) (cl : Nat → Nat) (U : Nat → Prop) : List (Nat × List Nat) → Nat → Prop
  | [], a => a = 0
  | p :: q, a => a = p.1 ∧ CT1 h N cl U p.1 p.2 ∧ CTs h N cl U q (fR h 118 p.1)
section LCF
variable {G : om_G} {h : om_H} {N : List (List Int)} {cl : Nat → Nat} {U : Nat → Prop} {k w : Nat} {con : Int} {nm fam y z : Nat} {l r : Ty}
theorem c_find_loop {rr : Nat → Int → Int → Int → Nat → Nat → Nat → Nat → om_H → Option Nat} {t0 : Nat} {hh : Int} (hN : ndN N) (h1 : cOne h N cl U) (W : tyW h N cl k w con nm fam) (Y : tyC h N cl U l y) (Z : tyC h N cl U r z) : ∀ {a : Nat} {q : List Nat}, chC h a q → (∀ x ∈ q, ∃ T, tyC h N cl U T x) → (∃ x ∈ q, tyC h N cl U (tnd k w l r) x ∧ om_loop (C_2_find_8s G rr t0 hh (k : Int) con nm fam y z h) a = some (.inl x)) ∨ ((∀ x ∈ q, ¬ tyC h N cl U (tnd k w l r) x) ∧ om_loop (C_2_find_8s G rr t0 hh (k : Int) con nm fam y z h) a = some (.inr ()))
  | a, [], c, _ => by
    refine .inr ⟨fun x hx => absurd hx List.not_mem_nil, om_loop_out ?_⟩
    unfold C_2_find_8s
    rw [if_pos (show a = 0 from c)]
  | a, x :: q, ⟨c1, c2, c3, c4⟩, A => by
    obtain ⟨T, hT⟩ := A x List.mem_cons_self
    rcases T with ⟨k', w', u', l', r'⟩ | _
    · obtain ⟨v, e1, e2, e3⟩ := c_alike (G := G) hN h1 hT W Y Z
      by_cases s : tnd k' w' l' r' = tnd k w l r
      · refine .inl ⟨x, List.mem_cons_self, by rw [← s]; exact hT, om_loop_out ?_⟩
        unfold C_2_find_8s
        rw [c1, if_neg c2, gd_pos c3, e1, e3.mpr s, Option.bind_some, if_neg (by decide)]
      · have v0 : v = 0 := by
          rcases e2 with z | z
          · exact z
          · exact absurd (e3.mp z) s
        have st : C_2_find_8s G rr t0 hh (k : Int) con nm fam y z h a = some (.inl (fR h 1594 x)) := by
          unfold C_2_find_8s
          rw [c1, if_neg c2, gd_pos c3, e1, v0, Option.bind_some, if_pos rfl, gd_pos c3]
        rw [om_loop_in st]
        rcases c_find_loop (rr := rr) (t0 := t0) (hh := hh) hN h1 W Y Z c4 (fun x hx => A x (List.mem_cons_of_mem _ hx)) with ⟨x', m, f, e⟩ | ⟨m, e⟩
        · exact .inl ⟨x', List.mem_cons_of_mem _ m, f, e⟩
        · refine .inr ⟨fun x' hx' f => ?_, e⟩
          rcases List.mem_cons.mp hx' with rfl | hx'
          · exact s (tyC_fun hN hT f)
          · exact m x' hx' f
    · exact absurd hT c2
/-- what is found in a table, or behind it -/
theorem c_findD {mk : Int} (hN : ndN N) (h1 : cOne h N cl U) (W : tyW h N cl k w con nm fam) (Y : tyC h N cl U l y) (Z : tyC h N cl U r z) (hm : tmk N (tnd k w l r) = some mk) : ∀ {ps : List (Nat × List Nat)} {n a : Nat}, CTs h N cl U ps a → ps.length ≤ n → a ≠ 0 → (∃ x, tyC h N cl U (tnd k w l r) x ∧ C_2_findD G n a (and32 mk 1023) (k : Int) con nm fam y z h = some x) ∨ ((∀ p ∈ ps, ∀ x ∈ p.2, ¬ tyC h N cl U (tnd k w l r) x) ∧ C_2_findD G n a (and32 mk 1023) (k : Int) con nm fam y z h = some 0)
  | [], _, _, c, _, a0 => absurd c a0
  | p :: q, 0, _, _, hl, _ => absurd hl (by simp)
  | p :: q, n + 1, a, ⟨c1, ⟨c2, c3, c4, c5⟩, c6⟩, hl, a0 => by
    have hr := and32_1023 mk
    have hi : (((and32 mk 1023).toNat : Nat) : Int) = and32 mk 1023 := by omega
    obtain ⟨ch, m1, m2⟩ := c4 (and32 mk 1023).toNat (by omega)
    have eB : C_2_findD G (n + 1) a (and32 mk 1023) (k : Int) con nm fam y z h = (om_loop (C_2_find_8s G (C_2_findD G n) p.1 (and32 mk 1023) (k : Int) con nm fam y z h) (aR h (fR h 134 p.1) (and32 mk 1023).toNat)).bind (Sum.elim (fun v1 => some v1) (fun v1 => gd (kd h p.1 = 3) (if (fR h 118 p.1) ≠ 0 then gd (kd h p.1 = 3 ∧ kd h (fR h 118 p.1) = 3) ((C_2_findD G n (fR h 118 p.1) (and32 mk 1023) (k : Int) con nm fam y z h).bind fun p2 => some p2) else some 0))) := by
      show C_2_findB G (C_2_findD G n) a (and32 mk 1023) (k : Int) con nm fam y z h = _
      unfold C_2_findB
      rw [c1]
      exact gd_pos ⟨c2.2.2, c3.2.1, hr.1, by rw [c3.2.2]; exact hr.2⟩
    rcases c_find_loop (G := G) (rr := C_2_findD G n) (t0 := p.1) (hh := and32 mk 1023) hN h1 W Y Z m1 (fun x hx => (c5 x ((m2 x).mp hx).1).2) with ⟨x, m, f, e⟩ | ⟨m, e⟩
    · exact .inl ⟨x, f, by rw [eB, e]; rfl⟩
    · have own : ∀ x ∈ p.2, ¬ tyC h N cl U (tnd k w l r) x := fun x hx f => by
        refine m x ((m2 x).mpr ⟨hx, ?_⟩) f
        have := f.2.2.2.2.2.2.2.2
        rw [hm] at this
        rw [← Option.some.inj this]; exact hi.symm
      by_cases b0 : fR h 118 p.1 = 0
      · refine .inr ⟨fun p' hp' => ?_, ?_⟩
        · rcases List.mem_cons.mp hp' with rfl | hp'
          · exact own
          · rcases q with _ | ⟨p2, q⟩
            · cases hp'
            · obtain ⟨d1, ⟨d2, _⟩, _⟩ := c6
              exact absurd (d1.symm.trans b0) d2.1
        · rw [eB, e]
          show gd (kd h p.1 = 3) _ = some 0
          rw [gd_pos c2.2.2, if_neg (fun z => z b0)]
      · have kk : kd h (fR h 118 p.1) = 3 := by
          rcases q with _ | ⟨p2, q⟩
          · exact absurd c6 b0
          · obtain ⟨d1, ⟨d2, _⟩, _⟩ := c6
            rw [d1]; exact d2.2.2
        have eN : C_2_findD G (n + 1) a (and32 mk 1023) (k : Int) con nm fam y z h = C_2_findD G n (fR h 118 p.1) (and32 mk 1023) (k : Int) con nm fam y z h := by
          rw [eB, e]
          show gd (kd h p.1 = 3) _ = _
          rw [gd_pos c2.2.2, if_pos b0, gd_pos ⟨c2.2.2, kk⟩]
          cases C_2_findD G n (fR h 118 p.1) (and32 mk 1023) (k : Int) con nm fam y z h <;> rfl
        rcases c_findD (n := n) hN h1 W Y Z hm c6 (by simp at hl; omega) b0 with ⟨x, f, e'⟩ | ⟨m', e'⟩
        · exact .inl ⟨x, f, by rw [eN]; exact e'⟩
        · refine .inr ⟨fun p' hp' => ?_, by rw [eN]; exact e'⟩
          rcases List.mem_cons.mp hp' with rfl | hp'
          · exact own
          · exact m' p' hp'
end LCF
