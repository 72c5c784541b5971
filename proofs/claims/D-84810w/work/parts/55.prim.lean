set_option maxRecDepth 100000
/-! THE JDK's methods as functions on the pure heap -/
noncomputable def P_J2_size (_ : om_G) (a : Nat) (h : om_H) : Option Int := gd (kd h a = 42) (some ((ll h a).length : Int))
noncomputable def P_J2_get (_ : om_G) (a : Nat) (i : Int) (h : om_H) : Option Nat := gd (kd h a = 42 ∧ 0 ≤ i) ((ll h a)[i.toNat]?)
def addL (h : om_H) (a x : Nat) : om_H := if (ll h a).length < lc h a then sL h a (ll h a ++ [x]) else if lc h a = 0 then gL h a [x] 10 1 10 else gL h a (ll h a ++ [x]) (om_cap (lc h a)) 1 (om_cap (lc h a))
noncomputable def P_J2_add (G : om_G) (a x : Nat) (h : om_H) : Option (Int × om_H) := gd (kd h a = 42 ∧ (ll h a).length ≤ lc h a ∧ (ll h a).length ≤ 300000 ∧ om_obj G h x ∧ ∀ y ∈ ll h a, om_obj G h y) (some (1, addL h a x))
noncomputable def P_J2_init (_ : om_G) (a : Nat) (h : om_H) : Option om_H := gd (kd h a = 41 ∧ fI h 1728 a = 0) (some (gL h a [] 0 0 0))
noncomputable def P_J2_init_2 (_ : om_G) (a : Nat) (n : Int) (h : om_H) : Option om_H := gd (kd h a = 41 ∧ fI h 1728 a = 0 ∧ 0 < n ∧ n ≤ 1000000) (some (gL h a [] n.toNat 1 n.toNat))
noncomputable def P_J2_clear (_ : om_G) (a : Nat) (h : om_H) : Option om_H := gd (kd h a = 42) (some (sL h a []))
noncomputable def P_J2_remove (_ : om_G) (a : Nat) (i : Int) (h : om_H) : Option (Nat × om_H) := gd (kd h a = 42 ∧ i + 1 = ((ll h a).length : Int)) ((ll h a).getLast?.bind fun x => some (x, sL h a (ll h a).dropLast))
noncomputable def P_J2_isEmpty (_ : om_G) (a : Nat) (h : om_H) : Option Int := gd (kd h a = 42) (some (if (ll h a).length = 0 then 1 else 0))
noncomputable def P_J15_valueOf (G : om_G) (v : Int) (_ : om_H) : Option Nat := gd (-128 ≤ v ∧ v ≤ 127) (some (om_cA G (300 + (v + 128).toNat)))
noncomputable def P_J15_intValue (G : om_G) (a : Nat) (_ : om_H) : Option Int := @dite _ (∃ j : Nat, j < 256 ∧ a = om_cA G (300 + j)) (Classical.propDecidable _) (fun hx => some (((Classical.choose hx : Nat) : Int) - 128)) (fun _ => none)
def P_J4_length (_ : om_G) (j : Nat) (_ : om_H) : Option Int := om_sb[j]?.bind fun b => some (b.length : Int)
def P_J4_charAt (_ : om_G) (j : Nat) (i : Int) (_ : om_H) : Option Int := om_sb[j]?.bind fun b => if 0 ≤ i then b[i.toNat]? else none
noncomputable def P_J3_ordinal (G : om_G) (a : Nat) (_ : om_H) : Option Int := @dite _ (∃ i : Nat, i < 26 ∧ a = om_cA G i) (Classical.propDecidable _) (fun hx => om_en[Classical.choose hx]?.bind fun q => some q.2.2.2) (fun _ => none)
noncomputable def P_J10_init (_ : om_G) (a x y : Nat) (b c : Int) (h : om_H) : Option om_H := gd (kd h a = 16 ∧ x = 0 ∧ y = 0 ∧ b = 0 ∧ c = 0 ∧ fR h 1154 a = 0 ∧ fR h 1158 a = 0 ∧ fR h 1162 a = 0 ∧ fR h 1166 a = 0) (some h)
section OM56
variable {G : om_G} {d : Nat} {h : om_H} {Q : om_O → Prop}
theorem w_P_J2_size {a : Nat} {z : Int} (hG : om_okG G) (_ : 0 ≤ d) (e : P_J2_size G a h = some z) (q : Q (.inl (some (vI z)), h)) : OK G d m_J2_size 0 [some (vR a)] [] h Q := by
  obtain ⟨c, e⟩ := om_gdc e
  obtain rfl := om_sm e
  exact c_size hG c q
theorem w_P_J2_isEmpty {a : Nat} {z : Int} (hG : om_okG G) (_ : 0 ≤ d) (e : P_J2_isEmpty G a h = some z) (q : Q (.inl (some (vI z)), h)) : OK G d m_J2_isEmpty 0 [some (vR a)] [] h Q := by
  obtain ⟨c, e⟩ := om_gdc e
  obtain rfl := om_sm e
  exact c_isEmpty hG c q
theorem w_P_J2_get {a : Nat} {i : Int} {z : Nat} (hG : om_okG G) (hd : 3 ≤ d) (e : P_J2_get G a i h = some z) (q : Q (.inl (some (vR z)), h)) : OK G d m_J2_get 0 [some (vR a), some (vI i)] [] h Q := by
  obtain ⟨⟨c, c0⟩, e⟩ := om_gdc e
  exact c_get hG hd c c0 e q
theorem w_P_J2_add {a x : Nat} {z : Int × om_H} (hG : om_okG G) (hd : 8 ≤ d) (e : P_J2_add G a x h = some z) (q : Q (.inl (some (vI z.1)), z.2)) : OK G d m_J2_add 0 [some (vR a), some (vR x)] [] h Q := by
  obtain ⟨⟨c1, c2, c3, c4, c5⟩, e⟩ := om_gdc e
  obtain rfl := om_sm e
  unfold addL at q
  by_cases hr : (ll h a).length < lc h a
  · rw [if_pos hr] at q
    exact c_add0 hG (by omega) c1 hr (by omega) c4 q
  · rw [if_neg hr] at q
    by_cases h0 : lc h a = 0
    · rw [if_pos h0] at q
      exact c_addF hG (by omega) c1 h0 (List.eq_nil_of_length_eq_zero (by omega)) c4 q
    · rw [if_neg h0] at q
      exact c_addG hG (by omega) c1 (by omega) (by omega) (by omega) c4 c5 q
theorem w_P_J2_init {a : Nat} {z : om_H} (hG : om_okG G) (hd : 3 ≤ d) (e : P_J2_init G a h = some z) (q : Q (.inl none, z)) : OK G d m_J2_init 0 [some (vR a)] [] h Q := by
  obtain ⟨⟨c1, c2⟩, e⟩ := om_gdc e
  obtain rfl := om_sm e
  exact c_init hG hd c1 c2 q
theorem w_P_J2_init_2 {a : Nat} {n : Int} {z : om_H} (hG : om_okG G) (hd : 3 ≤ d) (e : P_J2_init_2 G a n h = some z) (q : Q (.inl none, z)) : OK G d m_J2_init_2 0 [some (vR a), some (vI n)] [] h Q := by
  obtain ⟨⟨c1, c2, c3, c4⟩, e⟩ := om_gdc e
  obtain rfl := om_sm e
  exact c_init_2 hG hd c1 c2 c3 c4 q
theorem w_P_J2_clear {a : Nat} {z : om_H} (hG : om_okG G) (_ : 0 ≤ d) (e : P_J2_clear G a h = some z) (q : Q (.inl none, z)) : OK G d m_J2_clear 0 [some (vR a), none, none, none] [] h Q := by
  obtain ⟨c, e⟩ := om_gdc e
  obtain rfl := om_sm e
  exact c_clear hG c q
theorem w_P_J2_remove {a : Nat} {i : Int} {z : Nat × om_H} (hG : om_okG G) (hd : 3 ≤ d) (e : P_J2_remove G a i h = some z) (q : Q (.inl (some (vR z.1)), z.2)) : OK G d m_J2_remove 0 [some (vR a), some (vI i), none, none] [] h Q := by
  obtain ⟨⟨c, ci⟩, e⟩ := om_gdc e
  obtain ⟨x, ex, e⟩ := om_bd e
  obtain rfl := om_sm e
  have hl : ll h a = (ll h a).dropLast ++ [x] := by
    obtain ⟨ys, hy⟩ := List.getLast?_eq_some_iff.mp ex
    rw [hy]
    simp
  refine c_remove hG hd c hl ?_ q
  have := congrArg List.length hl
  simp only [List.length_append, List.length_singleton] at this
  omega
theorem w_P_J15_valueOf {v : Int} {z : Nat} (hG : om_okG G) (_ : 0 ≤ d) (e : P_J15_valueOf G v h = some z) (q : Q (.inl (some (vR z)), h)) : OK G d m_J15_valueOf 0 [some (vI v)] [] h Q := by
  obtain ⟨⟨c1, c2⟩, e⟩ := om_gdc e
  obtain rfl := om_sm e
  exact c_valueOf hG c1 c2 q
theorem w_P_J15_intValue {a : Nat} {z : Int} (hG : om_okG G) (_ : 0 ≤ d) (e : P_J15_intValue G a h = some z) (q : Q (.inl (some (vI z)), h)) : OK G d m_J15_intValue 0 [some (vR a)] [] h Q := by
  unfold P_J15_intValue at e
  split at e
  · rename_i hx
    obtain rfl := om_sm e
    have hs := Classical.choose_spec hx
    rw [show (some (vR a) : Option om_V) = some (vR (om_cA G (300 + Classical.choose hx))) by rw [← hs.2]]
    exact c_intValue hG hs.1 q
  · cases e
theorem w_P_J4_length {j : Nat} {z : Int} (hG : om_okG G) (hd : 1 ≤ d) (e : P_J4_length G j h = some z) (q : Q (.inl (some (vI z)), h)) : OK G d m_J4_length 0 [some (vR (om_cA G (100 + j)))] [] h Q := by
  obtain ⟨b, hb, e⟩ := om_bd e
  obtain rfl := om_sm e
  exact c_length hG hd hb q
theorem P_J4_length_rc {j : Nat} {z : Int} {h' : om_H} (hG : om_okG G) (e : P_J4_length G j h' = some z) : om_Rc G h (om_cA G (100 + j)) "java/lang/String" := by
  obtain ⟨b, hb, e⟩ := om_bd e
  exact om_Rc_S hG hb
theorem w_P_J4_charAt {j : Nat} {i z : Int} (hG : om_okG G) (hd : 4 ≤ d) (e : P_J4_charAt G j i h = some z) (q : Q (.inl (some (vI z)), h)) : OK G d m_J4_charAt 0 [some (vR (om_cA G (100 + j))), some (vI i)] [] h Q := by
  obtain ⟨b, hb, e⟩ := om_bd e
  obtain ⟨c, e⟩ := om_gd e
  exact c_charAt hG (by omega) hb c e q
theorem P_J4_charAt_rc {j : Nat} {i z : Int} {h' : om_H} (hG : om_okG G) (e : P_J4_charAt G j i h' = some z) : om_Rc G h (om_cA G (100 + j)) "java/lang/String" := by
  obtain ⟨b, hb, e⟩ := om_bd e
  exact om_Rc_S hG hb
theorem w_P_J3_ordinal {a : Nat} {z : Int} (hG : om_okG G) (_ : 0 ≤ d) (e : P_J3_ordinal G a h = some z) (q : Q (.inl (some (vI z)), h)) : OK G d m_J3_ordinal 0 [some (vR a)] [] h Q := by
  unfold P_J3_ordinal at e
  split at e
  · rename_i hx
    have hs := Classical.choose_spec hx
    obtain ⟨p, hp, e⟩ := om_bd e
    obtain rfl := om_sm e
    rw [show (some (vR a) : Option om_V) = some (vR (om_cA G (Classical.choose hx))) by rw [← hs.2]]
    exact c_ordinal hG hp q
  · cases e
theorem w_P_J10_init {a x y : Nat} {b c : Int} {z : om_H} (hG : om_okG G) (hd : 4 ≤ d) (e : P_J10_init G a x y b c h = some z) (q : Q (.inl none, z)) : OK G d m_J10_init 0 [some (vR a), some (vR x), some (vR y), some (vI b), some (vI c)] [] h Q := by
  obtain ⟨⟨c1, hx, hy, hb, hc, f1, f2, f3, f4⟩, e'⟩ := om_gdc e
  subst hx hy hb hc
  obtain rfl := om_sm e'
  exact c_J10_init hG (by omega) c1 f1 f2 f3 f4 q
end OM56
