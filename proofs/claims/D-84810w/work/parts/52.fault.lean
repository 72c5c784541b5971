set_option maxRecDepth 100000
section OM54
variable {G : om_G} {d : Nat} {h : om_H} {Q : om_O → Prop}
theorem om_s1004 (hG : om_okG G) : ∀ s, om_K G s → va_Z "jdk/internal/util/Preconditions" "SIOOBE_FORMATTER" "Ljava/util/function/BiFunction;" (om_rv G (om_cA G 1004)) (om_Aa G) s (om_H0 G) := fun s hs => (hG.1 s hs).2.2.2.2.2.2.1.2.1
theorem om_s1005 (hG : om_okG G) : ∀ s, om_K G s → va_Z "java/lang/Throwable" "UNASSIGNED_STACK" "[Ljava/lang/StackTraceElement;" (om_rv G (om_cA G 1005)) (om_Aa G) s (om_H0 G) := fun s hs => (hG.1 s hs).2.2.2.2.2.2.1.2.2.1
theorem om_s1006 (hG : om_okG G) : ∀ s, om_K G s → va_Z "java/lang/Throwable" "SUPPRESSED_SENTINEL" "Ljava/util/List;" (om_rv G (om_cA G 1006)) (om_Aa G) s (om_H0 G) := fun s hs => (hG.1 s hs).2.2.2.2.2.2.1.2.2.2
theorem om_zero4 {a x y : Nat} (f1 : fR h 1154 a = 0) (f2 : fR h 1158 a = 0) (f3 : fR h 1162 a = 0) (f4 : fR h 1166 a = 0) : sR (sR (sR (sR (sR (sR (sR h 1154 a a) 1158 a x) 1162 a y) 1158 a 0) 1166 a 0) 1154 a 0) 1162 a 0 = h := by
  refine om_ext (fun _ => rfl) (fun _ _ => rfl) (fun g b => ?_) (fun _ => rfl) (fun _ _ => rfl) (fun _ _ => rfl) (fun _ => rfl) (fun _ => rfl) rfl rfl
  simp only [fR_sR]
  by_cases c : b = a
  · subst c
    by_cases c1 : g = 1162
    · subst c1; simp [f3]
    · by_cases c2 : g = 1154
      · subst c2; simp [f1]
      · by_cases c3 : g = 1166
        · subst c3; simp [f4]
        · by_cases c4 : g = 1158
          · subst c4; simp [f2]
          · simp [c1, c2, c3, c4]
  · simp [c]
theorem c_J8_a {a : Nat} (hG : om_okG G) (ha : kd h a = 16) (k : OK G d m_J8_init_2 23 [some (vR a), some (vR 0), some (vR 0), some (vI 0), some (vI 0)] [] (sR (sR h 1158 a (om_cA G 1005)) 1162 a (om_cA G 1006)) Q) : OK G d m_J8_init_2 9 [some (vR a), some (vR 0), some (vR 0), some (vI 0), some (vI 0)] [] h Q := by
  refine ok_aload_n dJ8_init_2_9 rfl ?_
  refine ok_getsq dJ8_init_2_10 q1024 (om_cA G 1005) (om_s1005 hG) ?_
  refine ok_putR dJ8_init_2_13 fp_J8_17 (fun h => by cases h) (by decide) ha ?_
  refine ok_aload_n dJ8_init_2_16 rfl ?_
  refine ok_getsq dJ8_init_2_17 q1026 (om_cA G 1006) (om_s1006 hG) ?_
  exact ok_putR dJ8_init_2_20 fp_J8_24 (fun h => by cases h) (by decide) ha k
theorem c_J8_b {a : Nat} (ha : kd h a = 16) (k : OK G d m_J8_init_2 36 [some (vR a), some (vR 0), some (vR 0), some (vI 0), none] [] h Q) : OK G d m_J8_init_2 23 [some (vR a), some (vR 0), some (vR 0), some (vI 0), some (vI 0)] [] h Q := by
  refine ok_iload dJ8_init_2_23 rfl ?_
  exact ok_if_eq (tgt := 36) dJ8_init_2_25 (by decide) (fun _ => ok_fewer (ls' := [some (vR a), some (vR 0), some (vR 0), some (vI 0), none]) ⟨rfl, rfl, rfl, rfl, trivial⟩ k) (fun z => absurd rfl z)
/-- a fresh Fault's constructors above its own leave the heap as it was -/
theorem c_J8_init_2 {a : Nat} (hG : om_okG G) (hd : 1 ≤ d) (ha : kd h a = 16) (f1 : fR h 1154 a = 0) (f2 : fR h 1158 a = 0) (f3 : fR h 1162 a = 0) (f4 : fR h 1166 a = 0) (q : Q (.inl none, h)) : OK G d m_J8_init_2 0 [some (vR a), some (vR 0), some (vR 0), some (vI 0), some (vI 0)] [] h Q := by
  refine ok_aload_n dJ8_init_2_0 rfl ?_
  refine ok_rng (fun V => ?_)
  refine ok_objInit dJ8_init_2_1 q1023 q321 q322 (om_ne0 V ha) (Nat.le_of_ble_eq_true rfl) hd ?_
  refine ok_aload_n dJ8_init_2_4 rfl ?_
  refine ok_aload_n dJ8_init_2_5 rfl ?_
  refine ok_putR dJ8_init_2_6 fp_J8_7 (fun h => by cases h) (by decide) ha ?_
  have ha1 : kd (sR h 1154 a a) a = 16 := ha
  refine c_J8_a hG ha1 ?_
  have e := om_zero4 (x := om_cA G 1005) (y := om_cA G 1006) f1 f2 f3 f4
  generalize sR h 1154 a a = h1 at ha1 e ⊢
  have ha2 : kd (sR (sR h1 1158 a (om_cA G 1005)) 1162 a (om_cA G 1006)) a = 16 := ha1
  generalize sR (sR h1 1158 a (om_cA G 1005)) 1162 a (om_cA G 1006) = h2 at ha2 e ⊢
  refine c_J8_b ha2 ?_
  refine b_J8_init_2_36 ha2 (b_J8_init_2_41 ha2 (fun z => absurd rfl z) (fun _ => b_J8_init_2_55 ha2 (b_J8_init_2_60 ?_)))
  rw [e]
  exact q
theorem c_J10_init {a : Nat} (hG : om_okG G) (hd : 3 ≤ d) (ha : kd h a = 16) (f1 : fR h 1154 a = 0) (f2 : fR h 1158 a = 0) (f3 : fR h 1162 a = 0) (f4 : fR h 1166 a = 0) (q : Q (.inl none, h)) : OK G d m_J10_init 0 [some (vR a), some (vR 0), some (vR 0), some (vI 0), some (vI 0)] [] h Q := by
  refine b_J10_init_0 (d' := d - 1) (Q1 := fun O => O = (.inl none, h)) ?_ (by omega) (fun O hO => by subst hO; exact b_J10_init_9 q) ha
  exact b_J9_init_0 (d' := d - 2) (Q1 := fun O => O = (.inl none, h)) (c_J8_init_2 hG (by omega) ha f1 f2 f3 f4 rfl) (by omega) (fun O hO => by subst hO; exact b_J9_init_9 rfl) ha
end OM54
