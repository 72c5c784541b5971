set_option maxRecDepth 100000
/-! THE COMPONENT'S Table.get: found or new -/
section LG2
variable {G : om_G} {h h' : om_H} {N : List (List Int)} {cl : Nat → Nat} {k w : Nat} {con mk : Int} {nm fam a b tb x : Nat} {l r : Ty} {us fs : List Nat} {rest : List (Nat × List Nat)}
theorem UU_more {y z : Nat} (H : UU us rest y) : UU (us ++ [z]) rest y := by
  rcases H with H | H
  · exact .inl (List.mem_append_left _ H)
  · exact .inr H
theorem UU_last {z : Nat} : UU (us ++ [z]) rest z := .inl (List.mem_append_right _ List.mem_cons_self)
theorem UU_cases {y z : Nat} (H : UU (us ++ [z]) rest y) : UU us rest y ∨ y = z := by
  rcases H with H | H
  · rcases List.mem_append.mp H with H | H
    · exact .inl (.inl H)
    · exact .inr (List.mem_singleton.mp H)
  · exact .inl (.inr H)
theorem cOne_keep {U : Nat → Prop} (hN : ndN N) (A : ∀ y, U y → ∃ T, tyC h N cl U T y) (kp : ∀ {T : Ty} {y : Nat}, tyC h N cl U T y → tyC h' N cl U T y) (o : cOne h N cl U) : cOne h' N cl U := by
  intro T y z hy hz2
  have tree : ∀ {v : Nat}, U v → tyC h' N cl U T v → tyC h N cl U T v := by
    intro v hv c
    obtain ⟨T1, c1⟩ := A v hv
    have := tyC_fun hN (kp c1) c
    rw [← this]; exact c1
  rcases T with ⟨k2, w2, u2, l2, r2⟩ | _
  · exact o _ _ _ (tree hy.1.1 hy) (tree hz2.1.1 hz2)
  · exact Eq.trans hy (Eq.symm hz2)
/-- a new type: the frame -/
theorem tWn_hT {n kk sz hs : Int} {nx hd hh : Nat} : hT (fun y => y = tb ∨ y = hd ∨ y = x) h (tWn h tb x n kk mk con nm fam a b sz hs nx hd hh) := by
  refine ⟨Nat.le_refl _, Nat.le_refl _, fun _ _ => tWn_kd, fun y _ nd => ⟨tWn_kd, fun f => tWn_fI (fun z => nd (.inr (.inr z))) (fun z => nd (.inl z)), fun f => tWn_fR (fun z => nd (.inr (.inr z))), tWn_an, fun f => tWn_aI, fun f => ?_, tWn_ll, tWn_lc⟩⟩
  rw [tWn_aR, if_neg (fun (z : y = hd ∧ f = hh) => nd (.inr (.inl z.1)))]
/-- a new type is put into its table -/
theorem c_new (T : TB G h N cl tb us (x :: fs) rest) (hN : ndN N) (W : tyW h N cl k w con nm fam) (A : tyC h N cl (UU us rest) l a) (B : tyC h N cl (UU us rest) r b) (hm : tmk N (tnd k w l r) = some mk) (np : ∀ y, ¬ tyC h N cl (UU us rest) (tnd k w l r) y) {hh : Nat} (ehh : and32 mk 1023 = (hh : Int)) {h' : om_H} (eh : h' = tWn h tb x ((us.length + 1 : Nat) : Int) (k : Int) mk con nm fam a b (tszW (tnd k w l r)) (thI (tnd k w l r)) (aR h (fR h 134 tb) hh) (fR h 134 tb) hh) : TB G h' N cl tb (us ++ [x]) fs rest ∧ tyC h' N cl (UU (us ++ [x]) rest) (tnd k w l r) x := by
  obtain ⟨⟨_, ⟨c1, c2, c3, c4⟩, c5⟩, ⟨p1, p2, p3, p4, p5⟩, o1, r1, r2⟩ := id T
  simp only at c1 c2 c3 c4 c5
  have x34 := p5 x (List.mem_append_right _ List.mem_cons_self)
  have xt : tb ≠ x := fun z => by rw [z] at c1; omega
  have xus : x ∉ us := fun z => (List.nodup_append.mp p3).2.2 x z x List.mem_cons_self rfl
  have X : hT (fun y => y = tb ∨ y = fR h 134 tb ∨ y = x) h h' := by rw [eh]; exact tWn_hT
  have d : dOK (fun y => y = tb ∨ y = fR h 134 tb ∨ y = x) h h' := by
    intro y hy
    have k3 : kd h y = 3 ∨ kd h y = 56 ∨ kd h y = 34 := by
      rcases hy with hy | hy | hy
      · rw [hy]; exact .inl c1.2.2
      · rw [hy]; exact .inr (.inl c2.2.1)
      · rw [hy]; exact .inr (.inr x34.1)
    exact ⟨by omega, by omega, fun z => by omega⟩
  have dU : ∀ y, UU us rest y → ¬ (y = tb ∨ y = fR h 134 tb ∨ y = x) := by
    intro y hy q
    obtain ⟨u1, u2, u3, u4⟩ := TB_U34 T hy
    rcases q with rfl | rfl | rfl
    · rw [c1.2.2] at u1; omega
    · rw [c2.2.1] at u1; omega
    · exact u4 List.mem_cons_self
  have keep : ∀ {T' : Ty} {y : Nat}, tyC h N cl (UU us rest) T' y → tyC h' N cl (UU (us ++ [x]) rest) T' y := fun c => tyC_hT X d dU (fun y hy => UU_more hy) (fun _ _ z => z) c
  have fx : ∀ {y f : Nat}, y ≠ x → fR h' f y = fR h f y := fun c => by rw [eh]; exact tWn_fR c
  have fi : ∀ {y f : Nat}, y ≠ x → y ≠ tb → fI h' f y = fI h f y := fun c c' => by rw [eh]; exact tWn_fI c c'
  have k' : ∀ y, kd h' y = kd h y := fun y => by rw [eh]; exact tWn_kd
  have hz' : hz h' = hz h := by rw [eh]; exact tWn_hz
  have mk' : fI h' 1568 x = mk := by rw [eh]; exact tWn_mark
  have own : tyC h' N cl (UU (us ++ [x]) rest) (tnd k w l r) x := by
    refine ⟨⟨UU_last, x34.2.1, by rw [hz']; exact x34.2.2⟩, by rw [k']; exact x34.1, by rw [eh]; exact tWn_kind, ?_, ?_, ?_, by rw [eh]; exact tWn_size, by rw [eh]; exact tWn_has, by rw [mk']; exact hm⟩
    · have e1 : fI h' 1560 x = con := by rw [eh]; exact tWn_con
      have e2 : fR h' 1574 x = nm := by rw [eh]; exact tWn_nm
      have e3 : fR h' 1578 x = fam := by rw [eh]; exact tWn_fam
      rw [e1, e2, e3]
      exact tyW_hT X d (fun _ _ z => z) W
    · have e1 : fR h' 1582 x = a := by rw [eh]; exact tWn_a
      rw [e1]; exact keep A
    · have e1 : fR h' 1586 x = b := by rw [eh]; exact tWn_b
      rw [e1]; exact keep B
  have e134 : fR h' 134 tb = fR h 134 tb := fx xt
  have e118 : fR h' 118 tb = fR h 118 tb := fx xt
  have e122 : fR h' 122 tb = fR h 122 tb := fx xt
  have uneq : ∀ y ∈ us, y ≠ x ∧ y ≠ tb := fun y hy => by
    obtain ⟨u1, u2, u3, u4⟩ := TB_U34 T (.inl hy)
    exact ⟨fun z => u4 (by rw [z]; exact List.mem_cons_self), fun z => by rw [z, c1.2.2] at u1; omega⟩
  refine ⟨⟨⟨rfl, ⟨⟨c1.1, by rw [hz']; exact c1.2.1, by rw [k']; exact c1.2.2⟩, ⟨?_, ?_, ?_⟩, ?_, ?_⟩, ?_⟩, ⟨?_, ?_, ?_, ?_, ?_⟩, ?_, ?_, r2⟩, own⟩
  · rw [e134, hz']; exact c2.1
  · rw [e134, k']; exact c2.2.1
  · rw [e134, eh]; exact c2.2.2
  · intro i hi
    obtain ⟨q, q1, q2⟩ := c3 i hi
    have qk : ∀ z, chC h z q → chC h' z q := fun z c => chC_keep c (fun y hy => ⟨k' y, fx (uneq y ((q2 y).mp hy).1).1⟩)
    have eaR : aR h' (fR h 134 tb) i = if fR h 134 tb = fR h 134 tb ∧ i = hh then x else aR h (fR h 134 tb) i := by rw [eh]; exact tWn_aR
    by_cases z : i = hh
    · refine ⟨x :: q, ?_, fun y => ?_⟩
      · rw [e134, eaR, if_pos ⟨rfl, z⟩]
        refine ⟨rfl, x34.2.1, by rw [k']; exact x34.1, ?_⟩
        have e1 : fR h' 1594 x = aR h (fR h 134 tb) hh := by rw [eh]; exact tWn_nx
        rw [e1, ← z]
        exact qk _ q1
      · constructor
        · intro m
          rcases List.mem_cons.mp m with rfl | m
          · exact ⟨List.mem_append_right _ List.mem_cons_self, by rw [mk', z]; exact ehh⟩
          · have m' := (q2 y).mp m
            exact ⟨List.mem_append_left _ m'.1, by rw [fi (uneq y m'.1).1 (uneq y m'.1).2]; exact m'.2⟩
        · intro m
          rcases List.mem_append.mp m.1 with m1 | m1
          · refine List.mem_cons_of_mem _ ((q2 y).mpr ⟨m1, ?_⟩)
            rw [← fi (f := 1568) (uneq y m1).1 (uneq y m1).2]; exact m.2
          · rw [List.mem_singleton.mp m1]; exact List.mem_cons_self
    · refine ⟨q, ?_, fun y => ?_⟩
      · rw [e134, eaR, if_neg (fun (w : _ ∧ i = hh) => z w.2)]
        exact qk _ q1
      · constructor
        · intro m
          have m' := (q2 y).mp m
          exact ⟨List.mem_append_left _ m'.1, by rw [fi (uneq y m'.1).1 (uneq y m'.1).2]; exact m'.2⟩
        · intro m
          rcases List.mem_append.mp m.1 with m1 | m1
          · refine (q2 y).mpr ⟨m1, ?_⟩
            rw [← fi (f := 1568) (uneq y m1).1 (uneq y m1).2]; exact m.2
          · have m2 := m.2
            rw [List.mem_singleton.mp m1, mk', ehh] at m2
            omega
  · intro y hy
    rcases List.mem_append.mp hy with m | m
    · obtain ⟨u, T', c⟩ := c4 y m
      exact ⟨UU_more u, T', keep c⟩
    · rw [List.mem_singleton.mp m]
      exact ⟨UU_last, _, own⟩
  · show CTs h' N cl (UU (us ++ [x]) rest) rest (fR h' 118 tb)
    rw [e118]
    refine CTs_keep X d dU (fun y hy => UU_more hy) c5 (fun p hp => ?_)
    obtain ⟨s1, s2, s3⟩ := r1 p hp
    obtain ⟨t1, t2, _, _⟩ := CTs_mem c5 p hp
    refine ⟨fun q => ?_, fun q => ?_⟩
    · rcases q with q | q | q
      · exact s1 q
      · have := t1.2.2; rw [q, c2.2.1] at this; omega
      · have := t1.2.2; rw [q, x34.1] at this; omega
    · rcases q with q | q | q
      · have := t2.2.1; rw [q, c1.2.2] at this; omega
      · exact s2 q
      · have := t2.2.1; rw [q, x34.1] at this; omega
  · rw [e122]
    refine ⟨by rw [hz']; exact p1.1, by rw [k']; exact p1.2.1, by rw [eh]; exact p1.2.2.1, by rw [eh]; exact p1.2.2.2.1, fun y hy => ?_⟩
    have el : ll h' (fR h 122 tb) = ll h (fR h 122 tb) := by rw [eh]; exact tWn_ll
    rw [el] at hy
    exact objY_mono (Nat.le_of_eq hz'.symm) (fun y _ => k' y) (p1.2.2.2.2 y hy)
  · rw [e122, eh, tWn_ll, p2, List.append_assoc]; rfl
  · rw [List.append_assoc]; exact p3
  · rw [eh, tWn_tb xt, List.length_append]; rfl
  · intro y hy
    rw [List.append_assoc] at hy
    rw [k', hz']
    exact p5 y hy
  · intro T' y z hy hz2
    rcases T' with ⟨k2, w2, u2, l2, r2⟩ | _
    · have tree : ∀ {v : Nat}, UU us rest v → tyC h' N cl (UU (us ++ [x]) rest) (.inner k2 w2 u2 l2 r2) v → tyC h N cl (UU us rest) (.inner k2 w2 u2 l2 r2) v := by
        intro v hv c
        obtain ⟨T1, c1'⟩ := TB_tree T hv
        have := tyC_fun hN (keep c1') c
        rw [← this]; exact c1'
      rcases UU_cases hy.1.1 with u | u
      · rcases UU_cases hz2.1.1 with v | v
        · exact o1 _ _ _ (tree u hy) (tree v hz2)
        · rw [v] at hz2
          have e := tyC_fun hN hz2 own
          have c := tree u hy
          rw [e] at c
          exact absurd c (np y)
      · rcases UU_cases hz2.1.1 with v | v
        · rw [u] at hy
          have e := tyC_fun hN hy own
          have c := tree v hz2
          rw [e] at c
          exact absurd c (np z)
        · rw [u, v]
    · exact Eq.trans hy (Eq.symm hz2)
  · intro p hp
    obtain ⟨s1, s2, s3⟩ := r1 p hp
    obtain ⟨t1, t2, _, _⟩ := CTs_mem c5 p hp
    have px : p.1 ≠ x := fun q => by have := t1.2.2; rw [q, x34.1] at this; omega
    exact ⟨s1, by rw [fx px, e134]; exact s2, fun y hy m => s3 y hy (List.mem_cons_of_mem _ m)⟩
/-- the pool grows -/
theorem pool_grow (T : TB G h N cl tb us [] rest) (hN : ndN N) (hn : us.length ≤ 149990) {h1 : om_H} (eh : h1 = addL (nO h 34 10) (fR h 122 tb) (hz h)) : P_J2_add G (fR h 122 tb) (hz h) (nO h 34 10) = some (1, h1) ∧ TB G h1 N cl tb us [hz h] rest ∧ hT (fun y => y = fR h 122 tb) h h1 ∧ hz h1 ≤ hz h + 2 ∧ hu h1 + 4 * lc h (fR h 122 tb) ≤ hu h + 10 + 4 * lc h1 (fR h 122 tb) := by
  obtain ⟨⟨_, ⟨c1, c2, c3, c4⟩, c5⟩, ⟨p1, p2, p3, p4, p5⟩, o1, r1, r2⟩ := id T
  simp only at c1 c2 c3 c4 c5
  rw [List.append_nil] at p2 p3 p5
  have Lz := p1.1
  have ko : ∀ y, y < hz h → kd (nO h 34 10) y = kd h y := fun y hy => by rw [kd_nO, if_neg (by omega)]
  have kx : kd (nO h 34 10) (hz h) = 34 := by rw [kd_nO, if_pos rfl]
  have O : okV G (nO h 34 10) (fR h 122 tb) := by
    refine ⟨by rw [hz_nO]; omega, by rw [ko _ Lz]; exact p1.2.1, p1.2.2.1, p1.2.2.2.1, fun y hy => objY_mono (by rw [hz_nO]; omega) (fun y hy => ko y hy) (p1.2.2.2.2 y hy)⟩
  have ox : objY G (nO h 34 10) (hz h) := .inl ⟨by rw [hz_nO]; omega, by rw [kx]; omega, by rw [kx]; omega⟩
  obtain ⟨v1, v2, v3, v4, v5, v6⟩ := v_add2 O ox (by rw [ll_nO, p2]; exact hn)
  rw [← eh] at v1 v2 v3 v4 v5 v6
  rw [ll_nO, p2] at v4
  rw [hz_nO] at v5
  rw [hu_nO, lc_nO] at v6
  have X0 : hT (fun y => y = fR h 122 tb) h (nO h 34 10) := by
    refine ⟨by rw [hz_nO]; omega, by rw [hu_nO]; omega, ko, fun y hy _ => ⟨ko y hy, fun f => ?_, fun f => ?_, rfl, fun f => rfl, fun f => rfl, rfl, rfl⟩⟩
    · rw [fI_nO, if_neg (by omega)]
    · rw [fR_nO, if_neg (by omega)]
  have X1 : hT (fun y => y = fR h 122 tb) (nO h 34 10) h1 := by
    obtain ⟨x1, x2, x3, x4, x5, x6, x7, x8, x9, x10⟩ := v2
    exact ⟨x1, x2, x3, fun y hy nd => ⟨x3 y hy, fun f => x4 f y hy, fun f => x5 f y hy, x6 y hy, fun f => x7 y f hy, fun f => x8 y f hy, x9 y hy nd, x10 y hy nd⟩⟩
  have X : hT (fun y => y = fR h 122 tb) h h1 := hT_trans X0 X1 (fun _ _ z => z)
  have d : dOK (fun y => y = fR h 122 tb) h h1 := by
    intro y hy
    have k3 : kd h y = 42 := by rw [show y = fR h 122 tb from hy]; exact p1.2.1
    exact ⟨by omega, by omega, fun z => by omega⟩
  have dU : ∀ y, UU us rest y → ¬ (y = fR h 122 tb) := by
    intro y hy q
    have := (TB_U34 T hy).1
    rw [q, p1.2.1] at this; omega
  have ntb : tb ≠ fR h 122 tb := fun z => by have := p1.2.1; rw [← z, c1.2.2] at this; omega
  have etb := X.2.2.2 tb c1.2.1 ntb
  have e122 : fR h1 122 tb = fR h 122 tb := etb.2.2.1 122
  have keep : ∀ {T' : Ty} {y : Nat}, tyC h N cl (UU us rest) T' y → tyC h1 N cl (UU us rest) T' y := fun c => tyC_hT X d dU (fun y hy => hy) (fun _ _ z => z) c
  have xlt : hz h < hz h1 := by have := X1.1; rw [hz_nO] at this; omega
  have k1x : kd h1 (hz h) = 34 := by rw [X1.2.2.1 _ (by rw [hz_nO]; omega)]; exact kx
  refine ⟨v1, ⟨CTs_keep X d dU (fun y hy => hy) T.1 (fun p hp => ?_), ⟨?_, ?_, ?_, ?_, ?_⟩, ?_, ?_, r2⟩, X, by omega, v6⟩
  · obtain ⟨t1, t2, _, _⟩ := CTs_mem T.1 p hp
    exact ⟨fun q => by have := t1.2.2; rw [q, p1.2.1] at this; omega, fun q => by have := t2.2.1; rw [q, p1.2.1] at this; omega⟩
  · rw [e122]; exact v3
  · rw [e122]; exact v4
  · rw [List.nodup_append]
    refine ⟨p3, by simp, fun y hy z hz' q => ?_⟩
    have := (p5 y hy).2.2
    rw [q, List.mem_singleton.mp hz'] at this
    omega
  · rw [etb.2.1]; exact p4
  · intro y hy
    rcases List.mem_append.mp hy with m | m
    · have := p5 y m
      exact ⟨by rw [X.2.2.1 y this.2.2]; exact this.1, this.2.1, Nat.lt_of_lt_of_le this.2.2 X.1⟩
    · rw [List.mem_singleton.mp m]
      exact ⟨k1x, by have := c1.2.1; omega, xlt⟩
  · exact cOne_keep hN (fun y hy => TB_tree T hy) keep o1
  · intro p hp
    obtain ⟨s1, s2, s3⟩ := r1 p hp
    obtain ⟨t1, t2, _, _⟩ := CTs_mem c5 p hp
    have e1 := X.2.2.2 p.1 t1.2.1 (fun q => by have := t1.2.2; rw [q, p1.2.1] at this; omega)
    refine ⟨s1, by rw [e1.2.2.1, etb.2.2.1]; exact s2, fun y hy m => ?_⟩
    have := (TB_U34 T (.inr ⟨p, hp, hy⟩)).2.2.1
    rw [List.mem_singleton.mp m] at this
    omega
/-- Table.get -/
theorem c_getT (T : TB G h N cl tb us fs rest) (hN : ndN N) (W : tyW h N cl k w con nm fam) (A : tyC h N cl (UU us rest) l a) (B : tyC h N cl (UU us rest) r b) (hn : (us ++ fs).length ≤ 149990) :
    (∃ x, C_2_get G tb (k : Int) con nm fam a b h = some (x, h) ∧ tyC h N cl (UU us rest) (tnd k w l r) x) ∨
    ((∀ y, ¬ tyC h N cl (UU us rest) (tnd k w l r) y) ∧ ∃ x h' fs', C_2_get G tb (k : Int) con nm fam a b h = some (x, h') ∧ TB G h' N cl tb (us ++ [x]) fs' rest ∧ tyC h' N cl (UU (us ++ [x]) rest) (tnd k w l r) x ∧ hT (DT h tb fs) h h' ∧ ((fs = x :: fs' ∧ hz h' = hz h ∧ hu h' + 4 * lc h (fR h 122 tb) ≤ hu h + 4 * lc h' (fR h 122 tb)) ∨ fs = [] ∧ fs' = [] ∧ x = hz h) ∧ (∀ f, f ≠ 124 → fI h' f tb = fI h f tb) ∧ (∀ f, fR h' f tb = fR h f tb) ∧ hz h' ≤ hz h + 2 ∧ hu h' + 4 * lc h (fR h 122 tb) ≤ hu h + 10 + 4 * lc h' (fR h 122 tb)) := by
  obtain ⟨s0, s1, e1, hm⟩ := c_get_mk (G := G) (tb := tb) W A B
  generalize emk : xor32 (w32 (s0 + s1)) (ushr32 (w32 (s0 + s1)) 13) = mk at hm
  obtain ⟨⟨t0, ⟨c1, c2, c3, c4⟩, c5⟩, ⟨p1, p2, p3, p4, p5⟩, o1, r1, r2⟩ := id T
  simp only at c1 c2 c3 c4 c5
  have hr := and32_1023 mk
  have hi : and32 mk 1023 = (((and32 mk 1023).toNat : Nat) : Int) := by omega
  have e2 : C_2_get G tb (k : Int) con nm fam a b h = (C_2_findD G 4 tb (and32 mk 1023) (k : Int) con nm fam a b h).bind fun p1 => if p1 = 0 then gd (kd h tb = 3 ∧ kd h (fR h 122 tb) = 42) ((P_J2_size G (fR h 122 tb) h).bind fun p2 => if (fI h 124 tb) ≠ p2 then C_2_get_152 G tb (k : Int) con nm fam a b (and32 mk 1023) mk h else gd (kd h tb = 3 ∧ kd (nO h 34 10) (hz h) = 34) ((C_34_init G (hz h) (nO h 34 10)).bind fun p3 => gd (kd p3 (fR h 122 tb) = 42) ((P_J2_add G (fR h 122 tb) (hz h) p3).bind fun p4 => C_2_get_152 G tb (k : Int) con nm fam a b (and32 mk 1023) mk p4.2))) else some (p1, h) := by
    rw [e1]
    unfold C_2_get_77
    rw [gd_pos c1.2.2, emk]
    rfl
  rcases c_findD (G := G) (n := 4) hN o1 W A B hm T.1 (by simp; omega) c1.1 with ⟨x, f1, f2⟩ | ⟨f1, f2⟩
  · refine .inl ⟨x, ?_, f1⟩
    rw [e2, f2, Option.bind_some, if_neg f1.1.2.1]
  · have np : ∀ y, ¬ tyC h N cl (UU us rest) (tnd k w l r) y := by
      intro y c
      rcases c.1.1 with u | ⟨p, hp, u⟩
      · exact f1 _ List.mem_cons_self y u c
      · exact f1 _ (List.mem_cons_of_mem _ hp) y u c
    refine .inr ⟨np, ?_⟩
    have lT : ∀ {T' : Ty} {y x : Nat}, x ∈ fs → tyC h N cl (UU us rest) T' y → y ≠ x := by
      intro T' y x hx c q
      rcases T' with ⟨k2, w2, u2, l2, r2⟩ | _
      · exact (TB_U34 T c.1.1).2.2.2 (by rw [q]; exact hx)
      · exact (p5 x (List.mem_append_right _ hx)).2.1 (q.symm.trans c)
    rw [List.length_append] at hn
    have es : P_J2_size G (fR h 122 tb) h = some (((us ++ fs).length : Nat) : Int) := by
      unfold P_J2_size
      rw [gd_pos p1.2.1, p2]
    rw [f2, Option.bind_some, if_pos rfl, gd_pos ⟨c1.2.2, p1.2.1⟩, es, Option.bind_some] at e2
    rcases fs with _ | ⟨x, fs⟩
    · rw [if_neg (fun z => z (by rw [p4, List.append_nil])), gd_pos ⟨c1.2.2, by rw [kd_nO, if_pos rfl]⟩] at e2
      have e3 : C_34_init G (hz h) (nO h 34 10) = some (nO h 34 10) := by
        unfold C_34_init
        exact gd_pos (by rw [kd_nO, if_pos rfl])
      obtain ⟨v1, v2, v3, v4, v5⟩ := pool_grow (h1 := addL (nO h 34 10) (fR h 122 tb) (hz h)) T hN (by simp at hn; exact hn) rfl
      have Lz := p1.1
      rw [e3, Option.bind_some, gd_pos (by rw [kd_nO, if_neg (by omega)]; exact p1.2.1), v1, Option.bind_some] at e2
      generalize addL (nO h 34 10) (fR h 122 tb) (hz h) = h1 at *
      have d : dOK (fun y => y = fR h 122 tb) h h1 := by
        intro y hy
        have k3 : kd h y = 42 := by rw [show y = fR h 122 tb from hy]; exact p1.2.1
        exact ⟨by omega, by omega, fun z => by omega⟩
      have dU : ∀ y, UU us rest y → ¬ (y = fR h 122 tb) := by
        intro y hy q
        have := (TB_U34 T hy).1
        rw [q, p1.2.1] at this; omega
      have keep : ∀ {T' : Ty} {y : Nat}, tyC h N cl (UU us rest) T' y → tyC h1 N cl (UU us rest) T' y := fun c => tyC_hT v3 d dU (fun y hy => hy) (fun _ _ z => z) c
      have W1 := tyW_hT v3 d (fun _ _ z => z) W
      have A1 := keep A
      have B1 := keep B
      have ntb : tb ≠ fR h 122 tb := fun z => by have := p1.2.1; rw [← z, c1.2.2] at this; omega
      have etb := v3.2.2.2 tb c1.2.1 ntb
      have e122 : fR h1 122 tb = fR h 122 tb := etb.2.2.1 122
      have np1 : ∀ y, ¬ tyC h1 N cl (UU us rest) (tnd k w l r) y := by
        intro y c
        obtain ⟨T1, g⟩ := TB_tree T c.1.1
        have := tyC_fun hN (keep g) c
        rw [this] at g
        exact np y g
      have lT1 : ∀ {T' : Ty} {y : Nat}, tyC h N cl (UU us rest) T' y → y ≠ hz h := by
        intro T' y c q
        rcases T' with ⟨k2, w2, u2, l2, r2⟩ | _
        · have := (TB_U34 T c.1.1).2.2.1; omega
        · have z : y = 0 := c
          have := c1.2.1; omega
      obtain ⟨⟨q0, ⟨q1, q2, q3, q4⟩, q5⟩, ⟨s1, s2, s3, s4, s5⟩, _⟩ := id v2
      simp only at q1 q2
      have x34 := s5 (hz h) (List.mem_append_right _ List.mem_cons_self)
      have key := c_get_152 (G := G) (con := con) (nm := nm) (fam := fam) (mk := mk) (k := k) (w := w) (used := us.length) (tyC_szs A1) (tyC_szs B1) x34.1 (lT1 A) (lT1 B) q1.2.2 s1.2.1 s4 (by omega) (by rw [s2, List.getElem?_append_right (Nat.le_refl _), Nat.sub_self]; rfl) q2.2.1 hr.1 (by rw [q2.2.2]; exact hr.2)
      rw [key] at e2
      obtain ⟨g1, g2⟩ := c_new v2 hN W1 A1 B1 hm np1 hi rfl
      refine ⟨hz h, _, [], e2, g1, g2, ?_, .inr ⟨rfl, rfl, rfl⟩, fun f hf => ?_, fun f => ?_, ?_, ?_⟩
      · refine hT_trans (hT_mono v3 (fun y _ z => .inr (.inl z))) tWn_hT (fun y hy z => ?_)
        rcases z with z | z | z
        · exact .inl z
        · rw [etb.2.2.1] at z; exact .inr (.inr (.inl z))
        · omega
      · rw [tWn_tb2 (by have := c1.2.1; omega) hf]; exact etb.2.1 f
      · rw [tWn_fR (by have := c1.2.1; omega)]; exact etb.2.2.1 f
      · rw [tWn_hz]; exact v4
      · rw [tWn_hu, tWn_lc]; exact v5
    · have x34 := p5 x (List.mem_append_right _ List.mem_cons_self)
      rw [if_pos (by rw [p4, List.length_append, List.length_cons]; omega)] at e2
      have key := c_get_152 (G := G) (con := con) (nm := nm) (fam := fam) (mk := mk) (k := k) (w := w) (used := us.length) (tyC_szs A) (tyC_szs B) x34.1 (lT List.mem_cons_self A) (lT List.mem_cons_self B) c1.2.2 p1.2.1 p4 (by omega) (by rw [p2, List.getElem?_append_right (Nat.le_refl _), Nat.sub_self]; rfl) c2.2.1 hr.1 (by rw [c2.2.2]; exact hr.2)
      rw [key] at e2
      have xt : tb ≠ x := fun z => by rw [z, x34.1] at c1; omega
      obtain ⟨g1, g2⟩ := c_new T hN W A B hm np hi rfl
      refine ⟨x, _, fs, e2, g1, g2, ?_, .inl ⟨rfl, tWn_hz, Nat.le_of_eq (by rw [tWn_hu, tWn_lc])⟩, fun f hf => ?_, fun f => ?_, ?_, ?_⟩
      · refine hT_mono tWn_hT (fun y hy z => ?_)
        rcases z with z | z | z
        · exact .inl z
        · exact .inr (.inr (.inl z))
        · rw [z]; exact .inr (.inr (.inr List.mem_cons_self))
      · rw [tWn_tb2 xt hf]
      · rw [tWn_fR xt]
      · rw [tWn_hz]; omega
      · rw [tWn_hu, tWn_lc]; omega
end LG2
