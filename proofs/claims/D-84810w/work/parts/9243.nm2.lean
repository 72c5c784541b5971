set_option maxRecDepth 100000
/-! NAMES OF TERMS BECOME KNOWN ALIKE -/
section LN2
variable {G : om_G} {A : Nat} {S : List Int} {b m : Nat} {N : List (List Int)} {cs : List Nat} {K : KT} {pr Ln : Nat} {Ls : List (List Int)} {sc : List Nat} {tb : Nat} {rest : List (Nat × List Nat)} {fo : List Nat} {F : FT} {mo : List (List Nat)} {Ms : List FT} {rs so Lb : Nat} {bLs : List (List Int)} {bd : List Nat}
variable {σ τ σ0 : tS} {n n' n0 q lo hi alo ahi sp a v j : Nat} {X XC XT : Int} {L : List Int} {r : Int → tS → Option tS}
/-- the twin's end of a name -/
theorem t_name_end (C2 : SU S b m N K sc F Ms bd sp lo hi σ0 n0 σ n q XT) (h1 : lo ≤ v) (h2 : v < hi) (h84 : hi ≤ 8400) (hb : bd.length ≤ 600) (hS : S.length ≤ 2000) (k10 : ga σ0 538 v = 10) (tk : ga σ 542 v = ((b + j : Nat) : Int)) (k2 : tokk S j = 2) : ∃ (w : Nat) (τ : tS), N[w]? = some (tokw S j) ∧ j < m ∧ ((T_nameAt (ga σ 542 v) σ).bind fun p2 => if 0 ≤ (v : Int) ∧ (v : Int) < 8400 then ((om_loop (T_oneKnown_116s r (v : Int) (bd.length : Int) p2) (w32 ((gs σ 788) - 1), ua σ 550 v (-1))).bind fun y3 => T_oneKnown_156 r (v : Int) (bd.length : Int) p2 y3) else none) = some τ ∧ SU S b m N K sc F Ms bd sp lo hi σ0 n0 τ n q (min XT (if lst w bd bd.length = none ∧ ga σ 638 w = 0 then (tokq S j : Int) else 2147483647)) ∧ (∀ f, f ≠ 550 → ∀ i, ga τ f i = ga σ f i) ∧ (∀ i, i ≠ v → ga τ 550 i = ga σ 550 i) ∧ ga τ 550 v = oI (lst w bd bd.length) := by
  obtain ⟨w, w1, w2, w3⟩ := t_nameAt C2.1.1.2.1 (.inl k2)
  have wl := (C2.1.1.2.2.1 w _ w2).1
  have bx := C2.1.1.2.2.2.2.2
  have bx2 := C2.2.2.2.2.2.2.2
  refine ⟨w, ?_⟩
  have hv : v < 8400 := by omega
  have ev : ((v : Int)).toNat = v := by omega
  have U1 := SU_550 (v := v) (x := -1) C2 h1 h2 (by rw [k10]; decide)
  have g1 : ga (ua σ 550 v (-1)) 550 v = -1 := by rw [ga_ua, if_pos ⟨rfl, rfl⟩]
  have gf : ∀ f, f ≠ 550 → ∀ i, ga (ua σ 550 v (-1)) f i = ga σ f i := fun f hf i => by rw [ga_ua, if_neg (fun (z : f = 550 ∧ i = v) => hf z.1)]
  have gi : ∀ i, i ≠ v → ga (ua σ 550 v (-1)) 550 i = ga σ 550 i := fun i hi => by rw [ga_ua, if_neg (fun (z : (550 : Nat) = 550 ∧ i = v) => hi z.2)]
  have e788 : gs σ 788 = (bd.length : Int) := C2.1.2.1.1
  have lp := t_bound (r := r) (w := w) (l2 := (bd.length : Int)) (σ := ua σ 550 v (-1)) hv hb U1.1.2.1.2 g1 bd.length (Nat.le_refl _)
  rw [tk, w1, Option.bind_some, if_pos (by omega), e788, w32_s (by omega) (by omega), lp, Option.bind_some]
  cases ql : lst w bd bd.length with
  | some k =>
    have U2 := SU_788 (SU_550 (v := v) (x := (k : Int)) U1 h1 h2 (by rw [k10]; decide))
    have g2 : ga (ua (ua σ 550 v (-1)) 550 v (k : Int)) 550 v = (k : Int) := by rw [ga_ua, if_pos ⟨rfl, rfl⟩]
    refine ⟨us (ua (ua σ 550 v (-1)) 550 v (k : Int)) 788 (bd.length : Int), w2, w3, ?_, ?_, fun f hf i => ?_, fun i hi => ?_, ?_⟩
    · show T_oneKnown_156 r (v : Int) (bd.length : Int) (w : Int) (ua (ua σ 550 v (-1)) 550 v (k : Int)) = _
      unfold T_oneKnown_156
      rw [if_pos (by omega), ev, g2, if_pos (by omega)]
    · rw [if_neg (by simp)]
      obtain ⟨c1, c2, c3, c4, c5, c6, c7, c8⟩ := U2
      exact ⟨c1, c2, c3, c4, c5, c6, c7, by omega⟩
    · show ga (ua (ua σ 550 v (-1)) 550 v (k : Int)) f i = _
      rw [ga_ua, if_neg (fun (z : f = 550 ∧ i = v) => hf z.1)]
      exact gf f hf i
    · show ga (ua (ua σ 550 v (-1)) 550 v (k : Int)) 550 i = _
      rw [ga_ua, if_neg (fun (z : (550 : Nat) = 550 ∧ i = v) => hi z.2)]
      exact gi i hi
    · exact g2
  | none =>
    show ∃ τ, _ ∧ _ ∧ T_oneKnown_156 r (v : Int) (bd.length : Int) (w : Int) (ua σ 550 v (-1)) = some τ ∧ _
    unfold T_oneKnown_156
    rw [if_pos (by omega), ev, g1, if_neg (fun z => z rfl), if_pos (by omega), show ((w : Int)).toNat = w by omega, gf 638 (by decide)]
    by_cases z : ga σ 638 w = 0
    · rw [if_neg (fun y => y z), if_pos (by omega), gf 542 (by decide), tk]
      obtain ⟨τ1, e1, e2⟩ := ST_breaks U1.1.1 (j := j) (by omega) hS
      rw [e1, Option.bind_some]
      have U3 := SU_788 (SU_trans U1 (SU_of (lo := lo) (hi := hi) U1.1 e2))
      refine ⟨us τ1 788 (bd.length : Int), w2, w3, rfl, ?_, fun f hf i => ?_, fun i hi => ?_, ?_⟩
      · rw [if_pos ⟨rfl, z⟩]
        exact U3
      · show ga τ1 f i = _
        by_cases y : f ∈ TYA
        · obtain ⟨τ2, f1, f2, f3, f4⟩ := t_breaks U1.1.1.2.1 (j := j) (by omega) hS (w := 2) (by decide)
          rw [e1] at f1
          rw [Option.some.inj f1, f2.2 f (by simp)]
          exact gf f hf i
        · rw [ga_ST e2 y]; exact gf f hf i
      · show ga τ1 550 i = _
        rw [ga_ST e2 (by decide)]; exact gi i hi
      · show ga τ1 550 v = _
        rw [ga_ST e2 (by decide)]; exact g1
    · rw [if_pos z]
      have U2 := SU_788 U1
      refine ⟨us (ua σ 550 v (-1)) 788 (bd.length : Int), w2, w3, rfl, ?_, gf, gi, g1⟩
      rw [if_neg (fun y => z y.2)]
      obtain ⟨c1, c2, c3, c4, c5, c6, c7, c8⟩ := U2
      exact ⟨c1, c2, c3, c4, c5, c6, c7, by omega⟩
end LN2
section LN3
variable {G : om_G} {A : Nat} {S : List Int} {b m : Nat} {N : List (List Int)} {cs : List Nat} {K : KT} {pr Ln : Nat} {Ls : List (List Int)} {sc : List Nat} {tb : Nat} {rest : List (Nat × List Nat)} {fo : List Nat} {F : FT} {mo : List (List Nat)} {Ms : List FT} {rs so Lb : Nat} {bLs : List (List Int)} {bd : List Nat}
variable {h h' h0 : om_H} {us fs us' fs' us0 fs0 : List Nat} {σ τ σ0 : tS} {n n' n0 q lo hi alo ahi sp a v j : Nat} {X XC XT : Int} {L : List Int} {r : Int → tS → Option tS}
set_option maxHeartbeats 1000000 in
/-- the component's end of a name -/
theorem c_name_end (H0 : EC G A S N cs K pr Ln Ls tb rest fo F mo Ms rs so Lb h0 us0 fs0 bLs) (C : SE G A S N cs K pr Ln Ls tb rest fo F mo Ms rs so Lb bLs alo ahi h0 us0 fs0 h us fs q XC) (hA : ahi ≤ hz h0) (D : djE h0 tb fs0 pr Lb alo ahi) (k28 : kd h a = 28) (h1 : alo ≤ a) (h2 : a < ahi) (W : wd h A S (fR h 1454 a) j) (w1 : alo ≤ fR h 1454 a) (w2 : fR h 1454 a < ahi) (u0 : fI h 1464 a = -1) (b0 : fI h 1476 a = -1) (f0 : fR h 1470 a = 0) (m0 : fR h 1474 a = 0) : ∃ h', (gd (kd h rs = 35 ∧ kd h (fR h 1610 rs) = 42) ((P_J2_size G (fR h 1610 rs) h).bind fun p2 => (om_loop (C_35_name_71s G rs a) (w32 (p2 - 1), h)).bind fun y3 => C_35_name_124 G rs a y3)) = some h' ∧ SE G A S N cs K pr Ln Ls tb rest fo F mo Ms rs so Lb bLs alo ahi h0 us0 fs0 h' us fs q (min XC (if lst (tokw S j) bLs bLs.length = none ∧ btI (tokw S j) = none ∧ FI id (tokw S j) F = none ∧ MI (tokw S j) Ms = none then (tokq S j : Int) else 2147483647)) ∧ ((∃ k : Nat, lst (tokw S j) bLs bLs.length = some k ∧ fI h' 1464 a = ((bLs.length : Int) - 1) - (k : Int) ∧ fI h' 1476 a = -1 ∧ fR h' 1470 a = 0 ∧ fR h' 1474 a = 0) ∨ (lst (tokw S j) bLs bLs.length = none ∧ nmF fo F mo Ms h' a (tokw S j))) ∧ (∀ f, f ∉ [1470, 1474] → fR h' f a = fR h f a) ∧ (∀ y, y ≠ a → y ≠ pr → y < hz h → eqA y h h') ∧ (hz h' = hz h ∧ hu h' = hu h) := by
  obtain ⟨hK, hF, ⟨r1, r2, r3, r4, r5, r6⟩, _, ⟨l1, l2, l3, l4⟩, _⟩ := id C.1
  have len := WL_len l2
  have wb1 := wd_wb hK.2.1.1 W
  have lp := c_bound C.1 k28 wb1 u0 bLs.length (Nat.le_refl _)
  have c6 := C.2.2.2.2.2
  have cm : fI h 112 pr ≤ 2147483647 := hK.2.2.1.2.2
  rw [r6, gd_pos ⟨r1, l1.2.1⟩, show P_J2_size G Lb h = some ((bLs.length : Nat) : Int) by unfold P_J2_size; rw [gd_pos l1.2.1, len], Option.bind_some, w32_s (by omega) (by omega), lp, Option.bind_some]
  cases ql : lst (tokw S j) bLs bLs.length with
  | some k =>
    have kl := lst_lt ql
    have C1 := SE_sI (x := ((bLs.length : Int) - 1) - (k : Int)) (f := 1464) H0 C (by decide) h1 h2 (.inr (.inr k28))
    refine ⟨sI h 1464 a (((bLs.length : Int) - 1) - (k : Int)), ?_, ?_, .inl ⟨k, rfl, fI_eq, by rw [fI_ne (by decide)]; exact b0, f0, m0⟩, fun f _ => rfl, fun y hy _ hy2 => hT_sI.2.2.2 y hy2 hy, rfl, rfl⟩
    · show C_35_name_124 G rs a (sI h 1464 a (((bLs.length : Int) - 1) - (k : Int))) = _
      unfold C_35_name_124
      rw [gd_pos (show kd (sI h 1464 a (((bLs.length : Int) - 1) - (k : Int))) a = 28 from k28), fI_eq, if_neg (by omega)]
    · rw [if_neg (by simp)]
      obtain ⟨c1, c2, c3, c4, c5, c6⟩ := C1
      have cm' := c1.1.2.2.1.2.2
      exact ⟨c1, c2, c3, c4, c5, by omega⟩
  | none =>
    obtain ⟨h', e1, e2, e3, e4, e5, e6⟩ := c_free H0 C hA D k28 h1 h2 W w1 w2 u0 f0 m0
    refine ⟨h', e1, ?_, .inr ⟨rfl, e3⟩, e4, e5, e6⟩
    by_cases z : btI (tokw S j) = none ∧ FI id (tokw S j) F = none ∧ MI (tokw S j) Ms = none
    · rw [if_pos z] at e2
      rw [if_pos ⟨rfl, z⟩]
      exact e2
    · rw [if_neg z] at e2
      rw [if_neg (fun y => z y.2)]
      exact e2
/-- the end of a name, in both -/
theorem name_end (H0 : EC G A S N cs K pr Ln Ls tb rest fo F mo Ms rs so Lb h0 us0 fs0 bLs) (C : SE G A S N cs K pr Ln Ls tb rest fo F mo Ms rs so Lb bLs alo ahi h0 us0 fs0 h us fs q XC) (hA : ahi ≤ hz h0) (D : djE h0 tb fs0 pr Lb alo ahi) (k28 : kd h a = 28) (h1 : alo ≤ a) (h2 : a < ahi) (W : wd h A S (fR h 1454 a) j) (w1 : alo ≤ fR h 1454 a) (w2 : fR h 1454 a < ahi) (u0 : fI h 1464 a = -1) (b0 : fI h 1476 a = -1) (f0 : fR h 1470 a = 0) (m0 : fR h 1474 a = 0)
    (C2 : SU S b m N K sc F Ms bd sp lo hi σ0 n0 σ n q XT) (i1 : lo ≤ v) (i2 : v < hi) (h84 : hi ≤ 8400) (hb : bd.length ≤ 600) (hS : S.length ≤ 2000) (k10 : ga σ0 538 v = 10) (tk : ga σ 542 v = ((b + j : Nat) : Int)) (k2 : tokk S j = 2) (B : bdL N bd bLs) :
    ∃ (h' : om_H) (τ : tS) (Y : Int), (gd (kd h rs = 35 ∧ kd h (fR h 1610 rs) = 42) ((P_J2_size G (fR h 1610 rs) h).bind fun p2 => (om_loop (C_35_name_71s G rs a) (w32 (p2 - 1), h)).bind fun y3 => C_35_name_124 G rs a y3)) = some h' ∧ ((T_nameAt (ga σ 542 v) σ).bind fun p2 => if 0 ≤ (v : Int) ∧ (v : Int) < 8400 then ((om_loop (T_oneKnown_116s r (v : Int) (bd.length : Int) p2) (w32 ((gs σ 788) - 1), ua σ 550 v (-1))).bind fun y3 => T_oneKnown_156 r (v : Int) (bd.length : Int) p2 y3) else none) = some τ ∧ SE G A S N cs K pr Ln Ls tb rest fo F mo Ms rs so Lb bLs alo ahi h0 us0 fs0 h' us fs q (min XC Y) ∧ SU S b m N K sc F Ms bd sp lo hi σ0 n0 τ n q (min XT Y) ∧ (Y = 2147483647 ∨ Y = (tokq S j : Int) ∧ j ≤ m) ∧ (Y = 2147483647 → nmR S b fo F mo Ms h' τ bLs.length a v) ∧ (∀ f, f ∉ [1470, 1474] → fR h' f a = fR h f a) ∧ (∀ y, y ≠ a → y ≠ pr → y < hz h → eqA y h h') ∧ (hz h' = hz h ∧ hu h' = hu h) ∧ (∀ f, f ≠ 550 → ∀ i, ga τ f i = ga σ f i) ∧ (∀ i, i ≠ v → ga τ 550 i = ga σ 550 i) := by
  obtain ⟨h', e1, e2, e3, e4, e5, e6⟩ := c_name_end H0 C hA D k28 h1 h2 W w1 w2 u0 b0 f0 m0
  obtain ⟨w, τ, f1, f2, f3, f4, f5, f6, f7⟩ := t_name_end (r := r) C2 i1 i2 h84 hb hS k10 tk k2
  have el := lst_eq C.1.1.1.2 B f1 bd.length
  rw [B.1] at el
  rw [B.1] at f3 f4 f7
  rw [el] at f4 f7
  have et := C2.1.2.2.2 w _ f1
  have iff : (lst (tokw S j) bLs bLs.length = none ∧ ga σ 638 w = 0) ↔ (lst (tokw S j) bLs bLs.length = none ∧ btI (tokw S j) = none ∧ FI id (tokw S j) F = none ∧ MI (tokw S j) Ms = none) := by rw [et]
  rw [← B.1] at f3
  refine ⟨h', τ, if lst (tokw S j) bLs bLs.length = none ∧ btI (tokw S j) = none ∧ FI id (tokw S j) F = none ∧ MI (tokw S j) Ms = none then (tokq S j : Int) else 2147483647, e1, f3, e2, ?_, ?_, fun z => ?_, e4, e5, e6, f5, f6⟩
  · by_cases z : lst (tokw S j) bLs bLs.length = none ∧ btI (tokw S j) = none ∧ FI id (tokw S j) F = none ∧ MI (tokw S j) Ms = none
    · rw [if_pos z]
      rw [if_pos (iff.mpr z)] at f4
      exact f4
    · rw [if_neg z]
      rw [if_neg (fun y => z (iff.mp y))] at f4
      exact f4
  · split
    · exact .inr ⟨rfl, by omega⟩
    · exact .inl rfl
  · refine ⟨j, by rw [f5 542 (by decide)]; exact tk, ?_⟩
    rcases e3 with ⟨k, g1, g2, g3, g4, g5⟩ | ⟨g1, g2⟩
    · have kl := lst_lt g1
      rw [g1] at f7
      exact .inl ⟨bLs.length - 1 - k, k, by rw [g2]; omega, f7, by omega, g3, g4, g5⟩
    · rw [g1] at f7
      refine .inr ⟨f7, g2, fun y => ?_⟩
      rw [if_pos ⟨g1, y⟩] at z
      have := tok_le S j
      omega
end LN3
