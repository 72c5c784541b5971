set_option maxRecDepth 100000
/-! NAMES BECOME KNOWN ALIKE: with @s and without -/
/-- breaks of an ex -/
def brkE (S : List Int) (b m : Nat) (σ : tS) (lo hi : Nat) (X : Int) : Prop := X = 2147483647 ∨ ∃ v j : Nat, lo ≤ v ∧ v < hi ∧ (ga σ 542 v = ((b + j : Nat) : Int) ∨ ga σ 538 v = 17 ∧ ga σ 554 v + 1 = ((b + j : Nat) : Int)) ∧ j ≤ m ∧ X = (tokq S j : Int)
/-- a node is gone through, with its left sides -/
def DN (r : Int → tS → Option tS) (v : Nat) (σ τ : tS) (sp : Nat) : Prop := ∀ l2 : Int, l2 ≤ (sp : Int) → ((om_loop (T_exKnown_7s r l2) ((v : Int), σ)).bind fun y1 => (T_oneKnown r y1.1 y1.2).bind fun p2 => om_loop (T_exKnown_50s r l2) p2) = om_loop (T_exKnown_50s r l2) τ
section LN4
variable {G : om_G} {A : Nat} {S : List Int} {b m : Nat} {N : List (List Int)} {cs : List Nat} {K : KT} {pr Ln : Nat} {Ls : List (List Int)} {sc : List Nat} {tb : Nat} {rest : List (Nat × List Nat)} {fo : List Nat} {F : FT} {mo : List (List Nat)} {Ms : List FT} {rs so Lb : Nat} {bLs : List (List Int)} {bd : List Nat} {z0 : Nat}
variable {h h' : om_H} {us fs us' fs' : List Nat} {σ τ : tS} {n n' q lo hi alo ahi sp a v : Nat} {X X2 XC XT : Int} {r : Int → tS → Option tS}
theorem brkE_of (B : brk S b m σ lo hi X) : brkE S b m σ lo hi X := by
  rcases B with e | ⟨v, j, e1, e2, e3, e4, e5⟩
  · exact .inl e
  · exact .inr ⟨v, j, e1, e2, .inl e3, e4, e5⟩
theorem brkE_mono {lo' hi' : Nat} (B : brkE S b m σ lo hi X) (h1 : lo' ≤ lo) (h2 : hi ≤ hi') : brkE S b m σ lo' hi' X := by
  rcases B with e | ⟨v, j, e1, e2, e3⟩
  · exact .inl e
  · exact .inr ⟨v, j, by omega, by omega, e3⟩
theorem brkE_min (B : brkE S b m σ lo hi X) (C : brkE S b m σ lo hi X2) : brkE S b m σ lo hi (min X X2) := by
  rcases Int.le_total X X2 with z | z
  · rw [show min X X2 = X by omega]; exact B
  · rw [show min X X2 = X2 by omega]; exact C
theorem brkE_fr (R : ∀ f ∈ [538, 542, 554], ∀ v, ga τ f v = ga σ f v) (B : brkE S b m τ lo hi X) : brkE S b m σ lo hi X := by
  rcases B with e | ⟨v, j, e1, e2, e3, e4, e5⟩
  · exact .inl e
  · rw [R 542 (by decide), R 538 (by decide), R 554 (by decide)] at e3
    exact .inr ⟨v, j, e1, e2, e3, e4, e5⟩
theorem brkE_le (hS : S.length ≤ 2000) (B : brkE S b m σ lo hi X) : X ≤ 2147483647 := by
  rcases B with e | ⟨v, j, e1, e2, e3, e4, e5⟩
  · omega
  · have := tok_le S j; omega
theorem hasLeft0 (hv : v < 8400) (k : ga σ 538 v ≠ 12 ∧ ga σ 538 v ≠ 13 ∧ ga σ 538 v ≠ 18) : T_hasLeft (v : Int) σ = some 0 := by
  unfold T_hasLeft
  rw [if_pos (by omega), show ((v : Int)).toNat = v by omega, if_neg k.1, if_pos (by omega), if_neg k.2.2, if_pos (by omega), if_pos k.2.1]
  unfold T_hasLeft_38
  rw [if_pos (.inl rfl)]
theorem hasLeft1 (hv : v < 8400) (k : ga σ 538 v = 12 ∨ ga σ 538 v = 13 ∨ ga σ 538 v = 18) : T_hasLeft (v : Int) σ = some 1 := by
  have e1 : T_hasLeft_38 1 σ = some 1 := by
    unfold T_hasLeft_38
    rw [if_pos (.inr rfl)]
  unfold T_hasLeft
  rw [if_pos (by omega), show ((v : Int)).toNat = v by omega]
  by_cases c : ga σ 538 v = 12
  · rw [if_pos c, e1]
  · rw [if_neg c, if_pos (by omega)]
    by_cases c2 : ga σ 538 v = 18
    · rw [if_pos c2, e1]
    · rw [if_neg c2, if_pos (by omega), if_neg (fun z => by omega), e1]
theorem DN_leaf (hv : v < 8400) (k : ga σ 538 v ≠ 12 ∧ ga σ 538 v ≠ 13 ∧ ga σ 538 v ≠ 18) (e : T_oneKnown r (v : Int) σ = some τ) : DN r v σ τ sp := by
  intro l2 _
  have st : T_exKnown_7s r l2 ((v : Int), σ) = some (.inr ((v : Int), σ)) := by
    unfold T_exKnown_7s
    simp only
    rw [hasLeft0 hv k, Option.bind_some, if_pos rfl]
  rw [om_loop_out st, Option.bind_some, e, Option.bind_some]
/-- a whole ex in the twin -/
theorem DN_all (D : DN r v σ τ sp) (e1 : gs σ 856 = (sp : Int)) (e2 : gs τ 856 = (sp : Int)) : T_exKnownB r (v : Int) σ = some τ := by
  have h1 := D (sp : Int) (Int.le_refl _)
  have st : om_loop (T_exKnown_50s r (sp : Int)) τ = some τ := by
    refine om_loop_out ?_
    unfold T_exKnown_50s
    rw [if_pos (by rw [e2]; exact Int.le_refl _)]
  rw [st] at h1
  unfold T_exKnownB
  rw [e1]
  cases q1 : om_loop (T_exKnown_7s r (sp : Int)) ((v : Int), σ) with
  | none => rw [q1] at h1; cases h1
  | some y =>
    rw [q1, Option.bind_some] at h1
    rw [Option.bind_some]
    cases q2 : T_oneKnown r y.1 y.2 with
    | none => rw [q2] at h1; cases h1
    | some p =>
      rw [q2, Option.bind_some] at h1
      rw [Option.bind_some, h1]
      rfl
theorem kp_T (C : SE G A S N cs K pr Ln Ls tb rest fo F mo Ms rs so Lb bLs alo ahi h us fs h' us' fs' q X) {q2 : Nat} (C2 : SU S b m N K sc F Ms bd sp lo hi σ n τ n' q2 X2) {Ψ : xP} : kp lo hi alo ahi h h' σ τ Ψ (fun _ _ _ _ _ _ _ => True) := ⟨C.2.2.2.1, SU_nss C2, fun _ _ _ _ _ _ _ _ _ _ _ _ _ => trivial⟩
/-- a name without @s -/
theorem name10 (H : EC G A S N cs K pr Ln Ls tb rest fo F mo Ms rs so Lb h us fs bLs) (HU : EU S b m N K sc F Ms σ n bd sp) (B : bdL N bd bLs) (R : ER S lo hi alo ahi pr tb Lb h us fs n sp) (i1 : lo ≤ v) (i2 : v < hi) (i3 : alo ≤ a) (i4 : a < ahi) (w : X10 A S b h σ (Psi0 A S b h σ) lo hi alo ahi a v) : ∃ (τ : tS) (h' : om_H) (XC XT : Int), T_oneKnown r (v : Int) σ = some τ ∧ C_35_name G rs a h = some h' ∧ SE G A S N cs K pr Ln Ls tb rest fo F mo Ms rs so Lb bLs alo ahi h us fs h' us fs (hi - lo) XC ∧ SU S b m N K sc F Ms bd sp lo hi σ n τ n (hi - lo) XT ∧ brkE S b m σ lo hi XC ∧ brkE S b m σ lo hi XT ∧ (XC = XT ∧ (XC = 2147483647 → X10 A S b h' τ (Psi1 S b N cs rest fo F mo Ms z0 h' us τ n bLs.length) lo hi alo ahi a v)) := by
  obtain ⟨w1, w2, w3, w4, w5, j, w6, w7, w8, w9, w10, w11⟩ := id w
  obtain ⟨p1, p2, _⟩ := w11
  obtain ⟨b1, b2, b3, b4, b5, b6⟩ := p2 (.inl rfl)
  have hS := R.1.2.2.2
  have h84 : hi ≤ 8400 := Nat.le_trans R.1.2.2.1 (by decide)
  have hb : bd.length ≤ 600 := by rw [B.1]; exact H.2.2.2.2.1.2.2.1
  have e788 : gs σ 788 = (bd.length : Int) := HU.2.1.1
  obtain ⟨h', τ, Y, e1, e2, e3, e4, e5, e6, e7, e8, ez, e9, e10⟩ := name_end (r := r) H (SE_refl H) R.1.2.1 R.2.1 w1 i3 i4 w10 w9.1 w9.2 b1 b2 b4 b5 (SU_refl HU) i1 i2 h84 hb hS w2 w6 w7 B
  have mx : ∀ z : Int, z ≤ 2147483647 → min 2147483647 z = z := fun z hz => by omega
  have Yl : Y ≤ 2147483647 := by
    have := tok_le S j
    rcases e5 with z | z <;> omega
  rw [mx Y Yl] at e3 e4
  have bY : brkE S b m σ lo hi Y := by
    rcases e5 with z | z
    · exact .inl z
    · exact .inr ⟨v, j, i1, i2, .inl w6, z.2, z.1⟩
  have q1 : 0 ≤ hi - lo := Nat.zero_le _
  refine ⟨τ, h', Y, Y, ?_, ?_, SE_le e3 q1, SU_le e4 q1, bY, bY, rfl, fun z => ?_⟩
  · have lp : om_loop (T_oneKnown_59s r (v : Int) (gs σ 788)) (ga σ 546 v, σ) = some σ := by
      rw [w5]
      refine om_loop_out ?_
      unfold T_oneKnown_59s
      rw [if_pos rfl]
    unfold T_oneKnown
    rw [if_pos (by omega), show ((v : Int)).toNat = v by omega, if_pos w2, if_pos (by omega), lp, Option.bind_some, if_pos (by omega)]
    rw [← e788] at e2
    exact e2
  · have lp : om_loop (C_35_name_24s G rs a) (0, h) = some h := by
      refine om_loop_out ?_
      unfold C_35_name_24s
      simp only
      have em : C_28_many G a h = some 0 := by
        unfold C_28_many
        rw [gd_pos w1, w4, if_neg (fun z => z rfl)]
      rw [gd_pos w1, em, Option.bind_some, if_pos (by omega)]
    unfold C_35_name
    rw [gd_pos w1, if_pos w4]
    unfold C_35_name_22
    rw [lp, Option.bind_some]
    exact e1
  · obtain ⟨v1, v2, v3, v4, v5, j', v6, v7, v8, v9, v10, _⟩ := X10_keep (kp_T e3 e4) i1 i2 i3 i4 w
    exact ⟨v1, v2, v3, v4, v5, j', v6, v7, v8, v9, v10, fun _ => by rw [e7 1382 (by decide)]; exact p1 (by decide), fun _ => ⟨by rw [e7 1482 (by decide)]; exact b6, e6 z⟩, fun _ => by rw [e7 1462 (by decide)]; exact b3, fun q => absurd q (by decide), fun q => absurd q (by decide), fun q => absurd q (by decide)⟩
/-- where the @s of a name lie -/
theorem atW_lt {z : Nat} : ∀ {ws os : List Nat} {lo hi alo ahi : Nat}, atW A S b h σ z ws os lo hi alo ahi → ∀ o ∈ os, lo < o ∧ o < hi
  | [], [], _, _, _, _, _ => fun _ h => absurd h List.not_mem_nil
  | w :: ws, o :: os, lo, hi, alo, ahi, ⟨kk, a1, a2, p, q1, q3, r1, r2, r3⟩ => fun o' ho => by
    have i := WR_in r1
    have c := (atW_in r3).1
    rcases List.mem_cons.mp ho with rfl | ho
    · omega
    · have := atW_lt r3 o' ho; omega
  | [], _ :: _, _, _, _, _, r => r.elim
  | _ :: _, [], _, _, _, _, r => r.elim
set_option maxHeartbeats 2000000 in
/-- a name with @s -/
theorem nameN {xs : List Nat} (H : EC G A S N cs K pr Ln Ls tb rest fo F mo Ms rs so Lb h us fs bLs) (HU : EU S b m N K sc F Ms σ n bd sp) (B : bdL N bd bLs) (R : ER S lo hi alo ahi pr tb Lb h us fs n sp) (hz0 : z0 ≤ hz h) (w : XN A S b h σ (Psi0 A S b h σ) lo hi alo ahi a v xs) : ∃ (τ : tS) (n' : Nat) (h' : om_H) (us' fs' : List Nat) (XC XT : Int), T_oneKnown r (v : Int) σ = some τ ∧ C_35_name G rs a h = some h' ∧ SE G A S N cs K pr Ln Ls tb rest fo F mo Ms rs so Lb bLs alo ahi h us fs h' us' fs' (hi - lo) XC ∧ SU S b m N K sc F Ms bd sp lo hi σ n τ n' (hi - lo) XT ∧ brkE S b m σ lo hi XC ∧ brkE S b m σ lo hi XT ∧ (scA N sc Ls → XC = XT ∧ (XC = 2147483647 → XN A S b h' τ (Psi1 S b N cs rest fo F mo Ms z0 h' us' τ n' bLs.length) lo hi alo ahi a v xs)) := by
  obtain ⟨i1, i2, i3, i4, w1, w2, w3, j, os, c1, c2, w6, w7, w8, w9, w10, w11, w12, w13, w14, w15, w16, w17, w18, w19, w20, w21⟩ := id w
  obtain ⟨p1, p2, p3⟩ := w20
  rw [if_pos rfl] at p3
  obtain ⟨os', p4, p5, p6, p7⟩ := p3
  have eos : os' = os := chain_det p4 w11
  subst eos
  obtain ⟨b1, b2, b3, b4, b5, b6⟩ := p2 (.inr rfl)
  have hS := R.1.2.2.2
  have h84 := R.1.2.2.1
  have aw := atW_in p7
  generalize eall : ll h (fR h 1458 a) = all at *
  have hb : bd.length ≤ 600 := by rw [B.1]; exact H.2.2.2.2.1.2.2.1
  have e788 : gs σ 788 = (bd.length : Int) := HU.2.1.1
  have len1 : all.length + (lo + 1) ≤ hi := by
    have : ∀ {ws os : List Nat} {lo hi alo ahi : Nat} {z : Nat}, atW A S b h σ z ws os lo hi alo ahi → ws.length + lo ≤ hi := by
      intro ws
      induction ws with
      | nil =>
        intro os lo hi alo ahi z q
        cases os with
        | nil => have := q.1; simp; omega
        | cons => exact q.elim
      | cons w ws ih =>
        intro os lo hi alo ahi z q
        cases os with
        | nil => exact q.elim
        | cons o os =>
          obtain ⟨kk, a1, a2, p, q1, q3, r1, r2, r3⟩ := q
          have := ih r3
          have := WR_in r1
          simp; omega
    exact this p7
  have al0 : 0 < all.length := by
    rw [w17]
    exact List.length_pos_iff.mpr w12
  -- the list of types
  have gk : kd (gL (nO h 41 3) (hz h) [] all.length 1 all.length) a = 28 := by
    have := R.1.2.1
    rw [kd_gL, if_neg (by omega), kd_nO, if_neg (by omega)]; exact w1
  have em : C_28_many G a (nO h 41 3) = some ((all.length : Nat) : Int) := by
    have := R.1.2.1
    have k1 : kd (nO h 41 3) a = 28 := by rw [kd_nO, if_neg (by omega)]; exact w1
    have f1 : fR (nO h 41 3) 1458 a = fR h 1458 a := by rw [fR_nO, if_neg (by omega)]
    have k2 : kd (nO h 41 3) (fR h 1458 a) = 42 := by rw [kd_nO, if_neg (by omega)]; exact w16
    unfold C_28_many
    rw [gd_pos k1, f1, if_pos w15, gd_pos ⟨k1, k2⟩]
    unfold P_J2_size
    rw [gd_pos k2, ll_nO, eall]
    rfl
  have ein : P_J2_init_2 G (hz h) ((all.length : Nat) : Int) (nO h 41 3) = some (gL (nO h 41 3) (hz h) [] all.length 1 all.length) := by
    unfold P_J2_init_2
    rw [gd_pos ⟨by rw [kd_nO, if_pos rfl], by rw [fI_nO, if_pos rfl], by omega, by omega⟩]
    rw [show (((all.length : Nat) : Int)).toNat = all.length by omega]
  have eC : C_35_name G rs a h = C_35_name_22 G rs a (sR (gL (nO h 41 3) (hz h) [] all.length 1 all.length) 1462 a (hz h)) := by
    have := R.1.2.1
    unfold C_35_name
    rw [gd_pos w1, if_neg w15, gd_pos (by rw [kd_nO, if_neg (by omega)]; exact w1), em, Option.bind_some, gd_pos (by rw [kd_nO, if_pos rfl]), ein, Option.bind_some, gd_pos gk]
  have rA := R.1.2.1
  have Y1 : hT (fun y => y = a) h (sR (gL (nO h 41 3) (hz h) [] all.length 1 all.length) 1462 a (hz h)) := by
    refine ⟨?_, ?_, fun y hy => ?_, fun y hy nd => ⟨?_, fun f => ?_, fun f => ?_, rfl, fun f => rfl, fun f => rfl, ?_, ?_⟩⟩
    · show hz h ≤ hz (gL (nO h 41 3) (hz h) [] all.length 1 all.length)
      rw [hz_gL, hz_nO]; omega
    · show hu h ≤ hu (gL (nO h 41 3) (hz h) [] all.length 1 all.length)
      rw [hu_gL, hu_nO]; omega
    · show kd (gL (nO h 41 3) (hz h) [] all.length 1 all.length) y = _
      rw [kd_gL, if_neg (by omega), kd_nO, if_neg (by omega)]
    · show kd (gL (nO h 41 3) (hz h) [] all.length 1 all.length) y = _
      rw [kd_gL, if_neg (by omega), kd_nO, if_neg (by omega)]
    · show fI (gL (nO h 41 3) (hz h) [] all.length 1 all.length) f y = _
      rw [fI_gL, fI_nO, if_neg (by omega)]
    · rw [fR_na nd, fR_gL, fR_nO, if_neg (by omega)]
    · show ll (gL (nO h 41 3) (hz h) [] all.length 1 all.length) y = _
      rw [ll_gL, if_neg (by omega), ll_nO]
    · show lc (gL (nO h 41 3) (hz h) [] all.length 1 all.length) y = _
      rw [lc_gL, if_neg (by omega), lc_nO]
  have fa : fR (sR (gL (nO h 41 3) (hz h) [] all.length 1 all.length) 1462 a (hz h)) 1462 a = hz h := fR_eq
  have fb : ∀ f, f ≠ 1462 → fR (sR (gL (nO h 41 3) (hz h) [] all.length 1 all.length) 1462 a (hz h)) f a = fR h f a := fun f hf => by rw [fR_ne hf, fR_gL, fR_nO, if_neg (by omega)]
  have fc : ∀ f, fI (sR (gL (nO h 41 3) (hz h) [] all.length 1 all.length) 1462 a (hz h)) f a = fI h f a := fun f => by
    show fI (gL (nO h 41 3) (hz h) [] all.length 1 all.length) f a = _
    rw [fI_gL, fI_nO, if_neg (by omega)]
  have fl : ll (sR (gL (nO h 41 3) (hz h) [] all.length 1 all.length) 1462 a (hz h)) a = ll h a := by
    show ll (gL (nO h 41 3) (hz h) [] all.length 1 all.length) a = _
    rw [ll_gL, if_neg (by omega), ll_nO]
  have tz : hz (sR (gL (nO h 41 3) (hz h) [] all.length 1 all.length) 1462 a (hz h)) = hz h + 2 := by
    show hz (gL (nO h 41 3) (hz h) [] all.length 1 all.length) = _
    rw [hz_gL, hz_nO]
  have tu : hu (sR (gL (nO h 41 3) (hz h) [] all.length 1 all.length) 1462 a (hz h)) = hu h + 3 + all.length := by
    show hu (gL (nO h 41 3) (hz h) [] all.length 1 all.length) = _
    rw [hu_gL, hu_nO]
  have tk1 : kd (sR (gL (nO h 41 3) (hz h) [] all.length 1 all.length) 1462 a (hz h)) (hz h) = 42 := by
    show kd (gL (nO h 41 3) (hz h) [] all.length 1 all.length) (hz h) = _
    rw [kd_gL, if_pos rfl]
  have tl1 : ll (sR (gL (nO h 41 3) (hz h) [] all.length 1 all.length) 1462 a (hz h)) (hz h) = [] := by
    show ll (gL (nO h 41 3) (hz h) [] all.length 1 all.length) (hz h) = _
    rw [ll_gL, if_pos rfl]
  have tc1 : lc (sR (gL (nO h 41 3) (hz h) [] all.length 1 all.length) 1462 a (hz h)) (hz h) = all.length := by
    show lc (gL (nO h 41 3) (hz h) [] all.length 1 all.length) (hz h) = _
    rw [lc_gL, if_pos rfl]
  generalize sR (gL (nO h 41 3) (hz h) [] all.length 1 all.length) 1462 a (hz h) = h1 at *
  have C0 := SE_more (q2 := 1 + all.length) H (SE_refl (alo := alo) (ahi := ahi) H) Y1 (fun y hy => .inr (by have hy' : y = a := hy; rw [hy', w1]; exact ⟨i3, i4, .inr (.inr rfl)⟩)) (fun y c d => by
    by_cases ya : y = a
    · rw [ya]
      have e := Y1.2.2.1 a (by omega)
      refine ⟨e, fun f _ => fc f, fun f hf => fb f (fun z => hf (by rw [z]; decide)), ?_⟩
      exact fl
    · have e := Y1.2.2.2 y (by omega) ya
      exact ⟨e.1, fun f _ => e.2.1 f, fun f _ => e.2.2.1 f, e.2.2.2.2.2.2.1⟩) (by omega) (by omega)
  rw [Nat.zero_add] at C0
  have U0 : SU S b m N K sc F Ms bd sp lo hi σ n σ n (1 + all.length) 2147483647 := SU_le (SU_refl HU) (Nat.zero_le _)
  have D1 := djE_step R.2.1 C0 rA
  have kx : hkK c1 c2 h h1 := fun y d1 d2 d3 => by
    have e := Y1.2.2.2 y (by omega) (fun z => by rw [z, w1] at d3; omega)
    exact ⟨e.1, e.2.1, e.2.2.1, e.2.2.2.2.2.2.1, e.2.2.2.2.2.2.2⟩
  have W1 := atW_keepK p7 kx (fun f _ i _ _ => rfl : nall (lo + 1) hi σ σ)
  have eLa := Y1.2.2.2 (fR h 1458 a) (by omega) (fun z => by rw [z] at w16; omega)
  have O1 : okW G h1 (hz h) := ⟨by omega, tk1, by rw [tl1]; simp, by rw [tc1]; omega, fun y hy => by rw [tl1] at hy; cases hy⟩
  have r4 := R.2.2.1
  have r5 := R.2.2.2.1
  obtain ⟨ys', ts, h2, us2, fs2, τ2, n2, q', XC', XT', f1, f2, f3, f4, f5, f6, f7, f8, f9, f10, f11, f12, f13, f14, f15, f16⟩ := ats_rel (r := r) (l1 := (v : Int)) (l2 := gs σ 788) H rA ⟨i3, i4⟩ w14 R.1.1 (Nat.le_refl (hz h)) (by omega) h84 R.2.2.2.2 hS all os' (lo + 1) c1 0 h1 us fs σ n (1 + all.length) 2147483647 2147483647 (ga σ 546 v) [] C0 U0 D1 W1 w11 (fun o ho => (w13 o ho).2.2) (by omega) (Nat.le_refl _) w18 w19 ⟨by rw [Y1.2.2.1 a (by omega)]; exact w1, fb _ (by decide), fa⟩ ⟨w15, by rw [eLa.1]; exact w16, by rw [eLa.2.2.2.2.2.2.1]; exact eall, rfl, Nat.zero_le _⟩ ⟨O1, tl1, rfl, tc1⟩ (by omega) (by omega)
  have ql : 1 + all.length + q' = hi - lo := by omega
  rw [ql] at f3 f4
  obtain ⟨s1, s2, s3, s4, s5⟩ := f12 a i3 i4
  have ew := Y1.2.2.2 (fR h 1454 a) (by omega) (fun z => by have := w10.1; rw [z, w1] at this; omega)
  obtain ⟨x1, x2, x3, x4, x5⟩ := f12 (fR h 1454 a) w9.1 w9.2
  have ef54 : fR h2 1454 a = fR h 1454 a := by rw [s3]; exact fb _ (by decide)
  have W2 : wd h2 A S (fR h2 1454 a) j := by
    rw [ef54]
    exact ⟨by rw [x1, ew.1]; exact w10.1, by rw [x3, ew.2.2.1]; exact w10.2.1, by rw [x2, ew.2.1]; exact w10.2.2.1, by rw [x2, ew.2.1]; exact w10.2.2.2⟩
  obtain ⟨h3, τ3, Y, e1, e2, e3, e4, e5, e6, e7, e8, ez, e9, e10⟩ := name_end (r := r) (v := v) (j := j) H f3 rA R.2.1 (by rw [s1, Y1.2.2.1 a (by omega)]; exact w1) i3 i4 W2 (by rw [ef54]; exact w9.1) (by rw [ef54]; exact w9.2) (by rw [s2, fc]; exact b1) (by rw [s2, fc]; exact b2) (by rw [s3, fb _ (by decide)]; exact b4) (by rw [s3, fb _ (by decide)]; exact b5) f4 i1 i2 (Nat.le_trans h84 (by decide)) hb hS w2 (by rw [f13 542 (by decide) (by decide)]; exact w6) w7 B
  have lC := brk_le hS f6
  have lT := brk_le hS f7
  have Yl : Y ≤ 2147483647 := by
    have := tok_le S j
    rcases e5 with z | z <;> omega
  have eXC : min (min 2147483647 XC') Y = min XC' Y := by omega
  have eXT : min (min 2147483647 XT') Y = min XT' Y := by omega
  rw [eXC] at e3
  rw [eXT] at e4
  have bY : brkE S b m σ lo hi Y := by
    rcases e5 with z | z
    · exact .inl z
    · exact .inr ⟨v, j, i1, i2, .inl w6, z.2, z.1⟩
  -- what was written last
  have opr : pr < hz h := H.1.2.2.1.1.1.2
  have kpr := H.1.2.2.1.1.1.1
  have hz2 := f3.2.1.1.1
  have Y3 : hT (fun y => y = a ∨ y = pr) h2 h3 := by
    refine ⟨by rw [ez.1]; exact Nat.le_refl _, ?_, fun y hy => ?_, fun y hy nd => e8 y (fun z => nd (.inl z)) (fun z => nd (.inr z)) hy⟩
    · rw [ez.2]; exact Nat.le_refl _
    · by_cases ya : y = a
      · rw [ya, e3.2.1.1.2.2.1 a (by omega), f3.2.1.1.2.2.1 a (by omega)]
      · by_cases yp : y = pr
        · rw [yp, e3.2.1.1.2.2.1 pr opr, f3.2.1.1.2.2.1 pr opr]
        · exact (e8 y ya yp hy).1
  have ka2 : kd h2 a = 28 := by rw [s1, Y1.2.2.1 a (by omega)]; exact w1
  have kp2 : kd h2 pr = 2 := f3.1.1.2.2.1.1.1.1
  have T2 := f3.1.1.1.1
  have ky3 : ∀ T y, tyC h2 N (clF cs) (UU us2 rest) T y → tyC h3 N (clF cs) (UU us2 rest) T y := fun T y c => tyC_hT Y3 (fun y hy => by
    have k : kd h2 y = 28 ∨ kd h2 y = 2 := by
      rcases hy with hy | hy
      · rw [hy]; exact .inl ka2
      · rw [hy]; exact .inr kp2
    exact ⟨by omega, by omega, fun z => by omega⟩) (fun y hy z => by
    have u := (TB_U34 T2 hy).1
    rcases z with z | z
    · rw [z, ka2] at u; omega
    · rw [z, kp2] at u; omega) (fun y hy => hy) (fun _ _ z => z) c
  have tx3 : tx τ2 n2 τ3 n2 := tx_same (fun f hf i => e9 f (fun z => by rw [z] at hf; exact absurd hf (by decide)) i)
  refine ⟨τ3, n2, h3, us2, fs2, min XC' Y, min XT' Y, ?_, ?_, e3, e4, brkE_min (brkE_of (brk_mono f6 (by omega) (Nat.le_refl _))) bY, brkE_min (brkE_of (brk_mono f7 (by omega) (Nat.le_refl _))) bY, fun s => ⟨by rw [(f9.2.2.2 s).1], fun z => ?_⟩⟩
  · unfold T_oneKnown
    rw [if_pos (by omega), show ((v : Int)).toNat = v by omega, if_pos w2, if_pos (by omega), f2, Option.bind_some, if_pos (by omega)]
    rw [← e788] at e2
    exact e2
  · rw [eC]
    unfold C_35_name_22
    rw [show om_loop (C_35_name_24s G rs a) (0, h1) = some h2 from f1, Option.bind_some]
    exact e1
  · obtain ⟨v1, v2, v3, v4, v5, v6, v7, j', os2, d1, d2, v8, v9, v10, v11, v12, v13, v14, v15, v16, v17, v18, v19, v20, v21, _, v23⟩ := XN_keep (kp_T e3 e4) w
    have eo2 : os2 = os' := by
      have c2' : chain τ3 (ga τ3 546 v) os' := by
        rw [e9 546 (by decide), f13 546 (by decide) (by decide)]
        exact chain_keep w11 (fun o _ => by rw [e9 562 (by decide), f13 562 (by decide) (by decide)])
      exact chain_det v13 c2'
    have aLt : a ≠ hz h := by omega
    have pLt : pr ≠ hz h := by omega
    have eLt := e8 (hz h) (fun z => aLt z.symm) (fun z => pLt z.symm) (by have := f8.1.1; omega)
    have e62 : fR h3 1462 a = hz h := by rw [e7 _ (by decide), s3]; exact fa
    refine ⟨v1, v2, v3, v4, v5, v6, v7, j', os2, d1, d2, v8, v9, v10, v11, v12, v13, v14, v15, v16, v17, v18, v19, v20, v21, ⟨fun _ => by rw [e7 _ (by decide), s3, fb _ (by decide)]; exact p1 (by decide), fun _ => ⟨by rw [e7 _ (by decide), s3, fb _ (by decide)]; exact b6, e6 (by omega)⟩, fun q => absurd q (by decide), fun q => absurd q (by decide), fun q => absurd q (by decide), fun _ => ⟨os2, ys', v13, fun o ho => ?_, ⟨by rw [e62]; exact hz0, by rw [e62, ez.1]; exact f8.1.1, by rw [e62, eLt.1]; exact f8.1.2.1, by rw [e62, eLt.2.2.2.2.2.2.1, f8.2]; rfl⟩, ?_, fun i o y ho hy => ?_⟩⟩, v23⟩
    · rw [eo2] at ho
      exact atW_lt p7 o ho
    · rw [eo2, f11, w17]
    · rw [eo2] at ho
      have il : i < ts.length := by
        rw [← f9.1]
        exact (List.getElem?_eq_some_iff.mp hy).1
      have et := List.getElem?_eq_getElem il
      have ov : o ≠ v := by have := (w13 o (List.mem_of_getElem? ho)).1; omega
      rw [e10 o ov, f10 i o _ ho et]
      obtain ⟨T, g0, g1, g2⟩ := (f9.2.2.2 s).2 (by omega) i y _ hy et
      exact ⟨T, g0, ky3 T y g1, tyT_mono tx3 g2⟩
end LN4
