set_option maxRecDepth 100000
/-! NAMES WITH @s: their types become known -/
section LAT0
variable {S : List Int} {b m : Nat} {N : List (List Int)} {K : KT} {sc : List Nat} {F : FT} {Ms : List FT} {bd : List Nat} {σ τ σ0 : tS} {n n' n0 q lo hi sp : Nat} {X : Int}
theorem EU_same {F' B' : List Nat} (H : EU S b m N K sc F Ms σ n bd sp) (R : fr F' B' σ τ) (dF : ∀ f ∈ [784, 452, 456, 532, 788, 856], f ∉ F') (dB : ∀ f ∈ TYA ++ [470, 474, 478, 482, 630, 634, 638, 778, 782], f ∉ B') : EU S b m N K sc F Ms τ n bd sp := by
  obtain ⟨h1, ⟨h2, h3⟩, h4, h5⟩ := H
  have g : ∀ f ∈ TYA, ∀ i, ga τ f i = ga σ f i := fun f hf i => R.2 f (dB f (List.mem_append_left _ hf)) i
  have e1 : gs τ 452 = gs σ 452 := R.1 452 (dF 452 (by decide))
  have e2 : gs τ 456 = gs σ 456 := R.1 456 (dF 456 (by decide))
  refine ⟨KU_step h1 R (dF 784 (by decide)) (fun f hf => dB f (by simp only [List.mem_cons, List.not_mem_nil, or_false, List.mem_append] at hf ⊢; omega)) (TyK_same (R.1 532 (dF 532 (by decide))) g h1.1) (by rw [e1]; exact h1.2.2.2.2.1) (by rw [bp_eq e1 e2]; omega), ⟨by rw [R.1 788 (dF 788 (by decide))]; exact h2, fun i v hv => by rw [R.2 782 (dB 782 (by decide))]; exact h3 i v hv⟩, by rw [R.1 856 (dF 856 (by decide))]; exact h4, fun w L hw => by rw [R.2 638 (dB 638 (by decide))]; exact h5 w L hw⟩
theorem fr_550 {v : Nat} {x : Int} : fr [] [550] σ (ua σ 550 v x) := ⟨fun f _ => rfl, fun f hf i => by rw [ga_ua, if_neg (fun (z : f = 550 ∧ i = v) => hf (by rw [z.1]; decide))]⟩
/-- a node's own type is noted -/
theorem SU_550 {v : Nat} {x : Int} (C : SU S b m N K sc F Ms bd sp lo hi σ0 n0 σ n q X) (h1 : lo ≤ v) (h2 : v < hi) (k : ga σ0 538 v ∈ [10, 13, 14, 15, (19 : Int)]) : SU S b m N K sc F Ms bd sp lo hi σ0 n0 (ua σ 550 v x) n q X := by
  obtain ⟨a1, a2, a3, a4, a5, a6, a7, a8⟩ := C
  have R := fr_550 (σ := σ) (v := v) (x := x)
  refine ⟨EU_same a1 R (by decide) (by decide), ⟨fun f hf => a2.1 f hf, fun f hf i => by rw [R.2 f (fun z => hf (by rw [List.mem_singleton.mp z]; decide))]; exact a2.2 f hf i⟩, fun i => ?_, fun i hi => by rw [R.2 782 (by decide)]; exact a4 i hi, fun i hi => by rw [R.2 850 (by decide)]; exact a5 i hi, tx_trans a6 (tx_same (fun f hf i => R.2 f (fun z => by rw [List.mem_singleton.mp z] at hf; exact absurd hf (by decide)) i)), a7, (bp_eq (σ := σ) (τ := ua σ 550 v x) rfl rfl).trans a8⟩
  by_cases z : i = v
  · exact .inl (by rw [z]; exact ⟨h1, h2, k⟩)
  · rcases a3 i with y | y
    · exact .inl y
    · refine .inr ?_
      rw [ga_ua, if_neg (fun (w : (550 : Nat) = 550 ∧ i = v) => z w.2)]
      exact y
theorem SU_788 (C : SU S b m N K sc F Ms bd sp lo hi σ0 n0 σ n q X) : SU S b m N K sc F Ms bd sp lo hi σ0 n0 (us σ 788 (bd.length : Int)) n q X := by
  obtain ⟨a1, a2, a3, a4, a5, a6, a7, a8⟩ := C
  have e : ∀ f, gs (us σ 788 (bd.length : Int)) f = gs σ f := fun f => by
    rw [gs_us]
    split
    · rename_i z
      rw [z]; exact a1.2.1.1.symm
    · rfl
  refine ⟨EU_same (F' := []) (B' := []) a1 ⟨fun f _ => e f, fun f _ i => rfl⟩ (by decide) (by decide), ⟨fun f hf => (e f).trans (a2.1 f hf), a2.2⟩, a3, a4, a5, tx_trans a6 (tx_same (fun f _ i => rfl)), a7, (bp_eq (σ := σ) (τ := us σ 788 (bd.length : Int)) (e _) (e _)).trans a8⟩
end LAT0
section LAT
variable {G : om_G} {A : Nat} {S : List Int} {b m : Nat} {N : List (List Int)} {cs : List Nat} {K : KT} {pr Ln : Nat} {Ls : List (List Int)} {sc : List Nat} {tb : Nat} {rest : List (Nat × List Nat)} {fo : List Nat} {F : FT} {mo : List (List Nat)} {Ms : List FT} {rs so Lb : Nat} {bLs : List (List Int)} {bd : List Nat}
variable {h h' h0 : om_H} {us fs us' fs' us0 fs0 : List Nat} {σ τ σ0 : tS} {n n' n0 q lo hi alo ahi sp a : Nat} {X : Int} {L : List Int} {r : Int → tS → Option tS}
theorem tR_kp {us us' : List Nat} {ys : List Nat} {ts : List Int} {sA : Prop} {XC XT : Int} {qq k : Nat} (R : tR N cs rest sA h us σ n ys ts XC XT qq k) (k1 : ∀ T y, tyC h N (clF cs) (UU us rest) T y → tyC h' N (clF cs) (UU us' rest) T y) (X : tx σ n τ n') : tR N cs rest sA h' us' τ n' ys ts XC XT qq k := by
  obtain ⟨r1, r2, r3, r4⟩ := R
  refine ⟨r1, fun y hy => ⟨(r2 y hy).1, ?_⟩, ⟨fun t ht => ?_, szL_keep (fun T t => tyT_mono X) r3.2⟩, fun s => ⟨(r4 s).1, fun e i y t hy ht => ?_⟩⟩
  · obtain ⟨T, c⟩ := (r2 y hy).2
    exact ⟨T, k1 T y c⟩
  · rcases r3.1 t ht with z | ⟨T, z1, z2⟩
    · exact .inl z
    · exact .inr ⟨T, z1, tyT_mono X z2⟩
  · obtain ⟨T, c0, c1, c2⟩ := (r4 s).2 e i y t hy ht
    exact ⟨T, c0, k1 T y c1, tyT_mono X c2⟩
theorem addL_cap {Lt x : Nat} (hc : (ll h Lt).length < lc h Lt) : addL h Lt x = sL h Lt (ll h Lt ++ [x]) := by
  unfold addL
  rw [if_pos hc]
theorem hT_sL {Lt : Nat} {l : List Nat} : hT (fun y => y = Lt) h (sL h Lt l) := ⟨Nat.le_refl _, Nat.le_refl _, fun _ _ => rfl, fun y _ nd => ⟨rfl, fun g => rfl, fun g => rfl, rfl, fun g => rfl, fun g => rfl, by rw [ll_sL, if_neg nd], rfl⟩⟩
set_option maxHeartbeats 1490000 in
/-- the @s of a name, one after the other -/
theorem ats_rel {La Lt lo0 hi0 alo0 ahi0 : Nat} {all : List Nat} (H0 : EC G A S N cs K pr Ln Ls tb rest fo F mo Ms rs so Lb h0 us0 fs0 bLs) (hA : ahi0 ≤ hz h0) (ra : alo0 ≤ a ∧ a < ahi0) (rL : alo0 ≤ La ∧ La < ahi0) (a0 : 0 < alo0) (hL : hz h0 ≤ Lt) (hall : all.length ≤ 9000) (h84 : hi0 ≤ 2700) (h42 : sp + (hi0 - lo0) ≤ 4200) (hS : S.length ≤ 2000) {l1 l2 : Int} :
    ∀ (ws os : List Nat) (lo alo i : Nat) (h : om_H) (us fs : List Nat) (σ : tS) (n q : Nat) (XC XT f : Int) (ys : List Nat), SE G A S N cs K pr Ln Ls tb rest fo F mo Ms rs so Lb bLs alo0 ahi0 h0 us0 fs0 h us fs q XC → SU S b m N K sc F Ms bd sp lo0 hi0 σ0 n0 σ n q XT → djE h tb fs pr Lb alo0 ahi0 → atW A S b h σ La ws os lo hi alo ahi → chain σ f os → (∀ o ∈ os, ga σ0 538 o = 19) → lo0 ≤ lo → hi ≤ hi0 → alo0 ≤ alo → ahi ≤ ahi0 → kd h a = 28 ∧ fR h 1458 a = La ∧ fR h 1462 a = Lt → La ≠ 0 ∧ kd h La = 42 ∧ ll h La = all ∧ all.drop i = ws ∧ i ≤ all.length → okW G h Lt ∧ ll h Lt = ys ∧ ys.length = i ∧ lc h Lt = all.length → n + (hi - lo) ≤ 126000 → tl us fs + (hi - lo) ≤ 149000 →
    ∃ (ys' : List Nat) (ts : List Int) (h' : om_H) (us' fs' : List Nat) (τ : tS) (n' q' : Nat) (XC' XT' : Int), om_loop (C_35_name_24s G rs a) ((i : Int), h) = some h' ∧ om_loop (T_oneKnown_59s r l1 l2) (f, σ) = some τ ∧ SE G A S N cs K pr Ln Ls tb rest fo F mo Ms rs so Lb bLs alo0 ahi0 h0 us0 fs0 h' us' fs' (q + q') (min XC XC') ∧ SU S b m N K sc F Ms bd sp lo0 hi0 σ0 n0 τ n' (q + q') (min XT XT') ∧ q' + ws.length = hi - lo ∧ brk S b m σ lo hi XC' ∧ brk S b m σ lo hi XT' ∧ (okW G h' Lt ∧ ll h' Lt = ys ++ ys') ∧ tR N cs rest (scA N sc Ls) h' us' τ n' ys' ts XC' XT' (hi - lo) 59 ∧ (∀ (j o : Nat) (t : Int), os[j]? = some o → ts[j]? = some t → ga τ 550 o = t) ∧ ys'.length = ws.length ∧ hk alo0 ahi0 h h' ∧ (∀ f, f ∉ TYA → f ≠ 550 → ∀ i, ga τ f i = ga σ f i) ∧ (∀ i, i ∉ os → ga τ 550 i = ga σ 550 i) ∧ (∀ T y, tyC h N (clF cs) (UU us rest) T y → tyC h' N (clF cs) (UU us' rest) T y) ∧ tx σ n τ n'
  | [], [], lo, alo, i, h, us, fs, σ, n, q, XC, XT, f, ys, C, C2, D, W, ch, ok, r1, r2, r3, r4, na, nL, nT, m1, m2 => by
    have el : lo = hi := W.1
    have ef : f = -1 := ch
    have il : all.length ≤ i := by
      have := congrArg List.length nL.2.2.2.1
      simp at this; omega
    have hx := H0.1.2.2.1.2.2
    have c6 := C.2.2.2.2.2
    have b6 := C2.2.2.2.2.2.2.2
    have kx := C2.1.1.2.2.2.2.2
    have XCm : fI h 112 pr ≤ 2147483647 := C.1.1.2.2.1.2.2
    refine ⟨[], [], h, us, fs, σ, n, 0, 2147483647, 2147483647, ?_, ?_, ?_, ?_, by simp; omega, .inl rfl, .inl rfl, ⟨nT.1, by rw [nT.2.1]; simp⟩, tR_nil (fun _ => rfl), fun j o t e => by simp at e, rfl, fun _ _ _ => ⟨rfl, fun _ => rfl, fun _ => rfl, rfl, rfl⟩, fun _ _ _ _ => rfl, fun _ _ => rfl, fun _ _ c => c, tx_refl _ _⟩
    · refine om_loop_out ?_
      unfold C_35_name_24s
      simp only
      have em : C_28_many G a h = some ((all.length : Nat) : Int) := by
        unfold C_28_many
        rw [gd_pos na.1, na.2.1, if_pos nL.1, gd_pos ⟨na.1, nL.2.1⟩]
        unfold P_J2_size
        rw [gd_pos nL.2.1, nL.2.2.1]
        rfl
      rw [gd_pos na.1, em, Option.bind_some, if_pos (by omega)]
    · rw [ef]
      refine om_loop_out ?_
      unfold T_oneKnown_59s
      rw [if_pos rfl]
    · obtain ⟨c1, c2, c3, c4, c5, c6⟩ := C
      exact ⟨c1, c2, c3, c4, c5, by omega⟩
    · obtain ⟨c1, c2, c3, c4, c5, c6, c7, c8⟩ := C2
      exact ⟨c1, c2, c3, c4, c5, c6, c7, by omega⟩
  | w :: ws, o :: os, lo, alo, i, h, us, fs, σ, n, q, XC, XT, f, ys, C, C2, D, ⟨kk, a1, a2, p, w1, w2, w3, w4, w5⟩, ⟨ch1, ch2⟩, ok, r1, r2, r3, r4, na, nL, nT, m1, m2 => by
    have wi := WR_in w3
    have ai := atW_in w5
    have il : i < all.length := by
      have := congrArg List.length nL.2.2.2.1
      simp at this; omega
    have ew : all[i]? = some w := by
      have := List.getElem?_drop (xs := all) (i := i) (j := 0)
      rw [nL.2.2.2.1] at this
      simpa using this.symm
    have ed : all.drop (i + 1) = ws := by
      have := drop_c ew
      rw [nL.2.2.2.1] at this
      injection this with _ z
      exact z.symm
    have kw : kd h w = 20 := w3.2.2.2.2.1
    have hzm := C.2.1.1.1
    have R1 : ER S lo o alo0 ahi0 pr tb Lb h us fs n sp := ⟨⟨a0, by omega, by omega, hS⟩, D, by omega, by omega, by omega⟩
    obtain ⟨t, τ1, n1, x, h1, us1, fs1, XC1, XT1, e1, e2, e3, e4, e5, e6, e7, e8, e9⟩ := type_step (lo := lo) (hi := o) C.1 C2.1 w3 R1 (Nat.le_refl _) (Nat.le_refl _) (by omega) (by omega)
    have e122 : fR h 122 tb = fR h0 122 tb := C.2.1.2.2.2.2.1.2 122
    have oP : fR h0 122 tb < hz h0 := H0.1.1.1.2.1.1.1
    have oLb : Lb < hz h0 := H0.2.2.2.2.1.1.1
    have opr : pr < hz h0 := H0.1.2.2.1.1.1.2
    have LtD : ¬ (DT h tb fs Lt ∨ EP h pr Lb alo0 ahi0 Lt) := fun z => by
      rcases z with z | z | z | z
      · exact nDT C.1.1.1.1 (by rw [nT.1.2.1]; decide) (by rw [e122]; omega) z
      · omega
      · omega
      · omega
    have eLt := e3.2.1.1.2.2.2 Lt nT.1.1 LtD
    have O1 : okW G h1 Lt := okW_hT nT.1 e3.2.1.1 LtD
    have l1' : ll h1 Lt = ys := eLt.2.2.2.2.2.2.1.trans nT.2.1
    have c1' : lc h1 Lt = all.length := eLt.2.2.2.2.2.2.2.trans nT.2.2.2
    obtain ⟨x0, Tx, cx⟩ := e9.2.1 x List.mem_cons_self
    have xk : kd h1 x = 34 ∧ x < hz h1 := by
      rcases Tx with ⟨k', w', u', l', r'⟩ | _
      · exact ⟨cx.2.1, cx.1.2.2⟩
      · exact absurd cx x0
    obtain ⟨g1, g2, g3, g4, g5, g6⟩ := w_add O1 (.inl ⟨xk.2, by omega, by omega⟩) (by rw [l1']; omega)
    have eadd : addL h1 Lt x = sL h1 Lt (ys ++ [x]) := by
      rw [addL_cap (by rw [l1', c1']; omega), l1']
    rw [eadd] at g1 g3 g4
    rw [l1'] at g4
    have D1 := djE_step D e3 (by omega)
    have hz1 := e3.2.1.1.1
    have C1 := SE_trans C e3
    have Y := hT_sL (h := h1) (Lt := Lt) (l := ys ++ [x])
    have C12 := SE_more (q2 := 0) H0 C1 Y (fun y hy => by have hy' : y = Lt := hy; rw [hy']; exact .inl ⟨hL, O1.2.1⟩) (fun y c d => ⟨rfl, fun f _ => rfl, fun f _ => rfl, by rw [ll_sL, if_neg (by omega)]⟩) (by show hz h1 ≤ _; omega) (by show hu h1 ≤ _; omega)
    have e122' : fR h1 122 tb = fR h0 122 tb := C1.2.1.2.2.2.2.1.2 122
    have kyL := (CS_write (N := N) (cl := clF cs) (P := fun y => y = Lt) (z := 0) (u := 0) C1.1.1.1.1 Y (fun y hy _ => by have hy' : y = Lt := hy; rw [hy', O1.2.1]; exact ⟨by decide, by decide, by decide, by rw [e122']; omega⟩) (fun y hy => by have hy' : y = Lt := hy; rw [hy', O1.2.1]; exact ⟨by decide, by decide, fun z => absurd z (by decide)⟩) (Nat.le_refl _) (Nat.le_refl _)).2.2.2.2.2.1
    have hkL : hk alo0 ahi0 h1 (sL h1 Lt (ys ++ [x])) := fun y c d => ⟨rfl, fun f => rfl, fun f => rfl, by rw [ll_sL, if_neg (by omega)], rfl⟩
    have hk2 := hk_trans e5 hkL
    have U1 := SU_trans C2 (SU_wide e4 (lo' := lo0) (hi' := hi0) r1 (by omega))
    have U2 := SU_550 (v := o) (x := t) U1 (by omega) (by omega) (by rw [ok o List.mem_cons_self]; decide)
    obtain ⟨s1, s2, s3, s4, s5⟩ := hk2 a ra.1 ra.2
    obtain ⟨v1, v2, v3, v4, v5⟩ := hk2 La rL.1 rL.2
    have ga2 : ∀ f, f ∉ TYA → f ≠ 550 → ∀ i, ga (ua τ1 550 o t) f i = ga σ f i := fun f hf h5 i => by
      rw [ga_ua, if_neg (fun (z : f = 550 ∧ i = o) => h5 z.1)]
      exact e6 f hf i
    have ga5 : ∀ i, i ≠ o → ga (ua τ1 550 o t) 550 i = ga σ 550 i := fun i hi => by
      rw [ga_ua, if_neg (fun (z : (550 : Nat) = 550 ∧ i = o) => hi z.2)]
      exact e6 550 (by decide) i
    have W2 : atW A S b (sL h1 Lt (ys ++ [x])) (ua τ1 550 o t) La ws os (o + 1) hi a2 ahi := atW_keep w5 (fun y c d _ => hk2 y (by omega) (by omega)) (fun f hf i c d => by
      by_cases z : f = 550
      · rw [z]; exact ga5 i (by omega)
      · exact ga2 f (by simp only [List.mem_cons, List.not_mem_nil, or_false] at hf ⊢; omega) z i)
    have ch' : chain (ua τ1 550 o t) (ga τ1 562 o) os := by
      rw [e6 562 (by decide)]
      exact chain_keep ch2 (fun y _ => ga2 562 (by decide) (by decide) y)
    have n1l := e4.2.2.2.2.2.2.1
    have u1l := e3.2.1.2.2.2.1
    obtain ⟨ys', ts, h', us', fs', τ', n', q', XC', XT', f1, f2, f3, f4, f5, f6, f7, f8, f9, f10, f11, f12, f13, f14, f15, f16⟩ := ats_rel H0 hA ra rL a0 hL hall h84 h42 hS ws os (o + 1) a2 (i + 1) (sL h1 Lt (ys ++ [x])) us1 fs1 (ua τ1 550 o t) n1 (q + (o - lo)) (min XC XC1) (min XT XT1) (ga τ1 562 o) (ys ++ [x]) C12 U2 D1 W2 ch' (fun y hy => ok y (List.mem_cons_of_mem _ hy)) (by omega) r2 (by omega) r4 ⟨by rw [s1]; exact na.1, by rw [s3]; exact na.2.1, by rw [s3]; exact na.2.2⟩ ⟨nL.1, by rw [v1]; exact nL.2.1, by rw [v4]; exact nL.2.2.1, ed, il⟩ ⟨g3, g4, by simp; exact nT.2.2.1, by rw [lc_sL]; exact c1'⟩ (by omega) (by omega)
    have em : C_28_many G a h = some ((all.length : Nat) : Int) := by
      unfold C_28_many
      rw [gd_pos na.1, na.2.1, if_pos nL.1, gd_pos ⟨na.1, nL.2.1⟩]
      unfold P_J2_size
      rw [gd_pos nL.2.1, nL.2.2.1]
      rfl
    have eg : P_J2_get G La (i : Int) h = some w := by
      unfold P_J2_get
      rw [gd_pos ⟨nL.2.1, by omega⟩, nL.2.2.1, show ((i : Int)).toNat = i by omega, ew]
    have stC : C_35_name_24s G rs a ((i : Int), h) = some (.inl (((i + 1 : Nat) : Int), sL h1 Lt (ys ++ [x]))) := by
      unfold C_35_name_24s
      simp only
      rw [gd_pos na.1, em, Option.bind_some, if_neg (by omega), na.2.1, gd_pos ⟨na.1, nL.2.1⟩, eg, Option.bind_some, gd_pos ⟨.inr kw, C.1.2.2.1.1⟩, e2, Option.bind_some, na.2.2, gd_pos O1.2.1, g1, Option.bind_some, w32_s (by omega) (by omega)]
      rfl
    have stT : T_oneKnown_59s r l1 l2 ((o : Int), σ) = some (.inl (ga τ1 562 o, ua τ1 550 o t)) := by
      unfold T_oneKnown_59s
      simp only
      rw [if_neg (by omega), if_pos (by omega), show ((o : Int)).toNat = o by omega, w4, e1, Option.bind_some, if_pos (by omega)]
    have onin : o ∉ os := fun z => by have := ai.2.2.1 o z; omega
    have b542 : ∀ v, ga (ua τ1 550 o t) 542 v = ga σ 542 v := fun v => ga2 542 (by decide) (by decide) v
    have cx2 := tR_kp (us := us1) (us' := us1) e9 kyL (tx_same (σ := τ1) (τ := ua τ1 550 o t) (n := n1) (fun f hf i => by rw [ga_ua, if_neg (fun (z : f = 550 ∧ i = o) => by rw [z.1] at hf; exact absurd hf (by decide))]))
    refine ⟨x :: ys', t :: ts, h', us', fs', τ', n', (o - lo) + q', min XC1 XC', min XT1 XT', by rw [om_loop_in stC]; exact f1, by rw [ch1, om_loop_in stT]; exact f2, ?_, ?_, by simp; omega, ?_, ?_, ⟨f8.1, by rw [f8.2]; simp⟩, ?_, fun j y z hy hz => ?_, by simp [f11], hk_trans hk2 f12, fun f hf h5 i => (f13 f hf h5 i).trans (ga2 f hf h5 i), fun i hi => ?_, fun T y c => f15 T y (kyL T y (e3.2.1.2.2.2.2.2.1 T y c)), ?_⟩
    · rw [show q + (o - lo + q') = q + (o - lo) + q' by omega, show min XC (min XC1 XC') = min (min XC XC1) XC' by omega]
      exact f3
    · rw [show q + (o - lo + q') = q + (o - lo) + q' by omega, show min XT (min XT1 XT') = min (min XT XT1) XT' by omega]
      exact f4
    · exact brk_min (brk_mono e7 (Nat.le_refl _) (by omega)) (brk_fr b542 (brk_mono f6 (by omega) (Nat.le_refl _)))
    · exact brk_min (brk_mono e8 (Nat.le_refl _) (by omega)) (brk_fr b542 (brk_mono f7 (by omega) (Nat.le_refl _)))
    · exact tR_le (tR_app (ys := [x]) (ts := [t]) (brk_le hS e7) (brk_le hS f6) (tR_kp cx2 f15 f16) f9) (by omega)
    · cases j with
      | zero =>
        simp at hy hz
        rw [← hy, ← hz, f14 o onin, ga_ua, if_pos ⟨rfl, rfl⟩]
      | succ j =>
        simp at hy hz
        exact f10 j y z hy hz
    · have hi2 : i ≠ o ∧ i ∉ os := by
        constructor
        · intro z; exact hi (by rw [z]; exact List.mem_cons_self)
        · intro z; exact hi (List.mem_cons_of_mem _ z)
      rw [f14 i hi2.2]
      exact ga5 i hi2.1
    · refine tx_trans e4.2.2.2.2.2.1 (tx_trans (tx_same (fun f hf i => ?_)) f16)
      rw [ga_ua, if_neg (fun (z : f = 550 ∧ i = o) => by rw [z.1] at hf; exact absurd hf (by decide))]
  | [], _ :: _, _, _, _, _, _, _, _, _, _, _, _, _, _, _, _, _, W, _, _, _, _, _, _, _, _, _, _, _ => W.elim
  | _ :: _, [], _, _, _, _, _, _, _, _, _, _, _, _, _, _, _, _, W, _, _, _, _, _, _, _, _, _, _, _ => W.elim
end LAT
