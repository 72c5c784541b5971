set_option maxRecDepth 100000
/-! RESOLVE: an inst's conditions in both -/
/-- a condition that is known -/
def CdK (A : Nat) (S : List Int) (N : List (List Int)) (cs : List Nat) (K : KT) (sc : List Nat) (h : om_H) (τ : tS) (ix x : Nat) : Prop :=
  ∃ (j c wn : Nat), (fR h 1346 x = 0 ∧ wd h A S (fR h 1338 x) j ∧ wd h A S (fR h 1342 x) (j + 1)) ∧ gvF K false (tokw S j) = some c ∧ fR h 1350 x = clF cs c ∧ ga τ 714 ix = (c : Int) ∧ (N[wn]? = some (tokw S (j + 1)) ∧ wn ∈ sc ∧ ga τ 718 ix = ((sc.idxOf wn : Nat) : Int))
abbrev GIA : List Nat := 710 :: 714 :: 718 :: TYA
section LGI
variable {G : om_G} {A : Nat} {S : List Int} {b m : Nat} {N : List (List Int)} {cs : List Nat} {K : KT} {pr Ln : Nat} {Ls : List (List Int)} {sc : List Nat} {tb : Nat} {rest : List (Nat × List Nat)} {fo : List Nat} {F : FT} {mo : List (List Nat)} {Ms : List FT}
variable {h h' h2 hr : om_H} {ul fl ul' fl' : List Nat} {σ τ υ σr : tS} {n n' q z u lo hi alo ahi a0 amid a c w k : Nat} {B B2 : List Int} {X : Int} {L : List Int}
theorem CdK_keep {ix x : Nat} (H : CdK A S N cs K sc h τ ix x) (e : eqA x h h') (ew : ∀ w ∈ [fR h 1338 x, fR h 1342 x], eqA w h h') (g : ∀ f ∈ [714, 718], ga υ f ix = ga τ f ix) : CdK A S N cs K sc h' υ ix x := by
  obtain ⟨j, c, wn, ⟨g1, g2, g2'⟩, g3, g4, g5, g6⟩ := H
  exact ⟨j, c, wn, ⟨by rw [e.2.2.1]; exact g1, by rw [e.2.2.1]; exact wd_eqA (ew _ (by simp)) g2, by rw [e.2.2.1]; exact wd_eqA (ew _ (by simp)) g2'⟩, g3, by rw [e.2.2.1]; exact g4, by rw [g 714 (by simp)]; exact g5, by rw [g 718 (by simp)]; exact g6⟩
set_option maxHeartbeats 2000000 in
/-- AN INST's CONDITIONS BECOME KNOWN ALIKE -/
theorem gji {so Lg f d : Nat} {gv : List Nat} (hf : f < 20) (rs : a0 ≤ so ∧ so < amid) (rL : a0 ≤ Lg ∧ Lg < amid) (hb : ahi ≤ amid) (sA : scA N sc Ls) :
    ∀ (xs os : List Nat) (k lo alo : Nat) (h : om_H) (ul fl P : List Nat) (τ : tS) (n : Nat) (fst : Int), grows A S b h τ xs os lo hi alo ahi → (∀ x ∈ xs, fR h 1346 x = 0) → chain τ fst os → a0 ≤ alo → RX G A S N cs K pr tb rest fo F mo Ms h ul fl → sgF h pr tb so Lg Ln Ls gv → KU S b m N K sc τ n → ga τ 710 f = (k : Int) → k ≤ 4 → gv = P ++ xs → P.length = k → KR S lo hi a0 amid pr tb h ul fl n →
    ∃ (h' : om_H) (ul' fl' : List Nat) (τ' : tS) (n' : Nat) (BC B : List Int), om_loop (C_1_resolveGivens_2s G pr so) ((k : Int), h) = some h' ∧ (∀ Kf : tS → Option tS, ((om_loop (T_fillInstance_244s (f : Int) (d : Int)) (fst, τ)).bind (Sum.elim (fun v2 => if 0 ≤ v2.1 ∧ v2.1 < 8400 then ((T_breaks 2 (ga v2.2 542 v2.1.toNat) v2.2).bind fun p3 => Kf p3) else none) (fun v3 => Kf v3))) = Kf τ') ∧ RS G A S N cs K pr tb rest fo F mo Ms a0 amid h ul fl h' ul' fl' (hi - lo) 0 0 BC ∧ hkV a0 amid h h' ∧ SCc h' Ln Ls ∧ (∀ y, a0 ≤ y → y < amid → y ∉ xs → eqA y h h') ∧ TSm S b m N K sc GIA τ n τ' n' (hi - lo) B ∧ lbE BC B ∧ (∀ j0 : Nat, (∀ i : Nat, lo ≤ i → i < hi → ((b + j0 : Nat) : Int) ≤ ga τ 542 i) → bj S j0 BC) ∧
      ((∀ y ∈ B, y = 2147483647) → ga τ' 710 f = ((k + xs.length : Nat) : Int) ∧ k + xs.length ≤ 4 ∧ ∀ i x : Nat, xs[i]? = some x → CdK A S N cs K sc h' τ' (4 * f + (k + i)) x) ∧ (∀ i, i ≠ f → ga τ' 710 i = ga τ 710 i) ∧ ∀ g ∈ [714, 718], ∀ i, (i < 4 * f + k ∨ 4 * f + 4 ≤ i) → ga τ' g i = ga τ g i
  | [], [], k, lo, alo, h, ul, fl, P, τ, n, fst, W, _, ch, _, H, C, U, e746, hk4, eP, pk, R => by
    obtain ⟨⟨c1, c2, c3⟩, ⟨c4, c5, c6⟩, ⟨c7, c8⟩, c9⟩ := C
    refine ⟨h, ul, fl, τ, n, [], [], om_loop_out ?_, fun Kf => ?_, RS_le (RS_refl H) (by omega) (by omega) (by omega), hkV_refl, c7, fun _ _ _ _ => eqA_refl _ _, ⟨U, fr_refl _ _ _, tx_refl _ _, by omega, rfl, bj_nil⟩, lbE_refl, fun _ _ => bj_nil, fun _ => ⟨by rw [List.length_nil, Nat.add_zero]; exact e746, hk4, fun i x e => (by cases e)⟩, fun _ _ => rfl, fun _ _ _ _ => rfl⟩
    · unfold C_1_resolveGivens_2s
      simp only
      have e1 : P_J2_size G (fR h 166 so) h = some ((gv.length : Nat) : Int) := by unfold P_J2_size; rw [c2, gd_pos c4, c5]
      rw [gd_pos ⟨c1, by rw [c2]; exact c4⟩, e1, Option.bind_some, if_pos (by rw [eP, List.append_nil]; omega)]
    · have ef : fst = -1 := ch
      have st : T_fillInstance_244s (f : Int) (d : Int) (fst, τ) = some (.inr (.inr τ)) := by
        unfold T_fillInstance_244s
        simp only
        rw [if_pos ef]
      rw [om_loop_out st, Option.bind_some]
      rfl
  | x :: xs, o :: os, k, lo, alo, h, ul, fl, P, τ, n, fst, ⟨j, a2, q1, q2, q3, q4, q5, q6⟩, pl, ch, ha, H, C, U, e746, hk4, eP, pk, R => by
    obtain ⟨d1, d2, d3, d4, d5⟩ := grows_in q6
    have pl0 := pl x List.mem_cons_self
    have q5l : fR h 1346 x = 0 ∧ ga τ 550 o = -1 ∧ o = lo := by
      rcases q5 with q | ⟨kk, p, a1, a3, q⟩
      · exact q
      · exact absurd pl0 q.1
    have ex : gv[k]? = some x := by rw [eP, ← pk]; exact at_len
    have zA := R.1.2.1
    have hS := R.1.2.2.2
    have hi8 := R.1.2.2.1
    have ef : fst = (o : Int) := ch.1
    have jm := TT_lt U.2.1 (j := j) (by rw [q1.2.2.1]; decide)
    have plx : ∀ (g : om_H), hkV a0 amid h g → ∀ y ∈ xs, fR g 1346 y = 0 := fun g V y hy => by
      have := d4 y hy
      rw [(V y (by omega) (by omega)).2.2.1 1346 (by decide)]
      exact pl y (List.mem_cons_of_mem _ hy)
    by_cases k4 : k < 4
    · obtain ⟨υ, wn, u1, u2, u3, u4, u5, u6, u7, u8, u9⟩ := t_gins (d := d) U hS hf k4 (show o < 8400 by omega) e746 q1.2.1 q1.2.2.1 q1.2.2.2.1 q1.2.2.2.2.1
      obtain ⟨t, τ1, n1, h1, ul1, fl1, XC, XT, tt, f2, f3, f4, f4', f5, f6, f7, f8, f9, f10⟩ := rg_one (lo := lo) (o := o) (eq := false) (by simp [pl0]) H u3 C rs ex q2.1 ⟨by omega, by omega⟩ q3.2.2 q4.2.2 (.inl ⟨pl0, q5l.2.2⟩) (KR_sub R (Nat.le_refl _) (by omega) (Nat.le_refl _) (Nat.le_refl _))
      rw [if_pos k4, List.nil_append] at f3
      obtain ⟨t1, t2, t3, t4⟩ := tt.1 rfl
      have XCm : XC = 2147483647 := by rw [(f10 sA).1]; exact t4
      have z1 := f3.2.1.1.1
      have l1 := f3.2.1.2.2.2.1
      have C1 := sgF_step C f4 rs rL f4' (f3.2.1.2.2.2.2.1.2 122) (f3.2.2.1.2 78)
      have F2 : fr [452, 456, 532] GIA τ υ := fr_wide u4 (by decide) (by decide)
      have Xa : tx τ n υ n := tx_same (fun g hg i => u4.2 g (fun z => by simp only [List.mem_cons, List.not_mem_nil, or_false] at z hg; omega) i)
      have T2 : TSm S b m N K sc GIA τ n υ n (o - lo) (gvT S K (wn ∈ sc) false j ++ [2147483647]) := ⟨u3, F2, Xa, by omega, by rw [mnl_app, ← u5]; show _ = min _ _; have := u3.2.2.2.2.2; omega, bj_app (bj_gvT (Nat.zero_le _)) (fun y hy => .inl (List.mem_singleton.mp hy))⟩
      have na : nall lo hi τ υ := fun g hg i _ _ => F2.2 g (by simp only [List.mem_cons, List.not_mem_nil, or_false] at hg ⊢; omega) i
      have n562 : ∀ i, ga υ 562 i = ga τ 562 i := F2.2 562 (by decide)
      have R1 : KR S (o + 1) hi a0 amid pr tb h1 ul1 fl1 n := ⟨⟨R.1.1, by omega, R.1.2.2⟩, dj_CS R.2.1 f3.2.1 zA, by have := R.2.2.1; omega, by have := R.2.2.2; omega⟩
      have ch2 : chain υ (ga υ 562 o) os := by
        rw [n562]
        exact chain_keep ch.2 (fun o' _ => n562 o')
      obtain ⟨h3, us3, fs3, τ3, n3, BC3, B3, g1, g2, g3, g4, g5, g6, g7, g8, g9, g11, g12, g13⟩ := gji hf rs rL hb sA xs os (k + 1) (o + 1) a2 h1 ul1 fl1 (P ++ [x]) υ n (ga υ 562 o) (grows_keepF q6 (hkF_sub (hkV_F f4) (by omega) (by omega)) (fun g hg i e1 e2 => na g hg i (by omega) e2)) (plx h1 f4) ch2 (by omega) f3.1 C1 u3 u6.1 (by omega) (by rw [eP, List.append_assoc]; rfl) (by rw [List.length_append, pk]; rfl) R1
      have nx : x ∉ xs := fun e => by have := d4 x e; omega
      refine ⟨h3, us3, fs3, τ3, n3, _, (gvT S K (wn ∈ sc) false j ++ [2147483647]) ++ B3, by rw [om_loop_in f2]; exact g1, fun Kf => by rw [ef, om_loop_in u1]; exact g2 Kf, RS_le (RS_trans f3 g3) (by omega) (by omega) (by omega), hkV_trans f4 g4, g5, fun y' e1 e2 e3 => eqA_trans (f5 y' e1 e2 (fun e => e3 (by rw [e]; exact List.mem_cons_self))) (g6 y' e1 e2 (fun e => e3 (List.mem_cons_of_mem _ e))), ?_, ?_, fun j0 nv => ?_, fun hB => ?_, fun i hi => ?_, fun g hg i hi => ?_⟩
      · have := TSm_trans T2 g7
        exact ⟨this.1, this.2.1, this.2.2.1, by have := this.2.2.2.1; omega, this.2.2.2.2⟩
      · rw [gvT_eq (Ls := Ls) (sA wn _ u2), XCm]
        exact ⟨lb_both lb_refl g8.1, lb_both lb_refl g8.2⟩
      · have hj : j0 ≤ j := by
          have := nv o (by omega) (by omega)
          rw [q1.2.1] at this
          omega
        exact bj_app (bj_app (bj_gvB hj) (fun y hy => .inl (by rw [List.mem_singleton.mp hy]; exact XCm))) (g9 j0 (fun i e1 e2 => by rw [na 542 (by simp) i (by omega) e2]; exact nv i (by omega) e2))
      · obtain ⟨y1, y2, y3⟩ := g11 (fun y hy => hB y (List.mem_append_right _ hy))
        refine ⟨by rw [y1, List.length_cons]; congr 1; omega, by rw [List.length_cons]; omega, fun i x' e => ?_⟩
        cases i with
        | succ i =>
          have := y3 i x' e
          rwa [show k + 1 + i = k + (i + 1) by omega] at this
        | zero =>
          have exx : x = x' := Option.some.inj e
          rw [← exx, Nat.add_zero]
          obtain ⟨⟨c', hc'⟩, hin⟩ := gvT_nil hS (fun y hy => hB y (List.mem_append_left _ (List.mem_append_left _ hy)))
          have V1 := f4 x (by omega) (by omega)
          have Y1 : CdK A S N cs K sc h1 υ (4 * f + k) x := by
            refine ⟨j, c', wn, ⟨by rw [V1.2.2.1 1346 (by decide)]; exact pl0, ?_⟩, hc', by rw [f6, hc']; rfl, u8 c' hc', u2, hin, by rw [u9, if_pos hin]⟩
            rw [V1.2.2.1 1338 (by decide), V1.2.2.1 1342 (by decide)]
            exact ⟨wd_hkF (hkV_F f4) (by omega) (by omega) q3.2.2, wd_hkF (hkV_F f4) (by omega) (by omega) q4.2.2⟩
          refine CdK_keep Y1 (g6 x (by omega) (by omega) nx) (fun w' hw => ?_) (fun g hg => g13 g hg _ (.inl (by omega)))
          rw [V1.2.2.1 1338 (by decide), V1.2.2.1 1342 (by decide)] at hw
          have hw' : w' = fR h 1338 x ∨ w' = fR h 1342 x := by simpa using hw
          have rw' : alo ≤ w' ∧ w' < a2 := by
            rcases hw' with e | e
            · rw [e]; exact ⟨q3.1, q3.2.1⟩
            · rw [e]; exact ⟨q4.1, q4.2.1⟩
          exact g6 w' (by omega) (by omega) (fun z => by have := d4 w' z; omega)
      · rw [g12 i hi, u6.2 i hi]
      · have hi' : i ≠ 4 * f + k := by omega
        rw [g13 g hg i (by omega)]
        have hg' : g = 714 ∨ g = 718 := by simpa using hg
        rcases hg' with e | e
        · rw [e]; exact (u7 i hi').1
        · rw [e]; exact (u7 i hi').2
    · obtain ⟨t, τ1, n1, h1, ul1, fl1, XC, XT, tt, f2, f3, f4, f4', f5, f6, f7, f8, f9, f10⟩ := rg_one (lo := lo) (o := o) (eq := false) (by simp [pl0]) H U C rs ex q2.1 ⟨by omega, by omega⟩ q3.2.2 q4.2.2 (.inl ⟨pl0, q5l.2.2⟩) (KR_sub R (Nat.le_refl _) (by omega) (Nat.le_refl _) (Nat.le_refl _))
      rw [if_neg k4] at f3
      have z1 := f3.2.1.1.1
      have l1 := f3.2.1.2.2.2.1
      have C1 := sgF_step C f4 rs rL f4' (f3.2.1.2.2.2.2.1.2 122) (f3.2.2.1.2 78)
      have R1 : KR S (o + 1) hi a0 amid pr tb h1 ul1 fl1 n := ⟨⟨R.1.1, by omega, R.1.2.2⟩, dj_CS R.2.1 f3.2.1 zA, by have := R.2.2.1; omega, by have := R.2.2.2; omega⟩
      have nvj := grows_nv (⟨j, a2, q1, q2, q3, q4, q5, q6⟩ : grows A S b h τ (x :: xs) (o :: os) lo hi alo ahi)
      rw [q1.2.1] at nvj
      obtain ⟨h3, us3, fs3, B3, g1, g2, g3, g4, g5, g6⟩ := rg_alone (G := G) (j0 := j) (lo0 := lo) U rs rL nvj xs os (k + 1) (o + 1) a2 h1 ul1 fl1 (P ++ [x]) (grows_keepF q6 (hkF_sub (hkV_F f4) (by omega) (by omega)) (fun _ _ _ _ _ => rfl)) (by omega) hb (by omega) f3.1 C1 (by rw [eP, List.append_assoc]; rfl) (by rw [List.length_append, pk]; rfl) R1
      obtain ⟨τ2, e1, e2, e3, e4⟩ := KU_break U (j := j) (by omega) hS
      have bjj : bj S j ((([(tokq S j : Int)] ++ gvB S K Ls false j) ++ [XC]) ++ B3) := bj_app (bj_app (bj_app (fun y hy => .inr ⟨j, Nat.le_refl _, List.mem_singleton.mp hy⟩) (bj_gvB (Nat.le_refl _))) (bj_brk f8 (fun i y1 y2 => nvj i y1 (by omega)))) g4
      have F2 : fr [452, 456, 532] GIA τ τ2 := fr_wide e3 (by decide) (by simp)
      refine ⟨h3, us3, fs3, τ2, n, _, [(tokq S j : Int)], by rw [om_loop_in f2]; exact g1, fun Kf => ?_, RS_le (RS_trans f3 g2) (by omega) (by omega) (by omega), hkV_trans f4 g3, g5, fun y' e1 e2 e3 => eqA_trans (f5 y' e1 e2 (fun e => e3 (by rw [e]; exact List.mem_cons_self))) (g6 y' e1 e2 (fun e => e3 (List.mem_cons_of_mem _ e))), ⟨e2, F2, tx_same (fun g _ i => e3.2 g (by simp) i), by omega, e4, fun y hy => .inr ⟨j, Nat.zero_le _, List.mem_singleton.mp hy⟩⟩, ⟨bj_lb hS bjj, lb_l (lb_l (lb_l lb_refl))⟩, fun j0 nv y hy => by
        have := nv o (by omega) (by omega)
        rw [q1.2.1] at this
        rcases bjj y hy with e | ⟨i, i1, i2⟩
        · exact .inl e
        · exact .inr ⟨i, by omega, i2⟩, fun hB => ?_, fun i _ => e3.2 710 (by simp) i, fun g _ i _ => e3.2 g (by simp) i⟩
      · have st : T_fillInstance_244s (f : Int) (d : Int) (fst, τ) = some (.inr (.inl ((o : Int), τ))) := by
          unfold T_fillInstance_244s
          simp only
          rw [ef, if_neg (by omega), if_pos (by omega), show ((f : Int)).toNat = f by omega, e746, if_neg (by omega)]
        rw [om_loop_out st, Option.bind_some]
        show (if 0 ≤ (o : Int) ∧ (o : Int) < 8400 then (T_breaks 2 (ga τ 542 ((o : Int)).toNat) τ).bind (fun p2 => Kf p2) else none) = Kf τ2
        rw [if_pos (by omega), show ((o : Int)).toNat = o by omega, q1.2.1, e1, Option.bind_some]
      · have := hB (tokq S j : Int) (by simp)
        have := tok_le S j
        omega
  | [], _ :: _, _, _, _, _, _, _, _, _, _, _, W, _, _, _, _, _, _, _, _, _, _, _ => W.elim
  | _ :: _, [], _, _, _, _, _, _, _, _, _, _, W, _, _, _, _, _, _, _, _, _, _, _ => W.elim
end LGI
