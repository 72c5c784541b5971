set_option maxRecDepth 100000
/-! RESOLVE: a function's givens in both -/
/-- a given that is known: its place in the twin's tables is ix -/
def GvK (A : Nat) (S : List Int) (N : List (List Int)) (cs : List Nat) (K : KT) (sc : List Nat) (rest : List (Nat × List Nat)) (h : om_H) (ul : List Nat) (τ : tS) (n ix x : Nat) : Prop :=
  ∃ (eq : Bool) (j c wn : Nat), (eq = true ↔ fR h 1346 x ≠ 0) ∧ (wd h A S (fR h 1338 x) j ∧ wd h A S (fR h 1342 x) (j + 1)) ∧ gvF K eq (tokw S j) = some c ∧ fR h 1350 x = clF cs c ∧ ga τ 750 ix = (c : Int) + (if eq then 100 else 0) ∧ (N[wn]? = some (tokw S (j + 1)) ∧ wn ∈ sc ∧ ga τ 754 ix = ((sc.idxOf wn : Nat) : Int)) ∧ (eq = false → ga τ 758 ix = -1) ∧ (eq = true → ∃ T : Ty, tyM T ∧ tyC h N (clF cs) (UU ul rest) T (fR h 1354 x) ∧ tyT τ n T (ga τ 758 ix))
abbrev GFA : List Nat := 746 :: 750 :: 754 :: 758 :: TYA
section LGJ
variable {G : om_G} {A : Nat} {S : List Int} {b m : Nat} {N : List (List Int)} {cs : List Nat} {K : KT} {pr Ln : Nat} {Ls : List (List Int)} {sc : List Nat} {tb : Nat} {rest : List (Nat × List Nat)} {fo : List Nat} {F : FT} {mo : List (List Nat)} {Ms : List FT}
variable {h h' h2 hr : om_H} {ul fl ul' fl' : List Nat} {σ τ υ σr : tS} {n n' q z u lo hi alo ahi a0 amid a c w k : Nat} {B B2 : List Int} {X : Int} {L : List Int}
theorem bj_gvT {P : Prop} [Decidable P] {j0 j : Nat} {eq : Bool} (hj : j0 ≤ j) : bj S j0 (gvT S K P eq j) := by
  intro y hy
  rcases List.mem_append.mp hy with hy | hy
  · split at hy
    · exact .inr ⟨j, hj, List.mem_singleton.mp hy⟩
    · exact absurd hy List.not_mem_nil
  · split at hy
    · exact absurd hy List.not_mem_nil
    · exact .inr ⟨j + 1, by omega, List.mem_singleton.mp hy⟩
theorem gvT_nil {P : Prop} [Decidable P] {j : Nat} {eq : Bool} (hS : S.length ≤ 2000) (H : ∀ y ∈ gvT S K P eq j, y = 2147483647) : (∃ c, gvF K eq (tokw S j) = some c) ∧ P := by
  have t1 := tok_le S j
  have t2 := tok_le S (j + 1)
  constructor
  · cases e : gvF K eq (tokw S j) with
    | some c => exact ⟨c, rfl⟩
    | none =>
      have := H (tokq S j : Int) (List.mem_append_left _ (by rw [if_pos e]; simp))
      omega
  · refine Decidable.byContradiction (fun e => ?_)
    have := H (tokq S (j + 1) : Int) (List.mem_append_right _ (by rw [if_neg e]; simp))
    omega
theorem wd_eqA {w j : Nat} (e : eqA w h h') (W : wd h A S w j) : wd h' A S w j := ⟨by rw [e.1]; exact W.1, by rw [e.2.2.1]; exact W.2.1, by rw [e.2.1]; exact W.2.2.1, by rw [e.2.1]; exact W.2.2.2⟩
theorem GvK_keep {ix x : Nat} (H : GvK A S N cs K sc rest h ul τ n ix x) (e : eqA x h h') (ew : ∀ w ∈ [fR h 1338 x, fR h 1342 x], eqA w h h') (ty : ∀ T a, tyC h N (clF cs) (UU ul rest) T a → tyC h' N (clF cs) (UU ul' rest) T a) (X : tx τ n υ n') (g : ∀ f ∈ [750, 754, 758], ga υ f ix = ga τ f ix) : GvK A S N cs K sc rest h' ul' υ n' ix x := by
  obtain ⟨eq, j, c, wn, g1, g2, g3, g4, g5, g6, g7, g8⟩ := H
  refine ⟨eq, j, c, wn, by rw [e.2.2.1]; exact g1, by rw [e.2.2.1, e.2.2.1]; exact ⟨wd_eqA (ew _ (by simp)) g2.1, wd_eqA (ew _ (by simp)) g2.2⟩, g3, by rw [e.2.2.1]; exact g4, by rw [g 750 (by simp)]; exact g5, by rw [g 754 (by simp)]; exact g6, fun z => by rw [g 758 (by simp)]; exact g7 z, fun z => ?_⟩
  obtain ⟨T, T1, T2, T3⟩ := g8 z
  rw [e.2.2.1, g 758 (by simp)]
  exact ⟨T, T1, ty T _ T2, tyT_mono X T3⟩
set_option maxHeartbeats 2000000 in
/-- A FUNCTION's GIVENS BECOME KNOWN ALIKE -/
theorem gjf {so Lg j0 f d : Nat} {gv : List Nat} (hf : f < 24) (rs : a0 ≤ so ∧ so < amid) (rL : a0 ≤ Lg ∧ Lg < amid) (hb : ahi ≤ amid) :
    ∀ (xs os : List Nat) (k lo alo : Nat) (h : om_H) (ul fl P : List Nat) (τ : tS) (n : Nat) (fst : Int), grows A S b h τ xs os lo hi alo ahi → chain τ fst os → a0 ≤ alo → RX G A S N cs K pr tb rest fo F mo Ms h ul fl → sgF h pr tb so Lg Ln Ls gv → KU S b m N K sc τ n → ga τ 746 f = (k : Int) → k ≤ 4 → gv = P ++ xs → P.length = k → KR S lo hi a0 amid pr tb h ul fl n → (∀ i : Nat, lo ≤ i → i < hi → ((b + j0 : Nat) : Int) ≤ ga τ 542 i) →
    ∃ (h' : om_H) (ul' fl' : List Nat) (τ' : tS) (n' : Nat) (BC B : List Int), om_loop (C_1_resolveGivens_2s G pr so) ((k : Int), h) = some h' ∧ (∀ Kf : tS → Option tS, ((om_loop (T_fillFunction_146s (f : Int) (d : Int)) (fst, τ)).bind (Sum.elim (fun v1 => if 0 ≤ v1.1 ∧ v1.1 < 8400 then ((T_breaks 2 (ga v1.2 542 v1.1.toNat) v1.2).bind fun p2 => Kf p2) else none) (fun v2 => Kf v2))) = Kf τ') ∧ RS G A S N cs K pr tb rest fo F mo Ms a0 amid h ul fl h' ul' fl' (hi - lo) 0 0 BC ∧ hkV a0 amid h h' ∧ SCc h' Ln Ls ∧ (∀ y, a0 ≤ y → y < amid → y ∉ xs → eqA y h h') ∧ TSm S b m N K sc GFA τ n τ' n' (hi - lo) B ∧ (scA N sc Ls → lbE BC B) ∧ bj S j0 BC ∧ bj S j0 B ∧
      (scA N sc Ls → (∀ y ∈ B, y = 2147483647) → ga τ' 746 f = ((k + xs.length : Nat) : Int) ∧ k + xs.length ≤ 4 ∧ ∀ i x : Nat, xs[i]? = some x → GvK A S N cs K sc rest h' ul' τ' n' (4 * f + (k + i)) x) ∧ (∀ i, i ≠ f → ga τ' 746 i = ga τ 746 i) ∧ ∀ g ∈ [750, 754, 758], ∀ i, (i < 4 * f + k ∨ 4 * f + 4 ≤ i) → ga τ' g i = ga τ g i
  | [], [], k, lo, alo, h, ul, fl, P, τ, n, fst, W, ch, _, H, C, U, e746, hk4, eP, pk, R, nv => by
    obtain ⟨⟨c1, c2, c3⟩, ⟨c4, c5, c6⟩, ⟨c7, c8⟩, c9⟩ := C
    refine ⟨h, ul, fl, τ, n, [], [], om_loop_out ?_, fun Kf => ?_, RS_le (RS_refl H) (by omega) (by omega) (by omega), hkV_refl, c7, fun _ _ _ _ => eqA_refl _ _, ⟨U, fr_refl _ _ _, tx_refl _ _, by omega, rfl, bj_nil⟩, fun _ => lbE_refl, bj_nil, bj_nil, fun _ _ => ⟨by rw [List.length_nil, Nat.add_zero]; exact e746, hk4, fun i x e => (by cases e)⟩, fun _ _ => rfl, fun _ _ _ _ => rfl⟩
    · unfold C_1_resolveGivens_2s
      simp only
      have e1 : P_J2_size G (fR h 166 so) h = some ((gv.length : Nat) : Int) := by unfold P_J2_size; rw [c2, gd_pos c4, c5]
      rw [gd_pos ⟨c1, by rw [c2]; exact c4⟩, e1, Option.bind_some, if_pos (by rw [eP, List.append_nil]; omega)]
    · have ef : fst = -1 := ch
      have st : T_fillFunction_146s (f : Int) (d : Int) (fst, τ) = some (.inr (.inr τ)) := by
        unfold T_fillFunction_146s
        simp only
        rw [if_pos ef]
      rw [om_loop_out st, Option.bind_some]
      rfl
  | x :: xs, o :: os, k, lo, alo, h, ul, fl, P, τ, n, fst, ⟨j, a2, q1, q2, q3, q4, q5, q6⟩, ch, ha, H, C, U, e746, hk4, eP, pk, R, nv => by
    obtain ⟨d1, d2, d3, d4, d5⟩ := grows_in q6
    have ho : lo ≤ o := by
      rcases q5 with q | ⟨kk, p, a1, a3, q⟩
      · omega
      · have := WR_in q.2.2.2.2; omega
    have ex : gv[k]? = some x := by rw [eP, ← pk]; exact at_len
    have zA := R.1.2.1
    have hS := R.1.2.2.2
    have hi8 := R.1.2.2.1
    have ef : fst = (o : Int) := ch.1
    have hj : j0 ≤ j := by
      have := nv o (by omega) (by omega)
      rw [q1.2.1] at this
      omega
    have jm := TT_lt U.2.1 (j := j) (by rw [q1.2.2.1]; decide)
    by_cases k4 : k < 4
    · -- one of the first four
      have e550 : decide (fR h 1346 x ≠ 0) = true ↔ ga τ 550 o ≠ -1 := by
        rcases q5 with q | ⟨kk, p, a1, a3, w1, w2, w3⟩
        · rw [q.2.1]; simp [q.1]
        · rw [w2]; simp [w1]
      obtain ⟨υ, wn, u1, u2, u3, u4, u5, u6, u7, u8, u9⟩ := t_gfun (d := d) (eq := decide (fR h 1346 x ≠ 0)) U hS hf k4 (show o < 8400 by omega) e746 q1.2.1 q1.2.2.1 q1.2.2.2.1 q1.2.2.2.2.1 e550
      have nu : nall lo hi τ υ := fun g hg i _ _ => u4.2 g (by simp only [List.mem_cons, List.not_mem_nil, or_false] at hg ⊢; omega) i
      have W0 : grows A S b h υ (x :: xs) (o :: os) lo hi alo ahi := grows_keepF ⟨j, a2, q1, q2, q3, q4, q5, q6⟩ hkF_refl nu
      obtain ⟨j', a2', q1', q2', q3', q4', q5', q6'⟩ := W0
      have ejj : j' = j := by have := q1'.2.1; rw [nu 542 (by simp) o (by omega) (by omega), q1.2.1] at this; omega
      rw [ejj] at q1' q3' q4'
      obtain ⟨t, τ1, n1, h1, ul1, fl1, XC, XT, tt, f2, f3, f4, f4', f5, f6, f7, f8, f9, f10⟩ := rg_one (lo := lo) (o := o) (eq := decide (fR h 1346 x ≠ 0)) (by simp) H u3 C rs ex q2.1 ⟨by omega, by omega⟩ q3.2.2 q4.2.2 (by
        rcases q5' with q | ⟨kk, p, a1, a3, w1, w2, w3, w4, w5⟩
        · exact .inl ⟨q.1, q.2.2⟩
        · have := (grows_in q6').2.1
          exact .inr ⟨p, a1, a3, w1, w2, by omega, by omega, w5⟩) (KR_sub R (Nat.le_refl _) (by omega) (Nat.le_refl _) (Nat.le_refl _))
      rw [if_pos k4, List.nil_append] at f3
      have z1 := f3.2.1.1.1
      have l1 := f3.2.1.2.2.2.1
      obtain ⟨v1, v2, v3, v4, v5⟩ := f7
      have C1 := sgF_step C f4 rs rL f4' (f3.2.1.2.2.2.2.1.2 122) (f3.2.2.1.2 78)
      -- the type is put down
      have Rw : fr [] [758] τ1 (ua τ1 758 (4 * f + k) t) := fr_ua (fr_refl _ _ _) (by simp)
      obtain ⟨U2, b2⟩ := KU_tab v1 Rw (by decide)
      have st : T_fillFunction_146s (f : Int) (d : Int) (fst, τ) = some (.inl (ga (ua τ1 758 (4 * f + k) t) 562 o, ua τ1 758 (4 * f + k) t)) := by
        rw [ef, u1]
        have s351 : ∀ τx tx, ga τx 562 o = ga (ua τ1 758 (4 * f + k) t) 562 o → T_fillFunction_351 (f : Int) (d : Int) (o : Int) ((4 * f + k : Nat) : Int) tx τx = some (.inl (ga (ua τ1 758 (4 * f + k) t) 562 o, ua τx 758 (4 * f + k) tx)) := fun τx tx e => by
          unfold T_fillFunction_351
          rw [if_pos (by omega), show ((o : Int)).toNat = o by omega, show (((4 * f + k : Nat) : Int)).toNat = 4 * f + k by omega, e]
        unfold T_fillFunction_326
        cases eb : decide (fR h 1346 x ≠ 0) with
        | false =>
          obtain ⟨t1, t2, t3, t4⟩ := tt.1 eb
          rw [if_pos (show bI false = 0 from rfl), t1, t2, s351 υ (-1) (by rw [t1, t2]; rfl)]
          rw [t1, t2]
        | true =>
          rw [if_neg (show ¬ bI true = 0 by decide), if_pos (by omega), show ((o : Int)).toNat = o by omega, tt.2 eb, Option.bind_some, s351 τ1 t rfl]
      have v758 : ga (ua τ1 758 (4 * f + k) t) 758 (4 * f + k) = t := by rw [ga_ua, if_pos ⟨rfl, rfl⟩]
      have v758' : ∀ i, i ≠ 4 * f + k → ga (ua τ1 758 (4 * f + k) t) 758 i = ga τ1 758 i := fun i hi => by rw [ga_ua, if_neg (fun z => hi z.2)]
      generalize ua τ1 758 (4 * f + k) t = τ2 at *
      have X2 : tx υ n τ2 n1 := tx_trans v3 (tx_same (fun g hg i => Rw.2 g (fun z => by have z' := List.mem_singleton.mp z; rw [z'] at hg; exact absurd hg (by decide)) i))
      have Fu : fr [452, 456, 532] GFA τ υ := fr_wide u4 (by decide) (by decide)
      have F2 : fr [452, 456, 532] GFA τ τ2 := fr_trans Fu (fr_trans (fr_wide v2 (by decide) (by decide)) (fr_wide Rw (by decide) (by decide)))
      have Xa : tx τ n τ2 n1 := tx_trans (tx_same (fun g hg i => u4.2 g (fun z => by simp only [List.mem_cons, List.not_mem_nil, or_false] at z hg; omega) i)) X2
      have T2 : TSm S b m N K sc GFA τ n τ2 n1 (o - lo) (gvT S K (wn ∈ sc) (decide (fR h 1346 x ≠ 0)) j ++ [XT]) := ⟨U2, F2, Xa, v4, by rw [b2, v5, mnl_app, ← u5]; rfl, bj_app (bj_gvT (Nat.zero_le _)) (bj0_brk f9)⟩
      have na : nall lo hi τ τ2 := fun g hg i _ _ => F2.2 g (by simp only [List.mem_cons, List.not_mem_nil, or_false] at hg ⊢; omega) i
      have n562 : ∀ i, ga τ2 562 i = ga τ 562 i := F2.2 562 (by decide)
      have e746' : ga τ2 746 f = ((k + 1 : Nat) : Int) := by rw [Rw.2 746 (by decide), v2.2 746 (by decide)]; exact u6.1
      have R1 : KR S (o + 1) hi a0 amid pr tb h1 ul1 fl1 n1 := ⟨⟨R.1.1, by omega, R.1.2.2⟩, dj_CS R.2.1 f3.2.1 zA, by have := R.2.2.1; omega, by have := R.2.2.2; omega⟩
      have ch2 : chain τ2 (ga τ2 562 o) os := by
        rw [n562]
        exact chain_keep ch.2 (fun o' _ => n562 o')
      obtain ⟨h3, us3, fs3, τ3, n3, BC3, B3, g1, g2, g3, g4, g5, g6, g7, g8, g9, g10, g11, g12, g13⟩ := gjf hf rs rL hb xs os (k + 1) (o + 1) a2 h1 ul1 fl1 (P ++ [x]) τ2 n1 (ga τ2 562 o) (grows_keepF q6 (hkF_sub (hkV_F f4) (by omega) (by omega)) (fun g hg i e1 e2 => na g hg i (by omega) e2)) ch2 (by omega) f3.1 C1 U2 e746' (by omega) (by rw [eP, List.append_assoc]; rfl) (by rw [List.length_append, pk]; rfl) R1 (fun i e1 e2 => by rw [na 542 (by simp) i (by omega) e2]; exact nv i (by omega) e2)
      have nx : x ∉ xs := fun e => by have := d4 x e; omega
      have nvo : ∀ i : Nat, lo ≤ i → i < o → ((b + j0 : Nat) : Int) ≤ ga υ 542 i := fun i e1 e2 => by rw [nu 542 (by simp) i e1 (by omega)]; exact nv i e1 (by omega)
      refine ⟨h3, us3, fs3, τ3, n3, _, (gvT S K (wn ∈ sc) (decide (fR h 1346 x ≠ 0)) j ++ [XT]) ++ B3, by rw [om_loop_in f2]; exact g1, fun Kf => by rw [om_loop_in st]; exact g2 Kf, RS_le (RS_trans f3 g3) (by omega) (by omega) (by omega), hkV_trans f4 g4, g5, fun y' e1 e2 e3 => eqA_trans (f5 y' e1 e2 (fun e => e3 (by rw [e]; exact List.mem_cons_self))) (g6 y' e1 e2 (fun e => e3 (List.mem_cons_of_mem _ e))), ?_, fun sA => ?_, bj_app (bj_app (bj_gvB hj) (bj_brk f8 nvo)) g9, bj_app (bj_app (bj_gvT hj) (bj_brk f9 nvo)) g10, fun sA hB => ?_, fun i hi => ?_, fun g hg i hi => ?_⟩
      · have := TSm_trans T2 g7
        exact ⟨this.1, this.2.1, this.2.2.1, by have := this.2.2.2.1; omega, this.2.2.2.2⟩
      · rw [gvT_eq (Ls := Ls) (sA wn _ u2), (f10 sA).1]
        obtain ⟨x1, x2⟩ := g8 sA
        exact ⟨lb_both lb_refl x1, lb_both lb_refl x2⟩
      · obtain ⟨y1, y2, y3⟩ := g11 sA (fun y hy => hB y (List.mem_append_right _ hy))
        refine ⟨by rw [y1, List.length_cons]; congr 1; omega, by rw [List.length_cons]; omega, fun i x' e => ?_⟩
        cases i with
        | succ i =>
          have := y3 i x' e
          rwa [show k + 1 + i = k + (i + 1) by omega] at this
        | zero =>
          have exx : x = x' := Option.some.inj e
          rw [← exx, Nat.add_zero]
          obtain ⟨⟨c', hc'⟩, hin⟩ := gvT_nil hS (fun y hy => hB y (List.mem_append_left _ (List.mem_append_left _ hy)))
          have hX : XT = 2147483647 := hB XT (List.mem_append_left _ (List.mem_append_right _ (by simp)))
          obtain ⟨eX, tyF⟩ := f10 sA
          obtain ⟨ty0, ty1⟩ := tyF (by rw [eX]; exact hX)
          have V1 := f4 x (by omega) (by omega)
          have Y1 : GvK A S N cs K sc rest h1 ul1 τ2 n1 (4 * f + k) x := by
            refine ⟨decide (fR h 1346 x ≠ 0), j, c', wn, by rw [V1.2.2.1 1346 (by decide)]; simp, ?_, hc', by rw [f6, hc']; rfl, ?_, ⟨u2, hin, ?_⟩, fun z => ?_, fun z => ?_⟩
            · rw [V1.2.2.1 1338 (by decide), V1.2.2.1 1342 (by decide)]
              exact ⟨wd_hkF (hkV_F f4) (by omega) (by omega) q3.2.2, wd_hkF (hkV_F f4) (by omega) (by omega) q4.2.2⟩
            · rw [Rw.2 750 (by decide), v2.2 750 (by decide)]; exact u8 c' hc'
            · rw [Rw.2 754 (by decide), v2.2 754 (by decide), u9, if_pos hin]
            · rw [v758]; exact (tt.1 z).1
            · rw [v758]
              obtain ⟨T, T1, T2', T3⟩ := ty1 z
              exact ⟨T, T1, T2', tyT_mono (tx_same (fun g hg i => Rw.2 g (fun z => by have z' := List.mem_singleton.mp z; rw [z'] at hg; exact absurd hg (by decide)) i)) T3⟩
          refine GvK_keep Y1 (g6 x (by omega) (by omega) nx) (fun w' hw => ?_) (fun T a => g3.2.1.2.2.2.2.2.1 T a) g7.2.2.1 (fun g hg => g13 g hg _ (.inl (by omega)))
          rw [V1.2.2.1 1338 (by decide), V1.2.2.1 1342 (by decide)] at hw
          have hw' : w' = fR h 1338 x ∨ w' = fR h 1342 x := by simpa using hw
          have rw' : alo ≤ w' ∧ w' < a2 := by
            rcases hw' with e | e
            · rw [e]; exact ⟨q3.1, q3.2.1⟩
            · rw [e]; exact ⟨q4.1, q4.2.1⟩
          exact g6 w' (by omega) (by omega) (fun z => by have := d4 w' z; omega)
      · rw [g12 i hi, Rw.2 746 (by decide), v2.2 746 (by decide), u6.2 i hi]
      · have hi' : i ≠ 4 * f + k := by omega
        rw [g13 g hg i (by omega)]
        have hg' : g = 750 ∨ g = 754 ∨ g = 758 := by simpa using hg
        rcases hg' with e | e | e
        · rw [e, Rw.2 750 (by decide), v2.2 750 (by decide)]; exact (u7 i hi').1
        · rw [e, Rw.2 754 (by decide), v2.2 754 (by decide)]; exact (u7 i hi').2
        · rw [e, v758' i hi', v2.2 758 (by decide), u4.2 758 (by decide)]
    · -- one too many: the twin goes on no more
      have ek : k = 4 := by omega
      obtain ⟨t, τ1, n1, h1, ul1, fl1, XC, XT, tt, f2, f3, f4, f4', f5, f6, f7, f8, f9, f10⟩ := rg_one (lo := lo) (o := o) (eq := decide (fR h 1346 x ≠ 0)) (by simp) H U C rs ex q2.1 ⟨by omega, by omega⟩ q3.2.2 q4.2.2 (by
        rcases q5 with q | ⟨kk, p, a1, a3, w1, w2, w3, w4, w5⟩
        · exact .inl ⟨q.1, q.2.2⟩
        · exact .inr ⟨p, a1, a3, w1, w2, by omega, by omega, w5⟩) (KR_sub R (Nat.le_refl _) (by omega) (Nat.le_refl _) (Nat.le_refl _))
      rw [if_neg k4] at f3
      have z1 := f3.2.1.1.1
      have l1 := f3.2.1.2.2.2.1
      have C1 := sgF_step C f4 rs rL f4' (f3.2.1.2.2.2.2.1.2 122) (f3.2.2.1.2 78)
      have R1 : KR S (o + 1) hi a0 amid pr tb h1 ul1 fl1 n := ⟨⟨R.1.1, by omega, R.1.2.2⟩, dj_CS R.2.1 f3.2.1 zA, by have := R.2.2.1; omega, by have := R.2.2.2; omega⟩
      have nvj := grows_nv (⟨j, a2, q1, q2, q3, q4, q5, q6⟩ : grows A S b h τ (x :: xs) (o :: os) lo hi alo ahi)
      rw [q1.2.1] at nvj
      obtain ⟨h3, us3, fs3, B3, g1, g2, g3, g4, g5, g6⟩ := rg_alone (G := G) (j0 := j) (lo0 := lo) U rs rL nvj xs os (k + 1) (o + 1) a2 h1 ul1 fl1 (P ++ [x]) (grows_keepF q6 (hkF_sub (hkV_F f4) (by omega) (by omega)) (fun _ _ _ _ _ => rfl)) (by omega) hb (by omega) f3.1 C1 (by rw [eP, List.append_assoc]; rfl) (by rw [List.length_append, pk]; rfl) R1
      obtain ⟨τ2, e1, e2, e3, e4⟩ := KU_break U (j := j) (by omega) hS
      have bjj : bj S j ((([(tokq S j : Int)] ++ gvB S K Ls (decide (fR h 1346 x ≠ 0)) j) ++ [XC]) ++ B3) := bj_app (bj_app (bj_app (fun y hy => .inr ⟨j, Nat.le_refl _, List.mem_singleton.mp hy⟩) (bj_gvB (Nat.le_refl _))) (bj_brk f8 (fun i y1 y2 => nvj i y1 (by omega)))) g4
      have F2 : fr [452, 456, 532] GFA τ τ2 := fr_wide e3 (by decide) (by simp)
      refine ⟨h3, us3, fs3, τ2, n, _, [(tokq S j : Int)], by rw [om_loop_in f2]; exact g1, fun Kf => ?_, RS_le (RS_trans f3 g2) (by omega) (by omega) (by omega), hkV_trans f4 g3, g5, fun y' e1 e2 e3 => eqA_trans (f5 y' e1 e2 (fun e => e3 (by rw [e]; exact List.mem_cons_self))) (g6 y' e1 e2 (fun e => e3 (List.mem_cons_of_mem _ e))), ⟨e2, F2, tx_same (fun g _ i => e3.2 g (by simp) i), by omega, e4, fun y hy => .inr ⟨j, Nat.zero_le _, List.mem_singleton.mp hy⟩⟩, fun sA => ⟨bj_lb hS bjj, lb_l (lb_l (lb_l lb_refl))⟩, fun y hy => ?_, fun y hy => .inr ⟨j, hj, List.mem_singleton.mp hy⟩, fun sA hB => ?_, fun i _ => e3.2 746 (by simp) i, fun g _ i _ => e3.2 g (by simp) i⟩
      · have st : T_fillFunction_146s (f : Int) (d : Int) (fst, τ) = some (.inr (.inl ((o : Int), τ))) := by
          unfold T_fillFunction_146s
          simp only
          rw [ef, if_neg (by omega), if_pos (by omega), show ((f : Int)).toNat = f by omega, e746, if_neg (by omega)]
        rw [om_loop_out st, Option.bind_some]
        show (if 0 ≤ (o : Int) ∧ (o : Int) < 8400 then (T_breaks 2 (ga τ 542 ((o : Int)).toNat) τ).bind (fun p2 => Kf p2) else none) = Kf τ2
        rw [if_pos (by omega), show ((o : Int)).toNat = o by omega, q1.2.1, e1, Option.bind_some]
      · rcases bjj y hy with e | ⟨i, i1, i2⟩
        · exact .inl e
        · exact .inr ⟨i, by omega, i2⟩
      · have := hB (tokq S j : Int) (by simp)
        have := tok_le S j
        omega
  | [], _ :: _, _, _, _, _, _, _, _, _, _, _, W, _, _, _, _, _, _, _, _, _, _, _ => W.elim
  | _ :: _, [], _, _, _, _, _, _, _, _, _, _, W, _, _, _, _, _, _, _, _, _, _, _ => W.elim
end LGJ
