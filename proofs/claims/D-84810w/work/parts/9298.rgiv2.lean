set_option maxRecDepth 100000
/-! RESOLVE: a given in the component with the twin's type beside it; givens in the component alone -/
section LRH
variable {G : om_G} {A : Nat} {S : List Int} {b m : Nat} {N : List (List Int)} {cs : List Nat} {K : KT} {pr Ln : Nat} {Ls : List (List Int)} {sc : List Nat} {tb : Nat} {rest : List (Nat × List Nat)} {fo : List Nat} {F : FT} {mo : List (List Nat)} {Ms : List FT}
variable {h h' h2 hr : om_H} {ul fl ul' fl' : List Nat} {σ τ υ σr : tS} {n n' q z u lo hi alo ahi a0 amid a c w k : Nat} {B B2 : List Int} {X : Int} {L : List Int}
theorem RS_max (C : RS G A S N cs K pr tb rest fo F mo Ms alo ahi h ul fl h' ul' fl' q z u B) : RS G A S N cs K pr tb rest fo F mo Ms alo ahi h ul fl h' ul' fl' q z u (B ++ [2147483647]) := ⟨C.1, C.2.1, C.2.2.1, by
  have l := C.1.1.2.2.2.2
  rw [mnl_app, ← C.2.2.2.1]
  show _ = min _ _
  omega, C.2.2.2.2⟩
theorem sgF_step {so Lg : Nat} {gv : List Nat} (H : sgF h pr tb so Lg Ln Ls gv) (K1 : hkV a0 amid h h') (rs : a0 ≤ so ∧ so < amid) (rL : a0 ≤ Lg ∧ Lg < amid) (C : SCc h' Ln Ls) (e1 : fR h' 122 tb = fR h 122 tb) (e2 : fR h' 78 pr = fR h 78 pr) : sgF h' pr tb so Lg Ln Ls gv := by
  obtain ⟨⟨h1, h2, h3⟩, ⟨h4, h5, h6⟩, ⟨h7, h8⟩, h9⟩ := H
  obtain ⟨k1, k2, k3, k4, k5, k6⟩ := K1 so rs.1 rs.2
  obtain ⟨l1, l2, l3, l4, l5, l6⟩ := K1 Lg rL.1 rL.2
  exact ⟨⟨by rw [k1]; exact h1, by rw [k3 166 (by decide)]; exact h2, by rw [k3 162 (by decide)]; exact h3⟩, ⟨by rw [l1]; exact h4, by rw [l4]; exact h5, h6⟩, ⟨C, by rw [e1]; exact h8⟩, by rw [e2]; exact h9⟩
/-- a given -/
theorem rg_one {so Lg x j o : Nat} {gv : List Nat} {eq : Bool} (he : eq = true ↔ fR h 1346 x ≠ 0) (H : RX G A S N cs K pr tb rest fo F mo Ms h ul fl) (HU : KU S b m N K sc σ n) (C : sgF h pr tb so Lg Ln Ls gv) (rs : a0 ≤ so ∧ so < amid) (ex : gv[k]? = some x) (kx : kd h x = 22) (rx : a0 ≤ x ∧ x < amid) (wg : wd h A S (fR h 1338 x) j) (wn : wd h A S (fR h 1342 x) (j + 1))
    (W : (fR h 1346 x = 0 ∧ o = lo) ∨ ∃ v a1 a2 : Nat, fR h 1346 x ≠ 0 ∧ ga σ 550 o = (v : Int) ∧ a0 ≤ a1 ∧ a2 ≤ amid ∧ WR A S b h σ 59 lo o a1 a2 (fR h 1346 x) v) (R : KR S lo o a0 amid pr tb h ul fl n) :
    ∃ (t : Int) (τ : tS) (n' : Nat) (h' : om_H) (ul' fl' : List Nat) (XC XT : Int), ((eq = false → t = -1 ∧ τ = σ ∧ n' = n ∧ XT = 2147483647) ∧ (eq = true → T_known (ga σ 550 o) σ = some (t, τ))) ∧ C_1_resolveGivens_2s G pr so ((k : Int), h) = some (.inl (((k + 1 : Nat) : Int), h')) ∧ RS G A S N cs K pr tb rest fo F mo Ms a0 amid h ul fl h' ul' fl' (o - lo) 0 0 (((if k < 4 then [] else [(tokq S j : Int)]) ++ gvB S K Ls eq j) ++ [XC]) ∧ hkV a0 amid h h' ∧ SCc h' Ln Ls ∧ (∀ y, a0 ≤ y → y < amid → y ≠ x → eqA y h h') ∧ fR h' 1350 x = clA cs (gvF K eq (tokw S j)) ∧ ST S b m N K sc σ n τ n' (o - lo) XT ∧ brk S b m σ lo o XC ∧ brk S b m σ lo o XT ∧ (scA N sc Ls → XC = XT ∧ (XC = 2147483647 → (eq = false → fR h' 1354 x = fR h 1354 x) ∧ (eq = true → ∃ T : Ty, tyM T ∧ tyC h' N (clF cs) (UU ul' rest) T (fR h' 1354 x) ∧ tyT τ n' T t))) := by
  have D := R.2.1
  have zA := R.1.2.1
  obtain ⟨h1, g1, g2, g3, g4, g5, g6, g7⟩ := rg_head (k := k) he zA H C ex kx rx wg wn D
  obtain ⟨⟨c1, c2, c3⟩, ⟨c4, c5, c6⟩, ⟨c7, c8⟩, c9⟩ := C
  have kl : k < gv.length := (List.getElem?_eq_some_iff.mp ex).1
  have ewk : w32 ((k : Int) + 1) = ((k + 1 : Nat) : Int) := by rw [w32_s (by omega) (by omega)]; rfl
  obtain ⟨x1, x2, x3, x4, x5, x6⟩ := g3 x rx.1 rx.2
  obtain ⟨y1, y2, y3, y4, y5, y6⟩ := g3 so rs.1 rs.2
  have kx1 : kd h1 x = 22 := by rw [x1]; exact kx
  have kp1 : kd h1 pr = 2 := g2.1.1.2.2.1.1.1
  have e46 : fR h1 1346 x = fR h 1346 x := x3 1346 (by decide)
  rcases W with ⟨w1, w2⟩ | ⟨v, a1, a2, w1, w2, w3, w4, w5⟩
  · have ee : eq = false := by
      cases eq with
      | false => rfl
      | true => exact absurd w1 (he.mp rfl)
    refine ⟨-1, σ, n, h1, ul, fl, 2147483647, 2147483647, ⟨fun _ => ⟨rfl, rfl, rfl, rfl⟩, fun z => (by rw [ee] at z; cases z)⟩, ?_, RS_le (RS_max g2) (by omega) (by omega) (by omega), g3, g7, g4, g5, by rw [w2, Nat.sub_self]; exact ST_refl HU, .inl rfl, .inl rfl, fun _ => ⟨rfl, fun _ => ⟨fun _ => g6, fun z => (by rw [ee] at z; cases z)⟩⟩⟩
    rw [g1]
    unfold C_1_resolveGivens_121
    have i0 : (if fR h 1346 x ≠ 0 then (1 : Int) else 0) = 0 := if_neg (fun z => z w1)
    rw [gd_pos kx1, c_isEqual kx1, Option.bind_some, e46, if_pos i0, ewk]
  · have ee : eq = true := he.mpr w1
    have z1 : hz h ≤ hz h1 := g2.2.1.1.1
    have D1 := dj_CS D g2.2.1 zA
    have e22 : fR h1 122 tb = fR h 122 tb := g2.2.1.2.2.2.2.1.2 122
    have W1 : WR A S b h1 σ 59 lo o a1 a2 (fR h 1346 x) v := WR_keepF w5 (hkF_sub (hkV_F g3) w3 w4) (nall_nk (fun _ _ _ _ _ => rfl) (Nat.le_refl _) (Nat.le_refl _))
    have R1 : KR S lo o a0 amid pr tb h1 ul fl n := ⟨⟨R.1.1, by omega, R.1.2.2⟩, D1, R.2.2⟩
    have HK := KC_of g2.1 g7 (by rw [e22]; exact c8)
    obtain ⟨t, τ, n', y, h3, us', fs', XC, XT, f1, f2, f3, f4, f5, f6, f7⟩ := known_rel 59 60 60 (by decide) (by decide) lo o a1 a2 (fR h 1346 x) v h1 ul fl σ n HK HU W1 (KR_sub R1 (Nat.le_refl _) (Nat.le_refl _) w3 w4)
    have H3 := RS_SC (alo := a0) (ahi := amid) g2.1 f3
    have kx3 : kd h3 x = 22 := by rw [f3.2.1.1.2.2.1 x (by omega)]; exact kx1
    have Y : hG x h3 (sR h3 1354 x y) := hG_sR (by decide)
    have H4 := RS_hG (a := x) (alo := a0) (ahi := amid) H3.1 Y (by rw [kx3]; decide) rx
    have eq3 : ∀ y', a0 ≤ y' → y' < amid → eqA y' h1 h3 := fun y' d1 d2 => f3.2.1.1.2.2.2 y' (by omega) (fun e => by
      rcases e with e | e
      · have := D1 y' (.inl e); omega
      · have := D1 y' (.inr e); omega)
    have ff : C_1_typeOf G pr (fR h 1346 x) Ln tb h1 = some (y, h3) := f2
    obtain ⟨t1, t2, t3, t4⟩ := f7
    refine ⟨t, τ, n', sR h3 1354 x y, us', fs', XC, XT, ⟨fun z => (by rw [ee] at z; cases z), fun _ => by rw [w2]; exact f1⟩, ?_, ?_, hkV_trans (hkV_trans g3 (hkV_eq eq3)) (hkV_hG Y), hG_SCc Y f3.1.2.2.2.1, fun y' d1 d2 d3 => eqA_trans (g4 y' d1 d2 d3) (eqA_trans (eq3 y' d1 d2) (Y.2.1 y' d3)), ?_, f4, f5, f6, fun sA => ⟨(t4 sA).1, fun e => ⟨fun z => (by rw [ee] at z; cases z), fun _ => ?_⟩⟩⟩
    · rw [g1]
      unfold C_1_resolveGivens_121
      have i0 : ¬ (if fR h 1346 x ≠ 0 then (1 : Int) else 0) = 0 := by rw [if_pos w1]; decide
      rw [gd_pos kx1, c_isEqual kx1, Option.bind_some, e46, if_neg i0, gd_pos ⟨kx1, by rw [y1]; exact c1, kp1⟩, y3 162 (by decide), c3, g2.2.2.1.2 78, c9, ff, Option.bind_some, gd_pos kx3, ewk]
    · have := RS_trans (RS_trans g2 H3) H4
      rw [List.append_nil] at this
      exact RS_le this (by omega) (by omega) (by omega)
    · rw [fR_ne (by decide), (eq3 x rx.1 rx.2).2.2.1]; exact g5
    · obtain ⟨T, T1, T2, T3⟩ := (t4 sA).2 e 0 y t rfl rfl
      rw [fR_eq]
      exact ⟨T, tyQ_M T1, H4.2.1.2.2.2.2.2.1 T y T2, T3⟩
/-- all nodes of givens lie from the first one's token on -/
theorem grows_nv : ∀ {xs os : List Nat} {x o lo hi alo ahi : Nat}, grows A S b h σ (x :: xs) (o :: os) lo hi alo ahi → ∀ i, lo ≤ i → i < hi → ga σ 542 o ≤ ga σ 542 i
  | [], [], x, o, lo, hi, alo, ahi, ⟨j, a2, q1, q2, q3, q4, q5, q6⟩, i, h1, h2 => by
    by_cases c : i < o
    · exact q1.2.2.2.2.2.1 i h1 c
    · have := q6.1
      rw [show i = o by omega]; exact Int.le_refl _
  | x' :: xs, o' :: os, x, o, lo, hi, alo, ahi, ⟨j, a2, q1, q2, q3, q4, q5, q6⟩, i, h1, h2 => by
    by_cases c : i < o
    · exact q1.2.2.2.2.2.1 i h1 c
    · by_cases e : i = o
      · rw [e]; exact Int.le_refl _
      · have := grows_nv q6 i (by omega) h2
        have := q1.2.2.2.2.2.2 o' List.mem_cons_self
        omega
  | [], _ :: _, _, _, _, _, _, _, ⟨j, a2, q1, q2, q3, q4, q5, q6⟩, _, _, _ => q6.elim
  | _ :: _, [], _, _, _, _, _, _, ⟨j, a2, q1, q2, q3, q4, q5, q6⟩, _, _, _ => q6.elim
theorem grows_keepF : ∀ {xs os : List Nat} {lo hi alo ahi : Nat}, grows A S b h σ xs os lo hi alo ahi → hkF alo ahi h h' → nall lo hi σ τ → grows A S b h' τ xs os lo hi alo ahi
  | [], [], _, _, _, _, r, _, _ => r
  | x :: xs, o :: os, lo, hi, alo, ahi, ⟨j, a2, q1, q2, q3, q4, q5, q6⟩, H, L => by
    obtain ⟨c1, c2, c3, c4, c5⟩ := grows_in q6
    have ho : lo ≤ o := by
      rcases q5 with q | ⟨kk, p, a1, a3, q⟩
      · omega
      · have := WR_in q.2.2.2.2; omega
    obtain ⟨k1, k2, k3, k4, k5⟩ := H x (by omega) (by omega)
    have n542 : ∀ i, lo ≤ i → i < hi → ga τ 542 i = ga σ 542 i := fun i e1 e2 => L 542 (by simp) i e1 e2
    refine ⟨j, a2, ⟨by rw [L 538 (by simp) o ho (by omega)]; exact q1.1, by rw [n542 o ho (by omega)]; exact q1.2.1, q1.2.2.1, by rw [L 546 (by simp) o ho (by omega)]; exact q1.2.2.2.1, q1.2.2.2.2.1, fun i e1 e2 => by rw [n542 o ho (by omega), n542 i e1 (by omega)]; exact q1.2.2.2.2.2.1 i e1 e2, fun o' e => by have := c3 o' e; rw [n542 o ho (by omega), n542 o' (by omega) (by omega)]; exact q1.2.2.2.2.2.2 o' e⟩, ⟨by rw [k1]; exact q2.1, q2.2⟩, by rw [k3 1338 (by decide)]; exact ⟨q3.1, q3.2.1, wd_hkF H q3.1 (by omega) q3.2.2⟩, by rw [k3 1342 (by decide)]; exact ⟨q4.1, q4.2.1, wd_hkF H q4.1 (by omega) q4.2.2⟩, ?_, grows_keepF q6 (hkF_sub H (by omega) (Nat.le_refl _)) (fun f hf i e1 e2 => L f hf i (by omega) e2)⟩
    rw [k3 1346 (by decide), L 550 (by simp) o ho (by omega)]
    rcases q5 with q | ⟨kk, p, a1, a3, w1, w2, w3, w4, w5⟩
    · exact .inl q
    · exact .inr ⟨kk, p, a1, a3, w1, w2, w3, w4, WR_keepF w5 (hkF_sub H (by omega) (by omega)) (nall_nk L (Nat.le_refl _) (by omega))⟩
  | [], _ :: _, _, _, _, _, r, _, _ => r.elim
  | _ :: _, [], _, _, _, _, r, _, _ => r.elim
theorem bj_gvB {j0 j : Nat} {eq : Bool} (hj : j0 ≤ j) : bj S j0 (gvB S K Ls eq j) := by
  intro y hy
  rcases List.mem_append.mp hy with hy | hy
  · split at hy
    · exact .inr ⟨j, hj, List.mem_singleton.mp hy⟩
    · exact absurd hy List.not_mem_nil
  · split at hy
    · exact absurd hy List.not_mem_nil
    · exact .inr ⟨j + 1, by omega, List.mem_singleton.mp hy⟩
theorem bj_if {j0 j : Nat} {P : Prop} [Decidable P] (hj : j0 ≤ j) : bj S j0 (if P then [] else [(tokq S j : Int)]) := by
  intro y hy
  split at hy
  · exact absurd hy List.not_mem_nil
  · exact .inr ⟨j, hj, List.mem_singleton.mp hy⟩
/-- givens in the component alone -/
theorem rg_alone {so Lg j0 lo0 : Nat} {gv : List Nat} (HU : KU S b m N K sc σ n) (rs : a0 ≤ so ∧ so < amid) (rL : a0 ≤ Lg ∧ Lg < amid) (nv : ∀ i : Nat, lo0 ≤ i → i < hi → ((b + j0 : Nat) : Int) ≤ ga σ 542 i) : ∀ (xs os : List Nat) (k lo alo : Nat) (h : om_H) (ul fl P : List Nat), grows A S b h σ xs os lo hi alo ahi → a0 ≤ alo → ahi ≤ amid → lo0 ≤ lo → RX G A S N cs K pr tb rest fo F mo Ms h ul fl → sgF h pr tb so Lg Ln Ls gv → gv = P ++ xs → P.length = k → KR S lo hi a0 amid pr tb h ul fl n →
    ∃ (h' : om_H) (ul' fl' : List Nat) (B : List Int), om_loop (C_1_resolveGivens_2s G pr so) ((k : Int), h) = some h' ∧ RS G A S N cs K pr tb rest fo F mo Ms a0 amid h ul fl h' ul' fl' (hi - lo) 0 0 B ∧ hkV a0 amid h h' ∧ bj S j0 B ∧ SCc h' Ln Ls ∧ ∀ y, a0 ≤ y → y < amid → y ∉ xs → eqA y h h'
  | [], [], k, lo, alo, h, ul, fl, P, W, _, _, _, H, C, eP, pk, R => by
    obtain ⟨⟨c1, c2, c3⟩, ⟨c4, c5, c6⟩, ⟨c7, c8⟩, c9⟩ := C
    refine ⟨h, ul, fl, [], om_loop_out ?_, RS_le (RS_refl H) (by omega) (by omega) (by omega), hkV_refl, bj_nil, c7, fun _ _ _ _ => eqA_refl _ _⟩
    unfold C_1_resolveGivens_2s
    simp only
    have e1 : P_J2_size G (fR h 166 so) h = some ((gv.length : Nat) : Int) := by unfold P_J2_size; rw [c2, gd_pos c4, c5]
    rw [gd_pos ⟨c1, by rw [c2]; exact c4⟩, e1, Option.bind_some, if_pos (by rw [eP, List.append_nil]; omega)]
  | x :: xs, o :: os, k, lo, alo, h, ul, fl, P, ⟨j, a2, q1, q2, q3, q4, q5, q6⟩, ha, hb, hl, H, C, eP, pk, R => by
    obtain ⟨d1, d2, d3, d4, d5⟩ := grows_in q6
    have ho : lo ≤ o := by
      rcases q5 with q | ⟨kk, p, a1, a3, q⟩
      · omega
      · have := WR_in q.2.2.2.2; omega
    have ex : gv[k]? = some x := by rw [eP, ← pk]; exact at_len
    obtain ⟨t, τ, n', h1, ul1, fl1, XC, XT, _, f2, f3, f4, f4', f5, f6, f7, f8, f9, f10⟩ := rg_one (lo := lo) (o := o) (eq := decide (fR h 1346 x ≠ 0)) (by simp) H HU C rs ex q2.1 ⟨by omega, by omega⟩ q3.2.2 q4.2.2 (by
      rcases q5 with q | ⟨kk, p, a1, a3, w1, w2, w3, w4, w5⟩
      · exact .inl ⟨q.1, q.2.2⟩
      · exact .inr ⟨p, a1, a3, w1, w2, by omega, by omega, w5⟩) (KR_sub R (Nat.le_refl _) (by omega) (Nat.le_refl _) (Nat.le_refl _))
    have zA := R.1.2.1
    have z1 := f3.2.1.1.1
    have l1 := f3.2.1.2.2.2.1
    have C1 := sgF_step C f4 rs rL f4' (f3.2.1.2.2.2.2.1.2 122) (f3.2.2.1.2 78)
    have R1 : KR S (o + 1) hi a0 amid pr tb h1 ul1 fl1 n := ⟨⟨R.1.1, by omega, R.1.2.2⟩, dj_CS R.2.1 f3.2.1 zA, by have := R.2.2.1; omega, by have := R.2.2.2; omega⟩
    obtain ⟨h3, us3, fs3, B3, g1, g2, g3, g4, g5, g6⟩ := rg_alone HU rs rL nv xs os (k + 1) (o + 1) a2 h1 ul1 fl1 (P ++ [x]) (grows_keepF q6 (hkF_sub (hkV_F f4) (by omega) (by omega)) (fun _ _ _ _ _ => rfl)) (by omega) hb (by omega) f3.1 C1 (by rw [eP, List.append_assoc]; rfl) (by rw [List.length_append, pk]; rfl) R1
    have hj : j0 ≤ j := by
      have := nv o (by omega) (by omega)
      rw [q1.2.1] at this
      omega
    refine ⟨h3, us3, fs3, _, by rw [om_loop_in f2]; exact g1, RS_le (RS_trans f3 g2) (by omega) (by omega) (by omega), hkV_trans f4 g3, bj_app (bj_app (bj_app (bj_if hj) (bj_gvB hj)) (bj_brk f8 (fun i x y => nv i (by omega) (by omega)))) g4, g5, fun y' e1 e2 e3 => eqA_trans (f5 y' e1 e2 (fun e => e3 (by rw [e]; exact List.mem_cons_self))) (g6 y' e1 e2 (fun e => e3 (List.mem_cons_of_mem _ e)))⟩
  | [], _ :: _, _, _, _, _, _, _, _, W, _, _, _, _, _, _, _, _ => W.elim
  | _ :: _, [], _, _, _, _, _, _, _, W, _, _, _, _, _, _, _, _ => W.elim
end LRH
