set_option maxRecDepth 100000
/-! RESOLVE: all functions -/
/-- functions that are known -/
def fnT (G : om_G) (A : Nat) (S : List Int) (b : Nat) (N : List (List Int)) (cs : List Nat) (K : KT) (rest : List (Nat × List Nat)) (fo : List Nat) (F : FT) (mo : List (List Nat)) (Ms : List FT) (hr h : om_H) (ul : List Nat) (τ : tS) (n Z : Nat) : List dcl → List PD → List (Nat × Nat × Nat × Nat) → Nat → PS → Prop
  | q :: qs, p :: ps, r :: rs, d, s => (p.1 = 2 → nwF S s.2.2.2.2.1 s.2.1.length p.2.1 → ∃ (m2 a2 a3 nX j1 : Nat), (r.1 ≤ m2 ∧ r.2.2.1 ≤ a2 ∧ a3 ≤ r.2.2.2 ∧ ga τ 622 d = (nX : Int) ∧ ∃ y0 y1, wrow A S hr y0 y1 j1 (ll hr (fR hr 162 (fR hr 1542 q.2.1)))) ∧ FnK G A S b N cs K rest fo F mo Ms h ul τ n q.2.1 (cntS s.2.1 s.2.1.length) Z m2 r.2.1 a2 a3 (fR hr 1554 q.2.1) nX ((List.range' j1 (ll hr (fR hr 162 (fR hr 1542 q.2.1))).length).map (tokw S)) (ll hr (fR hr 166 (fR hr 1542 q.2.1)))) ∧ fnT G A S b N cs K rest fo F mo Ms hr h ul τ n Z qs ps rs (d + 1) (pst S s p)
  | _, _, _, _, _ => True
section LFM
variable {G : om_G} {A : Nat} {S : List Int} {b m : Nat} {N : List (List Int)} {cs : List Nat} {K : KT} {pr Ln : Nat} {Ls : List (List Int)} {sc : List Nat} {tb : Nat} {rest : List (Nat × List Nat)} {fo : List Nat} {F : FT} {mo : List (List Nat)} {Ms : List FT}
variable {h h' h2 hr : om_H} {ul fl ul' fl' : List Nat} {σ τ υ σr : tS} {n n' q z u lo hi alo ahi a0 amid a c w k : Nat} {B B2 : List Int} {X : Int} {L : List Int} {s : PS} {p : PD}
theorem funR_lt {f d j0 : Nat} {nb : Int} (W : funR G A S b hr σr lo hi a0 amid f d j0 nb) : lo < hi := by
  obtain ⟨w, so, Lsa, Lg, wr, ex, j1, m1, m2, am, ag, a1, a2, a3, nT, nX, kk, ws, xs, os, b1, b2, b3, b4, b5, b6, b7, b8, b9⟩ := W
  have gi := grows_in b5.2.2.1
  have wi := WR_in b6
  have xi := XR_in _ _ _ _ _ _ _ b7
  omega
/-- the givens of a function lie in its range, with their words -/
theorem funR_gv {f d j0 : Nat} {nb : Int} (W : funR G A S b hr σr lo hi a0 amid f d j0 nb) : (a0 ≤ f ∧ f < amid) ∧ ∀ x ∈ ll hr (fR hr 166 (fR hr 1542 f)), (a0 ≤ x ∧ x < amid) ∧ (a0 ≤ fR hr 1338 x ∧ fR hr 1338 x < amid) ∧ (a0 ≤ fR hr 1342 x ∧ fR hr 1342 x < amid) := by
  obtain ⟨w, so, Lsa, Lg, wr, ex, j1, m1, m2, am, ag, a1, a2, a3, nT, nX, kk, ws, xs, os, b1, b2, b3, b4, b5, b6, b7, b8, b9⟩ := W
  have gi := grows_in b5.2.2.1
  have wi := WR_in b6
  have xi := XR_in _ _ _ _ _ _ _ b7
  refine ⟨by omega, fun x hx => ?_⟩
  rw [b1.1.2.2.2.1, b1.2.2.2.2, b5.2.1] at hx
  have := gi.2.2.2.1 x hx
  have := grows_wd b5.2.2.1 x hx
  omega
theorem rdy_keep {kk : Nat} : ∀ {qs : List dcl} {rs : List (Nat × Nat × Nat × Nat)} {d : Nat} {Lf : Nat → List Nat} {lo alo : Nat}, prR G A S b hr σr hi ahi d qs rs Lf lo alo → rdy kk hr h σr τ qs rs → (∀ y, alo ≤ y → y < ahi → eqA y h h') → (∀ g ∈ PA, ∀ i, lo ≤ i → i < hi → ga υ g i = ga τ g i) → rdy kk hr h' σr υ qs rs
  | [], [], _, _, _, _, _, _, _, _ => trivial
  | q :: qs, r :: rs, d, Lf, lo, alo, ⟨r1, r2, D, P⟩, H, E, L => by
    have pin := prR_in P
    exact ⟨fun e => ⟨hkV_trans (H.1 e).1 (hkV_eq (fun y y1 y2 => E y (by omega) (by omega))), fun g hg i i1 i2 => (L g hg i (by omega) (by omega)).trans ((H.1 e).2 g hg i i1 i2)⟩, rdy_keep P H.2 (fun y y1 y2 => E y (by omega) y2) (fun g hg i i1 i2 => L g hg i (by omega) i2)⟩
  | [], _ :: _, _, _, _, _, H, _, _, _ => H.elim
  | _ :: _, [], _, _, _, _, H, _, _, _ => H.elim
theorem FnK_z {f fi z1 z2 m2 a2 a3 ex nX : Nat} {gv : List Nat} (H : FnK G A S b N cs K rest fo F mo Ms h ul τ n f fi z1 m2 hi a2 a3 ex nX Ls gv) (hz' : z2 ≤ z1) : FnK G A S b N cs K rest fo F mo Ms h ul τ n f fi z2 m2 hi a2 a3 ex nX Ls gv := by
  obtain ⟨sc, z0, g1, g2, g3, g4, g5, g6⟩ := H
  exact ⟨sc, z0, g1, g2, g3, g4, Nat.le_trans hz' g5, g6⟩
set_option maxHeartbeats 4000000 in
/-- ALL FUNCTIONS BECOME KNOWN ALIKE -/
theorem fn_loop {Z : Nat} (em : tokk S m = 0) (hm : m ≤ 1300) (Xr : txC hr A S) (hAr : A < hz hr) (hhr : ahi ≤ hz hr) : ∀ (qs : List dcl) (ps : List PD) (rs : List (Nat × Nat × Nat × Nat)) (d : Nat) (Lf : Nat → List Nat) (lo alo : Nat) (s : PS) (h : om_H) (ul fl : List Nat) (τ : tS) (n : Nat), prR G A S b hr σr hi ahi d qs rs Lf lo alo → (∃ x, prC A S hr qs ps Lf x ahi) → LSt hr Lf s → (∀ (i : Nat) (p : PD), ps[i]? = some p → dTw S b m σr (d + i) p) → rwT S N τ d ps s → F = (ps.foldl (pst S) s).2.1 → fo = prgL hr qs Lf 90 → rdy 2 hr h σr τ qs rs → (∀ f ∈ DA, ∀ i, ga τ f i = ga σr f i) → RX G A S N cs K pr tb rest fo F mo Ms h ul fl → TU S b m N K F Ms τ n → KR S lo hi alo ahi pr tb h ul fl n → fR h 78 pr = tb → gs τ 652 = (cntS F F.length : Int) → hi - lo ≤ 4200 → d + qs.length ≤ 700 → (fR h 122 tb < Z ∧ ahi ≤ Z ∧ Z ≤ hz h) →
    ∃ (h' : om_H) (ul' fl' : List Nat) (τ' : tS) (n' : Nat) (BC B : List Int), om_loop (C_1_resolve_209s G pr) ((((Lf 90).length : Nat) : Int), h) = some h' ∧ om_loop T_isProgram_237s (((cntS s.2.1 s.2.1.length : Nat) : Int), τ) = some τ' ∧ RS G A S N cs K pr tb rest fo F mo Ms alo ahi h ul fl h' ul' fl' (hi - lo) (8 * (hi - lo)) (300 * (hi - lo)) BC ∧ TU S b m N K F Ms τ' n' ∧ fr [452, 456, 532, 784, 788, 856] FRA τ τ' ∧ (∀ i, (lo ≤ i ∧ i < hi) ∨ ga τ' 550 i = ga τ 550 i) ∧ ((∀ y, alo ≤ y → y < ahi → ¬ ink 2 y qs rs → eqA y h h') ∧ ∀ i, inkN 2 i qs rs ∨ ga τ' 550 i = ga τ 550 i) ∧ ((∀ g ∈ [738, 746, 762], ∀ i, i < cntS s.2.1 s.2.1.length → ga τ' g i = ga τ g i) ∧ ∀ g ∈ [742, 750, 754, 758], ∀ i, i < 4 * cntS s.2.1 s.2.1.length → ga τ' g i = ga τ g i) ∧ tx τ n τ' n' ∧ n' ≤ n + (hi - lo) ∧ bp τ' = mnl (bp τ) B ∧ bj S 0 B ∧ lb BC (pB2 S s ps ++ B) ∧ lb (cRs S 2 s ps ++ B) BC ∧ ((∀ y ∈ B, y = 2147483647) → fnT G A S b N cs K rest fo F mo Ms hr h' ul' τ' n' Z qs ps rs d s)
  | [], [], [], d, Lf, lo, alo, s, h, ul, fl, τ, n, P, C, L, Dt, Rw, eF, efo, Rd, Hd, H, U, R, e78, g652, h42, dl, hZ => by
    have e1 : F = s.2.1 := eF
    have e2 : fo = Lf 90 := efo
    refine ⟨h, ul, fl, τ, n, [], [], om_loop_out (en_209 H (by rw [e2])), om_loop_out ?_, RS_le (RS_refl H) (by omega) (by omega) (by omega), U, fr_refl _ _ _, fun _ => .inr rfl, ⟨fun _ _ _ _ => eqA_refl _ _, fun _ => .inr rfl⟩, ⟨fun _ _ _ _ => rfl, fun _ _ _ _ => rfl⟩, tx_refl _ _, by omega, rfl, bj_nil, lb_refl, lb_refl, fun _ => trivial⟩
    unfold T_isProgram_237s
    simp only
    rw [g652, e1, if_pos (Int.le_refl _)]
  | q :: qs, p :: ps, r :: rs, d, Lf, lo, alo, s, h, ul, fl, τ, n, P, C, L, Dt, Rw, eF, efo, Rd, Hd, H, U, R, e78, g652, h42, dl, hZ => by
    obtain ⟨r1, ⟨nv, fv⟩, D, P'⟩ := P
    obtain ⟨x0, a0', amid', r1', r2', D', C'⟩ := C
    have pin := prR_in P'
    have L' := LS_step Xr hAr (by have := prC_le C'; omega) r2' D' L
    have Dp := Dt 0 p rfl
    rw [Nat.add_zero] at Dp
    have Dt' : ∀ (i : Nat) (p : PD), ps[i]? = some p → dTw S b m σr (d + 1 + i) p := fun i p' e => by
      have := Dt (i + 1) p' e
      rwa [show d + (i + 1) = d + 1 + i by omega] at this
    have eF' : F = (ps.foldl (pst S) (pst S s p)).2.1 := eF
    have efo' : fo = prgL hr qs (dclLf hr Lf q) 90 := efo
    have zA := R.1.2.1
    have dl' : d + 1 + qs.length ≤ 700 := by rw [List.length_cons] at dl; omega
    by_cases p2 : p.1 = 2
    · have q2 : q.1 = 2 := by omega
      have W : funR G A S b hr σr r.1 r.2.1 r.2.2.1 r.2.2.2 q.2.1 d q.2.2 ((Lf 90).length : Int) := by
        rcases D with ⟨e, _⟩ | ⟨e, _⟩ | ⟨_, D⟩
        · omega
        · omega
        · exact D
      have wlt := funR_lt W
      obtain ⟨wf, wg⟩ := funR_gv W
      rw [r2'.2.1] at W nv
      have eL : dclLf hr Lf q = funLf Lf hr q.2.1 := by unfold dclLf; rw [if_neg (by omega), if_neg (by omega)]
      have ls : (Lf 90).length = s.2.1.length := L.2.2.1.2.2.1
      obtain ⟨T, eT⟩ := pss_F (S := S) ps (pst S s p)
      obtain ⟨T1, eT1⟩ := prgL_pre (h := hr) 90 qs (dclLf hr Lf q)
      have es1 : (pst S s p).2.1 = s.2.1 ++ [fE S s p] := by rw [pst_2 p2]; rfl
      have eFt : F = s.2.1 ++ (fE S s p :: T) := by rw [eF', eT, es1, List.append_assoc]; rfl
      have ec : fo[s.2.1.length]? = some q.2.1 := by
        rw [efo', eT1, eL, ← ls]
        show (Lf 90 ++ [q.2.1] ++ T1)[(Lf 90).length]? = _
        rw [List.append_assoc]
        exact at_len
      have Ra : KR S r.1 r.2.1 r.2.2.1 r.2.2.2 pr tb h ul fl n := KR_sub R r1.1 (by omega) r1.2.2.1 (by omega)
      obtain ⟨Va, Na⟩ := Rd.1 q2
      rw [ls]
      have st := st_209 (k := s.2.1.length) H ec
      have l90 : (dclLf hr Lf q 90).length = s.2.1.length + 1 := by rw [L'.2.2.1.2.2.1, es1, List.length_append]; rfl
      have fin : ∀ (h1 : om_H) (ul1 fl1 : List Nat) (τ1 : tS) (n1 : Nat) (BC1 : List Int), RS G A S N cs K pr tb rest fo F mo Ms r.2.2.1 r.2.2.2 h ul fl h1 ul1 fl1 (r.2.1 - r.1) (6 * (r.2.1 - r.1) + 2) (60 * (r.2.1 - r.1) + 200) BC1 → TU S b m N K F Ms τ1 n1 → fr [452, 456, 532, 784, 788, 856] FRA τ τ1 → (∀ i, (r.1 ≤ i ∧ i < r.2.1) ∨ ga τ1 550 i = ga τ 550 i) → n1 ≤ n + (r.2.1 - r.1) → ∃ (h' : om_H) (ul' fl' : List Nat) (τ' : tS) (n' : Nat) (BC B : List Int), om_loop (C_1_resolve_209s G pr) (((s.2.1.length + 1 : Nat) : Int), h1) = some h' ∧ om_loop T_isProgram_237s (((cntS (pst S s p).2.1 (pst S s p).2.1.length : Nat) : Int), τ1) = some τ' ∧ RS G A S N cs K pr tb rest fo F mo Ms r.2.2.2 ahi h1 ul1 fl1 h' ul' fl' (hi - r.2.1) (8 * (hi - r.2.1)) (300 * (hi - r.2.1)) BC ∧ TU S b m N K F Ms τ' n' ∧ fr [452, 456, 532, 784, 788, 856] FRA τ1 τ' ∧ (∀ i, (r.2.1 ≤ i ∧ i < hi) ∨ ga τ' 550 i = ga τ1 550 i) ∧ ((∀ y, r.2.2.2 ≤ y → y < ahi → ¬ ink 2 y qs rs → eqA y h1 h') ∧ ∀ i, inkN 2 i qs rs ∨ ga τ' 550 i = ga τ1 550 i) ∧ ((∀ g ∈ [738, 746, 762], ∀ i, i < cntS (pst S s p).2.1 (pst S s p).2.1.length → ga τ' g i = ga τ1 g i) ∧ ∀ g ∈ [742, 750, 754, 758], ∀ i, i < 4 * cntS (pst S s p).2.1 (pst S s p).2.1.length → ga τ' g i = ga τ1 g i) ∧ tx τ1 n1 τ' n' ∧ n' ≤ n1 + (hi - r.2.1) ∧ bp τ' = mnl (bp τ1) B ∧ bj S 0 B ∧ lb BC (pB2 S (pst S s p) ps ++ B) ∧ lb (cRs S 2 (pst S s p) ps ++ B) BC ∧ ((∀ y ∈ B, y = 2147483647) → fnT G A S b N cs K rest fo F mo Ms hr h' ul' τ' n' Z qs ps rs (d + 1) (pst S s p)) := by
        intro h1 ul1 fl1 τ1 n1 BC1 s1 s2 s3 s4 s5
        have z1 := s1.2.1.1.1
        have l1 := s1.2.1.2.2.2.1
        have := fn_loop em hm Xr hAr hhr qs ps rs (d + 1) (dclLf hr Lf q) r.2.1 r.2.2.2 (pst S s p) h1 ul1 fl1 τ1 n1 P' ⟨amid', C'⟩ L' Dt' (rwT_fr s3 (by decide) Rw.2) eF' efo' (rdy_keep P' Rd.2 (fun y y1 y2 => RS_eq R.2.1 s1 ⟨by omega, y2⟩ zA (.inr y1)) (fun g hg i i1 i2 => by
          by_cases e5 : g = 550
          · rw [e5]
            rcases s4 i with e | e
            · omega
            · exact e
          · exact s3.2 g (by simp only [List.mem_append, List.mem_cons, List.not_mem_nil, or_false] at hg ⊢; omega) i)) (fun g hg i => (s3.2 g (by simp only [List.mem_append, List.mem_cons, List.not_mem_nil, or_false] at hg ⊢; omega) i).trans (Hd g hg i)) s1.1 s2 ⟨⟨by have := R.1.1; omega, by omega, R.1.2.2⟩, dj_sub (dj_CS R.2.1 s1.2.1 zA) (by omega) (Nat.le_refl _), by have := R.2.2.1; omega, by have := R.2.2.2; omega⟩ (by rw [s1.2.2.1.2 78]; exact e78) (by rw [s3.1 652 (by decide)]; exact g652) (by omega) dl' ⟨by rw [s1.2.1.2.2.2.2.1.2 122]; exact hZ.1, hZ.2.1, by omega⟩
        rw [l90] at this
        exact this
      by_cases nw : nwF S s.2.2.2.2.1 s.2.1.length p.2.1
      · have ef : fE S s p = some (tokw S p.2.1) := by unfold fE; rw [if_pos nw]
        have cn1 : cntS (pst S s p).2.1 (pst S s p).2.1.length = cntS s.2.1 s.2.1.length + 1 := by
          rw [cntS_all, es1, List.filter_append, List.length_append, ef, cntS_all]
          rfl
        have fi24 : cntS s.2.1 s.2.1.length < 24 := by have := cntS_le s.2.1; have := nw.2.2; omega
        have big : cntS s.2.1 s.2.1.length < cntS F F.length := by
          rw [cntS_all, cntS_all, eFt, List.filter_append, List.length_append, ef]
          simp
        obtain ⟨e730, _⟩ := Rw.1.2.2 p2 nw
        obtain ⟨h1, ul1, fl1, τ1, n1, BC1, B1, k1, k2, k3, k4, k5, k6, k7, k8, k9, k10, k10b, k11, k12⟩ := fun_res (k := s.2.1.length) em hm W (fv q2) nv Va Na (fun g hg => Hd g hg d) H U Ra e78 (by omega) Dp.1.1 nw.2.2 fi24 e730
        obtain ⟨h3, ul3, fl3, τ3, n3, BC3, B3, f1, f2, f3, f4, f5, f6, ⟨f6e, f6n⟩, f7, f8, f9, f10, f10b, f11, f12, f13⟩ := fin h1 ul1 fl1 τ1 n1 BC1 k3 k4 k5 k6 k9
        rw [cn1] at f2 f7
        have z1 := k3.2.1.1.1
        have D1 := dj_CS R.2.1 k3.2.1 zA
        refine ⟨h3, ul3, fl3, τ3, n3, BC1 ++ BC3, B1 ++ B3, ?_, ?_, RS_le (RS_trans (RS_wide k3 (by omega) (by omega)) (RS_wide f3 (by omega) (Nat.le_refl _))) (by omega) (by omega) (by omega), f4, fr_trans k5 f5, fun i => ?_, ⟨unt_step R.2.1 zA k3 f3 q2 f6e, fun i => (f6n i).elim (fun e => .inl (.inr e)) (fun e => (k6 i).elim (fun e' => .inl (.inl ⟨q2, e'⟩)) (fun e' => .inr (e.trans e')))⟩, ⟨fun g hg i hi' => ?_, fun g hg i hi' => ?_⟩, tx_trans k8 f8, by omega, by rw [f10, k10, mnl_app], bj_app k10b f10b, ?_, ?_, fun hB => ⟨fun _ _ => ?_, f13 (fun y hy => hB y (List.mem_append_right _ hy))⟩⟩
        · rw [om_loop_in (by rw [st, k1, Option.bind_some])]
          exact f1
        · have st2 : T_isProgram_237s (((cntS s.2.1 s.2.1.length : Nat) : Int), τ) = some (.inl (((cntS s.2.1 s.2.1.length + 1 : Nat) : Int), τ1)) := by
            unfold T_isProgram_237s
            simp only
            rw [g652, if_neg (by omega), k2, Option.bind_some, w32_s (by omega) (by omega)]
            rfl
          rw [om_loop_in st2]
          exact f2
        · rcases f6 i with e | e
          · exact .inl ⟨by omega, e.2⟩
          · rcases k6 i with e' | e'
            · exact .inl ⟨by omega, by omega⟩
            · exact .inr (e.trans e')
        · rw [f7.1 g hg i (by omega)]; exact k7.1 g hg i (by omega)
        · rw [f7.2 g hg i (by omega)]; exact k7.2 g hg i (.inl hi')
        · show lb _ (((if p.1 = 2 then psB S s p else []) ++ pB2 S (pst S s p) ps) ++ (B1 ++ B3))
          refine lb_app (lb_r (lb_trans k11.1 (lb_l lb_refl))) (lb_trans f11 (lb_app (lb_l (lb_r lb_refl)) (lb_r (lb_r lb_refl))))
        · show lb (((if p.1 = 2 then cR S s p else []) ++ cRs S 2 (pst S s p) ps) ++ (B1 ++ B3)) _
          have c0 : (if p.1 = 2 then cR S s p else []) = [] := by
            unfold cR
            rw [if_pos p2, if_neg (by omega), if_neg (by omega), if_pos nw.2.2]
          rw [c0, List.nil_append]
          exact lb_app (lb_r (lb_trans (lb_l lb_refl) f12)) (lb_app (lb_l k11.2) (lb_r (lb_trans (lb_r lb_refl) f12)))
        · obtain ⟨m2, a2, a3, nX, j1, ⟨y1, y2, y3, y4, y6, y7⟩, y5⟩ := k12 (fun y hy => hB y (List.mem_append_left _ hy))
          refine ⟨m2, a2, a3, nX, j1, ⟨y1, y2, y3, by rw [f5.2 622 (by decide)]; exact y4, y7⟩, FnK_keep (FnK_z y5 hZ.2.2) (RS_eq D1 f3 ⟨by omega, by omega⟩ (by omega) (.inl wf.2)) (fun x hx => ?_) (fun y v1 v2 => RS_eq D1 f3 ⟨by omega, by omega⟩ (by omega) (.inl (by omega))) (fun g hg i v1 v2 => ?_) (fun T y => f3.2.1.2.2.2.2.2.1 T y) f8 f3.2.1.1.1 (RS_kl k3.1 f3 (by rw [k3.2.1.2.2.2.2.1.2 122]; exact hZ.1) hZ.2.1) (fun g hg => f7.1 g hg _ (by omega)) (fun g hg i v1 => f7.2 g hg _ (by omega))⟩
          · obtain ⟨w1, w2, w3⟩ := wg x hx
            refine ⟨RS_eq D1 f3 ⟨by omega, by omega⟩ (by omega) (.inl w1.2), fun w hw => ?_⟩
            rw [(y6 x hx).1, (y6 x hx).2] at hw
            have hw2 : w = fR hr 1338 x ∨ w = fR hr 1342 x := by simpa using hw
            have wr : r.2.2.1 ≤ w ∧ w < r.2.2.2 := by
              rcases hw2 with e | e
              · rw [e]; exact w2
              · rw [e]; exact w3
            exact RS_eq D1 f3 ⟨by omega, by omega⟩ (by omega) (.inl wr.2)
          · by_cases e5 : g = 550
            · rw [e5]
              rcases f6 i with e | e
              · omega
              · exact e
            · exact f5.2 g (by simp only [List.mem_append, List.mem_cons, List.not_mem_nil, or_false] at hg ⊢; omega) i
      · have cn0 : cntS (pst S s p).2.1 (pst S s p).2.1.length = cntS s.2.1 s.2.1.length := by
          have ef : fE S s p = none := by unfold fE; rw [if_neg nw]
          rw [cntS_all, es1, List.filter_append, List.length_append, ef, cntS_all]
          rfl
        obtain ⟨h1, ul1, fl1, BC1, k1, k3, k11, k12⟩ := fun_alone (k := s.2.1.length) em hm W nv Va Na H U Ra e78 (by omega)
        obtain ⟨h3, ul3, fl3, τ3, n3, BC3, B3, f1, f2, f3, f4, f5, f6, ⟨f6e, f6n⟩, f7, f8, f9, f10, f10b, f11, f12, f13⟩ := fin h1 ul1 fl1 τ n BC1 k3 U (fr_refl _ _ _) (fun _ => .inr rfl) (by omega)
        rw [cn0] at f2 f7
        have z1 := k3.2.1.1.1
        have pb : psB S s p = [(tokq S p.2.1 : Int)] := by
          unfold psB
          rw [if_neg (by omega), if_neg (by omega), if_neg nw]
        refine ⟨h3, ul3, fl3, τ3, n3, BC1 ++ BC3, B3, ?_, f2, RS_le (RS_trans (RS_wide k3 (by omega) (by omega)) (RS_wide f3 (by omega) (Nat.le_refl _))) (by omega) (by omega) (by omega), f4, f5, fun i => ?_, ⟨unt_step R.2.1 zA k3 f3 q2 f6e, fun i => (f6n i).elim (fun e => .inl (.inr e)) .inr⟩, f7, f8, by omega, f10, f10b, ?_, ?_, fun hB => ⟨fun _ z => absurd z nw, f13 hB⟩⟩
        · rw [om_loop_in (by rw [st, k1, Option.bind_some])]
          exact f1
        · rcases f6 i with e | e
          · exact .inl ⟨by omega, e.2⟩
          · exact .inr e
        · show lb _ (((if p.1 = 2 then psB S s p else []) ++ pB2 S (pst S s p) ps) ++ B3)
          rw [if_pos p2, pb]
          exact lb_app (lb_l (lb_l (bj_lb R.1.2.2.2 k11))) (lb_trans f11 (lb_app (lb_l (lb_r lb_refl)) (lb_r lb_refl)))
        · show lb (((if p.1 = 2 then cR S s p else []) ++ cRs S 2 (pst S s p) ps) ++ B3) _
          rw [if_pos p2]
          refine lb_app (lb_app ?_ (lb_r (lb_trans (lb_l lb_refl) f12))) (lb_r (lb_trans (lb_r lb_refl) f12))
          unfold cR
          rw [if_neg (by omega), if_neg (by omega)]
          split
          · exact lb_nil
          · rename_i c24
            exact fun y hy => ⟨_, List.mem_append_left _ (k12 c24), by rw [List.mem_singleton.mp hy]; exact Int.le_refl _⟩
    · have e90 : dclLf hr Lf q 90 = Lf 90 := by
        rcases D with ⟨e, _⟩ | ⟨e, _⟩ | ⟨e, _⟩
        · unfold dclLf; rw [if_pos e]; rfl
        · unfold dclLf; rw [if_neg (by omega), if_pos e]; rfl
        · omega
      have es1 : (pst S s p).2.1 = s.2.1 := by
        by_cases h5 : p.1 = 5
        · rw [pst_5 h5]
        · by_cases h6 : p.1 = 6
          · rw [pst_6 h6]
          · rcases D with ⟨e, _⟩ | ⟨e, _⟩ | ⟨e, _⟩ <;> omega
      obtain ⟨h3, ul3, fl3, τ3, n3, BC3, B3, f1, f2, f3, f4, f5, f6, ⟨f6e, f6n⟩, f7, f8, f9, f10, f10b, f11, f12, f13⟩ := fn_loop em hm Xr hAr hhr qs ps rs (d + 1) (dclLf hr Lf q) r.2.1 r.2.2.2 (pst S s p) h ul fl τ n P' ⟨amid', C'⟩ L' Dt' Rw.2 eF' efo' Rd.2 Hd H U (KR_sub R (by omega) (Nat.le_refl _) (by omega) (Nat.le_refl _)) e78 g652 (by omega) dl' hZ
      rw [e90] at f1
      rw [es1] at f2 f7
      refine ⟨h3, ul3, fl3, τ3, n3, BC3, B3, f1, f2, RS_le (RS_wide f3 (by omega) (Nat.le_refl _)) (by omega) (by omega) (by omega), f4, f5, fun i => ?_, ⟨unt_skip R.2.1 zA f3 f6e, fun i => (f6n i).elim (fun e => .inl (.inr e)) .inr⟩, f7, f8, by omega, f10, f10b, ?_, ?_, fun hB => ⟨fun z => absurd z p2, f13 hB⟩⟩
      · rcases f6 i with e | e
        · exact .inl ⟨by omega, e.2⟩
        · exact .inr e
      · show lb _ (((if p.1 = 2 then psB S s p else []) ++ pB2 S (pst S s p) ps) ++ B3)
        rw [if_neg p2]
        exact f11
      · show lb (((if p.1 = 2 then cR S s p else []) ++ cRs S 2 (pst S s p) ps) ++ B3) _
        rw [if_neg p2]
        exact f12
  | [], _ :: _, _, _, _, _, _, _, _, _, _, _, _, _, C, _, _, _, _, _, _, _, _, _, _, _, _, _, _, _ => (by obtain ⟨_, C⟩ := C; exact C.elim)
  | _ :: _, [], _, _, _, _, _, _, _, _, _, _, _, _, C, _, _, _, _, _, _, _, _, _, _, _, _, _, _, _ => (by obtain ⟨_, C⟩ := C; exact C.elim)
  | [], [], _ :: _, _, _, _, _, _, _, _, _, _, _, P, _, _, _, _, _, _, _, _, _, _, _, _, _, _, _, _ => P.elim
  | _ :: _, _ :: _, [], _, _, _, _, _, _, _, _, _, _, P, _, _, _, _, _, _, _, _, _, _, _, _, _, _, _, _ => P.elim
end LFM
