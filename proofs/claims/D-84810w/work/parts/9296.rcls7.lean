set_option maxRecDepth 100000
/-! RESOLVE: the loop over all classes -/
section LRP
variable {G : om_G} {A : Nat} {S : List Int} {b m : Nat} {N : List (List Int)} {cs : List Nat} {K : KT} {pr Ln : Nat} {Ls : List (List Int)} {sc : List Nat} {tb : Nat} {rest : List (Nat × List Nat)} {fo : List Nat} {F : FT} {mo : List (List Nat)} {Ms : List FT}
variable {h h' h2 hr : om_H} {ul fl ul' fl' : List Nat} {σ τ υ σr : tS} {n n' q z u lo hi alo ahi a0 amid a c w k : Nat} {B B2 : List Int} {X : Int} {L : List Int} {s : PS} {p p' : PD} {d : Nat}
theorem oT_inj {o o' : Option Nat} (e : oT b o = oT b o') : o = o' := by
  cases o with
  | none =>
    cases o' with
    | none => rfl
    | some j => have e : (-1 : Int) = ((b + j : Nat) : Int) := e; omega
  | some i =>
    cases o' with
    | none => have e : ((b + i : Nat) : Int) = (-1 : Int) := e; omega
    | some j => have e : ((b + i : Nat) : Int) = ((b + j : Nat) : Int) := e; rw [show i = j by omega]
theorem mT_det : ∀ {ns js is : List Nat}, mT S b σ ns js → mT S b σ ns is → js = is
  | [], [], [], _, _ => rfl
  | n :: ns, j :: js, i :: is, h1, h2 => by
    have := h1.1.2.1
    rw [h2.1.2.1] at this
    rw [mT_det h1.2 h2.2, show j = i by omega]
  | [], _ :: _, _, h1, _ => h1.elim
  | [], [], _ :: _, _, h2 => h2.elim
  | _ :: _, [], _, h1, _ => h1.elim
  | _ :: _, _ :: _, [], _, h2 => h2.elim
theorem dTw_det (h1 : dTw S b m σ d p) (h2 : dTw S b m σ d p') (e1 : p.1 = 5) (e2 : p'.1 = 5) : p = p' := by
  obtain ⟨_, a1, a2, a3⟩ := h1
  obtain ⟨_, b1, b2, b3⟩ := h2
  rcases a3 with ⟨_, _, _, ⟨a4, _⟩, ⟨a5, _⟩, ns, a6, a7⟩ | a3 | a3
  · rcases b3 with ⟨_, _, _, ⟨b4, _⟩, ⟨b5, _⟩, ms, b6, b7⟩ | b3 | b3
    · rw [a4] at b4
      rw [a5] at b5
      rw [chain_det b6 a6] at b7
      have x1 := oT_inj b4
      have x2 := oT_inj b5
      have x3 := mT_det a7 b7
      obtain ⟨k, j, ab, fa, me⟩ := p
      obtain ⟨k', j', ab', fa', me'⟩ := p'
      simp only at x1 x2 x3 e1 e2 a2 b2
      rw [x1, x2, x3, e1, e2, show j = j' by omega]
    · omega
    · omega
  · omega
  · omega
theorem RS_wide (C : RS G A S N cs K pr tb rest fo F mo Ms a0 amid h ul fl h' ul' fl' q z u B) (h1 : alo ≤ a0) (h2 : amid ≤ ahi) : RS G A S N cs K pr tb rest fo F mo Ms alo ahi h ul fl h' ul' fl' q z u B := ⟨C.1, CS_mono C.2.1 (fun y _ e => e.elim .inl (fun e => .inr ⟨by omega, by omega⟩)), C.2.2.1, C.2.2.2.1, fun D hA y y1 y2 => by
  by_cases c : a0 ≤ y ∧ y < amid
  · exact C.2.2.2.2 (fun x hx => by have := D x hx; omega) (by omega) y c.1 c.2
  · exact hs1 (RS_eq D C ⟨y1, y2⟩ hA (by omega))⟩
theorem hkV_RS (D : dj h tb fl pr alo ahi) (C : RS G A S N cs K pr tb rest fo F mo Ms a0 amid h ul fl h' ul' fl' q z u B) (V : hkV a0 amid h h') (hA : ahi ≤ hz h) : hkV alo ahi h h' := fun y c d => by
  by_cases r : a0 ≤ y ∧ y < amid
  · exact V y r.1 r.2
  · exact hkV_eq (alo := y) (ahi := y + 1) (fun y' e1 e2 => by rw [show y' = y by omega]; exact RS_eq D C ⟨c, d⟩ hA (by omega)) y (Nat.le_refl _) (by omega)
theorem lbE_comb {X Y P P' Q Q' : List Int} (h1 : lbE X (P ++ Q)) (h2 : lbE Y (P' ++ Q')) : lbE (X ++ Y) ((P ++ P') ++ (Q ++ Q')) := by
  refine ⟨lb_app (lb_trans h1.1 (lb_app (lb_l (lb_l lb_refl)) (lb_r (lb_l lb_refl)))) (lb_trans h2.1 (lb_app (lb_l (lb_r lb_refl)) (lb_r (lb_r lb_refl)))), lb_app (lb_app ?_ ?_) (lb_app ?_ ?_)⟩
  · exact lb_trans (lb_l lb_refl) (lb_trans h1.2 (lb_l lb_refl))
  · exact lb_trans (lb_l lb_refl) (lb_trans h2.2 (lb_r lb_refl))
  · exact lb_trans (lb_r lb_refl) (lb_trans h1.2 (lb_l lb_refl))
  · exact lb_trans (lb_r lb_refl) (lb_trans h2.2 (lb_r lb_refl))
set_option maxHeartbeats 1000000 in
/-- ALL CLASSES BECOME KNOWN ALIKE -/
theorem cl_loop (Xr : txC hr A S) (hAr : A < hz hr) (hhr : ahi ≤ hz hr) : ∀ (qs : List dcl) (ps : List PD) (d : Nat) (Lf : Nat → List Nat) (lo alo : Nat) (s : PS) (h : om_H) (ul fl : List Nat) (τ : tS) (n : Nat), prows G A S b hr σr d qs Lf lo hi alo ahi → (∃ x, prC A S hr qs ps Lf x ahi) → LSt hr Lf s → (∀ (i : Nat) (p : PD), ps[i]? = some p → dTw S b m σr (d + i) p) → rwT S N τ d ps s → K = (ps.foldl (pst S) s).1 → cs = prgL hr qs Lf 82 → (prgL hr qs Lf 110).length ≤ 1300 → hU alo ahi hr h → nall lo hi σr τ → (∀ f ∈ DA, ∀ i, ga τ f i = ga σr f i) → RX G A S N cs K pr tb rest fo F mo Ms h ul fl → TU S b m N K F Ms τ n → KR S lo hi alo ahi pr tb h ul fl n → fR h 78 pr = tb → gs τ 644 = ((min 8 K.length : Nat) : Int) → d + qs.length ≤ 700 →
    ∃ (h' : om_H) (ul' fl' : List Nat) (τ' : tS) (n' : Nat) (BC B : List Int), om_loop (C_1_resolve_139s G pr) ((((Lf 82).length : Nat) : Int), h) = some h' ∧ om_loop T_isProgram_195s (((min 8 s.1.length : Nat) : Int), τ) = some τ' ∧ RS G A S N cs K pr tb rest fo F mo Ms alo ahi h ul fl h' ul' fl' (hi - lo) 0 0 BC ∧ hkV alo ahi h h' ∧ TU S b m N K F Ms τ' n' ∧ fr [452, 456, 532, 784] (778 :: 686 :: TYA) τ τ' ∧ tx τ n τ' n' ∧ n' ≤ n + (hi - lo) ∧ bp τ' = mnl (bp τ) B ∧ bj S 0 B ∧ lbE BC (cRs S 5 s ps ++ B) ∧ ((∀ y ∈ B, y = 2147483647) → clT S N cs rest hr h' ul' τ' n' qs ps s) ∧ ∀ y, y < 4 * s.1.length → ga τ' 686 y = ga τ 686 y
  | [], [], d, Lf, lo, alo, s, h, ul, fl, τ, n, P, C, L, Dt, Rw, eK, ecs, _, Hu, Hn, Hd, H, U, R, e78, g644, _ => by
    have e1 : K = s.1 := eK
    have e2 : cs = Lf 82 := ecs
    refine ⟨h, ul, fl, τ, n, [], [], om_loop_out (en_139 H (by rw [e2])), om_loop_out ?_, RS_le (RS_refl H) (by omega) (by omega) (by omega), hkV_refl, U, fr_refl _ _ _, tx_refl _ _, by omega, rfl, bj_nil, lbE_refl, fun _ => trivial, fun _ _ => rfl⟩
    unfold T_isProgram_195s
    simp only
    rw [g644, e1, if_pos (Int.le_refl _)]
  | q :: qs, p :: ps, d, Lf, lo, alo, s, h, ul, fl, τ, n, P, C, L, Dt, Rw, eK, ecs, l110, Hu, Hn, Hd, H, U, R, e78, g644, dl => by
    obtain ⟨mid, a0, amid, r1, ⟨r2, nv, fv, tk⟩, D, P'⟩ := P
    obtain ⟨x0, a0', amid', r1', r2', D', C'⟩ := C
    have pin := prows_in P'
    have L' := LS_step Xr hAr (by have := prC_le C'; omega) r2' D' L
    have Dp := Dt 0 p rfl
    rw [Nat.add_zero] at Dp
    have Dt' : ∀ (i : Nat) (p : PD), ps[i]? = some p → dTw S b m σr (d + 1 + i) p := fun i p' e => by
      have := Dt (i + 1) p' e
      rwa [show d + (i + 1) = d + 1 + i by omega] at this
    have eK' : K = (ps.foldl (pst S) (pst S s p)).1 := eK
    have ecs' : cs = prgL hr qs (dclLf hr Lf q) 82 := ecs
    have zA := R.1.2.1
    have dl' : d + 1 + qs.length ≤ 700 := by rw [List.length_cons] at dl; omega
    by_cases p5 : p.1 = 5
    · -- a class
      have q5 : q.1 = 5 := by omega
      have W : clsR A S b hr σr lo mid a0 amid q.2.1 d q.2.2 ((Lf 82).length : Int) := by
        rcases D with ⟨_, D⟩ | ⟨e, D⟩ | ⟨e, D⟩
        · exact D
        · omega
        · omega
      rw [r2'.2.1] at W nv
      obtain ⟨p'', ⟨e1, e2⟩, e3, Cc⟩ := cls_pd (m := m) W Dp.1.1 Dp.1.2 (by have := R.1.2.2.1; omega) nv
      rw [dTw_det e3 Dp e1 p5] at Cc
      have eL : dclLf hr Lf q = clsLf Lf hr q.2.1 := by unfold dclLf; rw [if_pos q5]
      have ls : (Lf 82).length = s.1.length := L.2.2.1.1
      obtain ⟨T, eT⟩ := pss_K (S := S) ps (pst S s p)
      obtain ⟨T1, eT1⟩ := prgL_pre (h := hr) 82 qs (dclLf hr Lf q)
      obtain ⟨T2, eT2⟩ := prgL_pre (h := hr) 110 qs (dclLf hr Lf q)
      have es1 : (pst S s p).1 = s.1 ++ [kEn S s p] := by rw [pst_5 p5]; rfl
      have eKt : K = s.1 ++ (kEn S s p :: T) := by rw [eK', eT, es1, List.append_assoc]; rfl
      have hK : K.take s.1.length = s.1 := by rw [eKt]; exact take_pre
      have lK : s.1.length < K.length := by rw [eKt, List.length_append, List.length_cons]; omega
      have ec : cs[s.1.length]? = some q.2.1 := by
        rw [ecs', eT1, eL, ← ls]
        show (Lf 82 ++ [q.2.1] ++ T1)[(Lf 82).length]? = _
        rw [List.append_assoc]
        exact at_len
      have lm : (ll hr (fR hr 1230 q.2.1)).length ≤ 1300 := by
        have x : (prgL hr qs (dclLf hr Lf q) 110).length ≤ 1300 := l110
        rw [eT2, eL] at x
        have y : (Lf 110 ++ ll hr (fR hr 1230 q.2.1) ++ T2).length ≤ 1300 := x
        simp only [List.length_append] at y
        omega
      have Ra : KR S lo mid a0 amid pr tb h ul fl n := KR_sub R (Nat.le_refl _) (by omega) (by omega) (by omega)
      have nL : ∀ y, a0 ≤ y → y < amid → y ≠ fR h 122 tb := fun y y1 y2 e => by have := R.2.1 y (.inl (.inr (.inl e))); omega
      have Hua : hU a0 amid hr h := hU_sub Hu (by omega) (by omega)
      have Hna : nall lo mid σr τ := fun f hf i x y => Hn f hf i x (by omega)
      rw [ls] at W Cc ⊢
      have st := st_139 (k := s.1.length) H ec
      -- what follows the class, for whatever came of it
      have fin : ∀ (h1 : om_H) (ul1 fl1 : List Nat) (τ1 : tS) (n1 : Nat) (BC1 : List Int), RS G A S N cs K pr tb rest fo F mo Ms a0 amid h ul fl h1 ul1 fl1 (mid - lo) 0 0 BC1 → TU S b m N K F Ms τ1 n1 → fr [452, 456, 532, 784] (778 :: 686 :: TYA) τ τ1 → n1 ≤ n + (mid - lo) → ∃ (h' : om_H) (ul' fl' : List Nat) (τ' : tS) (n' : Nat) (BC B : List Int), om_loop (C_1_resolve_139s G pr) (((s.1.length + 1 : Nat) : Int), h1) = some h' ∧ om_loop T_isProgram_195s (((min 8 (s.1.length + 1) : Nat) : Int), τ1) = some τ' ∧ RS G A S N cs K pr tb rest fo F mo Ms amid ahi h1 ul1 fl1 h' ul' fl' (hi - mid) 0 0 BC ∧ hkV amid ahi h1 h' ∧ TU S b m N K F Ms τ' n' ∧ fr [452, 456, 532, 784] (778 :: 686 :: TYA) τ1 τ' ∧ tx τ1 n1 τ' n' ∧ n' ≤ n1 + (hi - mid) ∧ bp τ' = mnl (bp τ1) B ∧ bj S 0 B ∧ lbE BC (cRs S 5 (pst S s p) ps ++ B) ∧ ((∀ y ∈ B, y = 2147483647) → clT S N cs rest hr h' ul' τ' n' qs ps (pst S s p)) ∧ ∀ y, y < 4 * (s.1.length + 1) → ga τ' 686 y = ga τ1 686 y := by
        intro h1 ul1 fl1 τ1 n1 BC1 s1 s2 s3 s4
        have z1 := s1.2.1.1.1
        have l1 := s1.2.1.2.2.2.1
        have lp : (pst S s p).1.length = s.1.length + 1 := by rw [es1, List.length_append]; rfl
        have l82 : (dclLf hr Lf q 82).length = s.1.length + 1 := by rw [L'.2.2.1.1, lp]
        have := cl_loop Xr hAr hhr qs ps (d + 1) (dclLf hr Lf q) mid amid (pst S s p) h1 ul1 fl1 τ1 n1 P' ⟨amid', C'⟩ L' Dt' (rwT_fr s3 (by decide) Rw.2) eK' ecs' l110 (hU_eq (hU_sub Hu (by omega) (Nat.le_refl _)) (fun y y1 y2 => RS_eq R.2.1 s1 ⟨by omega, y2⟩ zA (by omega))) (fun f hf i x y => (s3.2 f (by simp only [List.mem_cons, List.not_mem_nil, or_false] at hf ⊢; omega) i).trans (Hn f hf i (by omega) y)) (fun f hf i => (s3.2 f (by simp only [List.mem_cons, List.not_mem_nil, or_false] at hf ⊢; omega) i).trans (Hd f hf i)) s1.1 s2 ⟨⟨by have := R.1.1; omega, by omega, R.1.2.2⟩, dj_sub (dj_CS R.2.1 s1.2.1 zA) (by omega) (Nat.le_refl _), by have := R.2.2.1; omega, by have := R.2.2.2; omega⟩ (by rw [s1.2.2.1.2 78]; exact e78) (by rw [s3.1 644 (by decide)]; exact g644) dl'
        rw [l82, lp] at this
        exact this
      have cm : tokq S p.2.1 ≤ S.length := by have := tok_le S p.2.1; omega
      by_cases c8 : s.1.length < 8
      · obtain ⟨h1, ul1, fl1, τ1, n1, BC1, B1, k1, k2, k3, k4, k5, k6, k7, k8, k9, k9b, k10, k11, k12, k13⟩ := class_res (s := s) W Cc Dp c8 hK (Rw.1.1 p5 c8) p5 Hua Hna (fun f hf => Hd f hf d) H U Ra e78 nL lm
        obtain ⟨h3, ul3, fl3, τ3, n3, BC3, B3, f1, f2, f3, f4, f5, f6, f7, f8, f9, f9b, f10, f11, f12⟩ := fin h1 ul1 fl1 τ1 n1 BC1 k3 k5 k6 k8
        have z1 := k3.2.1.1.1
        have D1 := dj_CS R.2.1 k3.2.1 zA
        have V1 := hkV_RS R.2.1 k3 k4 zA
        have V3 := hkV_RS D1 f3 f4 (by omega)
        refine ⟨h3, ul3, fl3, τ3, n3, BC1 ++ BC3, B1 ++ B3, ?_, ?_, RS_le (RS_trans (RS_wide k3 (by omega) (by omega)) (RS_wide f3 (by omega) (Nat.le_refl _))) (by omega) (by omega) (by omega), hkV_trans V1 V3, f5, fr_trans k6 f6, tx_trans k7 f7, by omega, by rw [f9, k9, mnl_app], bj_app k9b f9b, ?_, fun hB => ⟨fun _ _ => ⟨?_, fun ok1 ok2 i x e => ?_⟩, f11 (fun y hy => hB y (List.mem_append_right _ hy))⟩, fun y hy => ?_⟩
        · rw [om_loop_in (by rw [st, k1, Option.bind_some])]
          exact f1
        · have e8 : min 8 s.1.length = s.1.length := by omega
          have st2 : T_isProgram_195s (((min 8 s.1.length : Nat) : Int), τ) = some (.inl (((min 8 (s.1.length + 1) : Nat) : Int), τ1)) := by
            rw [e8, show min 8 (s.1.length + 1) = s.1.length + 1 by omega]
            unfold T_isProgram_195s
            simp only
            rw [g644, if_neg (by omega), k2, Option.bind_some, w32_s (by omega) (by omega)]
            rfl
          rw [om_loop_in st2]
          exact f2
        · show lbE _ (((if p.1 = 5 then cR S s p else []) ++ cRs S 5 (pst S s p) ps) ++ (B1 ++ B3))
          rw [if_pos p5]
          refine lbE_comb ?_ f10
          unfold cR
          rw [if_pos p5, if_pos c8, List.nil_append]
          exact k10
        · have di := Cc.1
          rw [(RS_eq D1 f3 (y := q.2.1) ⟨by omega, by omega⟩ (by omega) (by omega)).2.2.1]
          exact k11
        · obtain ⟨T0, y1, y2, y3⟩ := k12 ok1 ok2 (fun y hy => hB y (List.mem_append_left _ hy)) i x e
          have mc := Cc.2.2.2.2.2.1.2.2
          have xr := mC_ge mc x (List.mem_of_getElem? e)
          have il : i < p.2.2.2.2.length := by rw [← mC_len mc]; exact (List.getElem?_eq_some_iff.mp e).1
          have i4 : p.2.2.2.2.length ≤ 4 := by
            have := mthF_cnt (S := S) (st := nwG S s.2.2.2.1 (p.2.1 + 1)) (tn := s.2.2.2.2.1) (k := 0) (js := p.2.2.2.2)
            rw [(mthB_ok ok1 ok2).1, List.filter_eq_self.mpr (fun x hx => by obtain ⟨j, _, e⟩ := List.mem_map.mp hx; rw [← e]; rfl), List.length_map] at this
            exact this
          rw [(RS_eq D1 f3 (y := x) ⟨by omega, by omega⟩ (by omega) (by omega)).2.2.1, f12 _ (by omega)]
          refine ⟨T0, ⟨y1.1, fun eb => y1.2 ?_⟩, f3.2.1.2.2.2.2.2.1 T0 _ y2, tyT_mono f7 y3⟩
          have b1 := (mnl_le (A := B3) (x := bp τ1)).1
          have b2 := k5.1.2.2.2.2
          omega
        · rw [f12 y (by omega), k13 y (.inl hy)]
      · obtain ⟨h1, ul1, fl1, BC1, k1, k3, k4, k10⟩ := class_alone (k := s.1.length) W Cc nv (by omega) (by omega) Hua Hna H U Ra e78 nL lm
        obtain ⟨h3, ul3, fl3, τ3, n3, BC3, B3, f1, f2, f3, f4, f5, f6, f7, f8, f9, f9b, f10, f11, f12⟩ := fin h1 ul1 fl1 τ n BC1 k3 U (fr_refl _ _ _) (by omega)
        have z1 := k3.2.1.1.1
        have D1 := dj_CS R.2.1 k3.2.1 zA
        have V1 := hkV_RS R.2.1 k3 k4 zA
        have V3 := hkV_RS D1 f3 f4 (by omega)
        refine ⟨h3, ul3, fl3, τ3, n3, BC1 ++ BC3, B3, ?_, ?_, RS_le (RS_trans (RS_wide k3 (by omega) (by omega)) (RS_wide f3 (by omega) (Nat.le_refl _))) (by omega) (by omega) (by omega), hkV_trans V1 V3, f5, f6, f7, by omega, f9, f9b, ?_, fun hB => ⟨fun _ z => absurd z c8, f11 hB⟩, fun y hy => f12 y (by omega)⟩
        · rw [om_loop_in (by rw [st, k1, Option.bind_some])]
          exact f1
        · rw [show min 8 s.1.length = min 8 (s.1.length + 1) by omega]
          exact f2
        · show lbE _ (((if p.1 = 5 then cR S s p else []) ++ cRs S 5 (pst S s p) ps) ++ B3)
          rw [if_pos p5, show B3 = [] ++ B3 from rfl]
          refine lbE_comb ?_ f10
          rw [List.append_nil]
          unfold cR
          rw [if_pos p5, if_neg c8]
          refine ⟨lb_trans k10.1 (lb_l (lb_l lb_refl)), lb_trans (lb_one (fun y hy => ?_)) k10.2⟩
          obtain ⟨_, _, _, _, _, _, _, _, _, _, o2, o3⟩ := Cc
          rcases List.mem_append.mp hy with hy | hy
          · rcases List.mem_append.mp hy with hy | hy
            · rw [List.mem_singleton.mp hy]; exact Int.le_refl _
            · obtain ⟨a, x1, x2⟩ := abB_mem hy
              rw [x2]; exact tq_i (o3 a x1)
          · obtain ⟨j, x1, x2⟩ := m4_mem hy
            rw [x2]; exact tq_i (o2 j x1).1
    · -- something else
      have e82 : dclLf hr Lf q 82 = Lf 82 := by
        rcases D with ⟨e, _⟩ | ⟨e, _⟩ | ⟨e, _⟩
        · omega
        · unfold dclLf; rw [if_neg (by omega), if_pos e]; rfl
        · unfold dclLf; rw [if_neg (by omega), if_neg (by omega)]; rfl
      have es1 : (pst S s p).1 = s.1 := by
        by_cases h6 : p.1 = 6
        · rw [pst_6 h6]
        · unfold pst; rw [if_neg p5, if_neg h6]
      obtain ⟨h3, ul3, fl3, τ3, n3, BC3, B3, f1, f2, f3, f4, f5, f6, f7, f8, f9, f9b, f10, f11, f12⟩ := cl_loop Xr hAr hhr qs ps (d + 1) (dclLf hr Lf q) mid amid (pst S s p) h ul fl τ n P' ⟨amid', C'⟩ L' Dt' Rw.2 eK' ecs' l110 (hU_sub Hu (by omega) (Nat.le_refl _)) (fun f hf i x y => Hn f hf i (by omega) y) Hd H U (KR_sub R (by omega) (Nat.le_refl _) (by omega) (Nat.le_refl _)) e78 g644 dl'
      rw [e82] at f1
      rw [es1] at f2 f12
      refine ⟨h3, ul3, fl3, τ3, n3, BC3, B3, f1, f2, RS_le (RS_wide f3 (by omega) (Nat.le_refl _)) (by omega) (by omega) (by omega), hkV_RS R.2.1 f3 f4 zA, f5, f6, f7, by omega, f9, f9b, ?_, fun hB => ⟨fun z => absurd z p5, f11 hB⟩, f12⟩
      show lbE _ (((if p.1 = 5 then cR S s p else []) ++ cRs S 5 (pst S s p) ps) ++ B3)
      rw [if_neg p5]
      exact f10
  | [], _ :: _, _, _, _, _, _, _, _, _, _, _, _, C, _, _, _, _, _, _, _, _, _, _, _, _, _, _, _ => (by obtain ⟨_, C⟩ := C; exact C.elim)
  | _ :: _, [], _, _, _, _, _, _, _, _, _, _, _, C, _, _, _, _, _, _, _, _, _, _, _, _, _, _, _ => (by obtain ⟨_, C⟩ := C; exact C.elim)
end LRP
