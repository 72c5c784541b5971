set_option maxRecDepth 100000
/-! RESOLVE: the loop over all insts -/
section LIM
variable {G : om_G} {A : Nat} {S : List Int} {b m : Nat} {N : List (List Int)} {cs : List Nat} {K : KT} {pr Ln : Nat} {Ls : List (List Int)} {sc : List Nat} {tb : Nat} {rest : List (Nat × List Nat)} {fo : List Nat} {F : FT} {mo : List (List Nat)} {Ms : List FT}
variable {h h' h2 hr : om_H} {ul fl ul' fl' : List Nat} {σ τ υ σr : tS} {n n' q z u lo hi alo ahi a0 amid a c w k : Nat} {B B2 : List Int} {X : Int} {L : List Int} {s : PS} {p : PD}
/-- the program's list of insts -/
def LI (h : om_H) (pr tb bnd : Nat) (li : List Nat) : Prop := (fR h 86 pr < hz h ∧ fR h 86 pr < bnd ∧ fR h 86 pr ≠ fR h 122 tb) ∧ kd h (fR h 86 pr) = 42 ∧ ll h (fR h 86 pr) = li ∧ li.length ≤ 1300
theorem LI_RS {bnd : Nat} {li : List Nat} (H : RX G A S N cs K pr tb rest fo F mo Ms h ul fl) (I : LI h pr tb bnd li) (C : RS G A S N cs K pr tb rest fo F mo Ms alo ahi h ul fl h' ul' fl' q z u B) (hb : bnd ≤ alo) : LI h' pr tb bnd li := by
  obtain ⟨⟨i1, i2, i3⟩, i4, i5, i6⟩ := I
  have e86 : fR h' 86 pr = fR h 86 pr := C.2.2.1.2 86
  have e22 : fR h' 122 tb = fR h 122 tb := C.2.1.2.2.2.2.1.2 122
  have e := C.2.1.1.2.2.2 (fR h 86 pr) i1 (fun e => by
    rcases e with e | e | e
    · exact nDT H.1.1.1 ⟨by omega, by omega, by omega⟩ i3 e
    · have := H.1.2.2.1.1.1; rw [← e] at this; omega
    · omega)
  have z1 := C.2.1.1.1
  refine ⟨⟨by rw [e86]; omega, by rw [e86]; exact i2, by rw [e86, e22]; exact i3⟩, by rw [e86, e.1]; exact i4, by rw [e86, e.2.2.2.2.2.2.1]; exact i5, i6⟩
theorem inT_big {Z : Nat} : ∀ {qs : List dcl} {ps : List PD} {rs : List (Nat × Nat × Nat × Nat)} {d : Nat} {s : PS}, 20 ≤ s.2.2.2.2.2 → inT G A S b N cs K rest fo F mo Ms hr h ul τ n Z qs ps rs d s
  | [], _, _, _, _, _ => by unfold inT; trivial
  | _ :: _, [], _, _, _, _ => by unfold inT; trivial
  | _ :: _, _ :: _, [], _, _, _ => by unfold inT; trivial
  | q :: qs, p :: ps, r :: rs, d, s, hs => by
    have g := (pst_grow (S := S) (s := s) (q := p)).2.1
    exact ⟨fun _ z => by omega, inT_big (by omega)⟩
set_option maxHeartbeats 4000000 in
/-- ALL INSTS BECOME KNOWN ALIKE -/
theorem in_loop {Z bnd : Nat} {li : List Nat} (em : tokk S m = 0) (hm : m ≤ 1300) (Xr : txC hr A S) (hAr : A < hz hr) (hhr : ahi ≤ hz hr) : ∀ (qs : List dcl) (ps : List PD) (rs : List (Nat × Nat × Nat × Nat)) (d : Nat) (Lf : Nat → List Nat) (lo alo : Nat) (s : PS) (h : om_H) (ul fl : List Nat) (τ : tS) (n : Nat), prR G A S b hr σr hi ahi d qs rs Lf lo alo → (∃ x, prC A S hr qs ps Lf x ahi) → LSt hr Lf s → (∀ (i : Nat) (p : PD), ps[i]? = some p → dTw S b m σr (d + i) p) → rwT S N τ d ps s → li = prgL hr qs Lf 86 → rdy 6 hr h σr τ qs rs → (∀ f ∈ DA, ∀ i, ga τ f i = ga σr f i) → RX G A S N cs K pr tb rest fo F mo Ms h ul fl → LI h pr tb bnd li → bnd ≤ alo → TU S b m N K F Ms τ n → KR S lo hi alo ahi pr tb h ul fl n → tl ul fl + (hi - lo) + 3 * qs.length ≤ 149000 → fR h 78 pr = tb → gs τ 648 = ((min 20 li.length : Nat) : Int) → hi - lo ≤ 4200 → d + qs.length ≤ 700 → (fR h 122 tb < Z ∧ ahi ≤ Z ∧ Z ≤ hz h) →
    ∃ (h' : om_H) (ul' fl' : List Nat) (τ' : tS) (n' : Nat) (BC B : List Int), om_loop (C_1_resolve_174s G pr) ((((Lf 86).length : Nat) : Int), h) = some h' ∧ om_loop T_isProgram_216s (((min 20 s.2.2.2.2.2 : Nat) : Int), τ) = some τ' ∧ RS G A S N cs K pr tb rest fo F mo Ms alo ahi h ul fl h' ul' fl' ((hi - lo) + 3 * qs.length) (8 * (hi - lo)) (300 * (hi - lo)) BC ∧ TU S b m N K F Ms τ' n' ∧ fr [452, 456, 532, 784, 788, 856] (694 :: 698 :: IRA) τ τ' ∧ (∀ kk, kk ≠ 6 → ∀ x, rdy kk hr h σr x qs rs → rdy kk hr h' σr x qs rs) ∧ (∀ kk, kk ≠ 6 → ∀ x, rdy kk hr x σr τ qs rs → rdy kk hr x σr τ' qs rs) ∧ (∀ i, (lo ≤ i ∧ i < hi) ∨ ga τ' 550 i = ga τ 550 i) ∧ (∀ y, alo ≤ y → y < ahi → ¬ ink 6 y qs rs → eqA y h h') ∧ ((∀ g ∈ [694, 698, 702, 710, 722], ∀ i, i < min 20 s.2.2.2.2.2 → ga τ' g i = ga τ g i) ∧ (∀ i, i < 2 * min 20 s.2.2.2.2.2 → ga τ' 706 i = ga τ 706 i) ∧ ∀ g ∈ [714, 718], ∀ i, i < 4 * min 20 s.2.2.2.2.2 → ga τ' g i = ga τ g i) ∧ tx τ n τ' n' ∧ n' ≤ n + (hi - lo) ∧ bp τ' = mnl (bp τ) B ∧ bj S 0 B ∧ lbE BC (cRs S 6 s ps ++ B) ∧ ((∀ y ∈ B, y = 2147483647) → fI h 112 pr = 2147483647 → inT G A S b N cs K rest fo F mo Ms hr h' ul' τ' n' Z qs ps rs d s)
  | [], [], [], d, Lf, lo, alo, s, h, ul, fl, τ, n, P, C, L, Dt, Rw, eli, Rd, Hd, H, I, hb, U, R, R3, e78, g648, h42, dl, hZ => by
    have e2 : li = Lf 86 := eli
    have ls : (Lf 86).length = s.2.2.2.2.2 := L.2.2.1.2.2.2
    refine ⟨h, ul, fl, τ, n, [], [], om_loop_out (en_174 H.1.2.2.1.1.1 I.2.1 I.2.2.1 (by rw [e2])), om_loop_out ?_, RS_le (RS_refl H) (by omega) (by omega) (by omega), U, fr_refl _ _ _, fun _ _ _ r => r, fun _ _ _ r => r, fun _ => .inr rfl, fun _ _ _ _ => eqA_refl _ _, ⟨fun _ _ _ _ => rfl, fun _ _ => rfl, fun _ _ _ _ => rfl⟩, tx_refl _ _, by omega, rfl, bj_nil, lbE_refl, fun _ _ => trivial⟩
    unfold T_isProgram_216s
    simp only
    rw [g648, e2, ls, if_pos (Int.le_refl _)]
  | q :: qs, p :: ps, r :: rs, d, Lf, lo, alo, s, h, ul, fl, τ, n, P, C, L, Dt, Rw, eli, Rd, Hd, H, I, hb, U, R, R3, e78, g648, h42, dl, hZ => by
    obtain ⟨r1, ⟨nv, fv⟩, D, P'⟩ := P
    obtain ⟨x0, a0', amid', r1', r2', D', C'⟩ := C
    have pin := prR_in P'
    have L' := LS_step Xr hAr (by have := prC_le C'; omega) r2' D' L
    have Dp := Dt 0 p rfl
    rw [Nat.add_zero] at Dp
    have Dt' : ∀ (i : Nat) (p : PD), ps[i]? = some p → dTw S b m σr (d + 1 + i) p := fun i p' e => by
      have := Dt (i + 1) p' e
      rwa [show d + (i + 1) = d + 1 + i by omega] at this
    have eli' : li = prgL hr qs (dclLf hr Lf q) 86 := eli
    have zA := R.1.2.1
    have dl' : d + 1 + qs.length ≤ 700 := by rw [List.length_cons] at dl; omega
    rw [List.length_cons] at R3
    by_cases p6 : p.1 = 6
    · have q6 : q.1 = 6 := by omega
      have W : insR G A S b hr σr r.1 r.2.1 r.2.2.1 r.2.2.2 q.2.1 d q.2.2 ((Lf 86).length : Int) := by
        rcases D with ⟨e, _⟩ | ⟨_, D⟩ | ⟨e, _⟩
        · omega
        · exact D
        · omega
      obtain ⟨wf, wg, wfa, wl⟩ := insR_gv W
      have kf : kd hr q.2.1 = 21 := by
        rcases D' with ⟨e, _⟩ | ⟨_, D'⟩ | ⟨e, _⟩
        · omega
        · exact D'.2.1
        · omega
      rw [r2'.2.1] at W nv
      have eL : dclLf hr Lf q = updL Lf 86 q.2.1 := by unfold dclLf; rw [if_neg (by omega), if_pos q6]
      have ls : (Lf 86).length = s.2.2.2.2.2 := L.2.2.1.2.2.2
      obtain ⟨T1, eT1⟩ := prgL_pre (h := hr) 86 qs (dclLf hr Lf q)
      have es1 : (pst S s p).2.2.2.2.2 = s.2.2.2.2.2 + 1 := by rw [pst_6 p6]
      have eli2 : li = Lf 86 ++ (q.2.1 :: T1) := by
        rw [eli', eT1, eL]
        show Lf 86 ++ [q.2.1] ++ T1 = _
        rw [List.append_assoc]
        rfl
      have ec : li[s.2.2.2.2.2]? = some q.2.1 := by rw [eli2, ← ls]; exact at_len
      have lli : s.2.2.2.2.2 < li.length := (List.getElem?_eq_some_iff.mp ec).1
      have Ra : KR S r.1 r.2.1 r.2.2.1 r.2.2.2 pr tb h ul fl n := KR_sub R r1.1 (by omega) r1.2.2.1 (by omega)
      obtain ⟨Va, Na⟩ := Rd.1 q6
      rw [ls]
      have st := st_174 (G := G) (k := s.2.2.2.2.2) H.1.2.2.1.1.1 I.2.1 I.2.2.1 ec (by rw [(Va q.2.1 wf.1 wf.2).1]; exact kf) I.2.2.2
      have l86 : (dclLf hr Lf q 86).length = s.2.2.2.2.2 + 1 := by rw [L'.2.2.1.2.2.2, es1]
      have eqR : ∀ {h1 : om_H} {ul1 fl1 : List Nat} {BC1 : List Int} {q1 z1 u1 : Nat}, RS G A S N cs K pr tb rest fo F mo Ms r.2.2.1 r.2.2.2 h ul fl h1 ul1 fl1 q1 z1 u1 BC1 → ∀ y, r.2.2.2 ≤ y → y < ahi → eqA y h h1 := fun s1 y y1 y2 => RS_eq R.2.1 s1 ⟨by omega, y2⟩ zA (.inr y1)
      have ndR : ∀ {τ1 : tS}, fr [452, 456, 532, 784, 788, 856] (694 :: 698 :: IRA) τ τ1 → (∀ i, (r.1 ≤ i ∧ i < r.2.1) ∨ ga τ1 550 i = ga τ 550 i) → ∀ g ∈ PA, ∀ i, r.2.1 ≤ i → i < hi → ga τ1 g i = ga τ g i := fun s3 s4 g hg i i1 i2 => by
        by_cases e5 : g = 550
        · rw [e5]
          rcases s4 i with e | e
          · omega
          · exact e
        · exact s3.2 g (by simp only [List.mem_append, List.mem_cons, List.not_mem_nil, or_false] at hg ⊢; omega) i
      by_cases c20 : s.2.2.2.2.2 < 20
      · have e690 := Rw.1.2.1 p6 c20
        obtain ⟨h1, ul1, fl1, τ1, n1, BC1, B1, k1, k2, k3, k4, k5, k6, ⟨k7, k7', k7''⟩, k8, k9, k10, k10b, k11, k12⟩ := ins_res (k := s.2.2.2.2.2) em hm W nv Va Na (fun g hg => Hd g hg d) H U Ra (by omega) e78 (by omega) Dp.1.1 c20 c20 e690
        obtain ⟨h3, ul3, fl3, τ3, n3, BC3, B3, f1, f2, f3, f4, f5, fa, fb, f6, f6e, ⟨f7, f7', f7''⟩, f8, f9, f10, f10b, f11, f13⟩ := in_loop (Z := Z) (bnd := bnd) (li := li) em hm Xr hAr hhr qs ps rs (d + 1) (dclLf hr Lf q) r.2.1 r.2.2.2 (pst S s p) h1 ul1 fl1 τ1 n1 P' ⟨amid', C'⟩ L' Dt' (rwT_fr k5 (by decide) Rw.2) eli' (rdy_keep P' Rd.2 (eqR k3) (ndR k5 k6)) (fun g hg i => (k5.2 g (by simp only [List.mem_append, List.mem_cons, List.not_mem_nil, or_false] at hg ⊢; omega) i).trans (Hd g hg i)) k3.1 (LI_RS H I k3 (by omega)) (by omega) k4 ⟨⟨by have := R.1.1; omega, by have := k3.2.1.1.1; omega, R.1.2.2⟩, dj_sub (dj_CS R.2.1 k3.2.1 zA) (by omega) (Nat.le_refl _), by have := R.2.2.1; omega, by have := k3.2.1.2.2.2.1; omega⟩ (by have := k3.2.1.2.2.2.1; omega) (by rw [k3.2.2.1.2 78]; exact e78) (by rw [k5.1 648 (by decide)]; exact g648) (by omega) dl' ⟨by rw [k3.2.1.2.2.2.2.1.2 122]; exact hZ.1, hZ.2.1, by have := k3.2.1.1.1; omega⟩
        rw [l86] at f1
        rw [es1, show min 20 (s.2.2.2.2.2 + 1) = s.2.2.2.2.2 + 1 by omega] at f2 f7 f7' f7''
        have z1 := k3.2.1.1.1
        have D1 := dj_CS R.2.1 k3.2.1 zA
        have m20 : min 20 s.2.2.2.2.2 = s.2.2.2.2.2 := by omega
        rw [m20]
        refine ⟨h3, ul3, fl3, τ3, n3, BC1 ++ BC3, B1 ++ B3, ?_, ?_, RS_le (RS_trans (RS_wide k3 (by omega) (by omega)) (RS_wide f3 (by omega) (Nat.le_refl _))) (by rw [List.length_cons]; omega) (by omega) (by omega), f4, fr_trans k5 f5, fun kk hk x hx => ⟨fun e => by omega, fa kk hk x (rdy_keep P' hx.2 (eqR k3) (fun _ _ _ _ _ => rfl))⟩, fun kk hk x hx => ⟨fun e => by omega, fb kk hk x (rdy_keep P' hx.2 (fun _ _ _ => eqA_refl _ _) (ndR k5 k6))⟩, fun i => ?_, unt_step R.2.1 zA k3 f3 q6 f6e, ⟨fun g hg i hi' => ?_, fun i hi' => ?_, fun g hg i hi' => ?_⟩, tx_trans k8 f8, by omega, by rw [f10, k10, mnl_app], bj_app k10b f10b, ?_, fun hB mx => ⟨fun _ _ => ?_, f13 (fun y hy => hB y (List.mem_append_right _ hy)) ?_⟩⟩
        · rw [om_loop_in (by rw [st, k1, Option.bind_some])]
          exact f1
        · have st2 : T_isProgram_216s (((s.2.2.2.2.2 : Nat) : Int), τ) = some (.inl (((s.2.2.2.2.2 + 1 : Nat) : Int), τ1)) := by
            unfold T_isProgram_216s
            simp only
            rw [g648, if_neg (by omega), k2, Option.bind_some, w32_s (by omega) (by omega)]
            rfl
          rw [om_loop_in st2]
          exact f2
        · rcases f6 i with e | e
          · exact .inl ⟨by omega, e.2⟩
          · rcases k6 i with e' | e'
            · exact .inl ⟨by omega, by omega⟩
            · exact .inr (e.trans e')
        · rw [f7 g hg i (by omega)]; exact k7 g hg i (by omega)
        · rw [f7' i (by omega)]; exact k7' i (.inl hi')
        · rw [f7'' g hg i (by omega)]; exact k7'' g hg i (.inl hi')
        · show lbE _ (((if p.1 = 6 then cR S s p else []) ++ cRs S 6 (pst S s p) ps) ++ (B1 ++ B3))
          refine lbE_comb ?_ f11
          have c0 : (if p.1 = 6 then cR S s p else []) = [] := by
            unfold cR
            rw [if_pos p6, if_neg (by omega), if_pos p6, if_pos c20]
          rw [c0, List.nil_append]
          exact k11
        · obtain ⟨j1, jc, jn, c0, c1, ns, y1, y2, y3, ⟨y4, y5, y6, y8⟩, y7⟩ := k12 (fun y hy => hB y (List.mem_append_left _ hy)) mx
          refine ⟨j1, jc, jn, c0, c1, ns, ⟨y1.1, by rw [f7 694 (by simp) _ (by omega)]; exact y1.2⟩, ⟨y2.1, by rw [f7 698 (by simp) _ (by omega)]; exact y2.2⟩, ?_, y8, InK_keep y7 hZ.2.2 (fun y v1 v2 => RS_eq D1 f3 ⟨by omega, by omega⟩ (by omega) (.inl v2)) wf (fun x hx => ?_) (fun z => ?_) wl (fun g hg i v1 v2 => ?_) (fun o => f5.2 546 (by decide) o) (f5.2 614 (by decide) _) (fun e => by have b1 := (mnl_le (A := B3) (x := bp τ1)).1; have b2 := k4.1.2.2.2.2; omega) (fun T y => f3.2.1.2.2.2.2.2.1 T y) f8 f3.2.1.1.1 (RS_kl k3.1 f3 (by rw [k3.2.1.2.2.2.2.1.2 122]; exact hZ.1) hZ.2.1) (fun g hg => f7 g (by simp only [List.mem_cons, List.not_mem_nil, or_false] at hg ⊢; omega) _ (by omega)) (fun i v1 => f7' _ (by omega)) (fun g hg i v1 => f7'' g hg _ (by omega))⟩
          · rw [f5.2 602 (by decide)]
            exact chain_keep y3 (fun o _ => f5.2 562 (by decide) o)
          · rw [(y4 x hx).1, (y4 x hx).2]; exact wg x hx
          · rw [y6] at z; rw [y5]; exact wfa z
          · by_cases e5 : g = 550
            · rw [e5]
              rcases f6 i with e | e
              · omega
              · exact e
            · exact f5.2 g (by simp only [List.mem_append, List.mem_cons, List.not_mem_nil, or_false] at hg ⊢; omega) i
        · rw [k3.2.2.2.1, mx]
          exact mnl_max (lb_max k11.1 (fun y hy => hB y (List.mem_append_left _ hy)))
      · obtain ⟨h1, ul1, fl1, BC1, k1, k3, k11⟩ := ins_alone (k := s.2.2.2.2.2) em hm W nv Va Na (fun g hg => Hd g hg d) H U Ra (by omega) e78 (by omega) Dp.1.1 c20
        have kr : fr [452, 456, 532, 784, 788, 856] (694 :: 698 :: IRA) τ τ := fr_refl _ _ _
        have k6 : ∀ i, (r.1 ≤ i ∧ i < r.2.1) ∨ ga τ 550 i = ga τ 550 i := fun _ => .inr rfl
        obtain ⟨h3, ul3, fl3, τ3, n3, BC3, B3, f1, f2, f3, f4, f5, fa, fb, f6, f6e, f7, f8, f9, f10, f10b, f11, f13⟩ := in_loop (Z := Z) (bnd := bnd) (li := li) em hm Xr hAr hhr qs ps rs (d + 1) (dclLf hr Lf q) r.2.1 r.2.2.2 (pst S s p) h1 ul1 fl1 τ n P' ⟨amid', C'⟩ L' Dt' (rwT_fr kr (by decide) Rw.2) eli' (rdy_keep P' Rd.2 (eqR k3) (ndR kr k6)) (fun g hg i => (kr.2 g (by simp only [List.mem_append, List.mem_cons, List.not_mem_nil, or_false] at hg ⊢; omega) i).trans (Hd g hg i)) k3.1 (LI_RS H I k3 (by omega)) (by omega) U ⟨⟨by have := R.1.1; omega, by have := k3.2.1.1.1; omega, R.1.2.2⟩, dj_sub (dj_CS R.2.1 k3.2.1 zA) (by omega) (Nat.le_refl _), by have := R.2.2.1; omega, by have := k3.2.1.2.2.2.1; omega⟩ (by have := k3.2.1.2.2.2.1; omega) (by rw [k3.2.2.1.2 78]; exact e78) (by rw [kr.1 648 (by decide)]; exact g648) (by omega) dl' ⟨by rw [k3.2.1.2.2.2.2.1.2 122]; exact hZ.1, hZ.2.1, by have := k3.2.1.1.1; omega⟩
        rw [l86] at f1
        rw [es1, show min 20 (s.2.2.2.2.2 + 1) = min 20 s.2.2.2.2.2 by omega] at f2 f7
        have z1 := k3.2.1.1.1
        refine ⟨h3, ul3, fl3, τ3, n3, BC1 ++ BC3, B3, ?_, f2, RS_le (RS_trans (RS_wide k3 (by omega) (by omega)) (RS_wide f3 (by omega) (Nat.le_refl _))) (by rw [List.length_cons]; omega) (by omega) (by omega), f4, f5, fun kk hk x hx => ⟨fun e => by omega, fa kk hk x (rdy_keep P' hx.2 (eqR k3) (fun _ _ _ _ _ => rfl))⟩, fun kk hk x hx => ⟨fun e => by omega, fb kk hk x hx.2⟩, fun i => ?_, unt_step R.2.1 zA k3 f3 q6 f6e, f7, f8, by omega, f10, f10b, ?_, fun hB mx => ⟨fun _ z => absurd z c20, ?_⟩⟩
        · rw [om_loop_in (by rw [st, k1, Option.bind_some])]
          exact f1
        · rcases f6 i with e | e
          · exact .inl ⟨by omega, e.2⟩
          · exact .inr e
        · show lbE _ (((if p.1 = 6 then cR S s p else []) ++ cRs S 6 (pst S s p) ps) ++ B3)
          rw [show B3 = [] ++ B3 from rfl]
          refine lbE_comb ?_ f11
          have c0 : (if p.1 = 6 then cR S s p else []) = [(tokq S p.2.1 : Int)] := by
            unfold cR
            rw [if_pos p6, if_neg (by omega), if_pos p6, if_neg c20]
          rw [c0, List.append_nil]
          exact k11
        · exact inT_big (by rw [es1]; omega)
    · have e86 : dclLf hr Lf q 86 = Lf 86 := by
        rcases D with ⟨e, _⟩ | ⟨e, _⟩ | ⟨e, _⟩
        · unfold dclLf; rw [if_pos e]; rfl
        · omega
        · unfold dclLf; rw [if_neg (by omega), if_neg (by omega)]; rfl
      have es1 : (pst S s p).2.2.2.2.2 = s.2.2.2.2.2 := by
        by_cases h5 : p.1 = 5
        · rw [pst_5 h5]
        · unfold pst
          rw [if_neg h5, if_neg p6]
      obtain ⟨h3, ul3, fl3, τ3, n3, BC3, B3, f1, f2, f3, f4, f5, fa, fb, f6, f6e, f7, f8, f9, f10, f10b, f11, f13⟩ := in_loop (Z := Z) (bnd := bnd) (li := li) em hm Xr hAr hhr qs ps rs (d + 1) (dclLf hr Lf q) r.2.1 r.2.2.2 (pst S s p) h ul fl τ n P' ⟨amid', C'⟩ L' Dt' Rw.2 eli' Rd.2 Hd H I (by omega) U (KR_sub R (by omega) (Nat.le_refl _) (by omega) (Nat.le_refl _)) (by omega) e78 g648 (by omega) dl' hZ
      rw [e86] at f1
      rw [es1] at f2 f7
      have eqh : ∀ y, r.2.2.1 ≤ y → y < r.2.2.2 → eqA y h h3 := fun y y1 y2 => RS_eq R.2.1 f3 ⟨by omega, by omega⟩ zA (.inl y2)
      have ndh : nall r.1 r.2.1 τ τ3 := fun g hg i i1 i2 => by
        by_cases e5 : g = 550
        · rw [e5]
          rcases f6 i with e | e
          · omega
          · exact e
        · exact f5.2 g (by simp only [List.mem_append, List.mem_cons, List.not_mem_nil, or_false] at hg ⊢; omega) i
      refine ⟨h3, ul3, fl3, τ3, n3, BC3, B3, f1, f2, RS_le (RS_wide f3 (by omega) (Nat.le_refl _)) (by rw [List.length_cons]; omega) (by omega) (by omega), f4, f5, fun kk hk x hx => ⟨fun e => ⟨hkV_trans (hx.1 e).1 (hkV_eq eqh), (hx.1 e).2⟩, fa kk hk x hx.2⟩, fun kk hk x hx => ⟨fun e => ⟨(hx.1 e).1, fun g hg i i1 i2 => (ndh g hg i i1 i2).trans ((hx.1 e).2 g hg i i1 i2)⟩, fb kk hk x hx.2⟩, fun i => ?_, unt_skip R.2.1 zA f3 f6e, f7, f8, by omega, f10, f10b, ?_, fun hB mx => ⟨fun z => absurd z p6, f13 hB mx⟩⟩
      · rcases f6 i with e | e
        · exact .inl ⟨by omega, e.2⟩
        · exact .inr e
      · show lbE _ (((if p.1 = 6 then cR S s p else []) ++ cRs S 6 (pst S s p) ps) ++ B3)
        rw [if_neg p6]
        exact f11
  | [], _ :: _, _, _, _, _, _, _, _, _, _, _, _, _, C, _, _, _, _, _, _, _, _, _, _, _, _, _, _, _, _, _ => (by obtain ⟨_, C⟩ := C; exact C.elim)
  | _ :: _, [], _, _, _, _, _, _, _, _, _, _, _, _, C, _, _, _, _, _, _, _, _, _, _, _, _, _, _, _, _, _ => (by obtain ⟨_, C⟩ := C; exact C.elim)
  | [], [], _ :: _, _, _, _, _, _, _, _, _, _, _, P, _, _, _, _, _, _, _, _, _, _, _, _, _, _, _, _, _, _ => P.elim
  | _ :: _, _ :: _, [], _, _, _, _, _, _, _, _, _, _, P, _, _, _, _, _, _, _, _, _, _, _, _, _, _, _, _, _, _ => P.elim
end LIM
