set_option maxRecDepth 100000
/-! RESOLVE: exs that are known stay so; the lines of an inst in both -/
section LXL
variable {G : om_G} {A : Nat} {S : List Int} {b m : Nat} {N : List (List Int)} {cs : List Nat} {K : KT} {pr Ln : Nat} {Ls : List (List Int)} {sc : List Nat} {tb : Nat} {rest : List (Nat × List Nat)} {fo : List Nat} {F : FT} {mo : List (List Nat)} {Ms : List FT}
variable {h h' h2 hr : om_H} {ul fl ul' fl' : List Nat} {σ τ υ σr : tS} {n n' q z u lo hi alo ahi a0 amid a c w k : Nat} {B B2 : List Int} {X : Int} {L : List Int}
theorem XS_eq {z0 kk e v : Nat} (W : XS G A S b h τ (Psi1 S b N cs rest fo F mo Ms z0 h ul τ n) kk e lo hi alo ahi a v) (E : ∀ y, alo ≤ y → y < ahi → eqA y h h') (L1 : nall lo hi τ υ) (ty : ∀ T y, tyC h N (clF cs) (UU ul rest) T y → tyC h' N (clF cs) (UU ul' rest) T y) (X : tx τ n υ n') (z1 : hz h ≤ hz h') (kl : ∀ y, z0 ≤ y → y < hz h → kd h y = 42 → kd h' y = 42 ∧ ll h' y = ll h y) : XS G A S b h' υ (Psi1 S b N cs rest fo F mo Ms z0 h' ul' υ n') kk e lo hi alo ahi a v :=
  XS_keep W (fun _ => ⟨fun y c d => ⟨(E y c d).1, fun f _ => (E y c d).2.1 f, fun f _ => (E y c d).2.2.1 f, (E y c d).2.2.2.2.2.2.1⟩, fun i c d => ⟨fun f hf => L1 f (by simp only [List.mem_cons, List.not_mem_nil, or_false] at hf ⊢; omega) i c d, fun _ => L1 562 (by simp) i c d, fun _ => L1 550 (by simp) i c d⟩, Psi1_keep (fun y c d => ⟨(E y c d).1, (E y c d).2.1, (E y c d).2.2.1, (E y c d).2.2.2.2.2.2.1, (E y c d).2.2.2.2.2.2.2⟩) L1 ty X z1 kl⟩)
/-- lists of the terms stay as they are -/
theorem RS_kl {z0 : Nat} (H : RX G A S N cs K pr tb rest fo F mo Ms h ul fl) (C : RS G A S N cs K pr tb rest fo F mo Ms alo ahi h ul fl h' ul' fl' q z u B) (h1 : fR h 122 tb < z0) (h2 : ahi ≤ z0) : ∀ y, z0 ≤ y → y < hz h → kd h y = 42 → kd h' y = 42 ∧ ll h' y = ll h y := fun y y1 y2 y3 => by
  have e := C.2.1.1.2.2.2 y y2 (fun e => by
    rcases e with e | e | e
    · exact nDT H.1.1.1 ⟨by omega, by omega, by omega⟩ (by omega) e
    · have := H.1.2.2.1.1.1; rw [← e] at this; omega
    · omega)
  exact ⟨by rw [e.1]; exact y3, e.2.2.2.2.2.2.1⟩
/-- an inst while its lines are gone through -/
def inF (h : om_H) (pr tb f Ll so Ln : Nat) (Ls : List (List Int)) (lsA : List Nat) : Prop := (kd h f = 21 ∧ fR h 1326 f = Ll ∧ fR h 1286 f = so) ∧ (kd h Ll = 42 ∧ ll h Ll = lsA ∧ lsA.length ≤ 5000) ∧ (kd h so = 5 ∧ so < hz h ∧ fR h 162 so = Ln) ∧ (SCc h Ln Ls ∧ Ln ≠ fR h 122 tb) ∧ fR h 78 pr = tb
/-- the twin while exs become known -/
def KE (S : List Int) (b m : Nat) (N : List (List Int)) (K : KT) (sc : List Nat) (F : FT) (Ms : List FT) (τ : tS) (n : Nat) : Prop := KU S b m N K sc τ n ∧ (gs τ 788 = 0 ∧ gs τ 856 = 0) ∧ TLk τ N F Ms
theorem KE_EU (H : KE S b m N K sc F Ms τ n) : EU S b m N K sc F Ms τ n [] 0 := ⟨H.1, ⟨H.2.1.1, fun i v e => (by cases e)⟩, H.2.1.2, H.2.2⟩
/-- lines lie in order: their nodes, their objects -/
def lnO (xs os : List Nat) (alo i x o lo' hi' al ah : Nat) : Prop := (hi' ≤ o ∧ x < al ∧ alo ≤ x) ∧ (∀ i' x2, i < i' → xs[i']? = some x2 → ah ≤ x2) ∧ ∀ i' o2, i' < i → os[i']? = some o2 → o2 < lo'
set_option maxHeartbeats 2000000 in
/-- LINES BECOME KNOWN ALIKE -/
theorem lj {f Ll so j0 : Nat} {lsA : List Nat} (rf : a0 ≤ f ∧ f < amid) : ∀ (xs os : List Nat) (k lo alo : Nat) (h : om_H) (ul fl P : List Nat) (τ : tS) (n : Nat) (fst : Int), lrows G A S b h τ xs os lo hi alo ahi → chain τ fst os → f < alo → Ll < alo → so < alo → Ln < alo → (a0 ≤ Ll ∧ a0 ≤ so ∧ a0 ≤ Ln) → ahi ≤ amid → RX G A S N cs K pr tb rest fo F mo Ms h ul fl → inF h pr tb f Ll so Ln Ls lsA → KE S b m N K sc F Ms τ n → lsA = P ++ xs → P.length = k → KR S lo hi a0 amid pr tb h ul fl n → hi - lo ≤ 4200 → (∀ i : Nat, lo ≤ i → i < hi → ((b + j0 : Nat) : Int) ≤ ga τ 542 i ∧ (ga τ 538 i = 17 → ((b + j0 : Nat) : Int) ≤ ga τ 554 i)) →
    ∃ (h' : om_H) (ul' fl' : List Nat) (τ' : tS) (n' : Nat) (BC B : List Int), om_loop (C_1_resolveInstance_296s G pr f) ((k : Int), h) = some h' ∧ om_loop T_fillInstance_475s (fst, τ) = some τ' ∧ RS G A S N cs K pr tb rest fo F mo Ms a0 amid h ul fl h' ul' fl' (hi - lo) (8 * (hi - lo)) (300 * (hi - lo)) BC ∧ (∀ y, a0 ≤ y → y < alo → eqA y h h') ∧ KE S b m N K sc F Ms τ' n' ∧ fr [452, 456, 532, 788, 856] (550 :: 782 :: 850 :: TYA) τ τ' ∧ (∀ i, (lo ≤ i ∧ i < hi) ∨ ga τ' 550 i = ga τ 550 i) ∧ tx τ n τ' n' ∧ n' ≤ n + (hi - lo) ∧ bp τ' = mnl (bp τ) B ∧ (scA N sc Ls → lbE BC B) ∧ bj S j0 BC ∧ bj S j0 B ∧
      (scA N sc Ls → (∀ y ∈ B, y = 2147483647) → ∀ i x : Nat, xs[i]? = some x → ∃ (lo' hi' al ah p z0 o : Nat), (lo ≤ lo' ∧ hi' ≤ hi ∧ alo ≤ al ∧ ah ≤ ahi ∧ hz h ≤ z0 ∧ lnO xs os alo i x o lo' hi' al ah) ∧ os[i]? = some o ∧ ga τ' 546 o = (p : Int) ∧ XS G A S b h' τ' (Psi1 S b N cs rest fo F mo Ms z0 h' ul' τ' n') 100 0 lo' hi' al ah (fR h' 1366 x) p)
  | [], [], k, lo, alo, h, ul, fl, P, τ, n, fst, W, ch, _, _, _, _, _, _, H, C, U, eP, pk, R, _, _ => by
    obtain ⟨⟨c1, c2, c3⟩, ⟨c4, c5, c6⟩, c7, c8, c9⟩ := C
    refine ⟨h, ul, fl, τ, n, [], [], om_loop_out ?_, om_loop_out ?_, RS_le (RS_refl H) (by omega) (by omega) (by omega), fun _ _ _ => eqA_refl _ _, U, fr_refl _ _ _, fun _ => .inr rfl, tx_refl _ _, by omega, rfl, fun _ => lbE_refl, bj_nil, bj_nil, fun _ _ i x e => (by cases e)⟩
    · unfold C_1_resolveInstance_296s
      simp only
      have e1 : P_J2_size G (fR h 1326 f) h = some ((lsA.length : Nat) : Int) := by unfold P_J2_size; rw [c2, gd_pos c4, c5]
      rw [gd_pos ⟨c1, by rw [c2]; exact c4⟩, e1, Option.bind_some, if_pos (by rw [eP, List.append_nil]; omega)]
    · have ef : fst = -1 := ch
      unfold T_fillInstance_475s
      simp only
      rw [if_pos ef]
  | x :: xs, o :: os, k, lo, alo, h, ul, fl, P, τ, n, fst, ⟨a1, a2, p, j, q1, q2, q3, q4, q5⟩, ch, lf, lL, ls, lN, r0, hb, H, C, U, eP, pk, R, h42, nv => by
    obtain ⟨d1, d2, d3, d4, d5⟩ := lrows_in q5
    have xi := XR_in _ _ _ _ _ _ _ q1
    obtain ⟨⟨c1, c2, c3⟩, ⟨c4, c5, c6⟩, ⟨c7, c7', c7''⟩, ⟨c8, c8'⟩, c9⟩ := id C
    have ex : lsA[k]? = some x := by rw [eP, ← pk]; exact at_len
    have zA := R.1.2.1
    have hi8 := R.1.2.2.1
    have ef : fst = (o : Int) := ch.1
    have kl : k < lsA.length := (List.getElem?_eq_some_iff.mp ex).1
    have ewk : w32 ((k : Int) + 1) = ((k + 1 : Nat) : Int) := by rw [w32_s (by omega) (by omega)]; rfl
    have HK := KC_of H c8 c8'
    obtain ⟨τ1, n1, h1, ul1, fl1, XC, XT, g1, g2, g3, g4, g5, g6, g7⟩ := ex_run (alo := a1) (ahi := a2) (lo := lo) (hi := o) HK H.2.1 H.2.2 c7 c7' c7'' (KE_EU U) q1 (KR_sub R (Nat.le_refl _) (by omega) (by omega) (by omega)) (by omega)
    have H1 := RS_SR (alo := a0) (ahi := amid) g3 (by omega) (by omega)
    obtain ⟨s1, s2, s3, s4, s5, s6, s7, s8⟩ := g4
    have z1 := H1.2.1.1.1
    have l1 := H1.2.1.2.2.2.1
    have eq1 : ∀ y, a0 ≤ y → y < amid → (y < a1 ∨ a2 ≤ y) → eqA y h h1 := fun y y1 y2 y3 => g3.2.2.2.1.1.2.2.2 y (by omega) (fun e => by
      rcases e with e | e | e
      · have := R.2.1 y (.inl e); omega
      · have := R.2.1 y (.inr e); omega
      · omega)
    have U1 : KE S b m N K sc F Ms τ1 n1 := ⟨s1.1, ⟨s1.2.1.1, s1.2.2.1⟩, s1.2.2.2⟩
    have C1 : inF h1 pr tb f Ll so Ln Ls lsA := by
      have ef1 := eq1 f rf.1 rf.2 (.inl (by omega))
      have eL1 := eq1 Ll r0.1 (by omega) (.inl (by omega))
      have es1 := eq1 so r0.2.1 (by omega) (.inl (by omega))
      exact ⟨⟨by rw [ef1.1]; exact c1, by rw [ef1.2.2.1]; exact c2, by rw [ef1.2.2.1]; exact c3⟩, ⟨by rw [eL1.1]; exact c4, by rw [eL1.2.2.2.2.2.2.1]; exact c5, c6⟩, ⟨by rw [es1.1]; exact c7, by omega, by rw [es1.2.2.1]; exact c7''⟩, ⟨g3.1.2.2.2.1, by rw [H1.2.1.2.2.2.2.1.2 122]; exact c8'⟩, by rw [H1.2.2.1.2 78]; exact c9⟩
    have n562 : ∀ i, ga τ1 562 i = ga τ 562 i := s2.2 562 (by decide)
    have st : T_fillInstance_475s (fst, τ) = some (.inl (ga τ1 562 o, τ1)) := by
      unfold T_fillInstance_475s
      simp only
      rw [ef, if_neg (by omega), if_pos (by omega), show ((o : Int)).toNat = o by omega, q2.2.2.2, g1, Option.bind_some, if_pos (by omega)]
    have stC : C_1_resolveInstance_296s G pr f ((k : Int), h) = some (.inl (((k + 1 : Nat) : Int), h1)) := by
      have opr := H.1.2.2.1.1.2
      have kn : ∀ y', y' < hz h → kd (nO h 35 4) y' = kd h y' := fun y' hy => by rw [kd_nO, if_neg (by omega)]
      have hn : ∀ y' g, y' < hz h → fR (nO h 35 4) g y' = fR h g y' := fun y' g hy => by rw [fR_nO, if_neg (by omega)]
      have erf := rsH_eq (h := h) (pr := pr) (so := so) (tb := tb) (y := f) (by omega)
      have erL := rsH_eq (h := h) (pr := pr) (so := so) (tb := tb) (y := Ll) (by omega)
      have erx := rsH_eq (h := h) (pr := pr) (so := so) (tb := tb) (y := x) (by omega)
      have e1 : P_J2_size G (fR h 1326 f) h = some ((lsA.length : Nat) : Int) := by unfold P_J2_size; rw [c2, gd_pos c4, c5]
      have e2 : P_J2_get G (fR (rsH h pr so tb) 1326 f) (k : Int) (rsH h pr so tb) = some x := by
        unfold P_J2_get
        rw [erf.2.2.1, c2, gd_pos ⟨by rw [erL.1]; exact c4, by omega⟩, erL.2.2.2.2.2.2.1, c5, show ((k : Int)).toNat = k by omega, ex]
      have kx : kd (rsH h pr so tb) x = 23 := by rw [erx.1]; exact q4.1
      unfold C_1_resolveInstance_296s
      simp only
      rw [gd_pos ⟨c1, by rw [c2]; exact c4⟩, e1, Option.bind_some, if_neg (by omega), gd_pos ⟨by rw [kn f (by omega)]; exact c1, by rw [kn pr opr]; exact H.1.2.2.1.1.1, by rw [kd_nO, if_pos rfl]⟩, hn f 1286 (by omega), hn pr 78 opr, c3, c9, rs_init, Option.bind_some, gd_pos ⟨by rw [erf.1]; exact c1, by rw [erf.2.2.1, c2, erL.1]; exact c4⟩, e2, Option.bind_some, gd_pos ⟨.inr kx, kx, by rw [rsH_kd, if_neg (by omega), if_pos rfl]⟩, erx.2.2.1, g2, Option.bind_some, ewk]
    have ch2 : chain τ1 (ga τ1 562 o) os := by
      rw [n562]
      exact chain_keep ch.2 (fun o' _ => n562 o')
    have n550 : ∀ i, o ≤ i → ga τ1 550 i = ga τ 550 i := fun i hi => by
      rcases s3 i with e | e
      · omega
      · exact e
    have q5' : lrows G A S b h1 τ1 xs os (o + 1) hi a2 ahi := lrows_keep q5 (fun y y1 y2 => by
      have e := eq1 y (by omega) (by omega) (.inr y1)
      exact ⟨e.1, e.2.1, e.2.2.1, e.2.2.2.2.2.2.1, e.2.2.2.2.2.2.2⟩) (fun g hg hne i i1 i2 => by
      by_cases e5 : g = 550
      · rw [e5]; exact n550 i (by omega)
      · exact s2.2 g (by simp only [List.mem_cons, List.not_mem_nil, or_false] at hg ⊢; omega) i) (fun i _ _ _ => n562 i)
    have R1 : KR S (o + 1) hi a0 amid pr tb h1 ul1 fl1 n1 := ⟨⟨R.1.1, by omega, R.1.2.2⟩, dj_CS R.2.1 H1.2.1 zA, by have := R.2.2.1; omega, by have := R.2.2.2; omega⟩
    obtain ⟨h3, ul3, fl3, τ3, n3, BC3, B3, k1, k2, k3, k4, k5, k6, k7, k8, k9, k10, k11, k12, k13, k14⟩ := lj rf xs os (k + 1) (o + 1) a2 h1 ul1 fl1 (P ++ [x]) τ1 n1 (ga τ1 562 o) q5' ch2 (by omega) (by omega) (by omega) (by omega) r0 hb H1.1 C1 U1 (by rw [eP, List.append_assoc]; rfl) (by rw [List.length_append, pk]; rfl) R1 (by omega) (fun i i1 i2 => by rw [s2.2 542 (by decide), s2.2 538 (by decide), s2.2 554 (by decide)]; exact nv i (by omega) i2)
    have bC : bj S j0 [XC] := bj_brkE g5 (fun i i1 i2 => nv i i1 (by omega))
    have bT : bj S j0 [XT] := bj_brkE g6 (fun i i1 i2 => nv i i1 (by omega))
    refine ⟨h3, ul3, fl3, τ3, n3, [XC] ++ BC3, [XT] ++ B3, by rw [om_loop_in stC]; exact k1, by rw [om_loop_in st]; exact k2, RS_le (RS_trans H1 k3) (by omega) (by omega) (by omega), fun y y1 y2 => eqA_trans (eq1 y y1 (by omega) (.inl (by omega))) (k4 y y1 (by omega)), k5, fr_trans s2 k6, fun i => ?_, tx_trans s6 k8, by omega, by rw [k10, s8, mnl_app]; rfl, fun sA => ?_, bj_app bC k12, bj_app bT k13, fun sA hB i x' e => ?_⟩
    · rcases k7 i with e | e
      · exact .inl ⟨by omega, e.2⟩
      · rcases s3 i with e' | e'
        · exact .inl ⟨e'.1, by omega⟩
        · exact .inr (e.trans e')
    · rw [(g7 sA).1]
      obtain ⟨y1, y2⟩ := k11 sA
      exact ⟨lb_both lb_refl y1, lb_both lb_refl y2⟩
    · cases i with
      | succ i =>
        obtain ⟨lo', hi', al, ah, p', z0, o', ⟨y1, y2, y3, y4, y5, ⟨l1, l2, l3⟩, l4, l5⟩, y6, y7, y8⟩ := k14 sA (fun y hy => hB y (List.mem_append_right _ hy)) i x' e
        refine ⟨lo', hi', al, ah, p', z0, o', ⟨by omega, y2, by omega, y4, by omega, ⟨l1, l2, by omega⟩, fun i' x2 hi2 e2 => ?_, fun i' o2 hi2 e2 => ?_⟩, y6, y7, y8⟩
        · cases i' with
          | zero => omega
          | succ i' => exact l4 i' x2 (by omega) e2
        · cases i' with
          | zero =>
            have : o = o2 := Option.some.inj e2
            omega
          | succ i' => exact l5 i' o2 (by omega) e2
      | zero =>
        have exx : x = x' := Option.some.inj e
        rw [← exx]
        have hX : XC = 2147483647 := by rw [(g7 sA).1]; exact hB XT (by simp)
        have xs0 := (g7 sA).2 hX
        have e66 : fR h3 1366 x = fR h 1366 x := by rw [(k4 x (by omega) (by omega)).2.2.1, (eq1 x (by omega) (by omega) (.inl (by omega))).2.2.1]
        have e122 : fR h1 122 tb < hz h + 2 := by
          rw [H1.2.1.2.2.2.2.1.2 122]
          have := H.1.1.1.2.1.1.1
          omega
        refine ⟨lo, o, a1, a2, p, hz h + 2, o, ⟨Nat.le_refl _, by omega, by omega, by omega, by omega, ⟨Nat.le_refl _, by omega, by omega⟩, fun i' x2 hi2 e2 => ?_, fun i' o2 hi2 _ => absurd hi2 (Nat.not_lt_zero _)⟩, rfl, ?_, ?_⟩
        · cases i' with
          | zero => omega
          | succ i' => exact (d4 x2 (List.mem_of_getElem? e2)).1
        · rw [k6.2 546 (by decide), s2.2 546 (by decide)]; exact q2.2.2.2
        · rw [e66]
          exact XS_eq xs0 (fun y y1 y2 => k4 y (by omega) y2) (fun g hg i i1 i2 => by
            by_cases e5 : g = 550
            · rw [e5]
              rcases k7 i with e' | e'
              · omega
              · exact e'
            · exact k6.2 g (by simp only [List.mem_cons, List.not_mem_nil, or_false] at hg ⊢; omega) i) (fun T y => k3.2.1.2.2.2.2.2.1 T y) k8 k3.2.1.1.1 (RS_kl H1.1 k3 e122 (by omega))
  | [], _ :: _, _, _, _, _, _, _, _, _, _, _, W, _, _, _, _, _, _, _, _, _, _, _, _, _, _, _ => W.elim
  | _ :: _, [], _, _, _, _, _, _, _, _, _, _, W, _, _, _, _, _, _, _, _, _, _, _, _, _, _, _ => W.elim
end LXL
