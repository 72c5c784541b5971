set_option maxRecDepth 100000
/-! RESOLVE, classes: the methods in both -/
/-- a step of the twin, with its breaks -/
def TSm (S : List Int) (b m : Nat) (N : List (List Int)) (K : KT) (sc : List Nat) (as : List Nat) (σ : tS) (n : Nat) (τ : tS) (n' q : Nat) (B : List Int) : Prop := KU S b m N K sc τ n' ∧ fr [452, 456, 532] as σ τ ∧ tx σ n τ n' ∧ n' ≤ n + q ∧ bp τ = mnl (bp σ) B ∧ bj S 0 B
section LRJ
variable {G : om_G} {A : Nat} {S : List Int} {b m : Nat} {N : List (List Int)} {cs : List Nat} {K : KT} {pr Ln : Nat} {Ls : List (List Int)} {sc : List Nat} {tb : Nat} {rest : List (Nat × List Nat)} {fo : List Nat} {F : FT} {mo : List (List Nat)} {Ms : List FT}
variable {h h' h2 : om_H} {us fs us' fs' us2 fs2 : List Nat} {σ τ υ : tS} {n n' q q2 z u z2 u2 lo hi alo ahi a0 amid a c : Nat} {B B2 : List Int} {X : Int} {P : Nat → Prop}
theorem lbE_refl : lbE B B := ⟨lb_refl, lb_refl⟩
theorem lbE_more {D M BC B' : List Int} (H : lbE BC (M ++ B')) : lbE ((D ++ [X]) ++ BC) ((D ++ M) ++ ([X] ++ B')) := by
  obtain ⟨h1, h2⟩ := H
  have k1 : lb M BC := fun y hy => h2 y (List.mem_append_left _ hy)
  have k2 : lb B' BC := fun y hy => h2 y (List.mem_append_right _ hy)
  refine ⟨lb_app (lb_app (lb_l (lb_l lb_refl)) (lb_r (lb_l lb_refl))) (lb_trans h1 (lb_app (lb_l (lb_r lb_refl)) (lb_r (lb_r lb_refl)))), lb_app (lb_app (lb_l (lb_l lb_refl)) (lb_r k1)) (lb_app (lb_l (lb_r lb_refl)) (lb_r k2))⟩
theorem TSm_trans {as : List Nat} (A1 : TSm S b m N K sc as σ n τ n' q B) (B1 : TSm S b m N K sc as τ n' υ a q2 B2) : TSm S b m N K sc as σ n υ a (q + q2) (B ++ B2) := by
  obtain ⟨a1, a2, a3, a4, a5, a6⟩ := A1
  obtain ⟨b1, b2, b3, b4, b5, b6⟩ := B1
  exact ⟨b1, fr_trans a2 b2, tx_trans a3 b3, by omega, by rw [b5, a5, mnl_app], bj_app a6 b6⟩
theorem bj0_brk (k : brk S b m σ lo hi X) : bj S 0 [X] := fun y hy => by
  rw [List.mem_singleton.mp hy]
  rcases k with e | ⟨v, j, _, _, _, _, e⟩
  · exact .inl e
  · exact .inr ⟨j, Nat.zero_le _, e⟩
theorem bj0_of {j0 : Nat} (H : bj S j0 B) : bj S 0 B := fun y hy => (H y hy).elim .inl (fun ⟨j, _, e⟩ => .inr ⟨j, Nat.zero_le _, e⟩)
theorem bj_max (hS : S.length ≤ 2000) (H : bj S 0 B) (hB : ∀ y ∈ B, 2147483647 ≤ y) : ∀ y ∈ B, y = 2147483647 := fun y hy => by
  rcases H y hy with e | ⟨j, _, e⟩
  · exact e
  · have := hB y hy
    have := tok_le S j
    omega
/-- METHODS BECOME KNOWN ALIKE -/
theorem mj {Lm ci mm : Nat} {ms jt : List Nat} {ok : Prop} (hN : ndN N) (hc : ci < 8) (hm : mm ≤ 4) (hi8 : hi ≤ 8400) (sA : scA N sc Ls) (rc : a0 ≤ c ∧ c < amid) (rL : a0 ≤ Lm ∧ Lm < amid) (rN : a0 ≤ Ln ∧ Ln < amid) (jk : ∀ j ∈ jt, tokk S j = 2) (jm : ok → jt.length = mm) (jd : ok → ∀ (i i' j j' : Nat), jt[i]? = some j → jt[i']? = some j' → tokw S j = tokw S j' → i = i') :
    ∀ (xs os js : List Nat) (k lo alo : Nat) (h : om_H) (us fs P Pj : List Nat) (τ : tS) (n : Nat) (f : Int), mrows A S b h τ c k xs os lo hi alo amid → chain τ f os → mT S b τ os js → a0 ≤ alo → RX G A S N cs K pr tb rest fo F mo Ms h us fs → clF1 h pr tb c Lm Ln Ls ms → KU S b m N K sc τ n → ga τ 678 ci = (mm : Int) → (ok → ∀ (i j w : Nat), jt[i]? = some j → N[w]? = some (tokw S j) → ga τ 682 (4 * ci + i) = (w : Int)) → ms = P ++ xs → P.length = k → jt = Pj ++ js → Pj.length = k → KR S lo hi a0 amid pr tb h us fs n →
    ∃ (h' : om_H) (us' fs' : List Nat) (τ' : tS) (n' : Nat) (BC B : List Int), om_loop (C_1_resolveClass_114s G pr c) ((k : Int), h) = some h' ∧ om_loop (T_fillClass_29s (ci : Int)) (f, τ) = some τ' ∧ RS G A S N cs K pr tb rest fo F mo Ms a0 amid h us fs h' us' fs' (hi - lo) 0 0 BC ∧ hkV a0 amid h h' ∧ SCc h' Ln Ls ∧ (∀ y, a0 ≤ y → y < amid → y ∉ xs → eqA y h h') ∧ TSm S b m N K sc (686 :: TYA) τ n τ' n' (hi - lo) B ∧ lbE BC (m4 S k js ++ B) ∧
      (ok → (∀ y ∈ B, y = 2147483647) → ∀ i x : Nat, xs[i]? = some x → ∃ T : Ty, (tyM T ∧ (bp τ' = 2147483647 → nmIn sc T)) ∧ tyC h' N (clF cs) (UU us' rest) T (fR h' 1262 x) ∧ tyT τ' n' T (ga τ' 686 (4 * ci + (k + i)))) ∧ (ok → ∀ i, i < k → ga τ' 686 (4 * ci + i) = ga τ 686 (4 * ci + i)) ∧ ∀ y, (y < 4 * ci ∨ 4 * ci + 4 ≤ y) → ga τ' 686 y = ga τ 686 y
  | [], [], [], k, lo, alo, h, us, fs, P, Pj, τ, n, f, W, ch, _, _, H, C, U, _, _, eP, pk, _, _, R => by
    obtain ⟨c1, ⟨c2, c3, c4, c5⟩, ⟨c6, c7, c8⟩, c9⟩ := C
    refine ⟨h, us, fs, τ, n, [], [], om_loop_out ?_, om_loop_out ?_, RS_le (RS_refl H) (by omega) (by omega) (by omega), hkV_refl, c7, fun _ _ _ _ => eqA_refl _ _, ⟨U, fr_refl _ _ _, tx_refl _ _, by omega, rfl, bj_nil⟩, lbE_refl, fun _ _ i x e => (by cases e), fun _ _ _ => rfl, fun _ _ => rfl⟩
    · unfold C_1_resolveClass_114s
      simp only
      have e1 : P_J2_size G (fR h 1230 c) h = some ((ms.length : Nat) : Int) := by unfold P_J2_size; rw [c2, gd_pos c3, c4]
      rw [gd_pos ⟨c1, by rw [c2]; exact c3⟩, e1, Option.bind_some, if_pos (by rw [eP, List.append_nil]; omega)]
    · have ef : f = -1 := ch
      unfold T_fillClass_29s
      simp only
      rw [if_pos ef]
  | x :: xs, o :: os, j' :: js, k, lo, alo, h, us, fs, P, Pj, τ, n, f, ⟨kk, a1, a2, p, j, q1, q2, q3, q4, q5⟩, ch, mt, ha, H, C, U, em, nm, eP, pk, eJ, pj, R => by
    obtain ⟨d1, d2, d3, d4, d5⟩ := mrows_in q5
    have i := WR_in q1
    obtain ⟨mt1, mt2⟩ := mt
    have ej : j' = j := by have := mt1.2.1; rw [q2.2.1] at this; omega
    rw [ej] at eJ mt1 ⊢
    have ex : ms[k]? = some x := by rw [eP, ← pk]; exact at_len
    have ejk : jt[k]? = some j := by rw [eJ, ← pj]; exact at_len
    obtain ⟨t, τ1, n1, y, h1, us1, fs1, XC, XT, f1, f2, f3, f4, f4', f5, f6, f7, f8, f9, f10⟩ := rc_one (hi := o) H U C rN ex q4.1 ⟨by omega, by omega⟩ q1 ⟨by omega, by omega⟩ (j := j) ⟨q4.2.1.1, q4.2.1.2.2.1⟩ (KR_sub R (Nat.le_refl _) (by omega) (Nat.le_refl _) (Nat.le_refl _))
    have zA := R.1.2.1
    have z1 := f3.2.1.1.1
    have l1 := f3.2.1.2.2.2.1
    have C1 := clF1_step C R.2.1 f4 rc rL rN f4' (f3.2.1.2.2.2.2.1.2 122) (f3.2.2.1.2 78)
    obtain ⟨u1, u2, u3, u4, u5⟩ := f7
    have em1 : ga τ1 678 ci = (mm : Int) := by rw [u2.2 678 (by decide)]; exact em
    have eo1 : ga τ1 542 o = ((b + j : Nat) : Int) := by rw [u2.2 542 (by decide)]; exact q2.2.1
    obtain ⟨w, w1, w2, w3⟩ := t_nameAt u1.2.1 (.inl q2.2.2.1)
    obtain ⟨τ2, v1, v2, v3⟩ := t_50 (t := t) (w := w) (j := j) hc (show o < 8400 by omega) hm u1.2.1 em1 eo1 w1 mm 0 τ1 (by omega) (fr_refl _ _ _) (fun y => by rw [if_neg (by omega)])
    have gs2 : ∀ f, gs τ2 f = gs τ1 f := fun f => v2.1 f (by simp)
    have bp2 : bp τ2 = bp τ1 := bp_eq (gs2 452) (gs2 456)
    have U2 : KU S b m N K sc τ2 n1 := KU_step u1 v2 (by simp) (by decide) (TyK_same (gs2 532) (fun f hf i => v2.2 f (fun z => by have z' := List.mem_singleton.mp z; rw [z'] at hf; exact absurd hf (by decide)) i) u1.1) (by rw [gs2 452]; exact u1.2.2.2.2.1) (Int.le_of_eq bp2)
    have F2 : fr [452, 456, 532] (686 :: TYA) τ τ2 := fr_trans (fr_wide u2 (fun _ h => h) (fun _ h => List.mem_cons_of_mem _ h)) (fr_wide v2 (fun _ h => absurd h List.not_mem_nil) (fun f h => by rw [List.mem_singleton.mp h]; exact List.mem_cons_self))
    have X2 : tx τ1 n1 τ2 n1 := tx_same (fun f hf i => v2.2 f (fun z => by have z' := List.mem_singleton.mp z; rw [z'] at hf; exact absurd hf (by decide)) i)
    have T2 : TSm S b m N K sc (686 :: TYA) τ n τ2 n1 (o - lo) [XT] := ⟨U2, F2, tx_trans u3 X2, u4, by rw [bp2, u5]; rfl, bj0_brk f9⟩
    have na : nall lo hi τ τ2 := fun g hg i _ _ => F2.2 g (by simp only [List.mem_cons, List.not_mem_nil, or_false] at hg ⊢; omega) i
    have n562 : ∀ i, ga τ2 562 i = ga τ 562 i := F2.2 562 (by decide)
    have n542 : ∀ i, ga τ2 542 i = ga τ 542 i := F2.2 542 (by decide)
    have R1 : KR S (o + 1) hi a0 amid pr tb h1 us1 fs1 n1 := ⟨⟨R.1.1, by omega, R.1.2.2⟩, dj_CS R.2.1 f3.2.1 zA, by have := R.2.2.1; omega, by have := R.2.2.2; omega⟩
    have ef : f = (o : Int) := ch.1
    have ch2 : chain τ2 (ga τ2 562 o) os := by
      rw [n562]
      exact chain_keep ch.2 (fun o' _ => n562 o')
    obtain ⟨h3, us3, fs3, τ3, n3, BC3, B3, g1, g2, g3, g4, g5, g6, g7, g8, g9, g10, g11⟩ := mj hN hc hm hi8 sA rc rL rN jk jm jd xs os js (k + 1) (o + 1) a2 h1 us1 fs1 (P ++ [x]) (Pj ++ [j]) τ2 n1 (ga τ2 562 o) (mrows_keepF q5 (hkF_sub (hkV_F f4) (by omega) (Nat.le_refl _)) (fun g hg i e1 e2 => na g hg i (by omega) e2)) ch2 (mT_keep n542 mt2) (by omega) f3.1 C1 U2 (by rw [F2.2 678 (by decide)]; exact em) (fun o i j w e1 e2 => by rw [F2.2 682 (by decide)]; exact nm o i j w e1 e2) (by rw [eP, List.append_assoc]; rfl) (by rw [List.length_append, pk]; rfl) (by rw [eJ, List.append_assoc]; rfl) (by rw [List.length_append, pj]; rfl) R1
    have nx : x ∉ xs := fun e => by have := d4 x e; omega
    have exy : fR h3 1262 x = y := by rw [(g6 x (by omega) (by omega) nx).2.2.1]; exact f5
    obtain ⟨⟨t1, t2, t3, t4⟩, nmT⟩ := f10
    refine ⟨h3, us3, fs3, τ3, n3, _, [XT] ++ B3, by rw [om_loop_in f2]; exact g1, ?_, RS_le (RS_trans f3 g3) (by omega) (by omega) (by omega), hkV_trans f4 g4, g5, fun y' e1 e2 e3 => eqA_trans (f6 y' e1 e2 (fun e => e3 (by rw [e]; exact List.mem_cons_self))) (g6 y' e1 e2 (fun e => e3 (List.mem_cons_of_mem _ e))), ?_, ?_, fun hok hB i' x' e => ?_, fun hok i' hi' => ?_, fun y' hy => ?_⟩
    · have st : T_fillClass_29s (ci : Int) (f, τ) = some (.inl (ga τ2 562 o, τ2)) := by
        unfold T_fillClass_29s
        simp only
        rw [ef, if_neg (by omega), if_pos (by omega), show ((o : Int)).toNat = o by omega, q2.2.2.2, f1, Option.bind_some, show w32 (4 * (ci : Int)) = ((4 * ci + 0 : Nat) : Int) by rw [w32_s (by omega) (by omega)]; omega, v1, Option.bind_some, if_pos (by omega)]
      rw [om_loop_in st]
      exact g2
    · have := TSm_trans T2 g7
      exact ⟨this.1, this.2.1, this.2.2.1, by have := this.2.2.2.1; omega, this.2.2.2.2⟩
    · have e1 : XC = XT := (t4 sA).1
      rw [← e1]
      exact lbE_more g8
    · cases i' with
      | zero =>
        have ex' : x = x' := Option.some.inj e
        rw [← ex', exy]
        have hX : XC = 2147483647 := by rw [(t4 sA).1]; exact hB XT (by simp)
        obtain ⟨T, T1, T2', T3⟩ := (t4 sA).2 hX 0 y t rfl rfl
        refine ⟨T, ⟨tyQ_M T1, fun eb => nmT T T3 T1.1 ?_⟩, g3.2.1.2.2.2.2.2.1 T y T2', ?_⟩
        · have e1 := g7.2.2.2.2.1
          have e2 := (mnl_le (A := B3) (x := bp τ2)).1
          have e3 := u1.2.2.2.2.2
          omega
        have et : ga τ2 686 (4 * ci + k) = t := by
          have kl : k < mm := by rw [← jm hok]; exact (List.getElem?_eq_some_iff.mp ejk).1
          rw [v3, if_pos ⟨by omega, by omega, by rw [u2.2 682 (by decide)]; exact nm hok k j w ejk w2⟩]
        rw [Nat.add_zero, g10 hok k (by omega), et]
        exact tyT_mono (tx_trans X2 g7.2.2.1) T3
      | succ i' =>
        have := g9 hok (fun y hy => hB y (List.mem_append_right _ hy)) i' x' e
        rwa [show k + 1 + i' = k + (i' + 1) by omega] at this
    · rw [g10 hok i' (by omega), v3, u2.2 686 (by decide)]
      have kl : k < mm := by rw [← jm hok]; exact (List.getElem?_eq_some_iff.mp ejk).1
      refine if_neg (fun z => ?_)
      have z3 : ga τ1 682 (4 * ci + i') = (w : Int) := z.2.2
      rw [u2.2 682 (by decide)] at z3
      have il : i' < jt.length := by rw [jm hok]; omega
      have ei : jt[i']? = some jt[i'] := List.getElem?_eq_getElem il
      obtain ⟨w', y1, y2, y3⟩ := t_nameAt u1.2.1 (j := jt[i']) (.inl (jk _ (List.getElem_mem il)))
      have z4 := nm hok i' _ w' ei y2
      rw [z3] at z4
      have ew : w = w' := by omega
      rw [← ew, w2] at y2
      have := jd hok k i' j _ ejk ei (Option.some.inj y2)
      omega
    · rw [g11 y' hy, v3, if_neg (by omega), u2.2 686 (by decide)]
  | [], _ :: _, _, _, _, _, _, _, _, _, _, _, _, _, W, _, _, _, _, _, _, _, _, _, _, _, _, _ => W.elim
  | _ :: _, [], _, _, _, _, _, _, _, _, _, _, _, _, W, _, _, _, _, _, _, _, _, _, _, _, _, _ => W.elim
  | [], [], _ :: _, _, _, _, _, _, _, _, _, _, _, _, _, _, mt, _, _, _, _, _, _, _, _, _, _, _ => mt.elim
  | _ :: _, _ :: _, [], _, _, _, _, _, _, _, _, _, _, _, _, _, mt, _, _, _, _, _, _, _, _, _, _, _ => mt.elim
end LRJ
