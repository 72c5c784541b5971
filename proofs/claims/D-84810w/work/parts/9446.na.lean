set_option maxRecDepth 100000
/-! THE THIRD RULE: families stand on names alone (component's families, twin's namesAlone) -/
/-- families stand on names, and names are of those around -/
def famNm (P : Nat → Prop) : Ty → Prop
  | .leaf => True
  | .inner k w _ l r => (k = 0 → P w) ∧ (k = 2 → ∃ x, l = tnd 0 x .leaf .leaf ∧ P x) ∧ famNm P l ∧ famNm P r
/-- what both find (B: the breaks) -/
def naC (G : om_G) (pr Ln : Nat) (h : om_H) (kC a : Nat) (B : List Int) : Prop := ∀ l : Int, C_1_familiesD G kC pr a Ln l h = some (mnl l B)
def naT (σ0 : tS) (kT v : Nat) (B : List Int) : Prop := ∀ σ, fr [452, 456] [726] σ0 σ → ∃ τ, T_namesAloneD kT (v : Int) σ = some τ ∧ fr [452, 456] [] σ τ ∧ bp τ = mnl (bp σ) B ∧ (gs τ 452 = gs σ 452 ∨ gs τ 452 = 3)
section LNA
variable {G : om_G} {A : Nat} {S : List Int} {b m : Nat} {N : List (List Int)} {cs : List Nat} {K : KT} {pr Ln : Nat} {h : om_H} {σ0 : tS} {P : Nat → Prop}
theorem w26 {σ τ : tS} (A : fr [452, 456] [] σ τ) : fr [452, 456] [726] σ τ := fr_wide A (fun _ h => h) (by simp)
theorem GL_fr {σ τ : tS} {fs as : List Nat} (A : fr fs as σ τ) (d : 630 ∉ as ∧ 634 ∉ as) (g : GL σ N K) : GL τ N K := fun w L e => by
  have := g w L e
  rw [A.2 630 d.1, A.2 634 d.2]
  exact this
/-- parts in the component -/
theorem na_parts {kC a Lp : Nat} {xs : List Nat} (kp : kd h pr = 2) (ka : kd h a = 20) (eL : fR h 1274 a = Lp) (kL : kd h Lp = 42) (el : ll h Lp = xs) (hl : xs.length ≤ 9000) (k20 : ∀ x ∈ xs, kd h x = 20) : ∀ (zs : List Nat) (Bs : List (List Int)) (i : Nat) (l : Int), xs.drop i = zs → i ≤ xs.length → zs.length = Bs.length → (∀ (j z : Nat) (B : List Int), zs[j]? = some z → Bs[j]? = some B → naC G pr Ln h kC z B) → om_loop (C_1_families_83s G (C_1_familiesD G kC) pr a Ln h) (l, (i : Int)) = some (mnl l Bs.flatten)
  | [], [], i, l, hd, hi, _, _ => by
    have lk : xs.length ≤ i := List.drop_eq_nil_iff.mp hd
    refine om_loop_out ?_
    unfold C_1_families_83s
    simp only
    rw [gd_pos ⟨ka, by rw [eL]; exact kL⟩]
    unfold P_J2_size
    rw [eL, gd_pos kL, el, Option.bind_some, if_pos (by omega)]
    rfl
  | z :: zs, B :: Bs, i, l, hd, hi, e, H => by
    have ez : xs[i]? = some z := by
      have := congrArg (fun q => q[0]?) hd
      simpa using this
    have il := (List.getElem?_eq_some_iff.mp ez).1
    have kz := k20 z (List.mem_of_getElem? ez)
    have hd2 : xs.drop (i + 1) = zs := by rw [← List.tail_drop, hd]; rfl
    have h0 := H 0 z B rfl rfl l
    have st : C_1_families_83s G (C_1_familiesD G kC) pr a Ln h (l, (i : Int)) = some (.inl (mnl l B, ((i + 1 : Nat) : Int))) := by
      unfold C_1_families_83s
      simp only
      rw [gd_pos ⟨ka, by rw [eL]; exact kL⟩]
      unfold P_J2_size P_J2_get
      rw [eL, gd_pos kL, el, Option.bind_some, if_neg (by omega), gd_pos ⟨ka, kL⟩, gd_pos ⟨kL, by omega⟩, show ((i : Int)).toNat = i by omega, ez, Option.bind_some, gd_pos ⟨.inr kz, kp⟩, h0, Option.bind_some, w32_s (by omega) (by omega)]
      rfl
    rw [om_loop_in st, na_parts kp ka eL kL el hl k20 zs Bs (i + 1) (mnl l B) hd2 (by omega) (by simpa using e) (fun j z' B' e1 e2 => H (j + 1) z' B' e1 e2), List.flatten_cons, mnl_app]
  | [], _ :: _, _, _, _, _, e, _ => by simp at e
  | _ :: _, [], _, _, _, _, e, _ => by simp at e
/-- parts in the twin -/
theorem na_chain {kT : Nat} : ∀ (ns : List Nat) (Bs : List (List Int)) (f : Int) (σ : tS), chain σ0 f ns → ns.length = Bs.length → (∀ x ∈ ns, x < 8400) → (∀ (j v : Nat) (B : List Int), ns[j]? = some v → Bs[j]? = some B → naT σ0 kT v B) → fr [452, 456] [726] σ0 σ → ∃ τ, om_loop (T_namesAlone_94s (T_namesAloneD kT)) (f, σ) = some τ ∧ fr [452, 456] [] σ τ ∧ bp τ = mnl (bp σ) Bs.flatten ∧ (gs τ 452 = gs σ 452 ∨ gs τ 452 = 3)
  | [], [], f, σ, ch, _, _, _, _ => by
    have ef : f = -1 := ch
    refine ⟨σ, om_loop_out ?_, fr_refl _ _ _, rfl, .inl rfl⟩
    unfold T_namesAlone_94s
    rw [if_pos ef]
  | v :: ns, B :: Bs, f, σ, ch, e, r, H, F => by
    obtain ⟨τ1, a1, a2, a3, a4⟩ := H 0 v B rfl rfl σ F
    have v8 := r v List.mem_cons_self
    have F1 := fr_trans F (w26 a2)
    have st : T_namesAlone_94s (T_namesAloneD kT) (f, σ) = some (.inl (ga σ0 562 v, τ1)) := by
      unfold T_namesAlone_94s
      rw [ch.1]
      simp only
      rw [if_neg (by omega), a1, Option.bind_some, if_pos (by omega), show ((v : Int)).toNat = v by omega, F1.2 562 (by simp)]
    obtain ⟨τ, b1, b2, b3, b4⟩ := na_chain ns Bs (ga σ0 562 v) τ1 ch.2 (by simpa using e) (fun x hx => r x (List.mem_cons_of_mem _ hx)) (fun j v' B' e1 e2 => H (j + 1) v' B' e1 e2) F1
    refine ⟨τ, by rw [om_loop_in st]; exact b1, fr_trans a2 b2, by rw [b3, a3, List.flatten_cons, mnl_app], ?_⟩
    rcases b4 with b4 | b4
    · rw [b4]; exact a4
    · exact .inr b4
  | [], _ :: _, _, _, _, e, _, _, _ => by simp at e
  | _ :: _, [], _, _, _, e, _, _, _ => by simp at e
theorem rows2_each {W : Nat → Nat → Nat → Nat → Nat → Nat → Prop} (hW : ∀ {lo hi alo ahi x n}, W lo hi alo ahi x n → lo ≤ n ∧ n < hi ∧ alo ≤ x ∧ x < ahi) : ∀ {xs ns : List Nat} {lo hi alo ahi i x v : Nat}, rows2 W xs ns lo hi alo ahi → xs[i]? = some x → ns[i]? = some v → ∃ lo' hi' alo' ahi', alo ≤ alo' ∧ W lo' hi' alo' ahi' x v
  | [], _, _, _, _, _, _, _, _, _, e, _ => by cases e
  | _ :: _, [], _, _, _, _, _, _, _, r, _, _ => r.elim
  | x' :: xs, v' :: ns, _, _, _, _, 0, x, v, ⟨mid, amid, w, _⟩, e1, e2 => by
    rw [← Option.some.inj e1, ← Option.some.inj e2]
    exact ⟨_, _, _, _, Nat.le_refl _, w⟩
  | x' :: xs, v' :: ns, _, _, _, _, i + 1, x, v, ⟨mid, amid, w, r⟩, e1, e2 => by
    obtain ⟨a1, a2, a3, a4, a5, a6⟩ := rows2_each hW (i := i) r e1 e2
    have := hW w
    exact ⟨a1, a2, a3, a4, by omega, a6⟩
set_option maxHeartbeats 1000000 in
/-- FAMILIES ARE LOOKED AT ALIKE -/
theorem na_rel (C : CLS h pr cs K) (X : txC h A S) (hS : S.length ≤ 2000) (T : TT σ0 N S b m) (g : GL σ0 N K) (pLn : Ln ≠ 0) {lo' hi' : Nat} (h84 : hi' ≤ 8400) : ∀ (k kC kT : Nat), k ≤ kC → k ≤ kT → ∀ {lo hi alo ahi a v : Nat} {U : Ty}, 0 < alo → WR A S b h σ0 k lo hi alo ahi a v → RdT S b K σ0 P lo' hi' k v U → ∃ B : List Int, naC G pr Ln h kC a B ∧ naT σ0 kT v B ∧ (∀ x ∈ B, ∃ j, j ≤ m ∧ x = (tokq S j : Int)) ∧ (B = [] → famNm P U)
  | 0, _, _, _, _, _, _, _, _, _, _, _, _, W, _ => W.elim
  | k + 1, kC + 1, kT + 1, h1, h2, lo, hi, alo, ahi, a, v, U, a0, W, Rd => by
    obtain ⟨w1, w2, w3, w4, w5, w6, w7, w8, w9⟩ := W
    obtain ⟨⟨v1, v2⟩, Rd⟩ := Rd
    have v8 : v < 8400 := by omega
    have kp := C.1.1
    have eB : ∀ l : Int, C_1_familiesD G (kC + 1) pr a Ln l h = C_1_familiesB G (C_1_familiesD G kC) pr a Ln l h := fun _ => rfl
    have eT : ∀ σ : tS, T_namesAloneD (kT + 1) (v : Int) σ = T_namesAloneB (T_namesAloneD kT) (v : Int) σ := fun _ => rfl
    have vN : ((v : Int)).toNat = v := by omega
    rcases w9 with ⟨j, q1, q2, q3, q4, q5, q6, q7, q8, q9, q10⟩ | ⟨j, ns, amid, q1, q2, q3, q4, q5, q6, q7, q8, q9, q10, q11, q12, q13⟩ | ⟨x, y, nx, ny, mid, amid, aend, q1, q2, q3, q4, q5, q6, q7, q8, q9, q10, q11, q12, q13⟩
    · -- a name
      rcases Rd with ⟨r1, w, r2, r3⟩ | ⟨r1, _⟩ | ⟨r1, _⟩
      rotate_left
      · omega
      · omega
      refine ⟨[], fun l => ?_, fun σ F => ⟨σ, ?_, fr_refl _ _ _, rfl, .inl rfl⟩, fun x hx => absurd hx List.not_mem_nil, fun _ => ?_⟩
      · rw [eB]
        unfold C_1_familiesB
        rw [gd_pos w5, if_pos q7]
        unfold C_1_families_80
        have := na_parts (G := G) (Ln := Ln) (kC := kC) (xs := []) kp w5 rfl w8 q8 (by simp) (fun x hx => absurd hx List.not_mem_nil) [] [] 0 l rfl (Nat.le_refl _) rfl (fun j z B e => by cases e)
        rw [show ((0 : Nat) : Int) = 0 from rfl] at this
        rw [this]
        rfl
      · rw [eT]
        unfold T_namesAloneB
        rw [if_pos (by omega), vN, F.2 538 (by simp), q1, if_pos (by decide), if_pos (by omega), if_pos (by decide)]
      · rw [r3]
        exact ⟨fun _ => r2, fun z => (by cases z), trivial, trivial⟩
    · -- a great
      rcases Rd with ⟨r1, _⟩ | ⟨r1, j', kk, xx, ns', T0, T1, r2, r3, r4, r5, ⟨r6, r7⟩, r8, r9, r10, r11, r12⟩ | ⟨r1, _⟩
      · omega
      rotate_left
      · omega
      have en : ns' = ns := chain_det r6 q12
      subst en
      have ej : j' = j := by rw [q2] at r2; omega
      subst ej
      have ln := rows2_len q13
      have k20 := rows2_20 q13
      have gsh := gK_sh r4 r5
      have l2 : ns'.length ≤ 2 := by
        rcases gsh with ⟨_, g2, g3⟩ | ⟨_, g3⟩
        · rw [g3]; unfold pN; split <;> omega
        · omega
      obtain ⟨Bs, bl, bp'⟩ := lch (P := fun i (B : List Int) => ∃ (x v' : Nat) (Ui : Ty), (ll h (fR h 1274 a))[i]? = some x ∧ ns'[i]? = some v' ∧ (i = 0 → Ui = T0) ∧ (i = 1 → Ui = T1) ∧ naC G pr Ln h kC x B ∧ naT σ0 kT v' B ∧ (∀ x ∈ B, ∃ j, j ≤ m ∧ x = (tokq S j : Int)) ∧ (B = [] → famNm P Ui)) ns'.length (fun i hi => by
        have ev : ns'[i]? = some ns'[i] := List.getElem?_eq_getElem hi
        have ex : (ll h (fR h 1274 a))[i]? = some ((ll h (fR h 1274 a))[i]'(by omega)) := List.getElem?_eq_getElem (by omega)
        generalize (ll h (fR h 1274 a))[i]'(by omega) = x at ex
        obtain ⟨l1', l2', l3', l4', l5', W'⟩ := rows2_each (fun w => WR_in w) q13 ex ev
        have hr : ∃ Ui, (i = 0 → Ui = T0) ∧ (i = 1 → Ui = T1) ∧ RdT S b K σ0 P lo' hi' k ns'[i] Ui := by
          by_cases c : i = 0
          · subst c
            exact ⟨T0, fun _ => rfl, fun z => by omega, r9 _ ev⟩
          · have c1 : i = 1 := by omega
            subst c1
            exact ⟨T1, fun z => by omega, fun _ => rfl, r10 _ ev⟩
        obtain ⟨Ui, u1, u2, u3⟩ := hr
        obtain ⟨B, b1, b2, b3, b4⟩ := na_rel C X hS T g pLn h84 k kC kT (by omega) (by omega) (by omega) W' u3
        exact ⟨B, x, _, Ui, ex, ev, u1, u2, b1, b2, b3, b4⟩)
      -- the node's own break
      obtain ⟨B0, c1, c2, c3, c4⟩ : ∃ B0 : List Int, (∀ l : Int, C_1_familiesD G (kC + 1) pr a Ln l h = C_1_families_80 G (C_1_familiesD G kC) pr a Ln (mnl l B0) h) ∧ (∀ σ, fr [452, 456] [726] σ0 σ → ∃ τ, T_namesAloneD (kT + 1) (v : Int) σ = T_namesAlone_87 (T_namesAloneD kT) (v : Int) τ ∧ fr [452, 456] [] σ τ ∧ bp τ = mnl (bp σ) B0 ∧ (gs τ 452 = gs σ 452 ∨ gs τ 452 = 3)) ∧ (∀ x ∈ B0, ∃ j, j ≤ m ∧ x = (tokq S j : Int)) ∧ (B0 = [] → kk = 2 → ∃ p, ns'[0]? = some p ∧ ga σ0 538 p = 0) := by
        obtain ⟨w, n1, n2, n3⟩ := t_nameAt T (j := j') (.inr q3)
        obtain ⟨wl, gl1, gl2⟩ := GL_gv g n2 true
        have c0 := clA_0 C (o := FI Prod.snd (tokw S j') K) (fun i e => FI_lt e)
        have cf := c_familyOf (G := G) C (wd_wb X q6)
        have tB : ∀ σ, fr [452, 456] [726] σ0 σ → T_namesAloneD (kT + 1) (v : Int) σ = if (ga σ0 630 w) ≠ 3 then T_namesAlone_87 (T_namesAloneD kT) (v : Int) σ else if 0 ≤ ga σ0 546 v ∧ ga σ0 546 v < 8400 then (if (ga σ0 538 (ga σ0 546 v).toNat) = 0 then T_namesAlone_87 (T_namesAloneD kT) (v : Int) σ else (T_breaks 3 ((b + j' : Nat) : Int) σ).bind fun p2 => T_namesAlone_87 (T_namesAloneD kT) (v : Int) p2) else none := fun σ F => by
          have n1' : T_nameAt ((b + j' : Nat) : Int) σ = some (w : Int) := by
            unfold T_nameAt at n1 ⊢
            rw [F.2 482 (by simp)]
            exact n1
          rw [eT]
          unfold T_namesAloneB
          have e0 := F.2 538 (by simp)
          have e1 := F.2 542 (by simp)
          have e2 := F.2 546 (by simp)
          have e3 := F.2 630 (by simp)
          rw [if_pos (by omega), vN, e0, q1, if_pos (by decide), if_pos (by omega), if_neg (by decide), if_pos (by omega), e1, q2, n1', Option.bind_some, if_pos (by omega), show ((w : Int)).toNat = w by omega, e3, e2]
          by_cases z : ga σ0 630 w ≠ 3
          · rw [if_pos z, if_pos z]
          · rw [if_neg z, if_neg z]
            by_cases z2 : 0 ≤ ga σ0 546 v ∧ ga σ0 546 v < 8400
            · rw [if_pos ⟨by omega, by omega, z2⟩, if_pos z2, e0]
              by_cases z3 : ga σ0 538 (ga σ0 546 v).toNat = 0
              · rw [if_pos z3, if_pos z3]
              · rw [if_neg z3, if_neg z3, if_pos (by omega)]
            · rw [if_neg (fun q => z2 ⟨q.2.2.1, q.2.2.2⟩), if_neg z2]
        by_cases ff : FI Prod.snd (tokw S j') K = none
        · have i0 : ga σ0 630 w ≠ 3 := fun z => (gl1.mp z) ff
          refine ⟨[], fun l => ?_, fun σ F => ⟨σ, by rw [tB σ F, if_pos i0], fr_refl _ _ _, rfl, .inl rfl⟩, fun x hx => absurd hx List.not_mem_nil, fun _ k2 => ?_⟩
          · rw [eB]
            unfold C_1_familiesB
            rw [gd_pos w5, if_neg (by omega), gd_pos ⟨w5, kp⟩, cf, Option.bind_some, if_pos (c0.mpr ff)]
            rfl
          · exfalso
            unfold gK at r4
            cases e : cnI (tokw S j') with
            | some c => rw [e] at r4; injection Option.some.inj r4 with r4 _; omega
            | none => rw [e, ff] at r4; cases r4
        · have i0 : ga σ0 630 w = 3 := gl1.mpr ff
          have k2 : kk = 2 := by
            rcases gsh with ⟨g1, g2, g3⟩ | ⟨g1, _⟩
            · exfalso
              have := g w _ n2
              rcases this.2 with ⟨z, _⟩ | ⟨x, z, _⟩ | ⟨x, z, _⟩ | ⟨x, z, z2, z3, z4, z5, z6⟩
              · omega
              · omega
              · omega
              · unfold gK at r4
                rw [z4, z6] at r4
                injection Option.some.inj r4 with r4 _
                omega
            · exact g1
          have n1l : ns'.length = 1 := by
            rcases gsh with ⟨g1, _⟩ | ⟨_, g2⟩
            · omega
            · exact g2
          obtain ⟨p, ep⟩ : ∃ p, ns' = [p] := List.length_eq_one_iff.mp n1l
          obtain ⟨x, ex⟩ : ∃ x, ll h (fR h 1274 a) = [x] := List.length_eq_one_iff.mp (by omega)
          have e546 : ga σ0 546 v = (p : Int) := by rw [ep] at q12; exact q12.1
          have pr8 : lo' ≤ p ∧ p < hi' := r7 p (by rw [ep]; simp)
          have kx : kd h x = 20 := k20 x (by rw [ex]; simp)
          have Wx : ∃ lo1 hi1 alo1 ahi1, amid ≤ alo1 ∧ WR A S b h σ0 k lo1 hi1 alo1 ahi1 x p := rows2_each (fun w => WR_in w) (i := 0) q13 (by rw [ex]; rfl) (by rw [ep]; rfl)
          have iff0 : (ga σ0 538 p = 0 ∧ fR h 1266 x ≠ 0 ∧ fI h 1271 x = 0) ∨ (ga σ0 538 p ≠ 0 ∧ (fR h 1266 x = 0 ∨ fI h 1271 x ≠ 0)) := by
            obtain ⟨lo1, hi1, alo1, ahi1, am1, Wx⟩ := Wx
            cases k with
            | zero => exact Wx.elim
            | succ k =>
              obtain ⟨_, _, _, _, _, _, _, _, y9⟩ := Wx
              rcases y9 with ⟨jj, y1, y2, y3, y4, y5, y6, y7, _⟩ | ⟨jj, nn, am, y1, y2, y3, y4, y5, y6, y7, _⟩ | ⟨_, _, _, _, _, _, _, y1, y2, _⟩
              · exact .inl ⟨y1, by omega, y7⟩
              · exact .inr ⟨by omega, .inr (by omega)⟩
              · exact .inr ⟨by omega, .inl y2⟩
          have gt : P_J2_get G (fR h 1274 a) 0 h = some x := by
            unfold P_J2_get
            rw [gd_pos ⟨w8, by omega⟩, ex]; rfl
          have cB : ∀ l : Int, C_1_familiesD G (kC + 1) pr a Ln l h = if ga σ0 538 p = 0 then C_1_families_80 G (C_1_familiesD G kC) pr a Ln l h else C_1_families_80 G (C_1_familiesD G kC) pr a Ln (if fI h 1188 (fR h 1266 a) < l then fI h 1188 (fR h 1266 a) else l) h := fun l => by
            rw [eB]
            unfold C_1_familiesB
            rw [gd_pos w5, if_neg (by omega), gd_pos ⟨w5, kp⟩, cf, Option.bind_some, if_neg (fun z => ff (c0.mp z)), gd_pos ⟨w5, w8⟩, gt, Option.bind_some, gd_pos ⟨.inr kx, kx⟩]
            rcases iff0 with ⟨z1, z2, z3⟩ | ⟨z1, z2⟩
            · rw [if_pos z1, if_neg z2, gd_pos kx, if_neg (fun z => z z3), if_neg pLn]
              unfold C_1_families_59
              rw [if_pos (by decide)]
            · rw [if_neg z1]
              have e59 : C_1_families_59 G (C_1_familiesD G kC) pr a Ln l 0 h = C_1_families_80 G (C_1_familiesD G kC) pr a Ln (if fI h 1188 (fR h 1266 a) < l then fI h 1188 (fR h 1266 a) else l) h := by
                unfold C_1_families_59
                rw [if_neg (fun z => z rfl), gd_pos ⟨w5, q6.1⟩]
              by_cases y : fR h 1266 x = 0
              · rw [if_pos y]; exact e59
              · rw [if_neg y, gd_pos kx, if_pos (by
                  rcases z2 with z2 | z2
                  · exact absurd z2 y
                  · exact z2)]
                exact e59
          by_cases z : ga σ0 538 p = 0
          · refine ⟨[], fun l => by rw [cB l, if_pos z]; rfl, fun σ F => ⟨σ, ?_, fr_refl _ _ _, rfl, .inl rfl⟩, fun x hx => absurd hx List.not_mem_nil, fun _ _ => ⟨p, by rw [ep]; rfl, z⟩⟩
            rw [tB σ F, if_neg (fun q => q i0), e546, if_pos (by omega), show ((p : Int)).toNat = p by omega, if_pos z]
          · refine ⟨[(tokq S j' : Int)], fun l => ?_, fun σ F => ?_, fun x hx => ⟨j', by omega, List.mem_singleton.mp hx⟩, fun q => by cases q⟩
            · rw [cB l, if_neg z, q6.2.2.1]
              congr 1
              show _ = min l (tokq S j' : Int)
              split <;> omega
            · obtain ⟨τ, f1, f2, f3, f4⟩ := t_breaks (TT_fr2 F (by simp) T) (j := j') (by omega) hS (w := 3) (by decide)
              refine ⟨τ, ?_, f2, f4, .inr f3⟩
              rw [tB σ F, if_neg (fun q => q i0), e546, if_pos (by omega), show ((p : Int)).toNat = p by omega, if_neg z, f1, Option.bind_some]
      refine ⟨B0 ++ Bs.flatten, fun l => ?_, fun σ F => ?_, fun x hx => ?_, fun z => ?_⟩
      · rw [c1 l]
        unfold C_1_families_80
        have := na_parts (G := G) (Ln := Ln) (kC := kC) kp w5 rfl w8 rfl (by omega) k20 (ll h (fR h 1274 a)) Bs 0 (mnl l B0) rfl (Nat.zero_le _) (by omega) (fun i z B e1 e2 => by
          obtain ⟨x, v', Ui, p1, p2, _, _, p3, _⟩ := bp' i B e2
          rw [p1] at e1
          rw [← Option.some.inj e1]; exact p3)
        rw [show ((0 : Nat) : Int) = 0 from rfl] at this
        rw [this, mnl_app]
        rfl
      · obtain ⟨τ1, d1, d2, d3, d4⟩ := c2 σ F
        have F1 := fr_trans F (w26 d2)
        obtain ⟨τ2, f1, f2, f3, f4⟩ := na_chain (kT := kT) ns' Bs (ga σ0 546 v) τ1 q12 bl.symm (fun x hx => by have := r7 x hx; omega) (fun i v' B e1 e2 => by
          obtain ⟨x, v'', Ui, p1, p2, _, _, _, p3, _⟩ := bp' i B e2
          rw [p2] at e1
          rw [← Option.some.inj e1]; exact p3) F1
        refine ⟨τ2, ?_, fr_trans d2 f2, by rw [f3, d3, mnl_app], ?_⟩
        · rw [d1]
          unfold T_namesAlone_87
          rw [if_pos (by omega), vN, F1.2 546 (by simp), f1]
          rfl
        · rcases f4 with f4 | f4
          · rw [f4]; exact d4
          · exact .inr f4
      · rcases List.mem_append.mp hx with hx | hx
        · exact c3 x hx
        · obtain ⟨B, hB, hx⟩ := List.mem_flatten.mp hx
          obtain ⟨i, hi, ei⟩ := List.getElem_of_mem hB
          obtain ⟨_, _, _, _, _, _, _, _, _, p3, _⟩ := bp' i B (by rw [List.getElem?_eq_getElem hi, ei])
          exact p3 x hx
      · obtain ⟨z1, z2⟩ := List.append_eq_nil_iff.mp z
        have all : ∀ B ∈ Bs, B = [] := List.flatten_eq_nil_iff.mp z2
        have pt : ∀ i, i < ns'.length → ∃ Ui, (i = 0 → Ui = T0) ∧ (i = 1 → Ui = T1) ∧ famNm P Ui := fun i hi => by
          obtain ⟨_, _, Ui, _, _, u1, u2, _, _, _, p4⟩ := bp' i (Bs[i]'(by omega)) (List.getElem?_eq_getElem (by omega))
          exact ⟨Ui, u1, u2, p4 (all _ (List.getElem_mem _))⟩
        have f0 : famNm P T0 := by
          by_cases c : ns'.length = 0
          · rw [r11 c]; trivial
          · obtain ⟨Ui, u1, _, u3⟩ := pt 0 (by omega)
            rw [← u1 rfl]; exact u3
        have f1 : famNm P T1 := by
          by_cases c : ns'.length ≤ 1
          · rw [r12 c]; trivial
          · obtain ⟨Ui, _, u2, u3⟩ := pt 1 (by omega)
            rw [← u2 rfl]; exact u3
        rw [r8]
        refine ⟨fun k0 => ?_, fun k2 => ?_, f0, f1⟩
        · rcases gsh with ⟨g1, _⟩ | ⟨g1, _⟩ <;> omega
        · obtain ⟨p, p1, p2⟩ := c4 z1 k2
          have rp := r9 p p1
          cases k with
          | zero => exact rp.elim
          | succ k =>
            obtain ⟨_, rp⟩ := rp
            rcases rp with ⟨y1, w, y2, y3⟩ | ⟨y1, _⟩ | ⟨y1, _⟩
            · exact ⟨w, y3, y2⟩
            · omega
            · omega
    · -- an arrow
      rcases Rd with ⟨r1, _⟩ | ⟨r1, _⟩ | ⟨r1, nx', ny', T0, T1, r2, r3, r4, r5, r6⟩
      · omega
      · omega
      have ex : nx' = nx := by rw [q5] at r2; omega
      have ey : ny' = ny := by rw [q6] at r3; omega
      subst ex ey
      obtain ⟨B1, b1, b2, b3, b4⟩ := na_rel C X hS T g pLn h84 k kC kT (by omega) (by omega) a0 q8 r5
      obtain ⟨B2, d1, d2, d3, d4⟩ := na_rel C X hS T g pLn h84 k kC kT (by omega) (by omega) (by omega) q9 r6
      have kx : kd h x = 20 := by
        cases k with
        | zero => exact q8.elim
        | succ k => exact q8.2.2.2.2.1
      have ky : kd h y = 20 := by
        cases k with
        | zero => exact q9.elim
        | succ k => exact q9.2.2.2.2.1
      refine ⟨B1 ++ B2, fun l => ?_, fun σ F => ?_, fun x hx => ?_, fun z => ?_⟩
      · rw [eB]
        unfold C_1_familiesB
        rw [gd_pos w5, if_pos q3]
        unfold C_1_families_80
        have := na_parts (G := G) (Ln := Ln) (kC := kC) (xs := [x, y]) kp w5 rfl w8 q4 (by simp) (fun z hz => by
          rcases List.mem_cons.mp hz with e | e
          · rw [e]; exact kx
          · rw [List.mem_singleton.mp e]; exact ky) [x, y] [B1, B2] 0 l rfl (Nat.zero_le _) rfl (fun i z B e1 e2 => by
          match i, e1, e2 with
          | 0, e1, e2 => rw [← Option.some.inj e1, ← Option.some.inj e2]; exact b1
          | 1, e1, e2 => rw [← Option.some.inj e1, ← Option.some.inj e2]; exact d1
          | i + 2, e1, e2 => cases e1)
        rw [show ((0 : Nat) : Int) = 0 from rfl] at this
        rw [this]
        simp
      · obtain ⟨τ1, f1, f2, f3, f4⟩ := b2 σ F
        have F1 := fr_trans F (w26 f2)
        obtain ⟨τ2, g1, g2, g3, g4⟩ := d2 τ1 F1
        refine ⟨τ2, ?_, fr_trans f2 g2, by rw [g3, f3, mnl_app], ?_⟩
        · rw [eT]
          unfold T_namesAloneB
          rw [if_pos (by omega), vN, F.2 538 (by simp), q1, if_neg (by decide), if_pos (by omega), F.2 546 (by simp), q5, f1, Option.bind_some, if_pos (by omega), F1.2 550 (by simp), q6, g1]
          rfl
        · rcases g4 with g4 | g4
          · rw [g4]; exact f4
          · exact .inr g4
      · rcases List.mem_append.mp hx with hx | hx
        · exact b3 x hx
        · exact d3 x hx
      · obtain ⟨z1, z2⟩ := List.append_eq_nil_iff.mp z
        rw [r4]
        exact ⟨fun z => by omega, fun z => by omega, b4 z1, d4 z2⟩
  | k + 1, 0, _, h1, _, _, _, _, _, _, _, _, _, _, _ => absurd h1 (by omega)
  | k + 1, _ + 1, 0, _, h2, _, _, _, _, _, _, _, _, _, _ => absurd h2 (by omega)
end LNA
