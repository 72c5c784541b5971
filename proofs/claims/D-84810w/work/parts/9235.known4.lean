set_option maxRecDepth 100000
/-! TYPES BECOME KNOWN ALIKE -/
section LK4
variable {G : om_G} {A : Nat} {S : List Int} {b m : Nat} {N : List (List Int)} {cs : List Nat} {K : KT} {pr Ln : Nat} {Ls : List (List Int)} {sc : List Nat} {tb : Nat} {rest : List (Nat × List Nat)}
variable {h h' : om_H} {us fs us' fs' : List Nat} {σ τ : tS} {n n' q q2 lo hi alo ahi : Nat} {X XC XT : Int} {rT : Int → tS → Option (Int × tS)} {rC : Nat → Nat → Nat → Nat → om_H → Option (Nat × om_H)} {L : List Int} {sA : Prop}
theorem ST_le (C : ST S b m N K sc σ n τ n' q X) (hq : q ≤ q2) : ST S b m N K sc σ n τ n' q2 X := ⟨C.1, C.2.1, C.2.2.1, by have := C.2.2.2.1; omega, C.2.2.2.2⟩
theorem SC_le (C : SC G A S N cs K pr Ln Ls tb rest h us fs h' us' fs' q X) (hq : q ≤ q2) : SC G A S N cs K pr Ln Ls tb rest h us fs h' us' fs' q2 X := ⟨C.1, CS_le C.2.1 hq (Nat.le_refl _) (Nat.le_refl _), C.2.2⟩
theorem rows2_cnt {W : Nat → Nat → Nat → Nat → Nat → Nat → Prop} (hW : ∀ {lo hi alo ahi x n}, W lo hi alo ahi x n → lo ≤ n ∧ n < hi ∧ alo ≤ x ∧ x < ahi) : ∀ {xs ns : List Nat} {lo hi alo ahi : Nat}, rows2 W xs ns lo hi alo ahi → xs.length + lo ≤ hi
  | [], [], _, _, _, _, r => by have := r.1; simp; omega
  | x :: xs, n :: ns, _, _, _, _, ⟨mid, amid, w, r⟩ => by
    have := rows2_cnt hW r
    have := hW w
    simp; omega
  | [], _ :: _, _, _, _, _, r => r.elim
  | _ :: _, [], _, _, _, _, r => r.elim
theorem rows2_20 {k : Nat} : ∀ {xs ns : List Nat} {lo hi alo ahi : Nat}, rows2 (WR A S b h σ k) xs ns lo hi alo ahi → ∀ x ∈ xs, kd h x = 20
  | [], [], _, _, _, _, _, x, hx => absurd hx List.not_mem_nil
  | y :: xs, n :: ns, _, _, _, _, ⟨mid, amid, w, r⟩, x, hx => by
    rcases List.mem_cons.mp hx with rfl | hx
    · cases k with
      | zero => exact w.elim
      | succ k => exact w.2.2.2.2.1
    · exact rows2_20 r x hx
  | [], _ :: _, _, _, _, _, r, _, _ => r.elim
  | _ :: _, [], _, _, _, _, r, _, _ => r.elim
theorem part_C {ys : List Nat} {ts : List Int} {qq k : Nat} (R : tR N cs rest sA h us σ n ys ts XC XT qq k) (i : Nat) : ∃ T, tyC h N (clF cs) (UU us rest) T (ys.getD i 0) ∧ (i < ys.length → T ≠ .leaf) ∧ (ys.length ≤ i → T = .leaf) := by
  rcases Nat.lt_or_ge i ys.length with z | z
  · have e : ys.getD i 0 = ys[i] := by rw [List.getD_eq_getElem?_getD, List.getElem?_eq_getElem z]; rfl
    obtain ⟨r1, T, r2⟩ := R.2.1 ys[i] (List.getElem_mem z)
    rw [e]
    refine ⟨T, r2, fun _ q => ?_, fun q => by omega⟩
    exact r1 ((tyC_0 r2).mpr q)
  · have e : ys.getD i 0 = 0 := by rw [List.getD_eq_getElem?_getD, List.getElem?_eq_none z]; rfl
    rw [e]
    exact ⟨.leaf, rfl, fun q => by omega, fun _ => rfl⟩
theorem part_CT {ys : List Nat} {ts : List Int} {qq k : Nat} (R : tR N cs rest sA h us σ n ys ts XC XT qq k) (al : ∀ t ∈ ts, t ≠ -1) (i : Nat) : ∃ T U, tyC h N (clF cs) (UU us rest) T (ys.getD i 0) ∧ tyT σ n U (ts.getD i (-1)) ∧ (i < ys.length → T ≠ .leaf) ∧ (ys.length ≤ i → T = .leaf) ∧ (sA → XC = 2147483647 → T = U) := by
  rcases Nat.lt_or_ge i ys.length with z | z
  · have zt : i < ts.length := by rw [← R.1]; exact z
    have e : ys.getD i 0 = ys[i] := by rw [List.getD_eq_getElem?_getD, List.getElem?_eq_getElem z]; rfl
    have e2 : ts.getD i (-1) = ts[i] := by rw [List.getD_eq_getElem?_getD, List.getElem?_eq_getElem zt]; rfl
    rw [e, e2]
    by_cases cm : sA ∧ XC = 2147483647
    · obtain ⟨T, c0, c1, c2⟩ := (R.2.2.2 cm.1).2 cm.2 i _ _ (List.getElem?_eq_getElem z) (List.getElem?_eq_getElem zt)
      exact ⟨T, T, c1, c2, fun _ => c0.1, fun q => by omega, fun _ _ => rfl⟩
    · obtain ⟨r1, T, r2⟩ := R.2.1 ys[i] (List.getElem_mem z)
      rcases R.2.2.1.1 ts[i] (List.getElem_mem zt) with s | ⟨U, s1, s2⟩
      · exact absurd s (al _ (List.getElem_mem zt))
      · exact ⟨T, U, r2, s2, fun _ q => r1 ((tyC_0 r2).mpr q), fun q => by omega, fun s1 s2 => absurd ⟨s1, s2⟩ cm⟩
  · have e : ys.getD i 0 = 0 := by rw [List.getD_eq_getElem?_getD, List.getElem?_eq_none z]; rfl
    have e2 : ts.getD i (-1) = -1 := by rw [List.getD_eq_getElem?_getD, List.getElem?_eq_none (by rw [← R.1]; exact z)]; rfl
    rw [e, e2]
    exact ⟨.leaf, .leaf, rfl, rfl, fun q => by omega, fun _ => rfl, fun _ _ => rfl⟩
/-- one result -/
theorem tR_one {x : Nat} {t : Int} {T : Ty} {qq k : Nat} (x0 : x ≠ 0) (c : tyC h N (clF cs) (UU us rest) T x) (u : t = -1 ∨ ∃ U, tyQ qq k U ∧ tyT σ n U t) (s : sA → XC = XT ∧ (XC = 2147483647 → tyT σ n T t)) : tR N cs rest sA h us σ n [x] [t] XC XT qq k := by
  have Tl : T ≠ .leaf := fun q => x0 ((tyC_0 c).mpr q)
  have Tq : tyT σ n T t → tyQ qq k T := fun c2 => by
    rcases u with e | ⟨U, u1, u2⟩
    · exact absurd ((tyT_0 c2).mpr e) Tl
    · rw [tyT_fun c2 u2]; exact u1
  refine ⟨rfl, fun y hy => ?_, ⟨fun v hv => ?_, [qq], rfl, by simp, fun i z v e1 e2 => ?_⟩, fun a => ⟨(s a).1, fun e i y v hy hv => ?_⟩⟩
  · rw [List.mem_singleton.mp hy]; exact ⟨x0, T, c⟩
  · rw [List.mem_singleton.mp hv]; exact u.imp id (fun ⟨U, u1, u2⟩ => ⟨U, u1.1, u2⟩)
  · cases i with
    | zero =>
      simp at e1 e2
      rw [← e1, ← e2]; exact u
    | succ i => simp at e1
  · cases i with
    | zero =>
      simp at hy hv
      rw [← hy, ← hv]
      exact ⟨T, Tq ((s a).2 e), c, (s a).2 e⟩
    | succ i => simp at hy
set_option maxHeartbeats 1490000 in
theorem con_rel {k : Nat} (IH : KA G A S b m N cs K pr Ln Ls sc tb rest k rT rC) (HC : KC G A S N cs K pr Ln Ls tb rest h us fs) (HU : KU S b m N K sc σ n) (R : KR S lo hi alo ahi pr tb h us fs n) {a j amid : Nat} {ns : List Nat} (w2 : lo < hi) (w3 : alo ≤ a) (w4 : a < ahi) (w5 : kd h a = 20) (w6 : alo ≤ fR h 1274 a) (w7 : fR h 1274 a < ahi) (w8 : kd h (fR h 1274 a) = 42) (q1 : ga σ 538 lo = 1) (q2 : ga σ 542 lo = ((b + j : Nat) : Int)) (q3 : tokk S j = 3) (q4 : alo ≤ fR h 1266 a) (q6 : wd h A S (fR h 1266 a) j) (q7 : fI h 1271 a = 1) (q11 : alo ≤ amid) (q12 : chain σ (ga σ 546 lo) ns) (q13 : rows2 (WR A S b h σ k) (ll h (fR h 1274 a)) ns (lo + 1) hi amid ahi) : KP (k + 1) G A S b m N cs K pr Ln Ls sc tb rest lo hi h us fs σ n (T_knownB rT (lo : Int) σ) (C_1_typeOfB G rC pr a Ln tb h) := by
  obtain ⟨w, v1, v2, v3⟩ := t_nameAt HU.2.1 (.inr q3)
  have wl := (HU.2.2.1 w _ v2).1
  have hS := R.1.2.2.2
  have h84 := R.1.2.2.1
  have jq : (tokq S j : Int) ≤ 2000 := by have := tok_le S j; omega
  have len := rows2_cnt (fun w => WR_in w) q13
  have r20 := rows2_20 q13
  have rin := rows2_in (fun w => WR_in w) q13
  generalize exs : ll h (fR h 1274 a) = xs at q13 len r20 rin
  have g0 : gS a (fR h 1274 a) pr xs h := ⟨w5, rfl, w8, exs, HC.2.2.1.1.1.1, by omega, r20⟩
  have r3 : ∀ x ∈ xs, alo ≤ x ∧ x < ahi := fun x hx => by have := rin.2.2.2.1 x hx; omega
  -- the component's own break
  obtain ⟨h1, XB, f1, f2, f3⟩ : ∃ h1 XB, SC G A S N cs K pr Ln Ls tb rest h us fs h1 us fs 0 XB ∧ C_1_typeOfB G rC pr a Ln tb h = C_1_typeOf_156 G rC pr a Ln tb (oI (cnI (tokw S j))) (clA cs (FI Prod.snd (tokw S j) K)) (xs.length : Int) h1 ∧ XB = (if gW K (tokw S j) = some xs.length then 2147483647 else (tokq S j : Int)) := by
    have e := con_C0 (rC := rC) HC w5 (by have := R.1.1; omega) q6 q7 w8 exs (by omega)
    by_cases ok : gW K (tokw S j) = some xs.length
    · rw [if_pos ok] at e
      exact ⟨h, _, SC_refl HC, e, by rw [if_pos ok]⟩
    · rw [if_neg ok] at e
      obtain ⟨h1, e1, e2⟩ := SC_rule HC (tokq S j : Int)
      rw [e1, Option.bind_some] at e
      exact ⟨h1, _, e2, e, by rw [if_neg ok]⟩
  have R1 := KR_next (lo' := lo + 1) (alo' := amid) R f1 (ST_le (ST_refl HU) (Nat.le_refl _)) (by omega) q11 (by omega)
  have W1 := rows_ST (dj_sub R.2.1 q11 (Nat.le_refl _)) f1 R.1.2.1 (ST_refl HU) q13
  have D1 := dj_step R.2.1 f1 R.1.2.1
  have z1 := f1.2.1.1.1
  obtain ⟨ts, ys, τ1, n1, h2, us2, fs2, XCp, XTp, e1, e2, e3, e4, e5, e6, e7, e8⟩ := parts_rel (l2 := ((b + j : Nat) : Int)) (l3 := ga σ 630 w) (l4 := ga σ 634 w) IH ⟨w3, w4⟩ ⟨w6, w7⟩ r3 xs ns (lo + 1) amid h1 us fs σ n 0 (-1) (-1) 1 (ga σ 546 lo) f1.1 HU W1 q12 R1 D1 (by have := R.1.2.1; omega) (gS_SC R.2.1 f1 R.1.2.1 ⟨w3, w4⟩ ⟨w6, w7⟩ r3 g0) (by omega) (by omega)
  have eT : T_knownB rT (lo : Int) σ = if ga σ 630 w = 1 then T_known_234 rT ((b + j : Nat) : Int) (ga σ 630 w) (ga σ 634 w) (accF ts (0, -1, -1, 1)).1 (accF ts (0, -1, -1, 1)).2.1 (accF ts (0, -1, -1, 1)).2.2.1 (accF ts (0, -1, -1, 1)).2.2.2 τ1 else if ga σ 630 w ≠ 3 then T_known_253 rT ((b + j : Nat) : Int) τ1 else T_known_234 rT ((b + j : Nat) : Int) (ga σ 630 w) (ga σ 634 w) (accF ts (0, -1, -1, 1)).1 (accF ts (0, -1, -1, 1)).2.1 (accF ts (0, -1, -1, 1)).2.2.1 (accF ts (0, -1, -1, 1)).2.2.2 τ1 := by
    unfold T_knownB
    rw [if_pos (by omega), show ((lo : Int)).toNat = lo by omega, q1, if_pos (by decide), if_pos (by omega), if_pos (by decide), q2, v1, Option.bind_some, if_pos (by omega), Option.bind_some, if_pos (by omega), show ((w : Int)).toNat = w by omega, e1, Option.bind_some]
  have eC := f2.trans (c_parts e2)
  have eacc := accF_len ts (0, -1, -1, 1)
  obtain ⟨t0a, t0b⟩ := con_T0 (rT := rT) (τ := τ1) (c := (accF ts (0, -1, -1, 1)).1) (o := (accF ts (0, -1, -1, 1)).2.1) (u := (accF ts (0, -1, -1, 1)).2.2.1) (al := (accF ts (0, -1, -1, 1)).2.2.2) (tok := ((b + j : Nat) : Int)) HU.2.2.1 v2
  have hn2 : tl us2 fs2 ≤ 149000 := by
    have := SC_len f1
    have := SC_len e3
    have := R.2.2.2
    omega
  have C12 := SC_trans f1 e3
  rw [Nat.zero_add] at C12
  have bB : brk S b m σ lo hi XB := by
    rw [f3]
    split
    · exact .inl rfl
    · exact .inr ⟨lo, j, Nat.le_refl _, w2, q2, by omega, rfl⟩
  have bC : brk S b m σ lo hi XCp := brk_mono e5 (by omega) (Nat.le_refl _)
  have bT : brk S b m σ lo hi XTp := brk_mono e6 (by omega) (Nat.le_refl _)
  have lC := brk_le hS e5
  have lT := brk_le hS e6
  have ql : hi - (lo + 1) + 1 = hi - lo := by omega
  have yl : ys.length = xs.length := by rw [e7.1, e8]
  by_cases ok : gW K (tokw S j) = some xs.length
  · rw [if_pos ok] at f3
    obtain ⟨⟨kk, x⟩, qk⟩ : ∃ p, gK K (tokw S j) = some p := by
      cases q : gK K (tokw S j) with
      | none => rw [(t0a q).1] at ok; cases ok
      | some p => exact ⟨p, rfl⟩
    obtain ⟨k12, p, p1, p2, p3⟩ := t0b kk x qk
    have pe : p = xs.length := by rw [ok] at p1; exact (Option.some.inj p1).symm
    obtain ⟨a1, a2⟩ := accF_2 (ts := ts) (by omega)
    rw [p3, if_pos (by rw [eacc]; simp; omega)] at eT
    have ea1 : (accF ts (0, -1, -1, 1)).2.1 = ts.getD 0 (-1) := by rw [a1]
    have ea2 : (accF ts (0, -1, -1, 1)).2.2.1 = ts.getD 1 (-1) := by rw [a1]
    rw [ea1, ea2] at eT
    by_cases al : (accF ts (0, -1, -1, 1)).2.2.2 = 0
    · rw [if_pos al] at eT
      obtain ⟨t, tm, te⟩ := a2.mp al
      obtain ⟨T0, c0, _⟩ := part_C e7 0
      obtain ⟨T1, c1, _⟩ := part_C e7 1
      obtain ⟨x', h3, us3, fs3, g1, g2, g3, g4⟩ := fin_C (rC := rC) (L := tokw S j) e3.1 c0 c1 hn2
      have C13 := SC_trans C12 g2
      rw [ql] at C13
      refine ⟨-1, τ1, n1, x', h3, us3, fs3, _, XTp, eT, eC.trans g1, C13, ST_le e4 (by omega), brk_min (brk_min bB bC) (.inl rfl), bT, tR_one g4 g3 (.inl rfl) (fun s => ?_)⟩
      have r4 := e7.2.2.2 s
      refine ⟨by have := r4.1; omega, fun e => ?_⟩
      exfalso
      obtain ⟨i, hi'⟩ := List.getElem?_of_mem tm
      have il := (List.getElem?_eq_some_iff.mp hi').1
      have iy : i < ys.length := by omega
      obtain ⟨T, d0, d1, d2⟩ := r4.2 (by omega) i _ t (List.getElem?_eq_getElem iy) hi'
      rcases T with ⟨k', w', u', l', r'⟩ | _
      · obtain ⟨mm, m1, _⟩ := d2
        omega
      · exact d0.1 rfl
    · rw [if_neg al] at eT
      have an : ∀ t ∈ ts, t ≠ -1 := fun t ht q => al (a2.mpr ⟨t, ht, q⟩)
      obtain ⟨T0, U0, c0, d0, i0, j0, k0⟩ := part_CT e7 an 0
      obtain ⟨T1, U1, c1, d1, i1, j1, k1⟩ := part_CT e7 an 1
      obtain ⟨x', h3, us3, fs3, g1, g2, g3, g4⟩ := fin_C (rC := rC) (L := tokw S j) e3.1 c0 c1 hn2
      obtain ⟨t, τ2, n2, g5, g6, g7⟩ := ST_get (k := kk) (w := x) e4.1 (by omega) d0 d1 (by have := e4.2.2.2.1; have := R.2.2.1; omega) (by
        have gs := gK_sh qk p1
        have tl : ts.length = p := by omega
        obtain ⟨s1, s2⟩ := ts_sh an
        unfold shZ
        simp only [ne_eq, s1, s2, tl]
        rcases gs with ⟨q1, q2, q3⟩ | ⟨q1, q2⟩
        · unfold pN at q3
          split at q3 <;> omega
        · omega) (fun k2 => gK_fm qk k2)
      have C13 := SC_trans C12 g2
      have T13 := ST_trans e4 g6
      rw [ql] at C13 T13
      have eF : finT K (tokw S j) T0 T1 = tnd kk x T0 T1 := finT_ok qk p1 (fun z => j0 (by omega)) (fun z => i0 (by omega)) (fun z => j1 (by omega))
      rw [eF] at g3
      obtain ⟨qs, z1', z2', z3'⟩ := e7.2.2.1.2
      have u0 := sz_U z1' z3' an d0
      have u1 := sz_U z1' z3' an d1
      have sm2 := sum_2 qs
      have szT : tsz (tnd kk x U0 U1) = 1 + tsz U0 + tsz U1 := rfl
      have dpT : tdp (tnd kk x U0 U1) = 1 + max (tdp U0) (tdp U1) := rfl
      refine ⟨t, τ2, n2, x', h3, us3, fs3, _, _, eT.trans g5, eC.trans g1, C13, T13, brk_min (brk_min bB bC) (.inl rfl), brk_min bT (.inl rfl), tR_one g4 g3 (.inr ⟨_, ⟨(by intro z; cases z), by rw [szT]; omega, by rw [dpT]; omega, by rw [szT]; omega⟩, g7⟩) (fun s => ?_)⟩
      have r4 := e7.2.2.2 s
      refine ⟨by have := r4.1; omega, fun e => ?_⟩
      rw [k0 s (by omega), k1 s (by omega)]
      exact g7
  · rw [if_neg ok] at f3
    obtain ⟨T0, c0, _⟩ := part_C e7 0
    obtain ⟨T1, c1, _⟩ := part_C e7 1
    obtain ⟨x', h3, us3, fs3, g1, g2, g3, g4⟩ := fin_C (rC := rC) (L := tokw S j) e3.1 c0 c1 hn2
    have e253 : T_knownB rT (lo : Int) σ = T_known_253 rT ((b + j : Nat) : Int) τ1 := by
      cases q : gK K (tokw S j) with
      | none => rw [eT]; exact (t0a q).2
      | some p =>
        obtain ⟨k12, pp, p1, p2, p3⟩ := t0b p.1 p.2 q
        rw [eT, p3, if_neg (fun z => ok (by rw [p1]; congr 1; rw [eacc] at z; simp at z; omega))]
    obtain ⟨τ2, i1, i2⟩ := ST_breaks e4.1 (j := j) (by omega) hS
    have C13 := SC_trans C12 g2
    have T13 := ST_trans e4 i2
    rw [ql] at C13
    refine ⟨-1, τ2, n1, x', h3, us3, fs3, _, _, ?_, eC.trans g1, C13, ST_le T13 (by omega), brk_min (brk_min bB bC) (.inl rfl), brk_min bT (.inr ⟨lo, j, Nat.le_refl _, w2, q2, by omega, rfl⟩), tR_one g4 g3 (.inl rfl) (fun s => ?_)⟩
    · rw [e253]
      unfold T_known_253
      rw [i1]
      rfl
    · have r4 := e7.2.2.2 s
      refine ⟨by have := r4.1; omega, fun e => ?_⟩
      exfalso
      omega
set_option maxHeartbeats 1000000 in
theorem arrow_rel {k : Nat} (IH : KA G A S b m N cs K pr Ln Ls sc tb rest k rT rC) (HC : KC G A S N cs K pr Ln Ls tb rest h us fs) (HU : KU S b m N K sc σ n) (R : KR S lo hi alo ahi pr tb h us fs n) {a v x y nx ny mid amid aend : Nat} (w1 : lo ≤ v) (w3 : alo ≤ a) (w4 : a < ahi) (w5 : kd h a = 20) (w6 : alo ≤ fR h 1274 a) (w7 : fR h 1274 a < ahi) (w8 : kd h (fR h 1274 a) = 42) (q1 : ga σ 538 v = 3) (q2 : fR h 1266 a = 0) (q4 : ll h (fR h 1274 a) = [x, y]) (q5 : ga σ 546 v = (nx : Int)) (q6 : ga σ 550 v = (ny : Int)) (q7 : v + 1 = hi) (q8 : WR A S b h σ k lo mid alo amid x nx) (q9 : WR A S b h σ k mid v aend ahi y ny) (q10 : amid ≤ a) (q11 : a < aend) (q12 : amid ≤ fR h 1274 a) (q13 : fR h 1274 a < aend) : KP (k + 1) G A S b m N cs K pr Ln Ls sc tb rest lo hi h us fs σ n (T_knownB rT (v : Int) σ) (C_1_typeOfB G rC pr a Ln tb h) := by
  have i1 := WR_in q8
  have i2 := WR_in q9
  have hS := R.1.2.2.2
  have h84 := R.1.2.2.1
  have k2 := HC.2.2.1.1.1.1
  have kx : kd h x = 20 := by
    cases k with
    | zero => exact q8.elim
    | succ k => exact q8.2.2.2.2.1
  have ky : kd h y = 20 := by
    cases k with
    | zero => exact q9.elim
    | succ k => exact q9.2.2.2.2.1
  obtain ⟨t, τ1, n1, x1, h1, us1, fs1, XC1, XT1, e1, e2, e3, e4, e5, e6, e7⟩ := IH lo mid alo amid x nx h us fs σ n HC HU q8 (KR_sub R (Nat.le_refl _) (by omega) (Nat.le_refl _) (by omega))
  have R1 : KR S mid v aend ahi pr tb h1 us1 fs1 n1 := KR_sub (KR_next (lo' := mid) (alo' := aend) R e3 e4 (by omega) (by omega) (by omega)) (Nat.le_refl _) (by omega) (Nat.le_refl _) (Nat.le_refl _)
  have W1 := WR_ST (dj_sub R.2.1 (show alo ≤ aend by omega) (Nat.le_refl _)) e3 R.1.2.1 e4 q9
  obtain ⟨t2, τ2, n2, x2, h2, us2, fs2, XC2, XT2, f1, f2, f3, f4, f5, f6, f7⟩ := IH mid v aend ahi y ny h1 us1 fs1 τ1 n1 e3.1 e4.1 W1 R1
  obtain ⟨a1, a2, a3, a4, a5⟩ := hk_SC R.2.1 e3 R.1.2.1 a w3 w4
  obtain ⟨b1, b2, b3, b4, b5⟩ := hk_SC R.2.1 e3 R.1.2.1 _ w6 w7
  have y1 : kd h1 y = 20 := by rw [(hk_SC R.2.1 e3 R.1.2.1 y (by omega) (by omega)).1]; exact ky
  have C12 := SC_trans e3 f3
  have T12 := ST_trans e4 f4
  have t3 := (TB_3 f3.1.1.1).1
  have e7' := tR_keep e7 f3 f4
  have hn2 : tl us2 fs2 ≤ 149000 := by
    have := SC_len C12
    have := R.2.2.2
    omega
  have b542 : ∀ v, ga τ1 542 v = ga σ 542 v := fun v => ga_ST e4 (by decide) v
  have bC := brk_min (brk_mono e5 (Nat.le_refl lo) (show mid ≤ hi by omega)) (brk_fr b542 (brk_mono f5 (show lo ≤ mid by omega) (show v ≤ hi by omega)))
  have bT := brk_min (brk_mono e6 (Nat.le_refl lo) (show mid ≤ hi by omega)) (brk_fr b542 (brk_mono f6 (show lo ≤ mid by omega) (show v ≤ hi by omega)))
  have l1 := brk_le hS e5
  have l2 := brk_le hS f5
  have l3 := brk_le hS e6
  have l4 := brk_le hS f6
  have ql : mid - lo + (v - mid) + 1 = hi - lo := by omega
  have hR := tR_app (ys := [x1]) (ts := [t]) l1 l2 e7' f7
  have eT : T_knownB rT (v : Int) σ = if t = -1 then some (-1, τ2) else if t2 ≠ -1 then T_aType 3 0 t t2 τ2 else some (-1, τ2) := by
    unfold T_knownB
    rw [if_pos (by omega), show ((v : Int)).toNat = v by omega, q1, if_pos (by decide), if_pos (by omega), if_neg (by decide), if_pos (by omega), q5, e1, Option.bind_some, if_pos (by omega), ga_ST e4 (by decide), q6, f1, Option.bind_some]
    by_cases z : t = -1
    · rw [if_pos z, if_pos z]; rfl
    · rw [if_neg z, if_neg z]
      by_cases z2 : t2 ≠ -1
      · rw [if_pos z2, if_pos z2]
        cases T_aType 3 0 t t2 τ2 <;> rfl
      · rw [if_neg z2, if_neg z2]; rfl
  have eC : C_1_typeOfB G rC pr a Ln tb h = C_2_arrow G tb x1 x2 h2 := by
    have g1 : P_J2_get G (fR h 1274 a) 0 h = some x := by
      unfold P_J2_get
      rw [gd_pos ⟨w8, by omega⟩, q4]; rfl
    have g2 : P_J2_get G (fR h1 1274 a) 1 h1 = some y := by
      unfold P_J2_get
      rw [a3, gd_pos ⟨by rw [b1]; exact w8, by omega⟩, b4, q4]; rfl
    unfold C_1_typeOfB
    rw [gd_pos w5, if_neg (fun z => z q2), gd_pos ⟨w5, w8⟩, g1, Option.bind_some, gd_pos ⟨.inr kx, k2⟩, e2, Option.bind_some, gd_pos ⟨by rw [a1]; exact w5, by rw [a3, b1]; exact w8⟩, g2, Option.bind_some, gd_pos ⟨.inr y1, e3.1.2.2.1.1.1.1⟩, f2, Option.bind_some, gd_pos t3]
    cases C_2_arrow G tb x1 x2 h2 <;> rfl
  by_cases al : ∃ z ∈ [t, t2], z = -1
  · obtain ⟨T0, c0, _⟩ := part_C hR 0
    obtain ⟨T1, c1, _⟩ := part_C hR 1
    obtain ⟨x', h3, us3, fs3, g1, g2, g3, g4⟩ := SC_get (k := 3) (w := 0) (con := 0) (nm := 0) (fam := 0) (a := x1) (a' := x2) f3.1 (.inr (.inr (.inr ⟨rfl, rfl, rfl, rfl, rfl⟩))) c0 c1 hn2
    have C13 := SC_trans C12 g2
    rw [ql] at C13
    have eT' : T_knownB rT (v : Int) σ = some (-1, τ2) := by
      rw [eT]
      obtain ⟨z, zm, ze⟩ := al
      by_cases q : t = -1
      · rw [if_pos q]
      · rw [if_neg q, if_neg (fun q2 => by
          rcases List.mem_cons.mp zm with zz | zz
          · exact q (zz ▸ ze)
          · exact q2 ((List.mem_singleton.mp zz) ▸ ze))]
    refine ⟨-1, τ2, n2, x', h3, us3, fs3, _, _, eT', eC.trans (c_arrow t3 g1), C13, ST_le T12 (by omega), brk_min bC (.inl rfl), bT, tR_one g4 g3 (.inl rfl) (fun s => ?_)⟩
    have r4 := hR.2.2.2 s
    refine ⟨by have := r4.1; omega, fun e => ?_⟩
    exfalso
    obtain ⟨z, zm, ze⟩ := al
    obtain ⟨i, hi'⟩ := List.getElem?_of_mem zm
    have il := (List.getElem?_eq_some_iff.mp hi').1
    have iy : i < ([x1] ++ [x2]).length := by simpa using il
    obtain ⟨T, d0, d1, d2⟩ := r4.2 (by omega) i _ z (List.getElem?_eq_getElem iy) hi'
    rcases T with ⟨k', w', u', l', r'⟩ | _
    · obtain ⟨mm, m1, _⟩ := d2
      omega
    · exact d0.1 rfl
  · have an : ∀ z ∈ [t] ++ [t2], z ≠ -1 := fun z hz q => al ⟨z, hz, q⟩
    obtain ⟨T0, U0, c0, d0, _, _, k0⟩ := part_CT hR an 0
    obtain ⟨T1, U1, c1, d1, _, _, k1⟩ := part_CT hR an 1
    obtain ⟨x', h3, us3, fs3, g1, g2, g3, g4⟩ := SC_get (k := 3) (w := 0) (con := 0) (nm := 0) (fam := 0) (a := x1) (a' := x2) f3.1 (.inr (.inr (.inr ⟨rfl, rfl, rfl, rfl, rfl⟩))) c0 c1 hn2
    obtain ⟨t', τ3, n3, g5, g6, g7⟩ := ST_get (k := 3) (w := 0) (o := t) (v := t2) f4.1 (by omega) d0 d1 (by have := T12.2.2.2.1; have := R.2.2.1; omega) (.inr (.inr (.inr ⟨rfl, rfl, an t (by simp), an t2 (by simp)⟩))) (fun z => by omega)
    have C13 := SC_trans C12 g2
    have T13 := ST_trans T12 g6
    rw [ql] at C13 T13
    obtain ⟨qs, z1', z2', z3'⟩ := hR.2.2.1.2
    have u0 := sz_U z1' z3' an d0
    have u1 := sz_U z1' z3' an d1
    have sm2 := sum_2 qs
    have szT : tsz (tnd 3 0 U0 U1) = 1 + tsz U0 + tsz U1 := rfl
    have dpT : tdp (tnd 3 0 U0 U1) = 1 + max (tdp U0) (tdp U1) := rfl
    have eT' : T_knownB rT (v : Int) σ = some (t', τ3) := by
      rw [eT, if_neg (an t (by simp)), if_pos (an t2 (by simp))]
      exact g5
    refine ⟨t', τ3, n3, x', h3, us3, fs3, _, _, eT', eC.trans (c_arrow t3 g1), C13, T13, brk_min bC (.inl rfl), brk_min bT (.inl rfl), tR_one g4 g3 (.inr ⟨_, ⟨(by intro z; cases z), by rw [szT]; omega, by rw [dpT]; omega, by rw [szT]; omega⟩, g7⟩) (fun s => ?_)⟩
    have r4 := hR.2.2.2 s
    refine ⟨by have := r4.1; omega, fun e => ?_⟩
    rw [k0 s (by omega), k1 s (by omega)]
    exact g7
/-- A TYPE BECOMES KNOWN ALIKE -/
theorem known_rel : ∀ (k kT kC : Nat), k ≤ kT → k ≤ kC → KA G A S b m N cs K pr Ln Ls sc tb rest k (T_knownD kT) (C_1_typeOfD G kC)
  | 0, _, _, _, _ => fun lo hi alo ahi a v h us fs σ n _ _ W _ => W.elim
  | k + 1, kT + 1, kC + 1, h1, h2 => by
    have IH := known_rel k kT kC (by omega) (by omega)
    intro lo hi alo ahi a v h us fs σ n HC HU W R
    show KP (k + 1) G A S b m N cs K pr Ln Ls sc tb rest lo hi h us fs σ n (T_knownB (T_knownD kT) (v : Int) σ) (C_1_typeOfB G (C_1_typeOfD G kC) pr a Ln tb h)
    obtain ⟨w1, w2, w3, w4, w5, w6, w7, w8, w9⟩ := W
    have hS := R.1.2.2.2
    rcases w9 with ⟨j, q1, q2, q3, q4, q5, q6, q7, q8, q9, q10⟩ | ⟨j, ns, amid, q1, q2, q3, q4, q5, q6, q7, q8, q9, q10, q11, q12, q13⟩ | ⟨x, y, nx, ny, mid, amid, aend, q1, q2, q3, q4, q5, q6, q7, q8, q9, q10, q11, q12, q13⟩
    · obtain ⟨w, e1, e2, t, τ, n', e3, e4, e5⟩ := name_T (rT := T_knownD kT) HU hS (by have := R.1.2.2.1; omega) q1 q2 q3 (by have := R.2.2.1; omega)
      obtain ⟨x, h', us', fs', f1, f2, f3, f4⟩ := name_C (rC := C_1_typeOfD G kC) HC w5 (by have := R.1.2.1; omega) (by have := R.1.1; omega) (by have := R.1.2.1; omega) q6 q7 e1 (by have := R.2.2.2; omega)
      have ql : hi - lo = 1 := by omega
      have bj : brk S b m σ lo hi (tokq S j : Int) := .inr ⟨v, j, w1, w2, q2, by omega, rfl⟩
      refine ⟨t, τ, n', x, h', us', fs', _, _, e3, f1, by rw [ql]; exact f2, by rw [ql]; exact e4, ?_, ?_, tR_one f4 f3 (.inr ⟨_, ⟨(by intro z; cases z), (by show 1 + 0 + 0 ≤ hi - lo; omega), (by show 1 + max 0 0 ≤ k + 1; omega), (by show 1 + 0 + 0 ≤ 2700; omega)⟩, e5⟩) (fun s => ⟨?_, fun _ => e5⟩)⟩
      · split
        · exact .inl rfl
        · exact bj
      · split
        · exact .inl rfl
        · exact bj
      · have := s w _ e1
        by_cases c : w ∈ sc
        · rw [if_pos c, if_pos (this.mp c)]
        · rw [if_neg c, if_neg (fun z => c (this.mpr z))]
    · subst q8
      exact con_rel IH HC HU R w2 w3 w4 w5 w6 w7 w8 q1 q2 q3 q4 q6 q7 q11 q12 q13
    · exact arrow_rel IH HC HU R w1 w3 w4 w5 w6 w7 w8 q1 q2 q4 q5 q6 q7 q8 q9 q10 q11 q12 q13
  | k + 1, 0, _, h1, _ => absurd h1 (by omega)
  | k + 1, _ + 1, 0, _, h2 => absurd h2 (by omega)
end LK4
