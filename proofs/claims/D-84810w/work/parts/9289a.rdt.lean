set_option maxRecDepth 100000
/-! A TYPE THAT IS KNOWN IS READ OFF ITS NODES (the twin alone; for the third rule, which looks at nodes) -/
def RdT (S : List Int) (b : Nat) (K : KT) (σ : tS) (P : Nat → Prop) (lo hi : Nat) : Nat → Nat → Ty → Prop
  | 0, _, _ => False
  | k + 1, v, T => (lo ≤ v ∧ v < hi) ∧ ((ga σ 538 v = 0 ∧ ∃ w, P w ∧ T = tnd 0 w .leaf .leaf) ∨
    (ga σ 538 v = 1 ∧ ∃ (j kk x : Nat) (ns : List Nat) (T0 T1 : Ty), ga σ 542 v = ((b + j : Nat) : Int) ∧ tokk S j = 3 ∧ gK K (tokw S j) = some (kk, x) ∧ gW K (tokw S j) = some ns.length ∧ (chain σ (ga σ 546 v) ns ∧ ∀ x ∈ ns, lo ≤ x ∧ x < hi) ∧ T = tnd kk x T0 T1 ∧ (∀ p, ns[0]? = some p → RdT S b K σ P lo hi k p T0) ∧ (∀ p, ns[1]? = some p → RdT S b K σ P lo hi k p T1) ∧ (ns.length = 0 → T0 = .leaf) ∧ (ns.length ≤ 1 → T1 = .leaf)) ∨
    (ga σ 538 v = 3 ∧ ∃ (nx ny : Nat) (T0 T1 : Ty), ga σ 546 v = (nx : Int) ∧ ga σ 550 v = (ny : Int) ∧ T = tnd 3 0 T0 T1 ∧ RdT S b K σ P lo hi k nx T0 ∧ RdT S b K σ P lo hi k ny T1))
section LRD
variable {G : om_G} {A : Nat} {S : List Int} {b m : Nat} {N : List (List Int)} {cs : List Nat} {K : KT} {pr Ln : Nat} {Ls : List (List Int)} {sc : List Nat} {tb : Nat} {rest : List (Nat × List Nat)}
variable {h h' : om_H} {us fs us' fs' : List Nat} {σ τ : tS} {n n' q q2 lo hi alo ahi : Nat} {X XC XT : Int} {P Q : Nat → Prop}
theorem chain_eq (e : ∀ i, lo ≤ i → i < hi → ga τ 562 i = ga σ 562 i) : ∀ {ns : List Nat} {f : Int}, (∀ x ∈ ns, lo ≤ x ∧ x < hi) → chain σ f ns → chain τ f ns
  | [], _, _, c => c
  | x :: _, _, r, c => ⟨c.1, by rw [e x (r x List.mem_cons_self).1 (r x List.mem_cons_self).2]; exact chain_eq e (fun y hy => r y (List.mem_cons_of_mem _ hy)) c.2⟩
theorem RdT_eq (e : ∀ f ∈ [538, 542, 546, 550, 562], ∀ i, lo ≤ i → i < hi → ga τ f i = ga σ f i) : ∀ {k v : Nat} {T : Ty}, RdT S b K σ P lo hi k v T → RdT S b K τ P lo hi k v T
  | 0, _, _, H => H.elim
  | k + 1, v, T, H => by
    obtain ⟨⟨v1, v2⟩, H⟩ := H
    refine ⟨⟨v1, v2⟩, ?_⟩
    rcases H with ⟨h1, h2⟩ | ⟨h1, j, kk, x, ns, T0, T1, h2, h3, h4, h5, ⟨h6, h6'⟩, h7, h8, h9, h10⟩ | ⟨h1, nx, ny, T0, T1, h2, h3, h4, h5, h6⟩
    · exact .inl ⟨by rw [e 538 (by decide) v v1 v2]; exact h1, h2⟩
    · exact .inr (.inl ⟨by rw [e 538 (by decide) v v1 v2]; exact h1, j, kk, x, ns, T0, T1, by rw [e 542 (by decide) v v1 v2]; exact h2, h3, h4, h5, ⟨by rw [e 546 (by decide) v v1 v2]; exact chain_eq (e 562 (by decide)) h6' h6, h6'⟩, h7, fun p hp => RdT_eq e (h8 p hp), fun p hp => RdT_eq e (h9 p hp), h10⟩)
    · exact .inr (.inr ⟨by rw [e 538 (by decide) v v1 v2]; exact h1, nx, ny, T0, T1, by rw [e 546 (by decide) v v1 v2]; exact h2, by rw [e 550 (by decide) v v1 v2]; exact h3, h4, RdT_eq e h5, RdT_eq e h6⟩)
theorem RdT_wide {lo' hi' : Nat} (z1 : lo' ≤ lo) (z2 : hi ≤ hi') : ∀ {k v : Nat} {T : Ty}, RdT S b K σ P lo hi k v T → RdT S b K σ P lo' hi' k v T
  | 0, _, _, H => H.elim
  | k + 1, v, T, H => by
    obtain ⟨⟨v1, v2⟩, H⟩ := H
    refine ⟨⟨by omega, by omega⟩, ?_⟩
    rcases H with H | ⟨h1, j, kk, x, ns, T0, T1, h2, h3, h4, h5, ⟨h6, h6'⟩, h7, h8, h9, h10⟩ | ⟨h1, nx, ny, T0, T1, h2, h3, h4, h5, h6⟩
    · exact .inl H
    · exact .inr (.inl ⟨h1, j, kk, x, ns, T0, T1, h2, h3, h4, h5, ⟨h6, fun x hx => by have := h6' x hx; omega⟩, h7, fun p hp => RdT_wide z1 z2 (h8 p hp), fun p hp => RdT_wide z1 z2 (h9 p hp), h10⟩)
    · exact .inr (.inr ⟨h1, nx, ny, T0, T1, h2, h3, h4, RdT_wide z1 z2 h5, RdT_wide z1 z2 h6⟩)
theorem RdT_imp (i : ∀ w, P w → Q w) : ∀ {k v : Nat} {T : Ty}, RdT S b K σ P lo hi k v T → RdT S b K σ Q lo hi k v T
  | 0, _, _, H => H.elim
  | k + 1, v, T, H => by
    obtain ⟨v1, H⟩ := H
    refine ⟨v1, ?_⟩
    rcases H with ⟨h1, w, h2, h3⟩ | ⟨h1, j, kk, x, ns, T0, T1, h2, h3, h4, h5, h6, h7, h8, h9, h10⟩ | ⟨h1, nx, ny, T0, T1, h2, h3, h4, h5, h6⟩
    · exact .inl ⟨h1, w, i w h2, h3⟩
    · exact .inr (.inl ⟨h1, j, kk, x, ns, T0, T1, h2, h3, h4, h5, h6, h7, fun p hp => RdT_imp i (h8 p hp), fun p hp => RdT_imp i (h9 p hp), h10⟩)
    · exact .inr (.inr ⟨h1, nx, ny, T0, T1, h2, h3, h4, RdT_imp i h5, RdT_imp i h6⟩)
theorem ST_bp (U : KU S b m N K sc σ n) (C : ST S b m N K sc σ n τ n' q X) (e : bp τ = 2147483647) : bp σ = 2147483647 := by
  have := C.2.2.2.2
  have := U.2.2.2.2.2
  omega
theorem RdT_ST (C : ST S b m N K sc σ n τ n' q X) {k v : Nat} {T : Ty} (H : RdT S b K τ P lo hi k v T) : RdT S b K σ P lo hi k v T := RdT_eq (fun f hf i _ _ => by
  rw [← ga_ST C (f := f) (by simp only [List.mem_cons, List.not_mem_nil, or_false] at hf ⊢; omega) i]) H
/-- reading off, for all states -/
def RdA (G : om_G) (A : Nat) (S : List Int) (b m : Nat) (N : List (List Int)) (cs : List Nat) (K : KT) (pr Ln : Nat) (Ls : List (List Int)) (sc : List Nat) (tb : Nat) (rest : List (Nat × List Nat)) (k : Nat) (rT : Int → tS → Option (Int × tS)) : Prop :=
  ∀ (lo hi alo ahi a v : Nat) (h : om_H) (us fs : List Nat) (σ : tS) (n : Nat), KC G A S N cs K pr Ln Ls tb rest h us fs → KU S b m N K sc σ n → WR A S b h σ k lo hi alo ahi a v → KR S lo hi alo ahi pr tb h us fs n → ∀ (t : Int) (τ : tS) (n' : Nat), rT (v : Int) σ = some (t, τ) → KU S b m N K sc τ n' → t = -1 ∨ ∃ T, tyT τ n' T t ∧ RdT S b K σ (fun w => bp τ = 2147483647 → w ∈ sc) lo hi k v T
theorem TyS_n (H : TyS σ n) (H' : TyS σ n') : n = n' := by
  have e1 := H.1.1
  have e2 := H'.1.1
  omega
/-- parts are gone through -/
theorem parts_rd {k : Nat} {rT : Int → tS → Option (Int × tS)} {rC : Nat → Nat → Nat → Nat → om_H → Option (Nat × om_H)} (IH : KA G A S b m N cs K pr Ln Ls sc tb rest k rT rC) (IR : RdA G A S b m N cs K pr Ln Ls sc tb rest k rT) {l2 l3 l4 : Int} :
    ∀ (zs ns : List Nat) (lo alo : Nat) (h : om_H) (us fs : List Nat) (σ : tS) (n : Nat) (c o w al f : Int), KC G A S N cs K pr Ln Ls tb rest h us fs → KU S b m N K sc σ n → rows2 (WR A S b h σ k) zs ns lo hi alo ahi → chain σ f ns → KR S lo hi alo ahi pr tb h us fs n → 0 ≤ c → c + (zs.length : Int) ≤ 9000 →
    ∃ (ts : List Int) (τ : tS) (n' : Nat) (XT : Int), om_loop (T_known_161s rT l2 l3 l4) (c, o, w, al, f, σ) = some ((accF ts (c, o, w, al)).1, (accF ts (c, o, w, al)).2.1, (accF ts (c, o, w, al)).2.2.1, (accF ts (c, o, w, al)).2.2.2, τ) ∧ ST S b m N K sc σ n τ n' (hi - lo) XT ∧ ts.length = ns.length ∧ ∀ (i p : Nat) (t : Int), ns[i]? = some p → ts[i]? = some t → t = -1 ∨ ∃ T, tyT τ n' T t ∧ RdT S b K σ (fun w => bp τ = 2147483647 → w ∈ sc) lo hi k p T
  | [], [], lo, alo, h, us, fs, σ, n, c, o, w, al, f, HC, HU, W, ch, R, c0, c1 => by
    have ef : f = -1 := ch
    have el : lo = hi := W.1
    refine ⟨[], σ, n, 2147483647, ?_, ?_, rfl, fun i p t e => by simp at e⟩
    · rw [ef]
      exact om_loop_out t_part_end
    · rw [el, Nat.sub_self]; exact ST_refl HU
  | z :: zs, v :: ns, lo, alo, h, us, fs, σ, n, c, o, w, al, f, HC, HU, ⟨mid, amid, W, Wr⟩, ⟨ch1, ch2⟩, R, c0, c1 => by
    have wi := WR_in W
    have ri := rows2_in (fun w => WR_in w) Wr
    have R0 := KR_sub R (Nat.le_refl _) ri.1 (Nat.le_refl _) ri.2.1
    obtain ⟨t, τ, n', x, h', us', fs', XC, XT, e1, e2, e3, e4, e5, e6, e7⟩ := IH lo mid alo amid z v h us fs σ n HC HU W R0
    have er := IR lo mid alo amid z v h us fs σ n HC HU W R0 t τ n' e1 e4.1
    have hv : v < 8400 := by have := R.1.2.2.1; omega
    have Wr' := rows_ST (dj_sub R.2.1 (show alo ≤ amid by omega) (Nat.le_refl _)) e3 R.1.2.1 e4 Wr
    have ch' : chain τ (ga τ 562 v) ns := by
      rw [ga_ST e4 (by decide)]
      exact chain_keep ch2 (fun y _ => ga_ST e4 (by decide) y)
    have R' := KR_next (lo' := mid) (alo' := amid) R e3 e4 (by omega) (by omega) (by omega)
    have st := t_part (rT := rT) (l2 := l2) (l3 := l3) (l4 := l4) (m := c) (o := o) (w := w) (al := al) (by simp at c1; omega) hv e1
    obtain ⟨ts, τ2, n2, XT2, f1, f4, f8, f9⟩ := parts_rd IH IR zs ns mid amid h' us' fs' τ n' (c + 1) (if c ≠ 0 then o else t) (if c ≠ 0 then t else w) (if al = 0 then 0 else if t = -1 then 0 else 1) (ga τ 562 v) e3.1 e4.1 Wr' ch' R' (by omega) (by simp at c1; omega)
    have ql : mid - lo + (hi - mid) = hi - lo := by omega
    refine ⟨t :: ts, τ2, n2, min XT XT2, ?_, ?_, by simp [f8], fun i p t' q1 q2 => ?_⟩
    · rw [ch1, om_loop_in st, f1]
      rfl
    · have := ST_trans e4 f4
      rw [ql] at this; exact this
    · cases i with
      | zero =>
        simp at q1 q2
        rw [← q1, ← q2]
        rcases er with z | ⟨T, z1, z2⟩
        · exact .inl z
        · exact .inr ⟨T, tyT_mono f4.2.2.1 z1, RdT_imp (fun w q e => q (ST_bp e4.1 f4 e)) (RdT_wide (Nat.le_refl _) ri.1 z2)⟩
      | succ i =>
        simp only [List.getElem?_cons_succ] at q1 q2
        rcases f9 i p t' q1 q2 with z | ⟨T, z1, z2⟩
        · exact .inl z
        · exact .inr ⟨T, z1, RdT_wide (by omega) (Nat.le_refl _) (RdT_ST e4 z2)⟩
  | [], _ :: _, _, _, _, _, _, _, _, _, _, _, _, _, _, _, W, _, _, _, _ => W.elim
  | _ :: _, [], _, _, _, _, _, _, _, _, _, _, _, _, _, _, W, _, _, _, _ => W.elim
set_option maxHeartbeats 1000000 in
theorem con_rd {k : Nat} {rT : Int → tS → Option (Int × tS)} {rC : Nat → Nat → Nat → Nat → om_H → Option (Nat × om_H)} (IH : KA G A S b m N cs K pr Ln Ls sc tb rest k rT rC) (IR : RdA G A S b m N cs K pr Ln Ls sc tb rest k rT) (HC : KC G A S N cs K pr Ln Ls tb rest h us fs) (HU : KU S b m N K sc σ n) (R : KR S lo hi alo ahi pr tb h us fs n) {a j amid : Nat} {ns : List Nat} (w2 : lo < hi) (q1 : ga σ 538 lo = 1) (q2 : ga σ 542 lo = ((b + j : Nat) : Int)) (q3 : tokk S j = 3) (q11 : alo ≤ amid) (q12 : chain σ (ga σ 546 lo) ns) (q13 : rows2 (WR A S b h σ k) (ll h (fR h 1274 a)) ns (lo + 1) hi amid ahi) {t : Int} {τ : tS} {n' : Nat} (E : T_knownB rT (lo : Int) σ = some (t, τ)) (Y : KU S b m N K sc τ n') : t = -1 ∨ ∃ T, tyT τ n' T t ∧ RdT S b K σ (fun w => bp τ = 2147483647 → w ∈ sc) lo hi (k + 1) lo T := by
  obtain ⟨w, v1, v2, v3⟩ := t_nameAt HU.2.1 (.inr q3)
  have wl := (HU.2.2.1 w _ v2).1
  have h84 := R.1.2.2.1
  have len := rows2_cnt (fun w => WR_in w) q13
  have len2 := rows2_len q13
  have R1 : KR S (lo + 1) hi amid ahi pr tb h us fs n := KR_sub R (by omega) (Nat.le_refl _) q11 (Nat.le_refl _)
  obtain ⟨ts, τ1, n1, XTp, e1, e4, e8, e9⟩ := parts_rd (l2 := ((b + j : Nat) : Int)) (l3 := ga σ 630 w) (l4 := ga σ 634 w) IH IR _ ns (lo + 1) amid h us fs σ n 0 (-1) (-1) 1 (ga σ 546 lo) HC HU q13 q12 R1 (by omega) (by omega)
  have eT : T_knownB rT (lo : Int) σ = if ga σ 630 w = 1 then T_known_234 rT ((b + j : Nat) : Int) (ga σ 630 w) (ga σ 634 w) (accF ts (0, -1, -1, 1)).1 (accF ts (0, -1, -1, 1)).2.1 (accF ts (0, -1, -1, 1)).2.2.1 (accF ts (0, -1, -1, 1)).2.2.2 τ1 else if ga σ 630 w ≠ 3 then T_known_253 rT ((b + j : Nat) : Int) τ1 else T_known_234 rT ((b + j : Nat) : Int) (ga σ 630 w) (ga σ 634 w) (accF ts (0, -1, -1, 1)).1 (accF ts (0, -1, -1, 1)).2.1 (accF ts (0, -1, -1, 1)).2.2.1 (accF ts (0, -1, -1, 1)).2.2.2 τ1 := by
    unfold T_knownB
    rw [if_pos (by omega), show ((lo : Int)).toNat = lo by omega, q1, if_pos (by decide), if_pos (by omega), if_pos (by decide), q2, v1, Option.bind_some, if_pos (by omega), Option.bind_some, if_pos (by omega), show ((w : Int)).toNat = w by omega, e1, Option.bind_some]
  have eacc := accF_len ts (0, -1, -1, 1)
  obtain ⟨t0a, t0b⟩ := con_T0 (rT := rT) (τ := τ1) (c := (accF ts (0, -1, -1, 1)).1) (o := (accF ts (0, -1, -1, 1)).2.1) (u := (accF ts (0, -1, -1, 1)).2.2.1) (al := (accF ts (0, -1, -1, 1)).2.2.2) (tok := ((b + j : Nat) : Int)) HU.2.2.1 v2
  have r253 : T_knownB rT (lo : Int) σ = T_known_253 rT ((b + j : Nat) : Int) τ1 → t = -1 := fun z => by
    rw [z] at E
    unfold T_known_253 at E
    obtain ⟨τ2, i1, i2⟩ := ST_breaks e4.1 (j := j) (by omega) R.1.2.2.2
    rw [i1] at E
    exact ((Prod.mk.inj (Option.some.inj E)).1).symm
  by_cases ok : gW K (tokw S j) = some ns.length
  · obtain ⟨⟨kk, x⟩, qk⟩ : ∃ p, gK K (tokw S j) = some p := by
      cases q : gK K (tokw S j) with
      | none => rw [(t0a q).1] at ok; cases ok
      | some p => exact ⟨p, rfl⟩
    obtain ⟨k12, p, p1, p2, p3⟩ := t0b kk x qk
    have pe : p = ns.length := by rw [ok] at p1; exact (Option.some.inj p1).symm
    obtain ⟨a1, a2⟩ := accF_2 (ts := ts) (by omega)
    rw [p3, if_pos (by rw [eacc]; simp; omega)] at eT
    have ea1 : (accF ts (0, -1, -1, 1)).2.1 = ts.getD 0 (-1) := by rw [a1]
    have ea2 : (accF ts (0, -1, -1, 1)).2.2.1 = ts.getD 1 (-1) := by rw [a1]
    rw [ea1, ea2] at eT
    by_cases al : (accF ts (0, -1, -1, 1)).2.2.2 = 0
    · rw [if_pos al] at eT
      rw [eT] at E
      exact .inl ((Prod.mk.inj (Option.some.inj E)).1).symm
    · rw [if_neg al] at eT
      have an : ∀ t ∈ ts, t ≠ -1 := fun t ht q => al (a2.mpr ⟨t, ht, q⟩)
      have prt : ∀ i, ∃ U, tyT τ1 n1 U (ts.getD i (-1)) ∧ (∀ p, ns[i]? = some p → RdT S b K σ (fun w => bp τ1 = 2147483647 → w ∈ sc) (lo + 1) hi k p U) ∧ (ns.length ≤ i → U = .leaf) := fun i => by
        rcases Nat.lt_or_ge i ns.length with z | z
        · have zt : i < ts.length := by omega
          have e2 : ts.getD i (-1) = ts[i] := by rw [List.getD_eq_getElem?_getD, List.getElem?_eq_getElem zt]; rfl
          rcases e9 i ns[i] ts[i] (List.getElem?_eq_getElem z) (List.getElem?_eq_getElem zt) with s | ⟨T, s1, s2⟩
          · exact absurd s (an _ (List.getElem_mem zt))
          · exact ⟨T, by rw [e2]; exact s1, fun p hp => by rw [List.getElem?_eq_getElem z] at hp; rw [← Option.some.inj hp]; exact s2, fun q => by omega⟩
        · have e2 : ts.getD i (-1) = -1 := by rw [List.getD_eq_getElem?_getD, List.getElem?_eq_none (by omega)]; rfl
          exact ⟨.leaf, by rw [e2]; rfl, fun p hp => (by rw [List.getElem?_eq_none z] at hp; cases hp), fun _ => rfl⟩
      obtain ⟨U0, d0, g0, l0⟩ := prt 0
      obtain ⟨U1, d1, g1, l1⟩ := prt 1
      obtain ⟨t2, τ2, n2, g5, g6, g7⟩ := ST_get (k := kk) (w := x) e4.1 (by omega) d0 d1 (by have := e4.2.2.2.1; have := R.2.2.1; omega) (by
        have gs := gK_sh qk p1
        have tl : ts.length = p := by omega
        obtain ⟨s1, s2⟩ := ts_sh an
        unfold shZ
        simp only [ne_eq, s1, s2, tl]
        rcases gs with ⟨q1, q2, q3⟩ | ⟨q1, q2⟩
        · unfold pN at q3
          split at q3 <;> omega
        · omega) (fun k2 => gK_fm qk k2)
      rw [eT, g5] at E
      obtain ⟨E1, E2⟩ := Prod.mk.inj (Option.some.inj E)
      subst E1; subst E2
      rw [TyS_n Y.1.1 g6.1.1.1]
      exact .inr ⟨_, g7, ⟨Nat.le_refl _, w2⟩, .inr (.inl ⟨q1, j, kk, x, ns, U0, U1, q2, q3, qk, ok, ⟨q12, fun y hy => by have := (rows2_in (fun w => WR_in w) q13).2.2.1 y hy; omega⟩, rfl, fun p hp => RdT_imp (fun w q e => q (ST_bp e4.1 g6 e)) (RdT_wide (Nat.le_succ _) (Nat.le_refl _) (g0 p hp)), fun p hp => RdT_imp (fun w q e => q (ST_bp e4.1 g6 e)) (RdT_wide (Nat.le_succ _) (Nat.le_refl _) (g1 p hp)), fun z => l0 (by omega), fun z => l1 z⟩)⟩
  · refine .inl (r253 ?_)
    cases q : gK K (tokw S j) with
    | none => rw [eT]; exact (t0a q).2
    | some p =>
      obtain ⟨k12, pp, p1, p2, p3⟩ := t0b p.1 p.2 q
      rw [eT, p3, if_neg (fun z => ok (by rw [p1]; congr 1; rw [eacc] at z; simp at z; omega))]
/-- A TYPE THAT IS KNOWN IS READ OFF ITS NODES -/
theorem rd_known : ∀ (k kT kC : Nat), k ≤ kT → k ≤ kC → RdA G A S b m N cs K pr Ln Ls sc tb rest k (T_knownD kT)
  | 0, _, _, _, _ => fun lo hi alo ahi a v h us fs σ n _ _ W _ => W.elim
  | k + 1, kT + 1, kC + 1, h1, h2 => by
    have IH := known_rel (G := G) (A := A) (S := S) (b := b) (m := m) (N := N) (cs := cs) (K := K) (pr := pr) (Ln := Ln) (Ls := Ls) (sc := sc) (tb := tb) (rest := rest) k kT kC (by omega) (by omega)
    have IR := rd_known k kT kC (by omega) (by omega)
    intro lo hi alo ahi a v h us fs σ n HC HU W R t τ n' E Y
    have E' : T_knownB (T_knownD kT) (v : Int) σ = some (t, τ) := E
    obtain ⟨w1, w2, w3, w4, w5, w6, w7, w8, w9⟩ := W
    have hS := R.1.2.2.2
    have h84 := R.1.2.2.1
    rcases w9 with ⟨j, q1, q2, q3, q4, q5, q6, q7, q8, q9, q10⟩ | ⟨j, ns, amid, q1, q2, q3, q4, q5, q6, q7, q8, q9, q10, q11, q12, q13⟩ | ⟨x, y, nx, ny, mid, amid, aend, q1, q2, q3, q4, q5, q6, q7, q8, q9, q10, q11, q12, q13⟩
    · obtain ⟨w, e1, e2, t2, τ2, n2, e3, e4, e5⟩ := name_T (rT := T_knownD kT) HU hS (by omega) q1 q2 q3 (by have := R.2.2.1; omega)
      rw [e3] at E'
      obtain ⟨E1, E2⟩ := Prod.mk.inj (Option.some.inj E')
      subst E1; subst E2
      rw [TyS_n Y.1.1 e4.1.1.1]
      refine .inr ⟨_, e5, ⟨w1, w2⟩, .inl ⟨q1, w, fun nb => Classical.byContradiction (fun c => ?_), rfl⟩⟩
      have b1 := e4.2.2.2.2
      rw [if_neg c, nb] at b1
      have b2 := tok_le S j
      have b3 := HU.2.2.2.2.2
      omega
    · subst q8
      exact con_rd IH IR HC HU R w2 q1 q2 q3 q11 q12 q13 E' Y
    · have i1 := WR_in q8
      have i2 := WR_in q9
      have R0 : KR S lo mid alo amid pr tb h us fs n := KR_sub R (Nat.le_refl _) (by omega) (Nat.le_refl _) (by omega)
      obtain ⟨t1, τ1, n1, x1, h1', us1, fs1, XC1, XT1, e1, e2, e3, e4, e5, e6, e7⟩ := IH lo mid alo amid x nx h us fs σ n HC HU q8 R0
      have er := IR lo mid alo amid x nx h us fs σ n HC HU q8 R0 t1 τ1 n1 e1 e4.1
      have R1 : KR S mid v aend ahi pr tb h1' us1 fs1 n1 := KR_sub (KR_next (lo' := mid) (alo' := aend) R e3 e4 (by omega) (by omega) (by omega)) (Nat.le_refl _) (by omega) (Nat.le_refl _) (Nat.le_refl _)
      have W1 := WR_ST (dj_sub R.2.1 (show alo ≤ aend by omega) (Nat.le_refl _)) e3 R.1.2.1 e4 q9
      obtain ⟨t2, τ2, n2, x2, h2', us2, fs2, XC2, XT2, f1, f2, f3, f4, f5, f6, f7⟩ := IH mid v aend ahi y ny h1' us1 fs1 τ1 n1 e3.1 e4.1 W1 R1
      have fr' := IR mid v aend ahi y ny h1' us1 fs1 τ1 n1 e3.1 e4.1 W1 R1 t2 τ2 n2 f1 f4.1
      have eT : T_knownB (T_knownD kT) (v : Int) σ = if t1 = -1 then some (-1, τ2) else if t2 ≠ -1 then T_aType 3 0 t1 t2 τ2 else some (-1, τ2) := by
        unfold T_knownB
        rw [if_pos (by omega), show ((v : Int)).toNat = v by omega, q1, if_pos (by decide), if_pos (by omega), if_neg (by decide), if_pos (by omega), q5, e1, Option.bind_some, if_pos (by omega), ga_ST e4 (by decide), q6, f1, Option.bind_some]
        by_cases z : t1 = -1
        · rw [if_pos z, if_pos z]; rfl
        · rw [if_neg z, if_neg z]
          by_cases z2 : t2 ≠ -1
          · rw [if_pos z2, if_pos z2]
            cases T_aType 3 0 t1 t2 τ2 <;> rfl
          · rw [if_neg z2, if_neg z2]; rfl
      rw [eT] at E'
      by_cases z : t1 = -1
      · rw [if_pos z] at E'
        exact .inl ((Prod.mk.inj (Option.some.inj E')).1).symm
      · rw [if_neg z] at E'
        by_cases z2 : t2 ≠ -1
        · rw [if_pos z2] at E'
          rcases er with s | ⟨U0, s1, s2⟩
          · exact absurd s z
          rcases fr' with s' | ⟨U1, s3, s4⟩
          · exact absurd s' z2
          have T12 := ST_trans e4 f4
          obtain ⟨t', τ3, n3, g5, g6, g7⟩ := ST_get (k := 3) (w := 0) (o := t1) (v := t2) f4.1 (by omega) (tyT_mono f4.2.2.1 s1) s3 (by have := T12.2.2.2.1; have := R.2.2.1; omega) (.inr (.inr (.inr ⟨rfl, rfl, z, z2⟩))) (fun z => by omega)
          have g5' : T_aType 3 0 t1 t2 τ2 = some (t', τ3) := g5
          rw [g5'] at E'
          obtain ⟨E1, E2⟩ := Prod.mk.inj (Option.some.inj E')
          subst E1; subst E2
          rw [TyS_n Y.1.1 g6.1.1.1]
          exact .inr ⟨_, g7, ⟨w1, w2⟩, .inr (.inr ⟨q1, nx, ny, U0, U1, q5, q6, rfl, RdT_imp (fun w q e => q (ST_bp e4.1 f4 (ST_bp f4.1 g6 e))) (RdT_wide (Nat.le_refl _) (by omega) s2), RdT_imp (fun w q e => q (ST_bp f4.1 g6 e)) (RdT_wide (by omega) (by omega) (RdT_ST e4 s4))⟩)⟩
        · rw [if_neg z2] at E'
          exact .inl ((Prod.mk.inj (Option.some.inj E')).1).symm
  | k + 1, 0, _, h1, _ => absurd h1 (by omega)
  | k + 1, _ + 1, 0, _, h2 => absurd h2 (by omega)
end LRD
/-- the names of a type are of a row -/
def nmIn (ns : List Nat) : Ty → Prop
  | .leaf => True
  | .inner k w _ l r => (k = 0 → w ∈ ns) ∧ nmIn ns l ∧ nmIn ns r
theorem RdT_nm {S : List Int} {b : Nat} {K : KT} {σ : tS} {P : Nat → Prop} {lo hi : Nat} {nr : List Nat} (i : ∀ w, P w → w ∈ nr) : ∀ {k v : Nat} {T : Ty}, RdT S b K σ P lo hi k v T → nmIn nr T
  | 0, _, _, H => H.elim
  | k + 1, v, T, H => by
    obtain ⟨v1, H⟩ := H
    rcases H with ⟨h1, w, h2, h3⟩ | ⟨h1, j, kk, x, ns, T0, T1, h2, h3, h4, h5, h6, h7, h8, h9, h10, h11⟩ | ⟨h1, nx, ny, T0, T1, h2, h3, h4, h5, h6⟩
    · rw [h3]
      exact ⟨fun _ => i w h2, trivial, trivial⟩
    · rw [h7]
      refine ⟨fun z => ?_, ?_, ?_⟩
      · have := gK_sh h4 h5
        omega
      · cases q : ns[0]? with
        | none => rw [h10 (by have := List.getElem?_eq_none_iff.mp q; omega)]; trivial
        | some p => exact RdT_nm i (h8 p q)
      · cases q : ns[1]? with
        | none => rw [h11 (by have := List.getElem?_eq_none_iff.mp q; omega)]; trivial
        | some p => exact RdT_nm i (h9 p q)
    · rw [h4]
      exact ⟨fun z => absurd z (by decide), RdT_nm i h5, RdT_nm i h6⟩
