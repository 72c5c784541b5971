set_option maxRecDepth 100000
/-! THE PROGRAM AS PLAIN DATA: insts' rows -/
def InTw (σ : tS) (n C i : Nat) (d : INs) : Prop := (ga σ 694 i = (d.1 : Int) ∧ d.1 < C) ∧ (ga σ 698 i = (d.2.1 : Int) ∧ d.2.1 ≤ 3) ∧ (ga σ 702 i = (d.2.2.1.length : Int) ∧ d.2.2.1.length = pN d.2.1 ∧ ∀ (j w : Nat), d.2.2.1[j]? = some w → ga σ 706 (2 * i + j) = (w : Int)) ∧ (ga σ 710 i = (d.2.2.2.1.length : Int) ∧ d.2.2.2.1.length ≤ 4 ∧ ∀ (j : Nat) (c : Nat × Nat), d.2.2.2.1[j]? = some c → ga σ 714 (4 * i + j) = (c.1 : Int) ∧ ga σ 718 (4 * i + j) = (c.2 : Int) ∧ c.1 < C ∧ c.2 < d.2.2.1.length) ∧ tyT σ n d.2.2.2.2 (ga σ 722 i)
/-- a line, read and known: the object x, the node o; its method's name and its place -/
def LnR (G : om_G) (A : Nat) (S : List Int) (b : Nat) (N : List (List Int)) (cs : List Nat) (fo : List Nat) (F : FT) (mo : List (List Nat)) (Ms : List FT) (nlo z0 Z M hzr : Nat) (h : om_H) (ul : List Nat) (τ : tS) (n : Nat) (ls ns : List Nat) (k x o w pl : Nat) : Prop := (x ≠ 0 ∧ x < hz h ∧ kd h x = 23) ∧ (wN h N w (fR h 1362 x) ∧ fI h 1188 (fR h 1362 x) = (pl : Int)) ∧ (o < 8400 ∧ ∃ t : Nat, ga τ 542 o = (t : Int) ∧ t < 4100 ∧ ga τ 482 t = (w : Int) ∧ w < 2100 ∧ ga τ 474 t = (pl : Int) ∧ pl ≤ 2000 ∧ ga τ 538 o = 22) ∧ ∃ (lo hi al ah p z1 : Nat), ((nlo ≤ lo ∧ lo < hi) ∧ o < M ∧ z0 ≤ al ∧ ah ≤ hzr ∧ Z ≤ z1 ∧ lnO ls ns z0 k x o lo hi al ah) ∧ ga τ 546 o = (p : Int) ∧ XS G A S b h τ (Psi1 S b N cs [] fo F mo Ms z1 h ul τ n) 100 0 lo hi al ah (fR h 1366 x) p
theorem idx_get {w : Nat} {l : List Nat} (h : w ∈ l) : l[l.idxOf w]? = some w := by
  have lt := List.idxOf_lt_length_iff.mpr h
  rw [List.getElem?_eq_getElem lt, List.getElem_idxOf lt]
theorem idx_first {w : Nat} : ∀ {l : List Nat} {k : Nat}, k < l.idxOf w → l[k]? ≠ some w
  | [], k, h => by cases h
  | x :: l, k, h => by
    rw [List.idxOf_cons] at h
    by_cases c : x = w
    · rw [show (x == w) = true by simpa using c] at h
      cases h
    · rw [show (x == w) = false by simpa using c] at h
      have h : k < List.idxOf w l + 1 := h
      cases k with
      | zero => exact fun z => c (Option.some.inj z)
      | succ k => exact idx_first (l := l) (k := k) (by omega)
theorem cnI_3 {L : List Int} {c : Nat} (e : cnI L = some c) : c ≤ 3 := by
  unfold cnI at e
  repeat' split at e
  all_goals first | (have := Option.some.inj e; omega) | cases e
section LP3
variable {G : om_G} {A : Nat} {S : List Int} {b m : Nat} {N : List (List Int)} {pr tb z0 : Nat} {cs fo : List Nat} {mo : List (List Nat)} {K : KT} {F : FT} {Ms : List FT} {hr : om_H} {σr : tS} {M : Nat} {qs : List dcl} {ps : List PD} {rs : List (Nat × Nat × Nat × Nat)} {h : om_H} {ul fl : List Nat} {τ : tS} {n : Nat} {Sl : Nat → Prop}
/-- the declaration of an inst -/
theorem RA_in (R : RA G A S b m N pr tb z0 cs fo mo K F Ms hr σr M qs ps rs h ul fl τ n) {f : Nat} (hf : f < (pss S ps).2.2.2.2.2) : ∃ (i : Nat) (q : dcl) (p : PD) (r : Nat × Nat × Nat × Nat), (qs[i]? = some q ∧ ps[i]? = some p ∧ rs[i]? = some r ∧ p.1 = 6 ∧ q.2.2 = p.2.1) ∧ ((sAt S ps ([], [], [], [], [], 0) i).2.2.2.2.2 = f ∧ f < 20) ∧ (prgL hr qs (fun _ => []) 86)[f]? = some q.2.1 ∧ insR G A S b hr σr r.1 r.2.1 r.2.2.1 r.2.2.2 q.2.1 i p.2.1 (f : Int) ∧ (z0 ≤ r.2.2.1 ∧ r.2.2.2 ≤ hz hr ∧ r.2.1 ≤ M) ∧ ga τ 690 f = (i : Int) ∧ ∃ (j1 jc jn c0 c1 : Nat) (ns : List Nat), (FI Prod.fst (tokw S jc) K = some c0 ∧ ga τ 694 f = (c0 : Int)) ∧ (cnI (tokw S jn) = some c1 ∧ ga τ 698 f = (c1 : Int)) ∧ chain τ (ga τ 602 i) ns ∧ (∃ y0 y1, wrow A S hr y0 y1 j1 (ll hr (fR hr 162 (fR hr 1286 q.2.1))) ∧ ((List.range' j1 (ll hr (fR hr 162 (fR hr 1286 q.2.1))).length).map (tokw S)).Nodup) ∧ InK G A S b N cs K [] fo F mo Ms h ul τ n q.2.1 f i (hz hr) r.1 r.2.1 r.2.2.1 r.2.2.2 jc jn ((List.range' j1 (ll hr (fR hr 162 (fR hr 1286 q.2.1))).length).map (tokw S)) (ll hr (fR hr 166 (fR hr 1286 q.2.1))) (ll hr (fR hr 1326 q.2.1)) ns := by
  obtain ⟨⟨r1, r2, r3, r4, r4'⟩, ⟨r5, r6, r7, r8, r8'⟩, ⟨e1, e2, e3, e4, e5, e6⟩, r9, ⟨r10, r11, r12⟩, ⟨r13, r14, r15, r16⟩, r17, r18, r19, r20⟩ := R
  obtain ⟨i, p, ep, p6, es⟩ := in_ix (S := S) (ps := ps) (s := ([], [], [], [], [], 0)) hf (Nat.zero_le _)
  have il := (List.getElem?_eq_some_iff.mp ep).1
  have eq : qs[i]? = some (qs[i]'(by omega)) := List.getElem?_eq_getElem (by omega)
  have rl := prR_len r5
  have er : rs[i]? = some (rs[i]'(by omega)) := List.getElem?_eq_getElem (by omega)
  generalize qs[i]'(by omega) = q at eq
  generalize rs[i]'(by omega) = r at er
  obtain ⟨⟨q1, q2, q3⟩, a0, amid, ar, D⟩ := prC_at r1 r2 r6 (Nat.le_refl _) LS_nil eq ep
  obtain ⟨g1, g2, g3⟩ := prR_at r5 eq er
  have pb := psA_at r17 ep
  have rw' := rwT_at r14 ep
  rw [Nat.zero_add] at g2 g3 rw'
  unfold psB at pb
  rw [if_neg (by omega), if_pos p6] at pb
  have h20 : (sAt S ps ([], [], [], [], [], 0) i).2.2.2.2.2 < 20 := Classical.byContradiction (fun w => by rw [if_neg w] at pb; cases pb)
  rcases D with ⟨d1, _⟩ | ⟨d1, d2, d3⟩ | ⟨d1, _⟩
  · omega
  rotate_left
  · omega
  have ft := inT_at r19 eq ep er d1 h20
  rw [Nat.zero_add, es] at ft
  have g3' : insR G A S b hr σr r.1 r.2.1 r.2.2.1 r.2.2.2 q.2.1 i p.2.1 ((prgL hr (qs.take i) (fun _ => []) 86).length : Int) := by
    rcases g3 with ⟨w, _⟩ | ⟨_, g3⟩ | ⟨w, _⟩
    · omega
    · rw [← q2]; exact g3
    · omega
  have nb : ((prgL hr (qs.take i) (fun _ => []) 86).length : Int) = (f : Int) := by
    obtain ⟨so, Lsa, Lg, Lh, Ll, cn, con, fam, fw, j1, jc, jn, m1, m2, g0, g1, g2, am, first, xs, os, ws, lsA, ns, dv, dv', b1, b2, _⟩ := id g3'
    have := b2.1.2.2.1
    have h2 := d2.2.2.2
    rw [es] at h2
    omega
  rw [nb] at g3'
  exact ⟨i, q, p, r, ⟨eq, ep, er, d1, q2⟩, ⟨es, by omega⟩, by rw [← es]; exact d3, g3', ⟨by omega, g1.2.2.2.2.2, g1.2.2.1⟩, by have := rw'.2.1 d1 h20; rw [es] at this; exact this, ft⟩
/-- AN INST'S ROW AS PLAIN DATA -/
theorem in_el (R : RA G A S b m N pr tb z0 cs fo mo K F Ms hr σr M qs ps rs h ul fl τ n) (hSl : ∀ y, z0 ≤ y → y < hz h → kd h y = 42 → ¬ HdL hr qs y → Sl y) {f : Nat} (hf : f < (pss S ps).2.2.2.2.2) : f < 20 ∧ ∃ (i : Nat) (q : dcl) (p : PD) (r : Nat × Nat × Nat × Nat) (d : INs) (jc : Nat) (fam : Option Nat) (lns : List (Nat × Nat)) (ns : List Nat), (qs[i]? = some q ∧ ps[i]? = some p ∧ rs[i]? = some r ∧ p.1 = 6 ∧ (sAt S ps ([], [], [], [], [], 0) i).2.2.2.2.2 = f) ∧ (prgL hr qs (fun _ => []) 86)[f]? = some q.2.1 ∧ InTw τ n K.length f d ∧ InC h N (clF cs) (UU ul []) Sl d f q.2.1 ∧ (fI h 1304 q.2.1 = (d.2.1 : Int) ∧ tyC h N (clF cs) (UU ul []) (tnd 1 d.2.1 (hdN d.2.2.1 0) (hdN d.2.2.1 1)) (fR h 1318 q.2.1) ∧ (∀ c ∈ d.2.2.2.1, ∀ k, k < c.2 → d.2.2.1[k]? ≠ d.2.2.1[c.2]?) ∧ (d.2.2.2.2 ≠ .leaf → tyM d.2.2.2.2)) ∧ (ga τ 690 f = (i : Int) ∧ fI h 1276 q.2.1 = (tokq S p.2.1 : Int) ∧ 0 < fR h 162 (fR h 1286 q.2.1)) ∧ ((fR h 1290 q.2.1 < hz h ∧ kd h (fR h 1290 q.2.1) = 17 ∧ fI h 1188 (fR h 1290 q.2.1) = (tokq S jc : Int)) ∧ ga τ 578 i = ((b + jc : Nat) : Int) ∧ tokk S jc = 3) ∧ ((fam = none ∧ fR h 1298 q.2.1 = 0 ∧ fR h 1310 q.2.1 = 0 ∧ ga τ 610 i = -1 ∧ d.2.2.2.2 = .leaf) ∨ ∃ (w jf lo' hi' a1 a2 p' : Nat), fam = some w ∧ (fR h 1298 q.2.1 ≠ 0 ∧ fR h 1310 q.2.1 ≠ 0 ∧ wN h N w (fR h 1298 q.2.1)) ∧ ga τ 610 i = ((b + jf : Nat) : Int) ∧ (tokk S jf = 3 ∧ N[w]? = some (tokw S jf) ∧ FI Prod.snd (tokw S jf) K ≠ none) ∧ d.2.2.2.2 ≠ .leaf ∧ ga τ 614 i = (p' : Int) ∧ (hi' ≤ M ∧ z0 ≤ a1 ∧ a2 ≤ hz hr) ∧ WR A S b h τ 59 lo' hi' a1 a2 (fR h 1310 q.2.1) p' ∧ RdT S b K τ (fun w => w ∈ d.2.2.1) lo' hi' 59 p' d.2.2.2.2) ∧ (Sl (fR h 1326 q.2.1) ∧ fR h 1326 q.2.1 < hz h ∧ kd h (fR h 1326 q.2.1) = 42 ∧ (ll h (fR h 1326 q.2.1)).length = lns.length ∧ chain τ (ga τ 602 i) ns ∧ ns.length = lns.length ∧ lns.length ≤ 2700) ∧ (fR h 1322 q.2.1 < hz h ∧ kd h (fR h 1322 q.2.1) = 42 ∧ ll h (fR h 1322 q.2.1) = [] ∧ (HdL hr qs (fR h 1322 q.2.1) ∧ r.2.2.1 ≤ fR h 1322 q.2.1 ∧ fR h 1322 q.2.1 < r.2.2.2) ∧ (fR h 1334 q.2.1 = 0 ∧ r.2.2.1 ≤ fR h 1286 q.2.1 ∧ fR h 1286 q.2.1 < r.2.2.2 ∧ (r.2.2.1 ≤ q.2.1 ∧ q.2.1 < r.2.2.2) ∧ ∀ x ∈ ll h (fR h 1326 q.2.1), q.2.1 < x) ∧ (ll h (fR h 166 (fR h 1286 q.2.1))).Nodup ∧ ∀ x ∈ ll h (fR h 166 (fR h 1286 q.2.1)), (r.2.2.1 ≤ x ∧ x < r.2.2.2) ∧ fR h 1358 x = 0) ∧ ∀ (k x o : Nat) (y : Nat × Nat), (ll h (fR h 1326 q.2.1))[k]? = some x → ns[k]? = some o → lns[k]? = some y → LnR G A S b N cs fo F mo Ms r.1 r.2.2.1 (hz hr) r.2.1 r.2.2.2 h ul τ n (ll h (fR h 1326 q.2.1)) ns k x o y.1 y.2 := by
  obtain ⟨i, q, p, r, ⟨k1, k2, k3, k5, k7⟩, ⟨k8, k9⟩, k10, W, ⟨rg1, rg2, rg3⟩, k11, j1, jc, jn, c0, c1, ns, ⟨u1, u2⟩, ⟨u3, u4⟩, u5, ⟨y0, y1, u6, _⟩, sc, c0', c1', ⟨v1, v2⟩, ⟨v3, v4, v5⟩, B, ⟨v6, v7⟩, ⟨v8, v9, v10⟩, ⟨v11, v12⟩, v13, v14⟩ := RA_in R hf
  have hq6 : q.1 = 6 := (prC_at R.1.1 R.1.2.1 R.2.1.2.1 (Nat.le_refl _) LS_nil k1 k2).1.1.trans k5
  have ec0 : c0' = c0 := Option.some.inj (v1.symm.trans u1)
  have ec1 : c1' = c1 := Option.some.inj (v3.symm.trans u3)
  subst ec0 ec1
  obtain ⟨so, Lsa, Lg, Lh, Ll, cn, con, fam, fw, j1', jc', jn', m1, m2, g0, g1, g2, am, first, xs, os, ws, lsA, ns', dv, dv', ⟨⟨s1, s2, s3⟩, ⟨s4, s5, _⟩, ⟨s6, s7⟩, s8, s9, s10⟩, ⟨⟨o1, o2, o3, o4, o5, o6, o7, o8, o9, o10⟩, o11⟩, b3, b4, ⟨l1, l2, l3⟩, b6, ⟨l4, l5, l6, l7, l8⟩, b8, b9, ⟨r1, r2, r3, r4, r5, r6, r7, r8, r9, r10, r11, r12, r13⟩⟩ := W
  have hzz := R.2.2.2.2.1.2.1
  have z00 := R.1.2.2.1
  have hs0 := R.2.2.2.2.1.1
  have FR := R.2.2.2.2.2.1.2.2.2.2
  have PAe := R.2.2.2.2.2.1.2.2.2.1
  have gi := grows_in s8
  have li := lrows_in l6
  obtain ⟨x1, x2, x3, x4⟩ := hs0 q.2.1 (by omega) (by omega)
  have e162 : fR hr 162 (fR hr 1286 q.2.1) = Lsa := by rw [o4, s2]
  have e166 : fR hr 166 (fR hr 1286 q.2.1) = Lg := by rw [o4, s3]
  rw [e162, l2] at u6 B v6 v4
  rw [e166, s7] at v8 v9 v10
  rw [o10, l5] at v14
  have Lsl : ((List.range' j1 ws.length).map (tokw S)).length = ws.length := by rw [List.length_map, List.length_range']
  have scl : sc.length = ws.length := by rw [B.1, Lsl]
  rw [Lsl] at v6 v4
  have c3 := cnI_3 v3
  have p2 : pN c1' ≤ 2 := by unfold pN; split <;> omega
  have e86 : fR h 1286 q.2.1 = so := by rw [x3 _ (by decide)]; exact o4
  have eso := hs0 so (by omega) (by omega)
  have es2 : fR h 162 so = Lsa := by rw [eso.2.2.1 _ (by decide)]; exact s2
  have es3 : fR h 166 so = Lg := by rw [eso.2.2.1 _ (by decide)]; exact s3
  have e26 : fR h 1326 q.2.1 = Ll := by rw [x3 _ (by decide)]; exact o10
  have e22 : fR h 1322 q.2.1 = Lh := by rw [x3 _ (by decide)]; exact o9
  have e10 : fR h 1310 q.2.1 = fw := by rw [x3 _ (by decide)]; exact o8
  have e98 : fR h 1298 q.2.1 = fam := by rw [x3 _ (by decide)]; exact o7
  have e90 : fR h 1290 q.2.1 = cn := by rw [x3 _ (by decide)]; exact o5
  have dvE : ∀ g, g ≠ 610 → g ≠ 614 → dv' g = dv g := fun g h1 h2 => by
    rcases b6 with z | ⟨jf, kk, p, x1, x2, _, _, _, _, _, _, _, _, z⟩
    · rw [z.2.2.2]
    · rw [z]; unfold updD; rw [if_neg h2, if_neg h1]
  have nm := RA_names R hSl (Ln := Lsa) (sc := sc) (by omega) l1 l2 (fun w hw => by have := wrow_mem l3 w hw; omega) u6 B (by omega) (RA_nh R k1 k3 (by omega) (by omega) (fun _ => by rw [o9]; omega))
  have tkn := grows_tkn R s8 (by omega) (by omega)
  -- conditions
  obtain ⟨cd, cd1, cd2⟩ := lch (P := fun i (c : Nat × Nat) => ∃ x w, xs[i]? = some x ∧ ga τ 714 (4 * f + i) = (c.1 : Int) ∧ ga τ 718 (4 * f + i) = (c.2 : Int) ∧ c.1 < K.length ∧ c.2 < sc.length ∧ fR h 1346 x = 0 ∧ fR h 1350 x = clF cs c.1 ∧ sc[c.2]? = some w ∧ wN h N w (fR h 1342 x) ∧ ∀ k, k < c.2 → sc[k]? ≠ sc[c.2]?) xs.length (fun i hi => by
    have ex : xs[i]? = some xs[i] := List.getElem?_eq_getElem hi
    obtain ⟨j, c, wn, ⟨t1, t2, t3⟩, t4, t5, t6, t7, t8, t9⟩ := v10 i xs[i] ex
    obtain ⟨x', q1, q2⟩ := (tkn xs[i] (List.mem_of_getElem? ex)).2 (j + 1) t3
    have ew : x' = wn := RA_nd R _ _ _ q2 t7
    rw [ew] at q1
    refine ⟨(c, sc.idxOf wn), xs[i], wn, ex, t6, t9, FI_lt t4, List.idxOf_lt_length_iff.mpr t8, t1, t5, idx_get t8, q1, fun k hk => ?_⟩
    show sc[k]? ≠ sc[sc.idxOf wn]?
    rw [idx_get t8]
    exact idx_first hk)
  -- lines
  have chs : chain τ (ga τ 602 i) ns' := by
    rw [FR.2 602 (by decide)]
    exact chain_keep l7 (fun o _ => PAe 562 (by decide) (by decide) o)
  have ens : ns = ns' := chain_det u5 chs
  subst ens
  obtain ⟨ln, ln1, ln2⟩ := lch (P := fun k (y : Nat × Nat) => ∃ x o, lsA[k]? = some x ∧ ns[k]? = some o ∧ LnR G A S b N cs fo F mo Ms r.1 r.2.2.1 (hz hr) r.2.1 r.2.2.2 h ul τ n lsA ns k x o y.1 y.2) lsA.length (fun k hk => by
    have ex : lsA[k]? = some lsA[k] := List.getElem?_eq_getElem hk
    have eo : ns[k]? = some (ns[k]'(by have := li.2.2.2.2; omega)) := List.getElem?_eq_getElem (by have := li.2.2.2.2; omega)
    obtain ⟨p', j, q1, q2, q3, q4⟩ := lrows_at l6 ex eo
    obtain ⟨lo', hi', al, ah, pp, z1, o', ⟨w1, w2, w3, w4, w5, w6⟩, w7, w8, w9⟩ := v14 k _ ex
    have eoo := Option.some.inj (w7.symm.trans eo)
    subst eoo
    obtain ⟨wn, t1, t2, t3, t4, t5⟩ := RA_w R (w := fR hr 1362 lsA[k]) (by omega) (by omega) (.inl q1.2.2.1) q4.2
    obtain ⟨a1, a2, a3, a4⟩ := hs0 lsA[k] (by omega) (by omega)
    have e62 : fR h 1362 lsA[k] = fR hr 1362 lsA[k] := a3 _ (by decide)
    have TT' := R.2.2.2.2.2.1.1.1.2.1
    have jm := TT_lt TT' (j := j) (by rw [q1.2.2.1]; decide)
    have tt := TT'.1 j (by omega)
    have xin := XS_in _ _ _ _ _ _ _ _ w9
    refine ⟨(wn, tokq S j), lsA[k], _, ex, eo, ⟨by omega, by omega, by rw [a1]; exact q4.1⟩, ⟨by rw [e62]; exact t1, by rw [e62]; exact (RA_wd R (by omega) (by omega) q4.2).2.2.1⟩, ⟨by have := R.1.2.2.2.1; omega, b + j, by rw [PAe 542 (by decide) (by decide)]; exact q1.2.1, t4, t2, t5, tt.2.1, by have := tok_le S j; have := R.1.2.2.2.2.2.2.1; omega, by rw [PAe 538 (by decide) (by decide)]; exact q1.1⟩, lo', hi', al, ah, pp, z1, ⟨⟨by omega, by omega⟩, by omega, by omega, by omega, w5, ⟨w6.1.1, w6.1.2.1, by have := w6.1.2.2; omega⟩, w6.2⟩, w8, w9⟩)
  have lnl : ns.length = lsA.length := li.2.2.2.2.symm
  have eLl := hs0 Ll (by omega) (by omega)
  have eLh := hs0 Lh (by omega) (by omega)
  have eLg := hs0 Lg (by omega) (by omega)
  have pwl := pw_len (lrows_pw l6) li.2.2.1
  -- the family
  have FM : ∃ (T : Ty) (fam' : Option Nat), tyT τ n T (ga τ 722 f) ∧ (T ≠ .leaf → tyM T ∧ tyC h N (clF cs) (UU ul []) T (fR h 1314 q.2.1)) ∧ ((fam' = none ∧ fR h 1298 q.2.1 = 0 ∧ fR h 1310 q.2.1 = 0 ∧ ga τ 610 i = -1 ∧ T = .leaf) ∨ ∃ (w jf lo' hi' a1 a2 p' : Nat), fam' = some w ∧ (fR h 1298 q.2.1 ≠ 0 ∧ fR h 1310 q.2.1 ≠ 0 ∧ wN h N w (fR h 1298 q.2.1)) ∧ ga τ 610 i = ((b + jf : Nat) : Int) ∧ (tokk S jf = 3 ∧ N[w]? = some (tokw S jf) ∧ FI Prod.snd (tokw S jf) K ≠ none) ∧ T ≠ .leaf ∧ ga τ 614 i = (p' : Int) ∧ (hi' ≤ M ∧ z0 ≤ a1 ∧ a2 ≤ hz hr) ∧ WR A S b h τ 59 lo' hi' a1 a2 (fR h 1310 q.2.1) p' ∧ RdT S b K τ (fun w => w ∈ sc) lo' hi' 59 p' T) := by
    rcases b6 with ⟨t1, t2, t3, t4⟩ | ⟨jf, kk, p', a1, a2, t1, t2, t3, t4, t5, t6, t7, t8, t9⟩
    · refine ⟨.leaf, none, v11 (by rw [e10]; exact t2), fun z => absurd rfl z, .inl ⟨rfl, by rw [e98]; exact t1, by rw [e10]; exact t2, ?_, rfl⟩⟩
      rw [FR.2 610 (by decide), b8 610 (by simp) (by decide), t4]
      exact b9.2.2.2.2.2.2.2.1
    · obtain ⟨⟨jf', q1, q2⟩, T, T1, T2, T3, p2', m1', m2', x1', x2', T4, ⟨T5, T6, T7, T8⟩, T9, T10⟩ := v12 (by rw [e10]; exact t2)
      have e614 : ga τ 614 i = (p' : Int) := by
        rw [FR.2 614 (by decide), b8 614 (by simp) (by decide), t9]
        unfold updD
        rw [if_pos rfl]
      have epp : p2' = p' := by rw [e614] at T4; omega
      subst epp
      obtain ⟨w, q3, q4, q5, q6, q7⟩ := RA_w R (w := fam) (by omega) (by omega) (.inr t5) t4
      have X := R.2.2.2.1.1.2.1.1
      have ejf : tokw S jf' = tokw S jf := wb_fun (wd_wb X (by rw [e98] at q1; exact q1)) (wd_wb X (RA_wd R (by omega) (by omega) t4))
      refine ⟨T, some w, T3, fun _ => ⟨T1, T2⟩, .inr ⟨w, jf, m1', m2', x1', x2', p2', rfl, ⟨by rw [e98]; exact t1, by rw [e10]; exact t2, by rw [e98]; exact q3⟩, ?_, ⟨t5, q5, by rw [← ejf]; exact q2⟩, T1.1, e614, ⟨by omega, by omega, by omega⟩, T9, RdT_imp (P := fun w => bp τ = 2147483647 → w ∈ sc) (fun w q => q R.1.2.2.2.2.2.1) T10⟩⟩
      · rw [FR.2 610 (by decide), b8 610 (by simp) (by decide), t9]
        unfold updD
        rw [if_neg (by decide), if_pos rfl]
  obtain ⟨T, fam', f1, f2, f3⟩ := FM
  refine ⟨k9, i, q, p, r, (c0', c1', sc, cd, T), jc', fam', ln, ns, ⟨k1, k2, k3, k5, k8⟩, k10, ⟨⟨u2, FI_lt u1⟩, ⟨u4, c3⟩, ⟨by rw [v6, scl], by show sc.length = pN c1'; omega, fun j w e => v7 j w (by have := (List.getElem?_eq_some_iff.mp e).1; have e' : j < sc.length := this; omega) e⟩, ⟨by rw [v8]; show _ = (cd.length : Int); omega, by show cd.length ≤ 4; omega, fun j c e => ?_⟩, f1⟩, ⟨⟨by omega, by omega, by rw [x1]; exact o1, by rw [x2 _ (by decide)]; exact o3, v2⟩, ⟨?_, ?_⟩, ⟨?_, ?_⟩, fun z => (f2 z).2, ⟨?_, ?_, ?_⟩, ?_, fun j g c e1 e2 => ?_⟩, ⟨v5, v13, fun c hc => ?_, fun z => (f2 z).1⟩, ⟨k11, by rw [x2 _ (by decide)]; exact o2, by rw [e86, es2]; omega⟩, ⟨⟨by rw [e90]; omega, by rw [e90]; exact (RA_wd R (by omega) (by omega) b3.2.2.1).1, by rw [e90]; exact (RA_wd R (by omega) (by omega) b3.2.2.1).2.2.1⟩, ?_, b3.2.2.2⟩, f3, ⟨?_, ?_, ?_, ?_, chs, by omega, by have := R.1.2.2.2.1; omega⟩, ⟨by rw [e22]; omega, by rw [e22, eLh.1]; exact s4, by rw [e22, eLh.2.2.2]; exact s5, ⟨⟨q, List.mem_of_getElem? k1, hq6, by rw [e22, o9]⟩, by rw [e22]; omega, by rw [e22]; omega⟩, ⟨by rw [x3 _ (by decide)]; exact o11.2.2.2.2.2, by rw [e86]; omega, by rw [e86]; omega, ⟨by omega, by omega⟩, fun x hx => by rw [e26, eLl.2.2.2, l5] at hx; have := (lrows_in l6).2.2.2.1 x hx; omega⟩, by rw [e86, es3, eLg.2.2.2, s7]; exact (grows_xpw s8).imp (fun hab => Nat.ne_of_lt hab), fun x hx => ?_⟩, fun k x o y e1 e2 e3 => ?_⟩
  · obtain ⟨x, w, q1, q2, q3, q4, q5, _⟩ := cd2 j c e
    exact ⟨q2, q3, q4, q5⟩
  · rw [e86]; omega
  · rw [e86, eso.1]; exact s1
  · rw [e86, es2]; exact nm.1
  · rw [e86, es2]; exact nm.2
  · rw [e86, es3]; exact hSl Lg (by omega) (by omega) (by rw [eLg.1]; exact s6) (RA_nh R k1 k3 (by omega) (by omega) (fun _ => by rw [o9]; omega))
  · rw [e86, es3]; omega
  · rw [e86, es3, eLg.1]; exact s6
  · rw [e86, es3, eLg.2.2.2, s7]; exact cd1.symm
  · rw [e86, es3, eLg.2.2.2, s7] at e1
    obtain ⟨x, w, q1, q2, q3, q4, q5, q6, q7, q8, q9, _⟩ := cd2 j c e2
    rw [q1] at e1
    have eg := Option.some.inj e1
    subst eg
    have r0 := (tkn x (List.mem_of_getElem? q1)).1
    exact ⟨⟨by omega, by rw [(hs0 x r0.1 r0.2.1).1]; exact r0.2.2, q6⟩, ⟨q7, RA_clO R q4⟩, w, q8, q9⟩
  · obtain ⟨j, hj, ej⟩ := List.getElem_of_mem hc
    obtain ⟨x, w, q1, q2, q3, q4, q5, q6, q7, q8, q9, q10⟩ := cd2 j c (by rw [List.getElem?_eq_getElem hj, ej])
    exact q10
  · rw [FR.2 578 (by decide), b8 578 (by simp) (by decide), dvE 578 (by decide) (by decide)]
    exact b9.2.2.1
  · rw [e26]; exact hSl Ll (by omega) (by omega) (by rw [eLl.1]; exact l4) (RA_nh R k1 k3 (by omega) (by omega) (fun _ => by rw [o9]; omega))
  · rw [e26]; omega
  · rw [e26, eLl.1]; exact l4
  · rw [e26, eLl.2.2.2, l5]; exact ln1.symm
  · rw [e86, es3, eLg.2.2.2, s7] at hx
    have gx := gi.2.2.2.1 x hx
    exact ⟨by omega, by rw [(hs0 x (by omega) (by omega)).2.2.1 1358 (by decide)]; exact (s10 x hx).2.2.1⟩
  · rw [e26, eLl.2.2.2, l5] at e1 ⊢
    obtain ⟨x', o', q1, q2, q3⟩ := ln2 k y e3
    rw [q1] at e1
    rw [q2] at e2
    rw [← Option.some.inj e1, ← Option.some.inj e2]
    exact q3
end LP3
