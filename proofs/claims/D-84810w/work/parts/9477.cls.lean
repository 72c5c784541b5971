set_option maxRecDepth 100000
/-! THE LINES OF AN INST, in the component -/
/-- lines, plainly -/
def jls (E : JE) : List (Ty × Xt) → JS → Option ((Nat × Nat) ⊕ (List Et × JS))
  | [], s => some (.inr ([], s))
  | p :: l, s => jb (jln E p.1 p.2 s) fun a => jb (jls E l a.2) fun b => some (.inr (a.1 :: b.1, b.2))
/-- a finder that is there -/
def FnL (h : om_H) (tb l0 sc : Nat) : Prop := kd h l0 = 9 ∧ l0 < hz h ∧ fR h 214 l0 = tb ∧ fR h 210 l0 = sc ∧ fI h 227 l0 ≠ 0
/-- a line: object, ex, (name, number of its method, the method, its type), tree, depth, range of the ex -/
abbrev LD : Type := Nat × Nat × (Nat × Nat × Nat × Ty) × Xt × Nat × Nat × Nat
def ldT (wc : Nat) (d : INs) (y : LD) : Ty × Xt := (sbT [(wc, hdI d)] y.2.2.1.2.2.2, y.2.2.2.1)
/-- what may be written -/
def WLn (l : List LD) (a : Nat) : Prop := ∃ y ∈ l, y.1 ≤ a ∧ a < y.2.2.2.2.2.2
/-- a line that waits -/
def LnP (G : om_G) (N : List (List Int)) (cl : Nat → Nat) (rest : List (Nat × List Nat)) (fo mo : Nat → Nat) (E : JE) (H0 o wc : Nat) (d : INs) (h : om_H) (us : List Nat) (Sl : Nat → Prop) (y : LD) : Prop := LnC h N cl (UU us rest) Sl o d.1 y.1 y.2.1 y.2.2.1.1 wc y.2.2.1.2.1 y.2.2.1.2.2.1 (hdI d) y.2.2.1.2.2.2 ∧ XCg id (Ph0 h) G h N cl (UU us rest) Sl fo mo y.2.2.2.1 0 y.2.2.2.2.1 0 0 y.2.1 y.2.2.2.2.2.1 y.2.2.2.2.2.2 ∧ (y.1 < y.2.2.2.2.2.1 ∧ y.2.2.2.2.2.2 ≤ H0) ∧ y.2.2.2.2.1 ≤ 129 ∧ xok E y.2.2.2.1 0 ∧ 2700 + xsz y.2.2.2.1 ≤ 1000000 ∧ xbd y.2.2.2.1 ≤ 40000 ∧ (tyOk E.2.2.2.1 y.2.2.1.2.2.2 ∧ tsz y.2.2.1.2.2.2 ≤ 2700 ∧ tdp y.2.2.1.2.2.2 < 60) ∧ tyOk E.2.2.2.1 (sbT [(wc, hdI d)] y.2.2.1.2.2.2)
/-- a line that is judged -/
def LnJ (G : om_G) (N : List (List Int)) (cl : Nat → Nat) (rest : List (Nat × List Nat)) (io fo mo : Nat → Nat) (E : JE) (lo H0 wc : Nat) (d : INs) (h : om_H) (us : List Nat) (Dk : Nat → Prop) (ds : List Nat) (dm : Nat) (Sl : Nat → Prop) (y : LD) (e : Et) : Prop := XCg Prod.fst (PhJ N cl rest io E lo H0 Sl h us Dk ds dm) G h N cl (UU us rest) Sl fo mo e 0 y.2.2.2.2.1 0 0 y.2.1 y.2.2.2.2.2.1 y.2.2.2.2.2.2 ∧ (y.1 < hz h ∧ kd h y.1 = 23) ∧ tyC h N cl (UU us rest) (sbT [(wc, hdI d)] y.2.2.1.2.2.2) (fR h 1370 y.1)
/-- room that lines take -/
def lnQ (E : JE) (l : List LD) : Nat := (l.map (fun y => jcC E y.2.2.2.1 + 60)).sum
def lnX (l : List LD) : Nat := (l.map (fun y => xnN y.2.2.2.1)).sum
theorem lnQ_c {E : JE} {y : LD} {l : List LD} : lnQ E (y :: l) = jcC E y.2.2.2.1 + 60 + lnQ E l := by unfold lnQ; rw [List.map_cons, List.sum_cons]
theorem lnX_c {y : LD} {l : List LD} : lnX (y :: l) = xnN y.2.2.2.1 + lnX l := by unfold lnX; rw [List.map_cons, List.sum_cons]
section LLS
variable {G : om_G} {N : List (List Int)} {cl : Nat → Nat} {tb pr : Nat} {rest : List (Nat × List Nat)} {ss : List (Nat × List GVs)} {s : Nat × List GVs} {Sl Gx W : Nat → Prop} {io fo mo : Nat → Nat} {ab : List (Option Nat)} {ins : List INs} {fn : List (List Nat × List GVs × Ty)} {mt : List (Option (Nat × Nat × Ty))} {lo H0 : Nat}
/-- a judge is made for a finder that is there -/
theorem BQ_jl (nd : ndN N) {h : om_H} {us fs : List Nat} {Dk : Nat → Prop} {ds : List Nat} {dm tot l0 : Nat} (H : BQ G h N cl tb us fs rest Sl Gx io ab ins ss Dk ds dm tot) (hs : s ∈ ss) (L : FnL h tb l0 s.1) : ∃ hc, C_37_init G (hz h) l0 (nO h 37 3) = some hc ∧ (kd (nO h 37 3) (hz h) = 37 ∧ kd hc (hz h) = 37) ∧ (∀ a, a < hz h → eqA a h hc) ∧ BQ G hc N cl tb us fs rest Sl Gx io ab ins ss Dk ds dm tot ∧ KB N cl tb rest ss Sl Gx (fun _ => False) h us fs Dk ds dm hc us fs Dk ds dm 0 2 6 ∧ JQ G N cl tb l0 s.1 rest (fun x => x ∈ ll hc (fR hc 166 s.1)) io (fn, mt, ab, ins, s.2) (hz h) (hz h + 1) hc us fs Dk ds dm Sl [] tot ∧ (hz hc = hz h + 2 ∧ lc hc (hz h + 1) = 0) := by
  obtain ⟨L1, L2, L3, L4, L5⟩ := L
  have all0 : ∀ a, a < hz h → eqA a h (nO h 37 3) := fun a ha => ⟨by rw [kd_nO, if_neg (by omega)], fun f => by rw [fI_nO, if_neg (by omega)], fun f => by rw [fR_nO, if_neg (by omega)], rfl, fun _ => rfl, fun _ => rfl, rfl, rfl⟩
  have za : hz (nO h 37 3) = hz h + 1 := hz_nO h 37 3
  have ka : kd (nO h 37 3) (hz h) = 37 := by rw [kd_nO, if_pos rfl]
  obtain ⟨Ba, Ka⟩ := BQ_w (W := fun _ => False) (z := 1) (u := 3) nd H (h1 := nO h 37 3) (D := fun _ => False) ⟨by omega, by show hu h ≤ hu h + 3; omega, fun a ha => (all0 a ha).1, fun a ha _ => all0 a ha⟩ (fun _ w => w.elim) (fun _ w => w.elim) ⟨by omega, by show hu h + 3 ≤ _; omega⟩
  have la := all0 l0 L2
  obtain ⟨hc, c1, c2, ⟨c3, c4, c5, c6, c7, c8⟩, ⟨d1, d2, d3⟩, ⟨d4, d5⟩, d6, d7, d8⟩ := c_jini (G := G) (h := nO h 37 3) (l0 := l0) (jg := hz h) ⟨by rw [la.1]; exact L1, by omega⟩ ⟨ka, by omega⟩
  rw [za] at d3 d4 d6 d7 d8
  have Xc : hT (fun y => y = hz h) (nO h 37 3) hc := ⟨by omega, by omega, fun a ha => by
    by_cases w : a = hz h
    · rw [w, c3, ka]
    · exact (c2 a ha w).1, fun a ha n => c2 a ha n⟩
  obtain ⟨Bc, Kc⟩ := BQ_w (W := fun y => y = hz h) (z := 1) (u := 3) nd Ba Xc (fun y w _ => .inl ⟨⟨.inr ⟨.inr (by rw [w, ka]; unfold dyK; omega), w⟩, fun f _ => by rw [w]; exact c4 f, fun f hf => by
    rw [w]
    exact c5 f (fun e => by rw [e] at hf; exact absurd hf (by decide)) (fun e => by rw [e] at hf; exact absurd hf (by decide)) (fun e => by rw [e] at hf; exact absurd hf (by decide))⟩, by rw [w]; exact c6, fun k => by rw [w]; exact c7 k, fun k => by rw [w]; exact c8 k, by rw [w]; exact c5 1330 (by decide) (by decide) (by decide)⟩) (fun y w => by rw [w]; omega) ⟨by omega, by omega⟩
  have Kt : KB N cl tb rest ss Sl Gx (fun _ => False) h us fs Dk ds dm hc us fs Dk ds dm 0 2 6 := KB_le (KB_trans (KB_le (W' := fun y => y = hz h) Ka (fun _ _ w => w.elim) (Nat.le_refl _) (Nat.le_refl _) (Nat.le_refl _)) Kc) (fun a ha w => by omega) (by omega) (by omega) (by omega)
  have all : ∀ a, a < hz h → eqA a h hc := fun a ha => eqA_trans (all0 a ha) (c2 a (by omega) (by omega))
  have e9 := all l0 L2
  obtain ⟨T, g, PG, t128, P, Sc, A⟩ := id Bc
  have Hc : HvQ G hc N cl tb l0 s.1 us fs rest Sl (fun x => x ∈ ll hc (fR hc 166 s.1)) io ab ins s.2 Dk ds dm tot := ⟨⟨T, ⟨⟨by rw [e9.1]; exact L1, by omega, by rw [e9.2.2.1]; exact L3⟩, by rw [e9.2.2.1]; exact L4⟩, g, PG, (Sc s hs).1, by rw [e9.2.1]; exact L5, t128⟩, P, (Sc s hs).2.1, fun x hx => hx⟩
  have ft : ∀ f, fR hc f tb = fR h f tb := fun f => (all tb (TB_3 H.1).2.2).2.2.1 f
  have lt2 : ∀ L, L < hz h → hz h + 1 ≠ L := fun L hL => by omega
  refine ⟨hc, c1, ⟨ka, c3⟩, all, Bc, Kt, ⟨Hc, ⟨⟨c3, by omega⟩, d1, by rw [d2, la.2.2.1]; exact L3, d3⟩, ⟨⟨by omega, d6, by rw [d7]; exact Nat.zero_le _, by rw [d8]; omega, fun y hy => by rw [d7] at hy; cases hy⟩, by rw [d7]; rfl, fun i y T e1 e2 => by cases e2⟩, ⟨by omega, fun w => ?_, by rw [ft]; exact lt2 _ H.1.2.1.1.1, by rw [ft]; exact lt2 _ H.2.2.2.2.1.1.1.1, fun d hd => ?_⟩⟩, by omega, d8⟩
  · have := (H.2.1.2.2.1 _ w).1
    omega
  · obtain ⟨⟨_, y1, y2⟩, y3, y4⟩ := H.2.2.2.2.1.2.2.2.2.2.1 d hd
    have ed := all d y1
    rw [ed.2.2.1, ed.2.2.1]
    refine ⟨fun e => ?_, fun e => ?_⟩
    · rcases y3 with w | w
      · omega
      · have := w.1.1; omega
    · rcases y4 with w | w
      · omega
      · have := w.1.1; omega
theorem LnP_KB {E : JE} {Sl1 : Nat → Prop} {h h1 : om_H} {us fs us1 fs1 : List Nat} {Dk Dk1 : Nat → Prop} {ds ds1 : List Nat} {dm dm1 q z u o wc : Nat} {d : INs} {y : LD} (K : KB N cl tb rest ss Sl Gx W h us fs Dk ds dm h1 us1 fs1 Dk1 ds1 dm1 q z u) (m1 : ∀ a, Sl a → Sl1 a) (nW : ∀ a, y.1 ≤ a → a < y.2.2.2.2.2.2 → ¬ W a) (H : LnP G N cl rest fo mo E H0 o wc d h us Sl y) : LnP G N cl rest fo mo E H0 o wc d h1 us1 Sl1 y := by
  obtain ⟨a1, a2, a3, a4⟩ := H
  exact ⟨LnC_keep K.1 m1 K.2.2.2.2.2.2.2.1 a1, Ph0_KB K m1 (fun a h1 h2 _ => nW a (by omega) h2) (fun w => absurd rfl w) a2, a3, a4⟩
theorem LnJ_KB {E : JE} {Sl1 : Nat → Prop} {h h1 : om_H} {us fs us1 fs1 : List Nat} {Dk Dk1 : Nat → Prop} {ds ds1 : List Nat} {dm dm1 q z u wc : Nat} {d : INs} {y : LD} {e : Et} (P : PoolC G h tb Sl Dk ds dm) (K : KB N cl tb rest ss Sl Gx W h us fs Dk ds dm h1 us1 fs1 Dk1 ds1 dm1 q z u) (m1 : ∀ a, Sl a → Sl1 a) (hy : y.1 < y.2.2.2.2.2.1 ∧ y.1 < y.2.2.2.2.2.2) (nW : ∀ a, y.1 ≤ a → a < y.2.2.2.2.2.2 → ¬ W a) (hl : lo ≤ ds.length ∧ ∀ y, H0 ≤ y → ¬ W y) (H : LnJ G N cl rest io fo mo E lo H0 wc d h us Dk ds dm Sl y e) : LnJ G N cl rest io fo mo E lo H0 wc d h1 us1 Dk1 ds1 dm1 Sl1 y e := by
  obtain ⟨a1, ⟨a2, a3⟩, a4⟩ := H
  have eq := KB_eq K a2 (by rw [a3]; unfold dyK; omega) (nW _ (Nat.le_refl _) hy.2)
  exact ⟨PhJ_KB P K m1 (fun a h1 h2 _ => nW a (by omega) h2) hl (fun w => absurd rfl w) a1, ⟨Nat.lt_of_lt_of_le a2 K.1.1, by rw [eq.1]; exact a3⟩, by rw [eq.2.2.1]; exact K.2.2.2.2.2.2.2.1 _ _ a4⟩
set_option maxHeartbeats 1000000 in
/-- THE LINES, one after another -/
theorem c_lines (hI : intO G) (nd : ndN N) {B o l0 wc : Nat} {d : INs} {lns : List LD} (J : JOk (fn, mt, ab, ins, s.2) B) (J2 : JOk2 (fn, mt, ab, ins, s.2)) (hs : s ∈ ss) (okH : tyOk ins (hdI d)) (hlen : lns.length ≤ 3000) : ∀ (l : List LD) (k : Nat) (st : JS) (zz : (Nat × Nat) ⊕ (List Et × JS)) (h : om_H) (us fs : List Nat) (Dk : Nat → Prop) (ds : List Nat) (dm : Nat) (Sl : Nat → Prop), lns.drop k = l → k ≤ lns.length → jls (fn, mt, ab, ins, s.2) (l.map (ldT wc d)) st = some zz → BQ G h N cl tb us fs rest Sl Gx io ab ins ss Dk ds dm st.1 → FnL h tb l0 s.1 → JCE N cl fo mo (fn, mt, ab, ins, s.2) h (UU us rest) Sl → ((kd h o = 21 ∧ o < hz h) ∧ Sl (fR h 1326 o) ∧ fR h 1326 o < hz h ∧ kd h (fR h 1326 o) = 42 ∧ ll h (fR h 1326 o) = lns.map Prod.fst) → (∀ y ∈ l, LnP G N cl rest fo mo (fn, mt, ab, ins, s.2) H0 o wc d h us Sl y) → l.Pairwise (fun y y' => y.2.2.2.2.2.2 ≤ y'.1) → RmJ us fs ds dm st.1 (lnQ (fn, mt, ab, ins, s.2) l) (4 * lnX l) → lo ≤ dm ∧ H0 ≤ hz h → ∃ (h' : om_H) (us' fs' : List Nat) (Dk' : Nat → Prop) (ds' : List Nat) (dm' : Nat), (∀ k' p, zz = .inl (k', p) → ∃ a', om_loop (C_1_judgeLines_30s G o l0) ((k : Int), h) = some (.inr (.inl a', h')) ∧ FtB G N cl tb rest ss Sl Gx (WLn l) h us fs Dk ds dm (k' : Int) (p : Int) a' h' us' fs' Dk' ds' dm' (lnQ (fn, mt, ab, ins, s.2) l + 142 * (464 - st.1)) (16 * lnX l + 2 * l.length + 1) (192 * lnX l + 110 * l.length + 20) ∧ dm' ≤ dm + 5 * (464 - st.1) + 4 * lnX l) ∧ ∀ es s', zz = .inr (es, s') → ∃ Sl', om_loop (C_1_judgeLines_30s G o l0) ((k : Int), h) = some (.inl h') ∧ (∀ a, Sl a → Sl' a) ∧ BQ G h' N cl tb us' fs' rest Sl' Gx io ab ins ss Dk' ds' dm' s'.1 ∧ FnL h' tb l0 s.1 ∧ JCE N cl fo mo (fn, mt, ab, ins, s.2) h' (UU us' rest) Sl' ∧ (st.1 ≤ s'.1 ∧ s'.1 ≤ 300) ∧ KB N cl tb rest ss Sl Gx (WLn l) h us fs Dk ds dm h' us' fs' Dk' ds' dm' (lnQ (fn, mt, ab, ins, s.2) l + 142 * (s'.1 - st.1)) (16 * lnX l + 2 * l.length) (192 * lnX l + 110 * l.length) ∧ dm' ≤ dm + 5 * (s'.1 - st.1) + 4 * lnX l ∧ tsD N cl rest st.2 s'.2 h' us' ∧ es.length = l.length ∧ ∀ (i : Nat) (y : LD) (e : Et), l[i]? = some y → es[i]? = some e → LnJ G N cl rest io fo mo (fn, mt, ab, ins, s.2) lo H0 wc d h' us' Dk' ds' dm' Sl' y e
  | [], k, st, zz, h, us, fs, Dk, ds, dm, Sl, hd, hk, ez, Q, L, JC, ho, hP, hw, R, hl => by
    have ez' : zz = .inr ([], st) := (Option.some.inj ez).symm
    have kl : lns.length ≤ k := List.drop_eq_nil_iff.mp hd
    obtain ⟨⟨o1, o2⟩, o3, o4, o5, o6⟩ := ho
    refine ⟨h, us, fs, Dk, ds, dm, fun k' p w => (by rw [ez'] at w; cases w), fun es s' w => ?_⟩
    rw [ez'] at w
    injection Sum.inr.inj w with w1 w2
    rw [← w1, ← w2]
    refine ⟨Sl, om_loop_out ?_, fun _ w => w, Q, L, JC, ⟨Nat.le_refl _, R.2.2.2⟩, KB_le (KB_refl (W := WLn []) Q.2.2.2.2.1) (fun _ _ w => w) (by omega) (by omega) (by omega), by omega, tsD_refl, rfl, fun i y e e1 => by cases e1⟩
    unfold C_1_judgeLines_30s P_J2_size
    simp only
    rw [gd_pos ⟨o1, o5⟩, gd_pos o5, Option.bind_some, o6, List.length_map, if_pos (by omega)]
  | y :: l, k, st, zz, h, us, fs, Dk, ds, dm, Sl, hd, hk, ez, Q, L, JC, ho, hP, hw, R, hl => by
    have kl : k < lns.length := by
      by_cases w : k < lns.length
      · exact w
      · rw [List.drop_eq_nil_iff.mpr (by omega)] at hd; cases hd
    have hd' : lns.drop (k + 1) = l := by
      rw [List.drop_eq_getElem_cons kl] at hd
      exact (List.cons.inj hd).2
    have ey : lns[k]? = some y := by
      rw [List.drop_eq_getElem_cons kl] at hd
      rw [List.getElem?_eq_getElem kl, (List.cons.inj hd).1]
    obtain ⟨⟨o1, o2⟩, o3, o4, o5, o6⟩ := id ho
    obtain ⟨p1, p2, p3, p4, p5, p6, p7, p8, p9⟩ := hP y (by simp)
    obtain ⟨hw1, hw2⟩ := List.pairwise_cons.mp hw
    rw [lnQ_c, lnX_c] at R
    rw [lnQ_c, lnX_c, List.length_cons]
    -- a judge
    obtain ⟨hc, n1, ⟨n2, n3⟩, n4, Bc, Kc, Qc, n5, n6⟩ := BQ_jl (fn := fn) (mt := mt) nd Q hs L
    have kpc := Kc.2.2.2.2.2.2.2.1
    have Hn := LnC_keep Kc.1 (fun _ w => w) kpc p1
    have Xc := Ph0_KB (m1 := fun a w => w) Kc (fun _ _ _ _ w => w) (fun w => absurd rfl w) p2
    have JCc : JCE N cl fo mo (fn, mt, ab, ins, s.2) hc (UU us rest) Sl := JCE_keep Kc.1 kpc JC
    have P : JCP G N cl tb l0 s.1 rest (fun x => x ∈ ll hc (fR hc 166 s.1)) io fo mo (fn, mt, ab, ins, s.2) (hz h) (hz h + 1) lo H0 y.2.2.2.1 [] st hc us fs Dk ds dm Sl y.2.2.2.2.1 0 0 y.2.1 y.2.2.2.2.2.1 y.2.2.2.2.2.2 2700 := ⟨⟨Qc, JCc⟩, Xc, p5, fun T hT => absurd hT List.not_mem_nil, ⟨Nat.le_refl _, p6⟩, by show 0 + xbd y.2.2.2.1 ≤ 40000; omega, RmJ_le R (by omega) (by omega), ⟨hl.1, by omega⟩, p3.2⟩
    have ez2 : (jb (jln (fn, mt, ab, ins, s.2) (ldT wc d y).1 (ldT wc d y).2 st) fun a => jb (jls (fn, mt, ab, ins, s.2) (l.map (ldT wc d)) a.2) fun b => some (.inr (a.1 :: b.1, b.2))) = some zz := ez
    have gt : P_J2_get G (fR h 1326 o) (k : Int) h = some y.1 := by
      unfold P_J2_get
      have ex : (ll h (fR h 1326 o))[k]? = some y.1 := by rw [o6, List.getElem?_map, ey]; rfl
      have il := (List.getElem?_eq_some_iff.mp ex).1
      rw [gd_pos ⟨o5, by omega⟩, show ((k : Int)).toNat = k by omega, ex]
    have sz : P_J2_size G (fR h 1326 o) h = some ((lns.length : Nat) : Int) := by
      unfold P_J2_size
      rw [gd_pos o5, o6, List.length_map]
    have wk : w32 ((k : Int) + 1) = ((k + 1 : Nat) : Int) := by rw [w32_s (by omega) (by omega)]; rfl
    have k23 : kd h y.1 = 23 := p1.2.1.2.1
    -- the line itself
    obtain ⟨z1, ez1⟩ : ∃ z1, jln (fn, mt, ab, ins, s.2) (sbT [(wc, hdI d)] y.2.2.1.2.2.2) y.2.2.2.1 st = some z1 := by
      rcases jb_cs ez2 with ⟨kp, e1, _⟩ | ⟨a, e1, _⟩
      · exact ⟨_, e1⟩
      · exact ⟨_, e1⟩
    obtain ⟨v, h1, us1, fs1, Dk1, ds1, dm1, r1, r2, r3⟩ := c_line hI nd J J2 (jg := hz h) (Nat.le_succ_of_le p4) ez1 P (RmJ_le R (by omega) (by omega)) p3.1 Hn p8 ⟨okH, hdI_sz⟩ p9
    have st0 : C_1_judgeLines_30s G o l0 ((k : Int), h) = xc (some (v, h1)) (fun t h => some (.inr (.inr (.inl t, h)))) (fun p4 h4 => some (.inl (((k + 1 : Nat) : Int), h4))) := by
      unfold C_1_judgeLines_30s
      simp only
      rw [gd_pos ⟨o1, o5⟩, sz, Option.bind_some, if_neg (by omega), gd_pos ⟨o1, o5⟩, gt, Option.bind_some, gd_pos ⟨.inr k23, n2⟩, n1, Option.bind_some, gd_pos n3, r1, wk]
    have hW : ∀ a, y.1 ≤ a → a < y.2.2.2.2.2.2 → WLn (y :: l) a := fun a h1 h2 => ⟨y, by simp, h1, h2⟩
    have e0 : (ll hc (hz h + 1)).length = 0 := Qc.2.2.1.2.1
    rcases jb_cs ez2 with ⟨kp, e1, e2⟩ | ⟨⟨e0', s1⟩, e1, e2⟩
    · have ezk : z1 = .inl kp := Option.some.inj (ez1.symm.trans e1)
      obtain ⟨a', ev, ⟨t1, t2⟩, t3, t4, t5⟩ := r2 kp.1 kp.2 ezk
      obtain ⟨KB1, _⟩ := BQ_KJ Bc hs Qc.1.1.2.1.2 hW t4
      obtain ⟨⟨_, _, _, _, _, lb, _⟩, _⟩ := id t4
      refine ⟨h1, us1, fs1, Dk1, ds1, dm1, fun k' p w => ?_, fun es s' w => by rw [e2] at w; cases w⟩
      rw [e2] at w
      have w' := Sum.inl.inj w
      rw [w'] at t3
      refine ⟨a', om_loop_out (by rw [st0, ev, xc_t]), ⟨t3, t1, t2, KB_le (KB_trans (KB_le Kc (fun _ _ w => w.elim) (Nat.le_refl _) (Nat.le_refl _) (Nat.le_refl _)) KB1) (fun _ _ w => w) (by omega) (by omega) ?_⟩, by omega⟩
      rw [n6, e0] at lb
      omega
    · have ezk : z1 = .inr (e0', s1) := Option.some.inj (ez1.symm.trans e1)
      obtain ⟨Sl1, ev, ⟨x1, ⟨x2, x3⟩, x4, x5, x6, x7⟩, x8, x9⟩ := r3 e0' s1 ezk
      obtain ⟨KB1, BB⟩ := BQ_KJ Bc hs Qc.1.1.2.1.2 hW x5.1
      obtain ⟨⟨_, _, _, _, _, lb, _⟩, _⟩ := id x5.1
      have B1 := BB Sl1 s1.1 x1 x2.1
      have K01 : KB N cl tb rest ss Sl Gx (WLn (y :: l)) h us fs Dk ds dm h1 us1 fs1 Dk1 ds1 dm1 (jcC (fn, mt, ab, ins, s.2) y.2.2.2.1 + 60 + 142 * (s1.1 - st.1)) (16 * xnN y.2.2.2.1 + 2) (192 * xnN y.2.2.2.1 + 110) := by
        refine KB_le (KB_trans (KB_le Kc (fun _ _ w => w.elim) (Nat.le_refl _) (Nat.le_refl _) (Nat.le_refl _)) KB1) (fun _ _ w => w) (by omega) (by omega) ?_
        rw [n6, e0] at lb
        omega
      have st1 : C_1_judgeLines_30s G o l0 ((k : Int), h) = some (.inl (((k + 1 : Nat) : Int), h1)) := by rw [st0, ev, xc_v]
      have F1 := x2.1.1
      have L1 : FnL h1 tb l0 s.1 := ⟨F1.2.1.1.1, F1.2.1.1.2.1, F1.2.1.1.2.2, F1.2.1.2, F1.2.2.2.2.2.1⟩
      have K01s := K01.1
      have so := K01s.2.2.1 o o2 (by rw [o1]; decide)
      have ho1 : ((kd h1 o = 21 ∧ o < hz h1) ∧ Sl1 (fR h1 1326 o) ∧ fR h1 1326 o < hz h1 ∧ kd h1 (fR h1 1326 o) = 42 ∧ ll h1 (fR h1 1326 o) = lns.map Prod.fst) := by
        rw [so.2 1326 (by decide), K01s.2.1 _ o2, K01s.2.1 _ o4, K01s.2.2.2.2 _ o4 o3]
        exact ⟨⟨o1, Nat.lt_of_lt_of_le o2 K01s.1⟩, x1 _ o3, Nat.lt_of_lt_of_le o4 K01s.1, o5, o6⟩
      have KBy : KB N cl tb rest ss Sl Gx (fun a => y.1 ≤ a ∧ a < y.2.2.2.2.2.2) h us fs Dk ds dm h1 us1 fs1 Dk1 ds1 dm1 (jcC (fn, mt, ab, ins, s.2) y.2.2.2.1 + 60 + 142 * (s1.1 - st.1)) (16 * xnN y.2.2.2.1 + 2) (192 * xnN y.2.2.2.1 + 110) := by
        obtain ⟨KBz, _⟩ := BQ_KJ (W := fun a => y.1 ≤ a ∧ a < y.2.2.2.2.2.2) Bc hs Qc.1.1.2.1.2 (fun a h1 h2 => ⟨h1, h2⟩) x5.1
        refine KB_le (KB_trans (KB_le Kc (fun _ _ w => w.elim) (Nat.le_refl _) (Nat.le_refl _) (Nat.le_refl _)) KBz) (fun _ _ w => w) (by omega) (by omega) ?_
        rw [n6, e0] at lb
        omega
      have hP1 : ∀ y' ∈ l, LnP G N cl rest fo mo (fn, mt, ab, ins, s.2) H0 o wc d h1 us1 Sl1 y' := fun y' hy' => LnP_KB KBy x1 (fun a h1 h2 w => by have := hw1 y' hy'; omega) (hP y' (by simp [hy']))
      have dl1 := KB1.2.2.1.2.2.1
      have R1 : RmJ us1 fs1 ds1 dm1 s1.1 (lnQ (fn, mt, ab, ins, s.2) l) (4 * lnX l) := RmJ_next (RmJ_le R (by omega) (by omega)) x5 x4
      rcases jb_cs e2 with ⟨kp, f1, f2⟩ | ⟨⟨es1, s2⟩, f1, f2⟩
      · obtain ⟨h2, us2, fs2, Dk2, ds2, dm2, i1, _⟩ := c_lines hI nd (lns := lns) J J2 hs okH hlen l (k + 1) s1 _ h1 us1 fs1 Dk1 ds1 dm1 Sl1 hd' (by omega) f1 B1 L1 x3 ho1 hP1 hw2 R1 ⟨by omega, by have := K01s.1; omega⟩
        obtain ⟨a', j1, ⟨j2, j3, j4, j5⟩, j6⟩ := i1 kp.1 kp.2 rfl
        refine ⟨h2, us2, fs2, Dk2, ds2, dm2, fun k' p w => ?_, fun es s' w => by rw [f2] at w; cases w⟩
        rw [f2] at w
        have w' := Sum.inl.inj w
        rw [w'] at j2
        exact ⟨a', by rw [om_loop_in st1]; exact j1, ⟨j2, j3, PoolC_less x1 j4, KB_le (KB_trans K01 (KB_le (KB_less x1 j5) (fun a _ w => by obtain ⟨y', w1, w2⟩ := w; exact ⟨y', by simp [w1], w2⟩) (Nat.le_refl _) (Nat.le_refl _) (Nat.le_refl _))) (fun _ _ w => w) (by omega) (by omega) (by omega)⟩, by have := x5.2; omega⟩
      · obtain ⟨h2, us2, fs2, Dk2, ds2, dm2, _, i2⟩ := c_lines hI nd (lns := lns) J J2 hs okH hlen l (k + 1) s1 _ h1 us1 fs1 Dk1 ds1 dm1 Sl1 hd' (by omega) f1 B1 L1 x3 ho1 hP1 hw2 R1 ⟨by omega, by have := K01s.1; omega⟩
        obtain ⟨Sl2, j1, j2, j3, j4, j5, j6, j7, j8, j9, j10, j11⟩ := i2 es1 s2 rfl
        have f2' : zz = .inr (e0' :: es1, s2) := (Option.some.inj f2).symm
        refine ⟨h2, us2, fs2, Dk2, ds2, dm2, fun k' p w => (by rw [f2'] at w; cases w), fun es s' w => ?_⟩
        rw [f2'] at w
        injection Sum.inr.inj w with w1 w2
        rw [← w1, ← w2]
        refine ⟨Sl2, by rw [om_loop_in st1]; exact j1, fun a w => j2 a (x1 a w), j3, j4, j5, ⟨by omega, j6.2⟩, KB_le (KB_trans K01 (KB_le (KB_less x1 j7) (fun a _ w => by obtain ⟨y', w1, w2⟩ := w; exact ⟨y', by simp [w1], w2⟩) (Nat.le_refl _) (Nat.le_refl _) (Nat.le_refl _))) (fun _ _ w => w) (by omega) (by omega) (by omega), by have := x5.2; omega, tsD_trans x6 j7.2.2.2.2.2.2.2.1 j9, by rw [List.length_cons, j10], fun i y' e' g1 g2 => ?_⟩
        cases i with
        | zero =>
          have gy : y = y' := Option.some.inj g1
          have ge : e0' = e' := Option.some.inj g2
          rw [← gy, ← ge]
          have yl : y.2.2.2.2.2.1 < y.2.2.2.2.2.2 := by
            cases hh : e0' with
            | leaf => rw [hh] at x8; exact (XCg_l x8).elim
            | inner tg lx un el er =>
              rw [hh] at x8
              obtain ⟨He, ra, rh, _, _⟩ := XCg_ex x8
              omega
          have x23 : y.1 < hz h1 ∧ kd h1 y.1 = 23 := ⟨Nat.lt_of_lt_of_le p1.2.1.1 K01s.1, by rw [K01s.2.1 _ p1.2.1.1]; exact k23⟩
          refine LnJ_KB B1.2.2.2.2.1 j7 j2 ⟨p3.1, by omega⟩ (fun a h1 h2 w => ?_) ⟨?_, fun a ha w => ?_⟩ ⟨x8, x23, x9⟩
          · obtain ⟨y', w1, w2, w3⟩ := w
            have := hw1 y' w1
            omega
          · have := B1.2.2.2.2.1.2.2.1.2.1
            omega
          · obtain ⟨y', w1, w2, w3⟩ := w
            have := (hP y' (by simp [w1])).2.2.1.2
            omega
        | succ i => exact j11 i y' e' g1 g2
end LLS
