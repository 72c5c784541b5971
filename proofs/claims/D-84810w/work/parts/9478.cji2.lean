set_option maxRecDepth 100000
/-! AN INST IS JUDGED, in the component -/
/-- a line that waits, before the head is put -/
def LnW (G : om_G) (N : List (List Int)) (cl : Nat → Nat) (rest : List (Nat × List Nat)) (fo mo : Nat → Nat) (E : JE) (H0 o wc : Nat) (d : INs) (h : om_H) (us : List Nat) (Sl : Nat → Prop) (y : LD) : Prop := ((y.1 < hz h ∧ kd h y.1 = 23 ∧ fR h 1366 y.1 = y.2.1) ∧ (∃ (ms : List (Nat × Ty)) (mo : Nat → Nat), (Sl (fR h 1230 (cl d.1)) ∧ fR h 1230 (cl d.1) < hz h ∧ kd h (fR h 1230 (cl d.1)) = 42 ∧ (ll h (fR h 1230 (cl d.1))).length = ms.length ∧ ms.length ≤ 4) ∧ (∀ (k : Nat) (y : Nat × Ty), ms[k]? = some y → (ll h (fR h 1230 (cl d.1)))[k]? = some (mo k) ∧ (mo k ≠ 0 ∧ mo k < hz h ∧ kd h (mo k) = 19) ∧ wN h N y.1 (fR h 1242 (mo k)) ∧ fI h 1252 (mo k) = (k : Int)) ∧ mIx ms y.2.2.1.1 = some y.2.2.1.2.1 ∧ mo y.2.2.1.2.1 = y.2.2.1.2.2.1) ∧ wN h N y.2.2.1.1 (fR h 1362 y.1) ∧ (y.2.2.1.2.2.1 < hz h ∧ kd h y.2.2.1.2.2.1 = 19 ∧ tyC h N cl (UU us rest) y.2.2.1.2.2.2 (fR h 1262 y.2.2.1.2.2.1))) ∧ XCg id (Ph0 h) G h N cl (UU us rest) Sl fo mo y.2.2.2.1 0 y.2.2.2.2.1 0 0 y.2.1 y.2.2.2.2.2.1 y.2.2.2.2.2.2 ∧ (y.1 < y.2.2.2.2.2.1 ∧ y.2.2.2.2.2.2 ≤ H0) ∧ y.2.2.2.2.1 ≤ 129 ∧ xok E y.2.2.2.1 0 ∧ 2700 + xsz y.2.2.2.1 ≤ 1000000 ∧ xbd y.2.2.2.1 ≤ 40000 ∧ (tyOk E.2.2.2.1 y.2.2.1.2.2.2 ∧ tsz y.2.2.1.2.2.2 ≤ 2700 ∧ tdp y.2.2.1.2.2.2 < 60) ∧ tyOk E.2.2.2.1 (sbT [(wc, hdI d)] y.2.2.1.2.2.2)
/-- an inst that waits: its class, its lists, its head -/
def InW (h : om_H) (N : List (List Int)) (cl : Nat → Nat) (U Sl : Nat → Prop) (o wc : Nat) (d : INs) (lns : List LD) : Prop := (kd h o = 21 ∧ o < hz h ∧ fR h 1302 o = cl d.1 ∧ clO h cl d.1) ∧ (Sl (fR h 1234 (cl d.1)) ∧ WNs h N (fR h 1234 (cl d.1)) [wc]) ∧ (Sl (fR h 1326 o) ∧ fR h 1326 o < hz h ∧ kd h (fR h 1326 o) = 42 ∧ ll h (fR h 1326 o) = lns.map Prod.fst) ∧ tyC h N cl U (hdI d) (fR h 1318 o)
section LJI
variable {G : om_G} {N : List (List Int)} {cl : Nat → Nat} {tb pr : Nat} {rest : List (Nat × List Nat)} {ss : List (Nat × List GVs)} {s : Nat × List GVs} {Sl Sl0 Sl1 Gx W : Nat → Prop} {io fo mo : Nat → Nat} {ab : List (Option Nat)} {ins : List INs} {fn : List (List Nat × List GVs × Ty)} {mt : List (Option (Nat × Nat × Ty))} {lo H0 : Nat} {h h1 : om_H} {us fs us1 fs1 : List Nat} {Dk Dk1 : Nat → Prop} {ds ds1 : List Nat} {dm dm1 tot q z u o wc : Nat} {d : INs} {lns : List LD} {E : JE}
theorem LnW_KB {y : LD} (K : KB N cl tb rest ss Sl Gx W h us fs Dk ds dm h1 us1 fs1 Dk1 ds1 dm1 q z u) (m1 : ∀ a, Sl a → Sl1 a) (nW : ∀ a, y.1 ≤ a → a < y.2.2.2.2.2.2 → ¬ W a) (k18 : cl d.1 < hz h ∧ kd h (cl d.1) = 18) (H : LnW G N cl rest fo mo E H0 o wc d h us Sl y) : LnW G N cl rest fo mo E H0 o wc d h1 us1 Sl1 y := by
  obtain ⟨⟨⟨b1, b2, b3⟩, ⟨ms, mo', ⟨d1, d2, d3, d4, d5⟩, d6, d7, d8⟩, e1, ⟨f1, f2, f3⟩⟩, a2, a3, a4⟩ := H
  have X := K.1
  have kp := K.2.2.2.2.2.2.2.1
  have sx := X.2.2.1 _ b1 (by rw [b2]; decide)
  have sc := X.2.2.1 _ k18.1 (by rw [k18.2]; decide)
  have sm := X.2.2.1 _ f1 (by rw [f2]; decide)
  have e1230 := sc.2 1230 (by decide)
  have l1230 := X.2.2.2.2 _ d2 d1
  refine ⟨⟨⟨Nat.lt_of_lt_of_le b1 X.1, by rw [X.2.1 _ b1]; exact b2, by rw [sx.2 1366 (by decide)]; exact b3⟩, ⟨ms, mo', ?_, fun k y ey => ?_, d7, d8⟩, by rw [sx.2 1362 (by decide)]; exact wN_hS X e1, ⟨Nat.lt_of_lt_of_le f1 X.1, by rw [X.2.1 _ f1]; exact f2, by rw [sm.2 1262 (by decide)]; exact kp _ _ f3⟩⟩, Ph0_KB K m1 (fun a h1 h2 _ => nW a (by omega) h2) (fun w => absurd rfl w) a2, a3, a4⟩
  · rw [e1230, l1230, X.2.1 _ d2]
    exact ⟨m1 _ d1, Nat.lt_of_lt_of_le d2 X.1, d3, d4, d5⟩
  · obtain ⟨q1, ⟨q2, q3, q4⟩, q5, q6⟩ := d6 k y ey
    have sk := X.2.2.1 _ q3 (by rw [q4]; decide)
    rw [e1230, l1230, X.2.1 _ q3, sk.2 1242 (by decide), sk.1 1252 (by decide)]
    exact ⟨q1, ⟨q2, Nat.lt_of_lt_of_le q3 X.1, q4⟩, wN_hS X q5, q6⟩
theorem InW_hS {g : Prop} {U U' : Nat → Prop} (X : hSg g Sl h h1) (m1 : ∀ a, Sl a → Sl1 a) (kp : ∀ T a, tyC h N cl U T a → tyC h1 N cl U' T a) (H : InW h N cl U Sl o wc d lns) : InW h1 N cl U' Sl1 o wc d lns := by
  obtain ⟨⟨a1, a2, a3, a4⟩, ⟨c1, c2⟩, ⟨g1, g2, g3, g4⟩, e⟩ := H
  have so := X.2.2.1 o a2 (by rw [a1]; decide)
  have sc := X.2.2.1 _ a4.2.1 (by rw [a4.2.2.1]; decide)
  have e1234 := sc.2 1234 (by decide)
  refine ⟨⟨by rw [X.2.1 _ a2]; exact a1, Nat.lt_of_lt_of_le a2 X.1, by rw [so.2 1302 (by decide)]; exact a3, clO_hS X a4⟩, ⟨by rw [e1234]; exact m1 _ c1, by rw [e1234]; exact WNs_hS X c1 c2⟩, ?_, by rw [so.2 1318 (by decide)]; exact kp _ _ e⟩
  rw [so.2 1326 (by decide), X.2.1 _ g2, X.2.2.2.2 _ g2 g1]
  exact ⟨m1 _ g1, Nat.lt_of_lt_of_le g2 X.1, g3, g4⟩
/-- fewer lists stand -/
theorem BQ_drop (H : BQ G h N cl tb us fs rest Sl Gx io ab ins ss Dk ds dm tot) (m : ∀ a, Sl1 a → Sl a) (PG : PGC h N cl (UU us rest) Sl1 io ab ins) (GV : ∀ t ∈ ss, GVC h N cl (UU us rest) Sl1 t.1 t.2) : BQ G h N cl tb us fs rest Sl1 Gx io ab ins ss Dk ds dm tot := by
  obtain ⟨T, ⟨g1, g2, g3, g4⟩, _, k, P, Sc, A⟩ := H
  exact ⟨T, ⟨g1, fun w => g2 (m _ w), fun a ha => g3 a (m a ha), g4⟩, PG, k, PoolC_less m P, fun t ht => ⟨GV t ht, (Sc t ht).2⟩, A⟩
/-- one more list stands -/
theorem BQ_more (H : BQ G h N cl tb us fs rest Sl Gx io ab ins ss Dk ds dm tot) {Lx : Nat} (hL : Lx < hz h ∧ kd h Lx = 42) (n1 : Lx ≠ fR h 122 tb) (n2 : Lx ≠ fR h 138 tb) (n3 : ∀ d, Dk d → Lx ≠ fR h 1630 d ∧ Lx ≠ fR h 1634 d) : BQ G h N cl tb us fs rest (fun a => Sl a ∨ a = Lx) Gx io ab ins ss Dk ds dm tot := by
  obtain ⟨T, ⟨g1, g2, g3, g4⟩, PG, k, ⟨⟨p1, p2, p3⟩, p4, p5, p8, p9, p10, p11⟩, Sc, A⟩ := H
  have m : ∀ a, Sl a → (Sl a ∨ a = Lx) := fun a w => .inl w
  have ls : ∀ {M cap : Nat}, M ≠ Lx → lsD h tb Sl M cap → lsD h tb (fun a => Sl a ∨ a = Lx) M cap := fun {M cap} nM w => ⟨w.1, w.2.1, fun v => v.elim w.2.2.1 nM, w.2.2.2⟩
  refine ⟨T, ⟨g1, fun w => w.elim g2 (fun e => n1 e.symm), fun a ha => ?_, g4⟩, PGC_more m PG, k, ⟨⟨p1, fun w => w.elim p2 (fun e => n2 e.symm), p3⟩, p4, p5, p8, p9, fun d hd => ⟨(p10 d hd).1, (p10 d hd).2.1.imp id (ls (fun e => (n3 d hd).1 e.symm)), (p10 d hd).2.2.imp id (ls (fun e => (n3 d hd).2 e.symm))⟩, p11⟩, fun t ht => ⟨GVC_more m (Sc t ht).1, (Sc t ht).2⟩, A⟩
  rcases ha with w | w
  · exact g3 a w
  · rw [w]; exact hL
/-- a thing is added, however long the list's array is -/
theorem w_add0 {h : om_H} {L x : Nat} (o1 : kd h L = 42) (o2 : (ll h L).length ≤ lc h L) (o4 : ∀ y ∈ ll h L, objY G h y) (hx' : objY G h x) (hn : (ll h L).length ≤ 40000) : P_J2_add G L x h = some (1, addL h L x) ∧ hxL L h (addL h L x) ∧ ll (addL h L x) L = ll h L ++ [x] ∧ hz (addL h L x) ≤ hz h + 1 ∧ hu (addL h L x) + 4 * lc h L ≤ hu h + 4 * lc (addL h L x) L := by
  have ad : P_J2_add G L x h = some (1, addL h L x) := by
    unfold P_J2_add
    exact gd_pos ⟨o1, o2, by omega, objY_obj hx', fun y hy => objY_obj (o4 y hy)⟩
  obtain ⟨a1, a2, a3, a4, a5, a6, a7⟩ := addL_room2 h L x o2
  have k1 : ∀ a, kd (addL h L x) a = kd h a := fun a => addL_kd _ _ _ _ o1
  have l1 : ll (addL h L x) L = ll h L ++ [x] := by rw [addL_ll _ _ _ _ o2, if_pos rfl]
  exact ⟨ad, ⟨a4, a6, fun a _ => k1 a, fun f a _ => addL_fI _ _ _ _ _, fun f a _ => addL_fR _ _ _ _ _, fun a _ => addL_an _ _ _ _, fun a i _ => addL_aI _ _ _ _ _, fun a i _ => addL_aR _ _ _ _ _, fun a _ c => by rw [addL_ll _ _ _ _ o2, if_neg c], fun a _ c => addL_lc _ _ _ _ c⟩, l1, a5, a7⟩
set_option maxHeartbeats 1000000 in
/-- AN INST'S LINES, as a whole -/
theorem c_jlns (hI : intO G) (nd : ndN N) {B : Nat} {st : JS} {zz : (Nat × Nat) ⊕ (List Et × JS)} (J : JOk (fn, mt, ab, ins, s.2) B) (J2 : JOk2 (fn, mt, ab, ins, s.2)) (hs : s ∈ ss) (okH : tyOk ins (hdI d)) (hlen : lns.length ≤ 3000) (H : BQ G h N cl tb us fs rest Sl Gx io ab ins ss Dk ds dm st.1) (S0 : ∀ a, Sl0 a → Sl a) (PG0 : PGC h N cl (UU us rest) Sl0 io ab ins) (GV0 : ∀ t ∈ ss, GVC h N cl (UU us rest) Sl0 t.1 t.2) (JC0 : JCE N cl fo mo (fn, mt, ab, ins, s.2) h (UU us rest) Sl0) (hp : kd h pr = 2 ∧ pr < hz h ∧ fR h 78 pr = tb) (IW : InW h N cl (UU us rest) Sl0 o wc d lns) (h86 : fR h 1286 o = s.1) (hL : Sl (fR h 1322 o) ∧ ¬ Sl0 (fR h 1322 o) ∧ fR h 1322 o ≠ 0 ∧ ll h (fR h 1322 o) = []) (LW : ∀ y ∈ lns, LnW G N cl rest fo mo (fn, mt, ab, ins, s.2) H0 o wc d h us Sl0 y) (pw : lns.Pairwise (fun y y' => y.2.2.2.2.2.2 ≤ y'.1)) (R : RmJ us fs ds dm st.1 (lnQ (fn, mt, ab, ins, s.2) lns) (4 * lnX lns)) (hl : lo ≤ dm ∧ H0 ≤ hz h) (ez : jls (fn, mt, ab, ins, s.2) (lns.map (ldT wc d)) st = some zz) : ∃ (h' : om_H) (us' fs' : List Nat) (Dk' : Nat → Prop) (ds' : List Nat) (dm' : Nat), (∀ k p, zz = .inl (k, p) → ∃ a', C_1_judgeLines G pr o h = some (.inl a', h') ∧ FtB G N cl tb rest ss (fun a => Sl a ∧ a ≠ fR h 1322 o) Gx (WLn lns) h us fs Dk ds dm (k : Int) (p : Int) a' h' us' fs' Dk' ds' dm' (lnQ (fn, mt, ab, ins, s.2) lns + 142 * (464 - st.1)) (16 * lnX lns + 2 * lns.length + 4) (192 * lnX lns + 110 * lns.length + 80) ∧ dm' ≤ dm + 5 * (464 - st.1) + 4 * lnX lns) ∧ ∀ es s', zz = .inr (es, s') → ∃ Sl', C_1_judgeLines G pr o h = some (.inr (), h') ∧ (∀ a, Sl a → Sl' a) ∧ BQ G h' N cl tb us' fs' rest Sl' Gx io ab ins ss Dk' ds' dm' s'.1 ∧ (st.1 ≤ s'.1 ∧ s'.1 ≤ 300) ∧ KB N cl tb rest ss (fun a => Sl a ∧ a ≠ fR h 1322 o) Gx (WLn lns) h us fs Dk ds dm h' us' fs' Dk' ds' dm' (lnQ (fn, mt, ab, ins, s.2) lns + 142 * (s'.1 - st.1)) (16 * lnX lns + 2 * lns.length + 2) (192 * lnX lns + 110 * lns.length + 60) ∧ dm' ≤ dm + 5 * (s'.1 - st.1) + 4 * lnX lns ∧ tsD N cl rest st.2 s'.2 h' us' ∧ es.length = lns.length ∧ ∀ (i : Nat) (y : LD) (e : Et), lns[i]? = some y → es[i]? = some e → LnJ G N cl rest io fo mo (fn, mt, ab, ins, s.2) lo H0 wc d h' us' Dk' ds' dm' Sl' y e := by
  obtain ⟨⟨o1, o2, o3, o4⟩, _, _, _⟩ := id IW
  obtain ⟨L1, L2, L3, L4⟩ := hL
  have gL := H.2.1.2.2.1 _ L1
  -- a finder
  obtain ⟨h1, i1, i2, i3, ⟨i4, i5, i6, i7⟩, Q1, K1, HQ1⟩ := BQ_fin nd H hs
  have F1 := HQ1.1
  have eo := i3 o o2
  have eL := i3 _ gL.1
  have e1322 : fR h1 1322 o = fR h 1322 o := eo.2.2.1 1322
  obtain ⟨Slm, eSlm⟩ : ∃ Slm : Nat → Prop, Slm = fun a => Sl a ∧ a ≠ fR h 1322 o := ⟨_, rfl⟩
  have m01 : ∀ a, Sl0 a → Slm a := fun a w => by rw [eSlm]; exact ⟨S0 a w, fun e => L2 (by rw [← e]; exact w)⟩
  have m1S : ∀ a, Slm a → Sl a := fun a w => by rw [eSlm] at w; exact w.1
  have kp1 := K1.2.2.2.2.2.2.2.1
  have X10 : hS Sl0 h h1 := hS_less S0 K1.1
  have clk : ∀ c, clO h1 cl c → clO h cl c := fun c hc => by
    obtain ⟨a1, a2, a3, a4⟩ := hc
    have lt := H.2.1.2.2.2 c
    have ec := i3 (cl c) lt
    exact ⟨a1, lt, by rw [← ec.1]; exact a3, by rw [← ec.2.1]; exact a4⟩
  have PG1 := PGC_hS X10 kp1 PG0 clk
  have GV1 : ∀ t ∈ ss, GVC h1 N cl (UU us rest) Sl0 t.1 t.2 := fun t ht => GVC_hS X10 kp1 (GV0 t ht)
  have Qm := BQ_drop Q1 m1S (PGC_more m01 PG1) (fun t ht => GVC_more m01 (GV1 t ht))
  -- the head
  have IW1 := InW_hS (Sl1 := Sl0) X10 (fun _ w => w) kp1 IW
  have ch := IW1.2.2.2
  have c34 := tyC_34 ch (by unfold hdI; intro z; cases z)
  have OW : (ll h1 (fR h 1322 o)).length ≤ lc h1 (fR h 1322 o) := by rw [eL.2.2.2.2.2.2.1, L4]; exact Nat.zero_le _
  obtain ⟨a1, a2, a4, a5, a6⟩ := w_add0 (x := fR h1 1318 o) (by rw [eL.1]; exact gL.2 : kd h1 (fR h 1322 o) = 42) OW (fun y hy => by rw [eL.2.2.2.2.2.2.1, L4] at hy; cases hy) (.inl ⟨c34.2.2.1, by have := c34.1; omega, by have := c34.1; omega⟩) (by rw [eL.2.2.2.2.2.2.1, L4]; exact Nat.zero_le _)
  have rm2 := addL_room2 h1 (fR h 1322 o) (fR h1 1318 o) OW
  have lm := rm2.2.1
  have X2 : hT (fun a => a = fR h 1322 o) h1 (addL h1 (fR h 1322 o) (fR h1 1318 o)) := ⟨a2.1, a2.2.1, a2.2.2.1, fun a ha n => ⟨a2.2.2.1 a ha, fun f => a2.2.2.2.1 f a ha, fun f => a2.2.2.2.2.1 f a ha, a2.2.2.2.2.2.1 a ha, fun i => a2.2.2.2.2.2.2.1 a i ha, fun i => a2.2.2.2.2.2.2.2.1 a i ha, a2.2.2.2.2.2.2.2.2.1 a ha n, a2.2.2.2.2.2.2.2.2.2 a ha n⟩⟩
  have l4 : (ll h1 (fR h 1322 o)).length = 0 := by rw [eL.2.2.2.2.2.2.1, L4]; rfl
  have l5 : lc h1 (fR h 1322 o) = lc h (fR h 1322 o) := eL.2.2.2.2.2.2.2
  have a4' : ll (addL h1 (fR h 1322 o) (fR h1 1318 o)) (fR h 1322 o) = [fR h1 1318 o] := by rw [a4, eL.2.2.2.2.2.2.1, L4]; rfl
  have nDl : ∀ (hh : om_H), (∀ f, fR hh f tb = fR h f tb) → (∀ dd, Dk dd → (∀ f, fR hh f dd = fR h f dd)) → fR h 1322 o ≠ fR hh 122 tb ∧ fR h 1322 o ≠ fR hh 138 tb ∧ ∀ dd, Dk dd → fR h 1322 o ≠ fR hh 1630 dd ∧ fR h 1322 o ≠ fR hh 1634 dd := fun hh e1 e2 => by
    refine ⟨fun e => ?_, fun e => ?_, fun dd hdd => ⟨fun e => ?_, fun e => ?_⟩⟩
    · rw [e1] at e; exact H.2.1.2.1 (by rw [← e]; exact L1)
    · rw [e1] at e; exact H.2.2.2.2.1.1.2.1 (by rw [← e]; exact L1)
    · rw [e2 dd hdd] at e
      rcases (H.2.2.2.2.1.2.2.2.2.2.1 dd hdd).2.1 with w | w
      · exact L3 (e.trans w)
      · exact w.2.2.1 (by rw [← e]; exact L1)
    · rw [e2 dd hdd] at e
      rcases (H.2.2.2.2.1.2.2.2.2.2.1 dd hdd).2.2 with w | w
      · exact L3 (e.trans w)
      · exact w.2.2.1 (by rw [← e]; exact L1)
  have n1 := nDl h1 (fun f => (i3 tb (TB_3 H.1).2.2).2.2.1 f) (fun dd hdd f => (i3 dd (H.2.2.2.2.1.2.2.2.2.2.1 dd hdd).1.2.1).2.2.1 f)
  have st1 : P_J2_add G (fR h 1322 o) (fR h1 1318 o) h1 = some (1, addL h1 (fR h 1322 o) (fR h1 1318 o)) := a1
  obtain ⟨h2, eh2⟩ : ∃ h2, h2 = addL h1 (fR h 1322 o) (fR h1 1318 o) := ⟨_, rfl⟩
  rw [← eh2] at X2 a4' a5 a6 lm st1
  obtain ⟨B2, K2⟩ := BQ_w (W := fun _ => False) (z := 1) (u := 48) nd Qm X2 (fun y w _ => .inr ⟨by rw [w, eL.1]; exact gL.2, fun v => by rw [eSlm] at v; exact v.2 w, by rw [w]; exact n1.1, by rw [w]; exact n1.2.1, fun dd hdd => by rw [w]; exact n1.2.2 dd hdd⟩) (fun y w => by rw [w]; omega) ⟨a5, by omega⟩
  have e2 : ∀ a, a < hz h1 → a ≠ fR h 1322 o → eqA a h1 h2 := fun a ha n => X2.2.2.2 a ha n
  have kL2 : fR h 1322 o < hz h2 ∧ kd h2 (fR h 1322 o) = 42 := ⟨by have := X2.1; omega, by rw [X2.2.2.1 _ (by omega), eL.1]; exact gL.2⟩
  have t3 := TB_3 Q1.1
  have kL1 : kd h1 (fR h 1322 o) = 42 := by rw [eL.1]; exact gL.2
  have n2 := nDl h2 (fun f => ((e2 tb t3.2.2 (fun e => by rw [← e, t3.1] at kL1; omega)).2.2.1 f).trans ((i3 tb (TB_3 H.1).2.2).2.2.1 f)) (fun dd hdd f => by
    obtain ⟨⟨_, y1, y2⟩, _, _⟩ := H.2.2.2.2.1.2.2.2.2.2.1 dd hdd
    exact ((e2 dd (by omega) (fun e => by rw [← e, y2] at gL; omega)).2.2.1 f).trans ((i3 dd y1).2.2.1 f))
  have B3' := BQ_more B2 kL2 n2.1 n2.2.1 n2.2.2
  have eSl : (fun a => Slm a ∨ a = fR h 1322 o) = Sl := funext (fun a => propext ⟨fun w => w.elim (m1S a) (fun e => by rw [e]; exact L1), fun w => by
    by_cases v : a = fR h 1322 o
    · exact .inr v
    · exact .inl (by rw [eSlm]; exact ⟨w, v⟩)⟩)
  rw [eSl] at B3'
  have kp2 := K2.2.2.2.2.2.2.2.1
  have X20 : hS Sl0 h1 h2 := hS_less m01 K2.1
  have e9 := e2 (hz h) (by omega) (by omega)
  have FL2 : FnL h2 tb (hz h) s.1 := ⟨by rw [e9.1]; exact i6, by have := X2.1; omega, by rw [e9.2.2.1]; exact i7, by rw [e9.2.2.1]; exact F1.2.1.2, by rw [e9.2.1]; exact F1.2.2.2.2.2.1⟩
  have JC2 : JCE N cl fo mo (fn, mt, ab, ins, s.2) h2 (UU us rest) Sl := JCE_more S0 (JCE_keep X20 kp2 (JCE_keep X10 kp1 JC0))
  have IW2 := InW_hS (Sl1 := Sl0) X20 (fun _ w => w) kp2 IW1
  have eo2 : fR h2 1322 o = fR h 1322 o := by
    rw [(X20.2.2.1 o IW1.1.2.1 (by rw [IW1.1.1]; decide)).2 1322 (by decide)]; exact e1322
  have K01 := KB_less S0 K1
  have K12 := KB_less m01 K2
  have LP2 : ∀ y ∈ lns, LnP G N cl rest fo mo (fn, mt, ab, ins, s.2) H0 o wc d h2 us Sl y := fun y hy => by
    have w1 := LnW_KB (Sl1 := Sl0) K01 (fun _ w => w) (fun _ _ _ w => w) ⟨o4.2.1, o4.2.2.1⟩ (LW y hy)
    have w2 := LnW_KB (Sl1 := Sl) K12 S0 (fun _ _ _ w => w) ⟨IW1.1.2.2.2.2.1, IW1.1.2.2.2.2.2.1⟩ w1
    obtain ⟨⟨w3, w4, w5, w6⟩, w7⟩ := w2
    exact ⟨⟨IW2.1, w3, ⟨S0 _ IW2.2.1.1, IW2.2.1.2⟩, w4, w5, w6, ⟨by rw [eo2]; exact L1, by rw [eo2]; exact kL2.1, by rw [eo2]; exact kL2.2, fR h1 1318 o, by rw [eo2]; exact a4', kp2 _ _ ch⟩⟩, w7⟩
  obtain ⟨h3, us3, fs3, Dk3, ds3, dm3, r1, r2⟩ := c_lines hI nd (lns := lns) (o := o) (l0 := hz h) (wc := wc) (d := d) J J2 hs okH hlen lns 0 st zz h2 us fs Dk ds dm Sl rfl (Nat.zero_le _) ez B3' FL2 JC2 ⟨⟨IW2.1.1, IW2.1.2.1⟩, S0 _ IW2.2.2.1.1, IW2.2.2.1.2⟩ LP2 pw R ⟨hl.1, by have := X2.1; omega⟩
  have no : kd (nO h 9 5) o = 21 := by rw [kd_nO, if_neg (by omega)]; exact o1
  have npr : kd (nO h 9 5) pr = 2 := by rw [kd_nO, if_neg (by omega)]; exact hp.1
  have n86 : fR (nO h 9 5) 1286 o = s.1 := by rw [fR_nO, if_neg (by omega)]; exact h86
  have n78 : fR (nO h 9 5) 78 pr = tb := by rw [fR_nO, if_neg (by omega)]; exact hp.2.2
  have run : C_1_judgeLines G pr o h = (om_loop (C_1_judgeLines_30s G o (hz h)) (0, h2)).bind (Sum.elim (fun v3 => some (.inr (), v3)) (fun v3 => some v3)) := by
    unfold C_1_judgeLines
    rw [gd_pos ⟨no, npr, i2⟩, n86, n78, i1, Option.bind_some, e1322, gd_pos ⟨by rw [eo.1]; exact o1, kL1⟩, st1, Option.bind_some]
  rw [run]
  have K02 := KB_trans (KB_less m1S K1) K2
  refine ⟨h3, us3, fs3, Dk3, ds3, dm3, fun k p w => ?_, fun es s' w => ?_⟩
  · obtain ⟨a', j1, ⟨j2, j3, j4, j5⟩, j6⟩ := r1 k p w
    have j1' : om_loop (C_1_judgeLines_30s G o (hz h)) (0, h2) = some (.inr (.inl a', h3)) := j1
    refine ⟨a', by rw [j1']; rfl, ⟨j2, j3, PoolC_less (fun a w => w.1) j4, ?_⟩, j6⟩
    rw [← eSlm]
    exact KB_le (KB_trans (KB_le K02 (W' := WLn lns) (fun _ _ w => w.elim) (Nat.le_refl _) (Nat.le_refl _) (Nat.le_refl _)) (KB_less m1S j5)) (fun _ _ w => w) (by omega) (by omega) (by omega)
  · obtain ⟨Sl', j1, j2, j3, j4, j5, j6, j7, j8, j9, j10, j11⟩ := r2 es s' w
    have j1' : om_loop (C_1_judgeLines_30s G o (hz h)) (0, h2) = some (.inl h3) := j1
    refine ⟨Sl', by rw [j1']; rfl, j2, j3, j6, ?_, j8, j9, j10, j11⟩
    rw [← eSlm]
    exact KB_le (KB_trans (KB_le K02 (W' := WLn lns) (fun _ _ w => w.elim) (Nat.le_refl _) (Nat.le_refl _) (Nat.le_refl _)) (KB_less m1S j7)) (fun _ _ w => w) (by omega) (by omega) (by omega)
end LJI
