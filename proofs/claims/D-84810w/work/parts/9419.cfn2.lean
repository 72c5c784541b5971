set_option maxRecDepth 100000
/-! THE COMPONENT's judge: a function's givens in a row; a function's name -/
def gCs (g : GVs) : Nat := if g.1 < 100 then 0 else 2
/-- types that a name may make, in the component -/
def jCk : List GVs → Nat
  | [] => 0
  | g :: l => gCs g + jCk l
def jK (E : JE) (lb : XL) : Nat := if lb.2.1 = 1 then (E.1[lb.2.2.1]?).elim 0 (fun f => min 60 (tsz f.2.2) + jCk f.2.1) else if lb.2.1 = 2 then 60 else 7
section LFM
variable {G : om_G} {N : List (List Int)} {cl : Nat → Nat} {tb l0 sc jg Lb : Nat} {rest : List (Nat × List Nat)} {Sl Gx U U' : Nat → Prop} {io fo mo : Nat → Nat} {E : JE} {B lo H0 : Nat} {Γ : List Ty} {tot q z u alo ahi nm pl Lt : Nat}
theorem zip_mem_lk {ns : List Nat} {ts : List Ty} (hl : ts.length = ns.length) {w : Nat} (m : w ∈ ns) : ∃ T, lkT (ns.zip ts) w = some T ∧ (w, T) ∈ ns.zip ts := by
  obtain ⟨j, hj, e⟩ := List.getElem_of_mem m
  have hj' : j < ts.length := by omega
  have mem : (ns[j], ts[j]) ∈ ns.zip ts := List.mem_of_getElem? (i := j) (List.getElem?_zip_eq_some.mpr ⟨List.getElem?_eq_getElem hj, List.getElem?_eq_getElem hj'⟩)
  cases q : lkT (ns.zip ts) w with
  | some T => exact ⟨T, rfl, lkT_mem q⟩
  | none =>
    unfold lkT at q
    rw [Option.map_eq_none_iff, List.find?_eq_none] at q
    exact absurd (by rw [beq_iff_eq]; exact e) (q _ mem)
/-- ONE GIVEN of a function's name -/
theorem c_gv1 (nd : ndN N) (J : JOk E B) (J2 : JOk2 E) {i : Nat} {f : List Nat × List GVs × Ty} (ef : E.1[i]? = some f) {ts : List Ty} (hts : ∀ T ∈ ts, tyOk E.2.2.2.1 T ∧ tsz T ≤ 2700) (htl : ts.length = f.1.length) {x0 k : Nat} {g : GVs} (eg : f.2.1[k]? = some g) {s : JS} {zz : (Nat × Nat) ⊕ (Dc × JS)} {Ds : List Dc} {evs : List Nat} {h : om_H} {us fs : List Nat} {Dk : Nat → Prop} {ds : List Nat} {dm : Nat} (e : (if g.1 < 100 then jcl E pl g.1 ((lkT (f.1.zip ts) g.2.1).getD .leaf) s else jeq E pl (tnd 2 (g.1 - 100) ((lkT (f.1.zip ts) g.2.1).getD .leaf) .leaf) (sbT (f.1.zip ts) g.2.2) s) = some zz) (H : JQ G N cl tb l0 sc rest Gx io E jg Lb h us fs Dk ds dm Sl Γ s.1) (C : JCE N cl fo mo E h (UU us rest) Sl) (M : NmS N cl tb rest Lb io E lo H0 Sl h us Dk ds dm nm pl Lt Ds evs) (P : PutC h N cl (UU us rest) (fR h 162 (fR h 1542 (fo i))) Lt 0 (f.1.zip ts) ∧ Sl Lt) (R : RmJ us fs ds dm s.1 (gCs g) 1) (len : evs.length < 4) : ∃ (r : (Int × om_H) ⊕ (om_H ⊕ om_H ⊕ ((Nat ⊕ Nat) × om_H))) (h1 : om_H) (us1 fs1 : List Nat) (Dk1 : Nat → Prop) (ds1 : List Nat) (dm1 : Nat), C_37_function_44s G jg nm (fo i) x0 ((k : Int), h) = some r ∧ (∀ k p, zz = .inl (k, p) → ∃ v, r = .inr v ∧ ∃ a, fnK G nm x0 v = some (.inl a, h1) ∧ JF G N cl tb l0 sc rest Gx Lb Sl nm (nm + 1) h us fs Dk ds dm h1 us1 fs1 Dk1 ds1 dm1 (gCs g) 0 0 1 s.1 k p a) ∧ ∀ D s', zz = .inr (D, s') → r = .inl (((k + 1 : Nat) : Int), h1) ∧ JQ G N cl tb l0 sc rest Gx io E jg Lb h1 us1 fs1 Dk1 ds1 dm1 Sl Γ s'.1 ∧ (s.1 ≤ s'.1 ∧ s'.1 ≤ 300) ∧ KRm N cl tb l0 sc rest Gx Lb Sl nm (nm + 1) h us fs Dk ds dm h1 us1 fs1 Dk1 ds1 dm1 (gCs g) 3 10 1 (s'.1 - s.1) ∧ tsD N cl rest s.2 s'.2 h1 us1 ∧ (∃ y, NmS N cl tb rest Lb io E lo H0 Sl h1 us1 Dk1 ds1 dm1 nm pl Lt (Ds ++ [D]) (evs ++ [y])) ∧ nmK h h1 nm := by
  obtain ⟨⟨a1, a2, a3⟩, ⟨a4, a5⟩, ⟨⟨g1, g2⟩, ⟨g3, g4, g5⟩, ⟨g6, g7⟩, g8⟩, a7⟩ := C.1 i f ef
  have kl := (List.getElem?_eq_some_iff.mp eg).1
  have ex : (ll h (fR h 166 (fR h 1542 (fo i))))[k]? = some (ll h (fR h 166 (fR h 1542 (fo i))))[k] := List.getElem?_eq_getElem (by omega)
  generalize (ll h (fR h 166 (fR h 1542 (fo i))))[k] = x2 at ex
  obtain ⟨⟨x21, x22⟩, x23, x24⟩ := g8 k x2 g ex eg
  obtain ⟨_, _, Jg⟩ := J.2.1 f (List.mem_of_getElem? ef)
  obtain ⟨j1, j2⟩ := Jg g (List.mem_of_getElem? eg)
  have hθ : ∀ p ∈ f.1.zip ts, tyOk E.2.2.2.1 p.2 ∧ tsz p.2 ≤ 2700 := fun p hp => hts _ (List.of_mem_zip hp).2
  obtain ⟨Tf, t1, t2⟩ := zip_mem_lk htl j1
  have okT := hθ _ t2
  have szT : tsz Tf ≤ 2700 := okT.2
  obtain ⟨y, y1, y2⟩ := c_typeFor (G := G) nd P.1 g2 x23 t1 okT.1.1
  rw [t1] at e
  have e' : (if g.1 < 100 then jcl E pl g.1 Tf s else jeq E pl (tnd 2 (g.1 - 100) Tf .leaf) (sbT (f.1.zip ts) g.2.2) s) = some zz := e
  have sz : P_J2_size G (fR h 166 (fR h 1542 (fo i))) h = some ((f.2.1.length : Nat) : Int) := by
    unfold P_J2_size
    rw [gd_pos g5, g6]
  have gt : P_J2_get G (fR h 166 (fR h 1542 (fo i))) (k : Int) h = some x2 := by
    unfold P_J2_get
    rw [gd_pos ⟨g5, by omega⟩, show ((k : Int)).toNat = k by omega, ex]
  have nmf := M.1
  have kj := H.2.1
  have wk : w32 ((k : Int) + 1) = ((k + 1 : Nat) : Int) := by rw [w32_s (by omega) (by omega)]; rfl
  have run : C_37_function_44s G jg nm (fo i) x0 ((k : Int), h) = if fR h 1346 x2 ≠ 0 then eqB G jg nm (fo i) x2 y (k : Int) h else gd (kd h x2 = 22 ∧ kd h nm = 28 ∧ kd h jg = 37) (xc (C_37_classFor G jg (fR h 1350 x2) y (fI h 1372 nm) h) (fun t h => some (.inr (.inr (.inr (.inl t, h))))) (fun p11 h11 => gd (kd h11 nm = 28) ((C_28_because G nm p11 h11).bind fun p12 => some (.inl ((w32 ((k : Int) + 1)), p12))))) := by
    unfold C_37_function_44s
    dsimp only
    rw [gd_pos ⟨a3, g2, g5⟩, sz, Option.bind_some, if_neg (by omega), gd_pos ⟨a3, g2, g5⟩, gt, Option.bind_some, gd_pos ⟨.inr x22, a3, nmf.2.1, x22⟩, nmf.2.2.2, y1, Option.bind_some, gd_pos x22, c_isEqual x22, Option.bind_some]
    by_cases q : fR h 1346 x2 = 0
    · have q1 : (if fR h 1346 x2 ≠ 0 then (1 : Int) else 0) = 0 := if_neg (fun w => w q)
      rw [q1, if_neg (fun w => w rfl), if_neg (fun w => w q)]
    · have q1 : (if fR h 1346 x2 ≠ 0 then (1 : Int) else 0) = 1 := if_pos q
      rw [q1, if_pos (by decide), if_pos q]
      rfl
  by_cases q : g.1 < 100
  · rw [if_pos q] at e'
    have gc : gCs g = 0 := if_pos q
    obtain ⟨_, q2, q3, q4⟩ : g.1 < 100 ∧ fR h 1346 x2 = 0 ∧ fR h 1350 x2 = cl g.1 ∧ clO h cl g.1 := by
      rcases x24 with w | w
      · omega
      · exact w
    rw [if_neg (fun w => w q2), gd_pos ⟨x22, nmf.2.1, kj.1.1⟩, q3, nmf.2.2.1] at run
    rw [gc] at R ⊢
    obtain ⟨v, h1, us1, fs1, Dk1, ds1, dm1, b1, b2, b3⟩ := c_gvC nd J J2 e' H M q4 y2 okT.1 (by omega) R len
    rw [b1] at run
    cases zz with
    | inl kp =>
      obtain ⟨a, c1, c2⟩ := b2 kp.1 kp.2 rfl
      subst c1
      rw [xc_t] at run
      refine ⟨_, h1, us1, fs1, Dk1, ds1, dm1, run, fun k p w => ?_, fun D s' w => by cases w⟩
      have w' := Sum.inl.inj w
      rw [w'] at c2
      exact ⟨_, rfl, a, rfl, c2⟩
    | inr pp =>
      obtain ⟨y3, h2, c1, c2, c3, c4, c5, c6, c7, c8, c9⟩ := b3 pp.1 pp.2 rfl
      subst c1
      rw [xc_v, gd_pos c2, c3, Option.bind_some, wk] at run
      refine ⟨_, h2, us1, fs1, Dk1, ds1, dm1, run, fun k p w => (by cases w), fun D s' w => ?_⟩
      have w' := Sum.inr.inj w
      rw [w'] at c4 c5 c6 c7 c8
      exact ⟨rfl, c4, c5, c6, c7, ⟨_, c8⟩, c9⟩
  · rw [if_neg q] at e'
    have gc : gCs g = 2 := if_neg q
    obtain ⟨_, q2, q3, q4, q5⟩ : 100 ≤ g.1 ∧ fR h 1346 x2 ≠ 0 ∧ fR h 1350 x2 = cl (g.1 - 100) ∧ clO h cl (g.1 - 100) ∧ tyC h N cl (UU us rest) g.2.2 (fR h 1354 x2) := by
      rcases x24 with w | w
      · exact w
      · omega
    obtain ⟨d1, d2, d3, d4, d5⟩ := j2 (by omega)
    rw [if_pos q2] at run
    rw [gc] at R ⊢
    obtain ⟨r, h1, us1, fs1, Dk1, ds1, dm1, b1, b2, b3⟩ := c_gvE (i := (k : Int)) (x0 := x0) (fi := fo i) (p2 := x2) nd J J2 e' H M ⟨⟨kj.1.1, kj.1.2, kj.2.1, kj.2.2.1⟩, ⟨x22, x21, q3, rfl⟩, ⟨a3, a2, rfl⟩, ⟨g2, g1, rfl⟩, ⟨nmf.2.1, nmf.1, nmf.2.2.1, nmf.2.2.2⟩⟩ q4 y2 q5 P.1 ⟨a4, P.2⟩ hθ okT.1 ⟨by omega, d5⟩ ⟨d2, d3, d4⟩ okT.2 R len
    rw [b1] at run
    refine ⟨r, h1, us1, fs1, Dk1, ds1, dm1, run, b2, fun D s' w => ?_⟩
    obtain ⟨c1, c2⟩ := b3 D s' w
    exact ⟨by rw [c1, wk], c2⟩
/-- THE GIVENS of a function's name -/
theorem c_gvs (nd : ndN N) (J : JOk E B) (J2 : JOk2 E) {i : Nat} {f : List Nat × List GVs × Ty} (ef : E.1[i]? = some f) {ts : List Ty} (hts : ∀ T ∈ ts, tyOk E.2.2.2.1 T ∧ tsz T ≤ 2700) (htl : ts.length = f.1.length) {x0 : Nat} : ∀ (l : List GVs) (k : Nat) (s : JS) (zz : (Nat × Nat) ⊕ (List Dc × JS)) (Ds : List Dc) (evs : List Nat) (h : om_H) (us fs : List Nat) (Dk : Nat → Prop) (ds : List Nat) (dm : Nat), f.2.1.drop k = l → k ≤ f.2.1.length → jgv E pl (f.1.zip ts) l s = some zz → JQ G N cl tb l0 sc rest Gx io E jg Lb h us fs Dk ds dm Sl Γ s.1 → JCE N cl fo mo E h (UU us rest) Sl → NmS N cl tb rest Lb io E lo H0 Sl h us Dk ds dm nm pl Lt Ds evs → (l ≠ [] → PutC h N cl (UU us rest) (fR h 162 (fR h 1542 (fo i))) Lt 0 (f.1.zip ts) ∧ Sl Lt) → RmJ us fs ds dm s.1 (jCk l) l.length → evs.length + l.length ≤ 4 → ∃ (v : Nat ⊕ Nat) (h' : om_H) (us' fs' : List Nat) (Dk' : Nat → Prop) (ds' : List Nat) (dm' : Nat), (om_loop (C_37_function_44s G jg nm (fo i) x0) ((k : Int), h)).bind (fnK G nm x0) = some (v, h') ∧ (∀ k p, zz = .inl (k, p) → ∃ a, v = .inl a ∧ JF G N cl tb l0 sc rest Gx Lb Sl nm (nm + 1) h us fs Dk ds dm h' us' fs' Dk' ds' dm' (jCk l) (3 * l.length) (10 * l.length) l.length s.1 k p a) ∧ ∀ Dn s', zz = .inr (Dn, s') → v = .inr x0 ∧ JQ G N cl tb l0 sc rest Gx io E jg Lb h' us' fs' Dk' ds' dm' Sl Γ s'.1 ∧ (s.1 ≤ s'.1 ∧ s'.1 ≤ 300) ∧ KRm N cl tb l0 sc rest Gx Lb Sl nm (nm + 1) h us fs Dk ds dm h' us' fs' Dk' ds' dm' (jCk l) (3 * l.length) (10 * l.length) l.length (s'.1 - s.1) ∧ tsD N cl rest s.2 s'.2 h' us' ∧ (∃ evs', NmS N cl tb rest Lb io E lo H0 Sl h' us' Dk' ds' dm' nm pl Lt (Ds ++ Dn) evs') ∧ nmK h h' nm
  | [], k, s, zz, Ds, evs, h, us, fs, Dk, ds, dm, hd', hk, e, H, C, M, P, R, len => by
    obtain ⟨⟨a1, a2, a3⟩, ⟨a4, a5⟩, ⟨⟨g1, g2⟩, ⟨g3, g4, g5⟩, ⟨g6, g7⟩, g8⟩, a7⟩ := C.1 i f ef
    have lk : f.2.1.length ≤ k := List.drop_eq_nil_iff.mp hd'
    have sz : P_J2_size G (fR h 166 (fR h 1542 (fo i))) h = some ((f.2.1.length : Nat) : Int) := by
      unfold P_J2_size
      rw [gd_pos g5, g6]
    have st : C_37_function_44s G jg nm (fo i) x0 ((k : Int), h) = some (.inr (.inr (.inl h))) := by
      unfold C_37_function_44s
      dsimp only
      rw [gd_pos ⟨a3, g2, g5⟩, sz, Option.bind_some, if_pos (by omega)]
    have ez : zz = .inr ([], s) := (Option.some.inj e).symm
    rw [om_loop_out st]
    refine ⟨.inr x0, h, us, fs, Dk, ds, dm, rfl, fun k p w => (by rw [ez] at w; cases w), fun Dn s' w => ?_⟩
    rw [ez] at w
    injection Sum.inr.inj w with w1 w2
    rw [← w1, ← w2, List.append_nil]
    exact ⟨rfl, H, ⟨Nat.le_refl _, R.2.2.2⟩, KR_le (KR_KJ (q' := 0) (d := 0) (KJ_refl H.1.2.1) (by omega)) (Nat.zero_le _) (Nat.zero_le _) (Nat.zero_le _) (Nat.zero_le _) (Nat.zero_le _), tsD_refl, ⟨evs, M⟩, nmK_eq (eqA_refl _ _)⟩
  | g :: l, k, s, zz, Ds, evs, h, us, fs, Dk, ds, dm, hd', hk, e, H, C, M, P, R, len => by
    have eg : f.2.1[k]? = some g := by
      have := congrArg (fun z => z[0]?) hd'
      simpa using this
    have kl := (List.getElem?_eq_some_iff.mp eg).1
    have eC : jCk (g :: l) = gCs g + jCk l := rfl
    have eL : (g :: l).length = 1 + l.length := by rw [List.length_cons]; omega
    rw [eC, eL] at R
    rw [eL] at len
    unfold jgv jb at e
    cases q : (if g.1 < 100 then jcl E pl g.1 ((lkT (f.1.zip ts) g.2.1).getD .leaf) s else jeq E pl (tnd 2 (g.1 - 100) ((lkT (f.1.zip ts) g.2.1).getD .leaf) .leaf) (sbT (f.1.zip ts) g.2.2) s) with
    | none => rw [q] at e; cases e
    | some z1 =>
    rw [q, Option.bind_some] at e
    have PP := P (by intro w; cases w)
    obtain ⟨r, h1, us1, fs1, Dk1, ds1, dm1, b1, b2, b3⟩ := c_gv1 (x0 := x0) nd J J2 ef hts htl eg q H C M PP (RmJ_le R (by omega) (by omega)) (by omega)
    cases z1 with
    | inl kp =>
      have ez : zz = .inl kp := (Option.some.inj e).symm
      obtain ⟨v, c1, a, c2, c3⟩ := b2 kp.1 kp.2 rfl
      rw [c1] at b1
      rw [om_loop_out b1]
      refine ⟨.inl a, h1, us1, fs1, Dk1, ds1, dm1, c2, fun k p w => ?_, fun Dn s' w => by rw [ez] at w; cases w⟩
      rw [ez] at w
      have w' := Sum.inl.inj w
      rw [w'] at c3
      exact ⟨a, rfl, JF_le c3 (by rw [eC]; omega) (by omega) (by omega) (by omega)⟩
    | inr pp =>
      obtain ⟨c1, c2, c3, c4, c5, ⟨y, c6⟩, c7⟩ := b3 pp.1 pp.2 rfl
      rw [c1] at b1
      rw [om_loop_in b1]
      have X := KJ_hS c4.1
      have kp := KJ_ty c4.1
      have C1 := JCE_keep X kp C
      obtain ⟨⟨a1, a2, a3⟩, ⟨a4, a5⟩, ⟨⟨g1, g2⟩, _⟩, _⟩ := C.1 i f ef
      have s1 := (X.2.2.1 _ a2 (by rw [a3]; decide)).2 1542 (by decide)
      have s2 := (X.2.2.1 _ g1 (by rw [g2]; decide)).2 162 (by decide)
      have P1 : PutC h1 N cl (UU us1 rest) (fR h1 162 (fR h1 1542 (fo i))) Lt 0 (f.1.zip ts) := by
        rw [s1, s2]
        exact PutC_keep X kp a4 PP.2 PP.1
      have R1 := RmJ_next R c4 c3
      have e2 : (jgv E pl (f.1.zip ts) l pp.2).bind (Sum.elim (fun e => some (.inl e)) (fun b => some (.inr (pp.1 :: b.1, b.2)))) = some zz := e
      cases q2 : jgv E pl (f.1.zip ts) l pp.2 with
      | none => rw [q2] at e2; cases e2
      | some z2 =>
      rw [q2, Option.bind_some] at e2
      have hd2 : f.2.1.drop (k + 1) = l := by
        rw [← List.tail_drop, hd']; rfl
      obtain ⟨v, h', us', fs', Dk', ds', dm', i1, i2, i3⟩ := c_gvs nd J J2 ef hts htl l (k + 1) pp.2 z2 (Ds ++ [pp.1]) (evs ++ [y]) h1 us1 fs1 Dk1 ds1 dm1 hd2 (by omega) q2 c2 C1 c6 (fun _ => ⟨P1, PP.2⟩) R1 (by rw [List.length_append, List.length_singleton]; omega)
      refine ⟨v, h', us', fs', Dk', ds', dm', i1, fun k p w => ?_, fun Dn s' w => ?_⟩
      · cases z2 with
        | inl kp =>
          have ez : zz = .inl kp := (Option.some.inj e2).symm
          rw [ez] at w
          have w' := Sum.inl.inj w
          obtain ⟨a, d1, d2⟩ := i2 k p (by rw [w'])
          exact ⟨a, d1, JF_le (JF_trans c4 c3 d2) (by rw [eC]; omega) (by rw [eL]; omega) (by rw [eL]; omega) (by rw [eL]; omega)⟩
        | inr b =>
          have ez : zz = .inr (pp.1 :: b.1, b.2) := (Option.some.inj e2).symm
          rw [ez] at w; cases w
      · cases z2 with
        | inl kp =>
          have ez : zz = .inl kp := (Option.some.inj e2).symm
          rw [ez] at w; cases w
        | inr b =>
          have ez : zz = .inr (pp.1 :: b.1, b.2) := (Option.some.inj e2).symm
          rw [ez] at w
          injection Sum.inr.inj w with w1 w2
          obtain ⟨d1, d2, d3, d4, d5, ⟨ev2, d6⟩, d7⟩ := i3 b.1 b.2 rfl
          rw [← w1, ← w2]
          refine ⟨d1, d2, ⟨by omega, d3.2⟩, KR_le (KR_trans c4 d4) (by rw [eC]; omega) (by rw [eL]; omega) (by rw [eL]; omega) (by rw [eL]; omega) (by omega), tsD_trans c5 (KJ_ty d4.1) d5, ⟨ev2, ?_⟩, nmK_trans c7 d7⟩
          have eA : Ds ++ pp.1 :: b.1 = Ds ++ [pp.1] ++ b.1 := by simp
          rw [eA]; exact d6
def fCs (f : List Nat × List GVs × Ty) : Nat := if f.1 = [] then 0 else min 60 (tsz f.2.2) + jCk f.2.1
/-- A FUNCTION'S NAME -/
theorem c_fn (nd : ndN N) (J : JOk E B) (J2 : JOk2 E) {i : Nat} {f : List Nat × List GVs × Ty} (ef : E.1[i]? = some f) {ts : List Ty} (hts : ∀ T ∈ ts, tyOk E.2.2.2.1 T ∧ tsz T ≤ 2700) (htl : ts.length = f.1.length) {s : JS} {zz : (Nat × Nat) ⊕ (List Dc × JS)} {h : om_H} {us fs : List Nat} {Dk : Nat → Prop} {ds : List Nat} {dm : Nat} (e : (if f.1 ≠ [] ∧ ¬ tszW (sbT (f.1.zip ts) f.2.2) ≤ 60 then some (.inl (7, pl)) else jgv E pl (f.1.zip ts) f.2.1 s) = some zz) (H : JQ G N cl tb l0 sc rest Gx io E jg Lb h us fs Dk ds dm Sl Γ s.1) (C : JCE N cl fo mo E h (UU us rest) Sl) (M : NmS N cl tb rest Lb io E lo H0 Sl h us Dk ds dm nm pl Lt [] []) (P : (f.1 = [] ∧ Lt = 0) ∨ (f.1 ≠ [] ∧ Lt ≠ 0 ∧ PutC h N cl (UU us rest) (fR h 162 (fR h 1542 (fo i))) Lt 0 (f.1.zip ts) ∧ Sl Lt)) (R : RmJ us fs ds dm s.1 (fCs f) 4) : ∃ (v : Nat ⊕ Nat) (h' : om_H) (us' fs' : List Nat) (Dk' : Nat → Prop) (ds' : List Nat) (dm' : Nat), C_37_function G jg nm (fo i) h = some (v, h') ∧ (∀ k p, zz = .inl (k, p) → ∃ a, v = .inl a ∧ JF G N cl tb l0 sc rest Gx Lb Sl nm (nm + 1) h us fs Dk ds dm h' us' fs' Dk' ds' dm' (fCs f) 12 40 4 s.1 k p a) ∧ ∀ Dn s', zz = .inr (Dn, s') → ∃ x, v = .inr x ∧ JQ G N cl tb l0 sc rest Gx io E jg Lb h' us' fs' Dk' ds' dm' Sl Γ s'.1 ∧ (s.1 ≤ s'.1 ∧ s'.1 ≤ 300) ∧ KRm N cl tb l0 sc rest Gx Lb Sl nm (nm + 1) h us fs Dk ds dm h' us' fs' Dk' ds' dm' (fCs f) 12 40 4 (s'.1 - s.1) ∧ tsD N cl rest s.2 s'.2 h' us' ∧ (∃ evs', NmS N cl tb rest Lb io E lo H0 Sl h' us' Dk' ds' dm' nm pl Lt Dn evs') ∧ nmK h h' nm ∧ tyC h' N cl (UU us' rest) (if f.1 = [] then f.2.2 else sbT (f.1.zip ts) f.2.2) x := by
  obtain ⟨⟨a1, a2, a3⟩, ⟨a4, a5⟩, ⟨⟨g1, g2⟩, _⟩, a7⟩ := C.1 i f ef
  obtain ⟨⟨f1, f2, f3⟩, ⟨f4, f5⟩, Jg⟩ := J.2.1 f (List.mem_of_getElem? ef)
  have nmf := M.1
  have kj := H.2.1
  have fn40 : ∀ x0 (h1 : om_H), C_37_function_40 G jg nm (fo i) x0 h1 = (om_loop (C_37_function_44s G jg nm (fo i) x0) (((0 : Nat) : Int), h1)).bind (fnK G nm x0) := fun x0 h1 => rfl
  unfold C_37_function
  rw [gd_pos nmf.2.1, nmf.2.2.2]
  rcases P with ⟨p0, p1⟩ | ⟨p0, p1, p2, p3⟩
  · have ng : f.2.1 = [] := by
      cases q : f.2.1 with
      | nil => rfl
      | cons g l =>
        have := (Jg g (by rw [q]; exact List.mem_cons_self)).1
        rw [p0] at this
        exact absurd this List.not_mem_nil
    rw [if_neg (fun w => w.1 p0)] at e
    rw [if_neg (fun w => w p1), gd_pos a3, fn40, if_pos p0]
    have fc : fCs f = 0 := if_pos p0
    rw [fc] at R ⊢
    have jc : jCk f.2.1 = 0 := by rw [ng]; rfl
    have jl : f.2.1.length = 0 := by rw [ng]; rfl
    obtain ⟨v, h', us', fs', Dk', ds', dm', i1, i2, i3⟩ := c_gvs (x0 := fR h 1550 (fo i)) nd J J2 ef hts htl f.2.1 0 s zz [] [] h us fs Dk ds dm rfl (Nat.zero_le _) e H C M (fun w => absurd ng w) (RmJ_le R (by omega) (by omega)) (by rw [jl]; exact Nat.zero_le _)
    rw [jc, jl] at i2 i3
    refine ⟨v, h', us', fs', Dk', ds', dm', i1, fun k p w => ?_, fun Dn s' w => ?_⟩
    · obtain ⟨a, c1, c2⟩ := i2 k p w
      exact ⟨a, c1, JF_le c2 (by omega) (by omega) (by omega) (by omega)⟩
    · obtain ⟨c1, c2, c3, c4, c5, c6, c7⟩ := i3 Dn s' w
      exact ⟨_, c1, c2, c3, KR_le c4 (by omega) (by omega) (by omega) (by omega) (by omega), c5, c6, c7, KJ_ty c4.1 _ _ a7⟩
  · have hθ : ∀ p ∈ f.1.zip ts, tyOk E.2.2.2.1 p.2 ∧ tsz p.2 ≤ 2700 := fun p hp => hts _ (List.of_mem_zip hp).2
    have wS : wfS (f.1.zip ts) := fun p hp => ⟨(hθ p hp).1.2.1, (hθ p hp).1.1⟩
    have fc : fCs f = min 60 (tsz f.2.2) + jCk f.2.1 := if_neg p0
    rw [fc] at R ⊢
    obtain ⟨r1, r2, r3, r4⟩ := id R
    have nn := nnT_le f.2.2
    have nn2 := nnT_sb (θ := f.1.zip ts) f.2.2
    have Fq := H.1.1
    have nl : fR h 162 (fR h 1542 (fo i)) ≠ fR h 122 tb ∧ Lt ≠ fR h 122 tb := ⟨fun w => Fq.2.2.1.2.1 (by rw [← w]; exact a4), fun w => Fq.2.2.1.2.1 (by rw [← w]; exact p3)⟩
    obtain ⟨v1, h1, us1, fs1, b1, b2, b3⟩ := c_put8 nd wS (pl : Int) Fq nl p2 a7 f1.1 f1.2.1 (by omega) (by omega)
    rw [if_pos p1, gd_pos ⟨kj.1.1, a3, g2, nmf.2.1, by rw [kj.2.1]; exact Fq.2.1.1.1⟩, kj.2.1, nmf.2.2.1, b1, if_neg p0]
    by_cases s2 : tszW (sbT (f.1.zip ts) f.2.2) ≤ 60
    rotate_left
    · obtain ⟨a, ea, g1', g2', g3'⟩ := b3 s2
      subst ea
      rw [if_pos ⟨p0, s2⟩] at e
      have ez : zz = .inl (7, pl) := (Option.some.inj e).symm
      rw [xc_t]
      refine ⟨_, h1, us1, fs1, Dk, ds, dm, rfl, fun k p w => ?_, fun D s' w => by rw [ez] at w; cases w⟩
      rw [ez] at w
      injection Sum.inl.inj w with w1 w2
      rw [← w1, ← w2]
      exact ⟨a, rfl, JF_le (JF_KF2 (q' := 0) H g1' g2' g3' r4 (by omega)) (by omega) (by omega) (by omega) (by omega)⟩
    obtain ⟨x0, ey, c2, F1, K1, _⟩ := b2 s2
    subst ey
    rw [if_neg (fun w => w.2 s2)] at e
    rw [xc_v, fn40]
    obtain ⟨JK1, JQ1⟩ := JQ_KF (alo := nm) (ahi := nm + 1) H K1 F1.1
    have Q1 := JQ1 s.1 F1
    obtain ⟨M1, nk1⟩ := NmS_KF H M K1 F1.1
    have X := KJ_hS JK1
    have kp := KJ_ty JK1
    have C1 := JCE_keep X kp C
    have s1 := (X.2.2.1 _ a2 (by rw [a3]; decide)).2 1542 (by decide)
    have s3 := (X.2.2.1 _ g1 (by rw [g2]; decide)).2 162 (by decide)
    have P1 : PutC h1 N cl (UU us1 rest) (fR h1 162 (fR h1 1542 (fo i))) Lt 0 (f.1.zip ts) := by
      rw [s1, s3]
      exact PutC_keep X kp a4 p3 p2
    have sz2 := tszW_eq (T := sbT (f.1.zip ts) f.2.2) (by
      have := sbT_tsz (B := 2700) (by decide) (fun p hp => (hθ p hp).2) f1.2.1
      have h2 : 2700 * tsz f.2.2 ≤ 2700 * 2700 := Nat.mul_le_mul_left _ f2
      omega)
    have nV : nnT f.2.2 ≤ min 60 (tsz f.2.2) := by omega
    have KR1 : KRm N cl tb l0 sc rest Gx Lb Sl nm (nm + 1) h us fs Dk ds dm h1 us1 fs1 Dk ds dm (min 60 (tsz f.2.2)) 0 0 0 (s.1 - s.1) := KR_KJ (KJ_le JK1 nV (Nat.le_refl _) (Nat.le_refl _)) (by omega)
    have R1 : RmJ us1 fs1 ds dm s.1 (jCk f.2.1) 4 := RmJ_next (n := 0) (by rw [Nat.zero_add]; exact R) KR1 ⟨Nat.le_refl _, r4⟩
    obtain ⟨v, h', us', fs', Dk', ds', dm', i1, i2, i3⟩ := c_gvs (x0 := x0) nd J J2 ef hts htl f.2.1 0 s zz [] [] h1 us1 fs1 Dk ds dm rfl (Nat.zero_le _) e Q1 C1 M1 (fun _ => ⟨P1, p3⟩) (RmJ_le R1 (Nat.le_refl _) f5) (by show 0 + f.2.1.length ≤ 4; omega)
    refine ⟨v, h', us', fs', Dk', ds', dm', i1, fun k p w => ?_, fun Dn s' w => ?_⟩
    · obtain ⟨a, d1, d2⟩ := i2 k p w
      exact ⟨a, d1, JF_le (JF_trans KR1 ⟨Nat.le_refl _, r4⟩ d2) (by omega) (by omega) (by omega) (by omega)⟩
    · obtain ⟨d1, d2, d3, d4, d5, d6, d7⟩ := i3 Dn s' w
      exact ⟨_, d1, d2, d3, KR_le (KR_trans KR1 d4) (by omega) (by omega) (by omega) (by omega) (by omega), d5, d6, nmK_trans nk1 d7, KJ_ty d4.1 _ _ c2⟩
end LFM
