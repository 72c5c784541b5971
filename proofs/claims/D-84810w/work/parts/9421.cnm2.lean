set_option maxRecDepth 100000
/-! THE COMPONENT's judge: a name, as a whole -/
section LNN
variable {G : om_G} {N : List (List Int)} {cl : Nat → Nat} {tb l0 sc jg Lb : Nat} {rest : List (Nat × List Nat)} {Sl Gx U U' : Nat → Prop} {io fo mo : Nat → Nat} {E : JE} {B lo H0 : Nat} {Γ : List Ty} {tot q z u alo ahi nm uo d : Nat} {lb : XL} {h : om_H} {us fs : List Nat} {Dk : Nat → Prop} {ds : List Nat} {dm : Nat} {h1 : om_H} {us1 fs1 : List Nat} {Dk1 : Nat → Prop} {ds1 : List Nat} {dm1 : Nat}
theorem jb_some {α β : Type} {x : Option ((Nat × Nat) ⊕ α)} {f : α → (Nat × Nat) ⊕ β} {zz : (Nat × Nat) ⊕ β} (e : jb x (fun a => some (f a)) = some zz) : ∃ z1, x = some z1 ∧ (∀ kp, z1 = .inl kp → zz = .inl kp) ∧ ∀ a, z1 = .inr a → zz = f a := by
  unfold jb at e
  cases x with
  | none => cases e
  | some z1 =>
    refine ⟨z1, rfl, fun kp w => ?_, fun a w => ?_⟩
    · subst w; exact (Option.some.inj e).symm
    · subst w; exact (Option.some.inj e).symm
/-- the name before it is judged -/
theorem NmS_0 (H : JQ G N cl tb l0 sc rest Gx io E jg Lb h us fs Dk ds dm Sl Γ tot) (Nc : nmC h N cl (UU us rest) Sl fo mo lb d nm) (hn : nm < hz h) (r0 : fR h 1482 nm = 0) (hlo : lo ≤ dm) (h0 : H0 ≤ hz h) : NmS N cl tb rest Lb io E lo H0 Sl h us Dk ds dm nm lb.1 (fR h 1462 nm) [] [] := ⟨⟨hn, Nc.1.1, Nc.1.2.1, rfl⟩, .inl ⟨rfl, r0⟩, by rw [r0]; exact H.2.2.2.1, ⟨rfl, fun i y D e1 _ => by cases e1⟩, hlo, h0, fun y hy => absurd hy List.not_mem_nil⟩
theorem nm_Sl (Nc : nmC h N cl U Sl fo mo lb d nm) (ne : lb.2.2.2.2.2 ≠ []) : Sl (fR h 1462 nm) ∧ fR h 1462 nm ≠ 0 ∧ kd h (fR h 1462 nm) = 42 := by
  rcases Nc.2.2 with w | ⟨_, _, w, _⟩
  · exact absurd w.1 ne
  · exact ⟨w.2.1, w.1, w.2.2.2.1⟩
theorem nm_ts (ok : nok E lb d) : ∀ T ∈ lb.2.2.2.2.2.map Prod.fst, tyOk E.2.2.2.1 T ∧ tsz T ≤ 2700 := fun T hT => by
  obtain ⟨a, a1, a2⟩ := List.mem_map.mp hT
  rw [← a2]; exact ok.2 a a1
/-- a function's -/
theorem c_nm1 (nd : ndN N) (J : JOk E B) (J2 : JOk2 E) (ok : nok E lb Γ.length) (k1 : lb.2.1 = 1) (hl : lb.2.2.2.2.2.length = jnN E lb.2.1 lb.2.2.1) {s : JS} {zz : (Nat × Nat) ⊕ (Et × JS)} (e : (if jnN E lb.2.1 lb.2.2.1 ≠ 0 ∧ ¬ tszW (jnT E lb.2.1 lb.2.2.1 (lb.2.2.2.2.2.map Prod.fst)) ≤ 60 then some (.inl (7, lb.1)) else jb (jnG E lb.1 lb.2.1 lb.2.2.1 (lb.2.2.2.2.2.map Prod.fst) s) fun a => some (.inr (en 10 lb (jnT E lb.2.1 lb.2.2.1 (lb.2.2.2.2.2.map Prod.fst)) .leaf a.1 .leaf .leaf, a.2))) = some zz) (H : JQ G N cl tb l0 sc rest Gx io E jg Lb h us fs Dk ds dm Sl Γ s.1) (C : JCE N cl fo mo E h (UU us rest) Sl) (Nc : nmC h N cl (UU us rest) Sl fo mo lb Γ.length nm) (hn : nm < hz h) (r0 : fR h 1482 nm = 0) (hlo : lo ≤ dm) (h0 : H0 ≤ hz h) (R : RmJ us fs ds dm s.1 (nCs E lb) 4) : ∃ (v : Nat ⊕ Nat) (h' : om_H) (us' fs' : List Nat) (Dk' : Nat → Prop) (ds' : List Nat) (dm' : Nat), C_37_name_65 G jg nm uo ((jnN E lb.2.1 lb.2.2.1 : Nat) : Int) h = some (v, h') ∧ NmO G N cl tb l0 sc rest Gx io E jg Lb lo H0 Sl Γ lb nm (nCs E lb) s zz h us fs Dk ds dm v h' us' fs' Dk' ds' dm' := by
  have il : lb.2.2.1 < E.1.length := by
    rcases ok.1 with w | w | w | w
    · omega
    · exact w.2
    · omega
    · omega
  have ef : E.1[lb.2.2.1]? = some E.1[lb.2.2.1] := List.getElem?_eq_getElem il
  generalize E.1[lb.2.2.1] = f at ef
  have n1 : jnN E lb.2.1 lb.2.2.1 = f.1.length := by unfold jnN; rw [if_pos k1, ef]; rfl
  have t1 : ∀ ts, jnT E lb.2.1 lb.2.2.1 ts = if f.1 = [] then f.2.2 else sbT (f.1.zip ts) f.2.2 := fun ts => by unfold jnT; rw [if_pos k1, ef]; rfl
  have g1 : ∀ pl ts, jnG E pl lb.2.1 lb.2.2.1 ts s = jgv E pl (f.1.zip ts) f.2.1 s := fun pl ts => by unfold jnG; rw [if_pos k1, ef]; rfl
  obtain ⟨_, hf, hf0, hf2⟩ : lb.2.1 = 1 ∧ fR h 1470 nm = fo lb.2.2.1 ∧ fo lb.2.2.1 ≠ 0 ∧ fR h 1474 nm = 0 := by
    rcases Nc.2.1 with w | ⟨_, w | w | w⟩
    · omega
    · exact ⟨w.1, w.2.2.1, w.2.2.2.1, w.2.2.2.2⟩
    · omega
    · omega
  have ts0 := nm_tsC Nc
  have hts := nm_ts ok
  rw [t1, g1, n1] at e
  rw [n1] at hl
  have lm : (lb.2.2.2.2.2.map Prod.fst).length = f.1.length := by rw [List.length_map]; exact hl
  have nl : lb.2.2.2.2.2 = [] ↔ f.1 = [] := by
    constructor
    · intro w; rw [w] at hl; exact List.length_eq_zero_iff.mp hl.symm
    · intro w; rw [w] at hl; exact List.length_eq_zero_iff.mp hl
  obtain ⟨⟨a1, a2, a3⟩, ⟨a4, a5⟩, _⟩ := C.1 _ f ef
  have fc : fCs f ≤ nCs E lb := by
    unfold fCs nCs jK
    by_cases w : f.1 = []
    · rw [if_pos w]; omega
    · rw [if_neg w, if_neg (fun z => w (nl.mp z)), if_pos k1, ef]; exact Nat.le_refl _
  obtain ⟨z1, ez1, ez2⟩ : ∃ z1, (if f.1 ≠ [] ∧ ¬ tszW (sbT (f.1.zip (lb.2.2.2.2.2.map Prod.fst)) f.2.2) ≤ 60 then some (.inl (7, lb.1)) else jgv E lb.1 (f.1.zip (lb.2.2.2.2.2.map Prod.fst)) f.2.1 s) = some z1 ∧ (∀ kp, z1 = .inl kp → zz = .inl kp) ∧ ∀ a, z1 = .inr a → zz = .inr (en 10 lb (if f.1 = [] then f.2.2 else sbT (f.1.zip (lb.2.2.2.2.2.map Prod.fst)) f.2.2) .leaf a.1 .leaf .leaf, a.2) := by
    by_cases w : f.1 = []
    · rw [if_neg (fun z => z.1 (by rw [w]; rfl))] at e
      rw [if_neg (fun z => z.1 w)]
      exact jb_some e
    · by_cases w2 : tszW (sbT (f.1.zip (lb.2.2.2.2.2.map Prod.fst)) f.2.2) ≤ 60
      · rw [if_neg (fun z => z.2 (by rw [if_neg w]; exact w2))] at e
        rw [if_neg (fun z => z.2 w2)]
        exact jb_some e
      · rw [if_pos ⟨fun z => w (List.length_eq_zero_iff.mp z), by rw [if_neg w]; exact w2⟩] at e
        rw [if_pos ⟨w, w2⟩]
        exact ⟨_, rfl, fun kp z => (Option.some.inj e).symm.trans (congrArg Sum.inl (Sum.inl.inj z)), fun a z => by cases z⟩
  obtain ⟨v, h', us', fs', Dk', ds', dm', b1, b2, b3⟩ := c_fn nd J J2 ef hts lm ez1 H C (NmS_0 H Nc hn r0 hlo h0) (by
    by_cases w : f.1 = []
    · refine .inl ⟨w, ?_⟩
      rcases Nc.2.2 with y | y
      · exact y.2.2
      · exact absurd (nl.mpr w) y.1
    · have sl := nm_Sl Nc (fun z => w (nl.mp z))
      exact .inr ⟨w, sl.2.1, PutC_of a5 ts0 lm (fun z => w (nl.mp (List.map_eq_nil_iff.mp z))), sl.1⟩) (RmJ_le R fc (Nat.le_refl _))
  refine ⟨v, h', us', fs', Dk', ds', dm', ?_, ?_⟩
  · unfold C_37_name_65
    rw [gd_pos Nc.1.1, c_manyN Nc, Option.bind_some, if_pos (by omega), gd_pos Nc.1.1, hf, if_neg hf0, gd_pos ⟨Nc.1.1, H.2.1.1.1⟩, xc_id2, b1]
  · cases z1 with
    | inl kp =>
      obtain ⟨a, c1, c2⟩ := b2 kp.1 kp.2 rfl
      rw [c1]
      exact NmO_f (ez2.1 kp rfl) (JF_le c2 fc (Nat.le_refl _) (Nat.le_refl _) (Nat.le_refl _))
    | inr a =>
      have ez := ez2.2 a rfl
      obtain ⟨x, c1, c2, c3, c4, c5, ⟨evs, c6⟩, c7, c8⟩ := b3 a.1 a.2 rfl
      refine ⟨fun k p w => (by rw [ez] at w; cases w), fun e' s' w => ?_⟩
      rw [ez] at w
      injection Sum.inr.inj w with w1 w2
      rw [← w1, ← w2]
      exact ⟨x, c1, c2, c3, KR_le c4 fc (Nat.le_refl _) (Nat.le_refl _) (Nat.le_refl _) (Nat.le_refl _), c5, ⟨_, _, evs, rfl, c8, c6, fun w => by omega⟩, c7⟩
/-- a method's -/
theorem c_nm2 (nd : ndN N) (J : JOk E B) (J2 : JOk2 E) (ok : nok E lb Γ.length) (k2 : lb.2.1 = 2) (hl : lb.2.2.2.2.2.length = jnN E lb.2.1 lb.2.2.1) {s : JS} {zz : (Nat × Nat) ⊕ (Et × JS)} (e : (if jnN E lb.2.1 lb.2.2.1 ≠ 0 ∧ ¬ tszW (jnT E lb.2.1 lb.2.2.1 (lb.2.2.2.2.2.map Prod.fst)) ≤ 60 then some (.inl (7, lb.1)) else jb (jnG E lb.1 lb.2.1 lb.2.2.1 (lb.2.2.2.2.2.map Prod.fst) s) fun a => some (.inr (en 10 lb (jnT E lb.2.1 lb.2.2.1 (lb.2.2.2.2.2.map Prod.fst)) .leaf a.1 .leaf .leaf, a.2))) = some zz) (H : JQ G N cl tb l0 sc rest Gx io E jg Lb h us fs Dk ds dm Sl Γ s.1) (C : JCE N cl fo mo E h (UU us rest) Sl) (Nc : nmC h N cl (UU us rest) Sl fo mo lb Γ.length nm) (hn : nm < hz h) (r0 : fR h 1482 nm = 0) (hlo : lo ≤ dm) (h0 : H0 ≤ hz h) (R : RmJ us fs ds dm s.1 (nCs E lb) 4) : ∃ (v : Nat ⊕ Nat) (h' : om_H) (us' fs' : List Nat) (Dk' : Nat → Prop) (ds' : List Nat) (dm' : Nat), C_37_name_65 G jg nm uo ((jnN E lb.2.1 lb.2.2.1 : Nat) : Int) h = some (v, h') ∧ NmO G N cl tb l0 sc rest Gx io E jg Lb lo H0 Sl Γ lb nm (nCs E lb) s zz h us fs Dk ds dm v h' us' fs' Dk' ds' dm' := by
  obtain ⟨m, em⟩ : ∃ m, E.2.1[lb.2.2.1]? = some (some m) := by
    rcases ok.1 with w | w | w | w
    · omega
    · omega
    · exact w.2
    · omega
  have n1 : jnN E lb.2.1 lb.2.2.1 = 1 := by unfold jnN; rw [if_neg (by omega), if_pos k2]
  have t1 : ∀ ts, jnT E lb.2.1 lb.2.2.1 ts = sbT ([m.2.1].zip ts) m.2.2 := fun ts => by unfold jnT; rw [if_neg (by omega), if_pos k2, em]; rfl
  have g1 : ∀ pl ts, jnG E pl lb.2.1 lb.2.2.1 ts s = jb (jcl E pl m.1 (ts[0]?.getD .leaf) s) fun a => some (.inr ([a.1], a.2)) := fun pl ts => by unfold jnG; rw [if_neg (by omega), if_pos k2, em]; rfl
  obtain ⟨hf, hf1, hf2⟩ : fR h 1470 nm = 0 ∧ fR h 1474 nm = mo lb.2.2.1 ∧ mo lb.2.2.1 ≠ 0 := by
    rcases Nc.2.1 with w | ⟨_, w | w | w⟩
    · omega
    · omega
    · exact ⟨w.2.2.1, w.2.2.2.1, w.2.2.2.2⟩
    · omega
  have ts0 := nm_tsC Nc
  have hts := nm_ts ok
  rw [t1, g1, n1] at e
  rw [n1] at hl
  have ne : lb.2.2.2.2.2 ≠ [] := fun w => by rw [w] at hl; cases hl
  have cs : nCs E lb = 60 := by unfold nCs jK; rw [if_neg ne, if_neg (by omega), if_pos k2]
  rw [cs] at R ⊢
  obtain ⟨T, eT⟩ : ∃ T, lb.2.2.2.2.2.map Prod.fst = [T] := List.length_eq_one_iff.mp (by rw [List.length_map]; exact hl)
  rw [eT] at e ts0 hts
  have okT := hts T List.mem_cons_self
  obtain ⟨⟨a1, a2, a3⟩, ⟨a4, a5⟩, ⟨a6, a7⟩, a8⟩ := C.2 _ m em
  obtain ⟨f1, f2, f3⟩ := J.2.2 m (List.mem_of_getElem? em)
  have sl := nm_Sl Nc ne
  have hθ : ∀ p ∈ [m.2.1].zip [T], tyOk E.2.2.2.1 p.2 ∧ tsz p.2 ≤ 2700 := fun p hp => hts _ (List.of_mem_zip hp).2
  have wS : wfS ([m.2.1].zip [T]) := fun p hp => ⟨(hθ p hp).1.2.1, (hθ p hp).1.1⟩
  obtain ⟨r1, r2, r3, r4⟩ := id R
  have nn := nnT_le m.2.2
  have nn2 := nnT_sb (θ := [m.2.1].zip [T]) m.2.2
  have Fq := H.1.1
  have kj := H.2.1
  have nl : fR h 1234 (cl m.1) ≠ fR h 122 tb ∧ fR h 1462 nm ≠ fR h 122 tb := ⟨fun w => Fq.2.2.1.2.1 (by rw [← w]; exact a6), fun w => Fq.2.2.1.2.1 (by rw [← w]; exact sl.1)⟩
  have M := NmS_0 H Nc hn r0 hlo h0
  obtain ⟨v1, h1, us1, fs1, b1, b2, b3⟩ := c_put8 nd wS (lb.1 : Int) Fq nl (PutC_of a7 ts0 rfl (by intro w; cases w)) a8 f1.1 f1.2.1 (by omega) (by omega)
  have run : C_37_name_65 G jg nm uo ((jnN E lb.2.1 lb.2.2.1 : Nat) : Int) h = xc (some (v1, h1)) (fun t h => some (.inl t, h)) (fun p4 h4 => gd (kd h4 nm = 28 ∧ kd h4 (fR h4 1474 nm) = 19 ∧ kd h4 (fR h4 1462 nm) = 42) ((P_J2_get G (fR h4 1462 nm) 0 h4).bind fun p5 => gd ((p5 = 0 ∨ kd h4 p5 = 34) ∧ kd h4 nm = 28 ∧ kd h4 jg = 37) (xc (C_37_classFor G jg (fR h4 1250 (fR h4 1474 nm)) p5 (fI h4 1372 nm) h4) (fun t h => some (.inl t, h)) (fun p6 h6 => gd (kd h6 nm = 28) ((C_28_because G nm p6 h6).bind fun p7 => some (.inr p4, p7)))))) := by
    unfold C_37_name_65
    rw [gd_pos Nc.1.1, c_manyN Nc, Option.bind_some, if_pos (by rw [hl, n1]; exact Int.le_refl _), gd_pos Nc.1.1, if_pos hf, gd_pos Nc.1.1, hf1, if_neg hf2, gd_pos ⟨kj.1.1, Nc.1.1, a3, by rw [a4]; exact a5.2.2.1, by rw [kj.2.1]; exact Fq.2.1.1.1⟩, kj.2.1, a4, Nc.1.2.1, b1]
  rw [run]
  by_cases s2 : tszW (sbT ([m.2.1].zip [T]) m.2.2) ≤ 60
  rotate_left
  · obtain ⟨a, ea, g1', g2', g3'⟩ := b3 s2
    subst ea
    rw [if_pos ⟨by decide, s2⟩] at e
    have ez : zz = .inl (7, lb.1) := (Option.some.inj e).symm
    exact ⟨_, h1, us1, fs1, Dk, ds, dm, rfl, NmO_f ez (JF_le (JF_KF2 (q' := 0) H g1' g2' g3' r4 (by omega)) (by omega) (by omega) (by omega) (by omega))⟩
  obtain ⟨x0, ey, c2, F1, K1, _⟩ := b2 s2
  subst ey
  rw [if_neg (fun w => w.2 s2)] at e
  obtain ⟨z1, ez1, ez2, ez3⟩ := jb_some e
  obtain ⟨z0, ez4, ez5, ez6⟩ := jb_some ez1
  have ez4' : jcl E lb.1 m.1 T s = some z0 := ez4
  rw [xc_v]
  obtain ⟨JK1, JQ1⟩ := JQ_KF (alo := nm) (ahi := nm + 1) H K1 F1.1
  have Q1 := JQ1 s.1 F1
  obtain ⟨M1, nk1⟩ := NmS_KF H M K1 F1.1
  have X := KJ_hS JK1
  have kp := KJ_ty JK1
  have ts1 := tsC_keep X kp (fun _ => sl.1) ts0
  obtain ⟨y, y1, y2, y3, y4⟩ := tsC_get (G := G) ts1 (i := 0) (T := T) rfl
  have y1' : P_J2_get G (fR h 1462 nm) 0 h1 = some y := y1
  have ky := tyC_34 y2 okT.1.1
  have s1 := (X.2.2.1 _ a2 (by rw [a3]; decide)).2 1250 (by decide)
  have sz2 := tszW_eq (T := sbT ([m.2.1].zip [T]) m.2.2) (by
    have := sbT_tsz (B := 2700) (by decide) (fun p hp => (hθ p hp).2) f1.2.1
    have h2 : 2700 * tsz m.2.2 ≤ 2700 * 2700 := Nat.mul_le_mul_left _ f2
    omega)
  have nV : nnT m.2.2 ≤ 60 := by omega
  have KR1 : KRm N cl tb l0 sc rest Gx Lb Sl nm (nm + 1) h us fs Dk ds dm h1 us1 fs1 Dk ds dm 60 0 0 0 (s.1 - s.1) := KR_KJ (KJ_le JK1 nV (Nat.le_refl _) (Nat.le_refl _)) (by omega)
  have R1 : RmJ us1 fs1 ds dm s.1 0 4 := RmJ_next (n := 0) (by rw [Nat.zero_add]; exact R) KR1 ⟨Nat.le_refl _, r4⟩
  obtain ⟨v, h2, us2, fs2, Dk2, ds2, dm2, i1, i2, i3⟩ := c_gvC nd J J2 ez4' Q1 M1 (clO_hS X a5) y2 okT.1 (by have := okT.2; omega) (RmJ_le R1 (Nat.le_refl _) (by omega)) (by decide)
  have e1462 : fR h1 1462 nm = fR h 1462 nm := M1.1.2.2.2
  have e1474 : fR h1 1474 nm = mo lb.2.2.1 := by rw [nk1.1 _ (by decide)]; exact hf1
  rw [e1462, e1474, gd_pos ⟨M1.1.2.1, by rw [X.2.1 _ a2]; exact a3, y3⟩, y1', Option.bind_some, gd_pos ⟨.inr ky.1, M1.1.2.1, Q1.2.1.1.1⟩, s1, a4, M1.1.2.2.1, i1]
  cases z0 with
  | inl kp' =>
    obtain ⟨a, c1, c2'⟩ := i2 kp'.1 kp'.2 rfl
    subst c1
    exact ⟨_, h2, us2, fs2, Dk2, ds2, dm2, rfl, NmO_f (ez2 _ (ez5 kp' rfl)) (JF_le (JF_trans KR1 ⟨Nat.le_refl _, r4⟩ c2') (by omega) (by omega) (by omega) (by omega))⟩
  | inr a =>
    have ez := ez3 _ (ez6 a rfl)
    obtain ⟨y5, h3, c1, c3, c4, c5, c6, c7, c8, c9, c10⟩ := i3 a.1 a.2 rfl
    subst c1
    rw [xc_v, gd_pos c3, c4, Option.bind_some]
    refine ⟨_, h3, us2, fs2, Dk2, ds2, dm2, rfl, fun k p w => (by rw [ez] at w; cases w), fun e' s' w => ?_⟩
    rw [ez] at w
    injection Sum.inr.inj w with w1 w2
    rw [← w1, ← w2]
    exact ⟨x0, rfl, c5, c6, KR_le (KR_trans KR1 c7) (by omega) (by omega) (by omega) (by omega) (by show s.1 - s.1 + (a.2.1 - s.1) ≤ a.2.1 - s.1; omega), c8, ⟨_, _, _, rfl, KJ_ty c7.1 _ _ c2, c9, fun w => by omega⟩, nmK_trans nk1 c10⟩
/-- a name that is there always -/
theorem c_nm3 (nd : ndN N) (ok : nok E lb Γ.length) (k3 : lb.2.1 = 3) (hl : lb.2.2.2.2.2.length = jnN E lb.2.1 lb.2.2.1) {s : JS} {zz : (Nat × Nat) ⊕ (Et × JS)} (e : (if jnN E lb.2.1 lb.2.2.1 ≠ 0 ∧ ¬ tszW (jnT E lb.2.1 lb.2.2.1 (lb.2.2.2.2.2.map Prod.fst)) ≤ 60 then some (.inl (7, lb.1)) else jb (jnG E lb.1 lb.2.1 lb.2.2.1 (lb.2.2.2.2.2.map Prod.fst) s) fun a => some (.inr (en 10 lb (jnT E lb.2.1 lb.2.2.1 (lb.2.2.2.2.2.map Prod.fst)) .leaf a.1 .leaf .leaf, a.2))) = some zz) (H : JQ G N cl tb l0 sc rest Gx io E jg Lb h us fs Dk ds dm Sl Γ s.1) (Nc : nmC h N cl (UU us rest) Sl fo mo lb Γ.length nm) (hn : nm < hz h) (r0 : fR h 1482 nm = 0) (hlo : lo ≤ dm) (h0 : H0 ≤ hz h) (R : RmJ us fs ds dm s.1 (nCs E lb) 4) : ∃ (v : Nat ⊕ Nat) (h' : om_H) (us' fs' : List Nat) (Dk' : Nat → Prop) (ds' : List Nat) (dm' : Nat), C_37_name_65 G jg nm uo ((jnN E lb.2.1 lb.2.2.1 : Nat) : Int) h = some (v, h') ∧ NmO G N cl tb l0 sc rest Gx io E jg Lb lo H0 Sl Γ lb nm (nCs E lb) s zz h us fs Dk ds dm v h' us' fs' Dk' ds' dm' := by
  have n1 : jnN E lb.2.1 lb.2.2.1 = btN lb.2.2.1 := by unfold jnN; rw [if_neg (by omega), if_neg (by omega)]
  have t1 : ∀ ts, jnT E lb.2.1 lb.2.2.1 ts = btT lb.2.2.1 (ts[0]?.getD .leaf) (ts[1]?.getD .leaf) := fun ts => by unfold jnT; rw [if_neg (by omega), if_neg (by omega)]
  have g1 : ∀ pl ts, jnG E pl lb.2.1 lb.2.2.1 ts s = some (.inr ([], s)) := fun pl ts => by unfold jnG; rw [if_neg (by omega), if_neg (by omega)]
  obtain ⟨hf, hf1, hf2⟩ : fR h 1470 nm = 0 ∧ fR h 1474 nm = 0 ∧ fI h 1476 nm = (lb.2.2.1 : Int) := by
    rcases Nc.2.1 with w | ⟨_, w | w | w⟩
    · omega
    · omega
    · omega
    · exact ⟨w.2.2.1, w.2.2.2, w.2.1⟩
  have ts0 := nm_tsC Nc
  have hts := nm_ts ok
  rw [t1, g1] at e
  have c4 := nCs_bt (E := E) k3
  obtain ⟨r1, r2, r3, r4⟩ := id R
  have Fq := H.1.1
  have kj := H.2.1
  have M := NmS_0 H Nc hn r0 hlo h0
  have lm : (lb.2.2.2.2.2.map Prod.fst).length = btN lb.2.2.1 := by rw [List.length_map, hl, n1]
  obtain ⟨x, h1, us1, fs1, b1, F1, K1, c1, cB⟩ := c_built nd Fq ts0 lm (fun T hT => (hts T hT).1.1) (by omega)
  obtain ⟨M1, nk1⟩ := NmS_KF H M K1 F1.1
  have cB' : btX h1 N cl (UU us1 rest) lb := fun _ w1 w2 => cB w1 w2
  generalize lb.2.2.2.2.2.map Prod.fst = ts at *
  have nT : btT lb.2.2.1 (ts[0]?.getD .leaf) (ts[1]?.getD .leaf) ≠ .leaf := by
    unfold btT
    repeat' split
    all_goals (intro w; cases w)
  obtain ⟨fit1, fit2⟩ := c_fit (G := G) nd F1.1 ⟨F1.2.1.1.1, F1.2.1.1.2.1⟩ c1 nT (lb.1 : Int)
  have run : C_37_name_65 G jg nm uo ((jnN E lb.2.1 lb.2.2.1 : Nat) : Int) h = C_8_fit G x (lb.1 : Int) h1 := by
    unfold C_37_name_65
    rw [gd_pos Nc.1.1, c_manyN Nc, Option.bind_some, if_pos (by rw [hl]; exact Int.le_refl _), gd_pos Nc.1.1, if_pos hf, gd_pos Nc.1.1, if_pos hf1, gd_pos ⟨kj.1.1, Nc.1.1⟩, kj.2.2.1, hf2, b1, Option.bind_some]
    dsimp only
    rw [gd_pos M1.1.2.1, M1.1.2.2.1, xc_id2]
  rw [run]
  by_cases s1 : tszW (btT lb.2.2.1 (ts[0]?.getD .leaf) (ts[1]?.getD .leaf)) ≤ 60
  · rw [if_neg (fun w => w.2 s1)] at e
    have ez := (Option.some.inj e).symm
    rw [fit1 s1]
    obtain ⟨JK1, JQ1⟩ := JQ_KF (alo := nm) (ahi := nm + 1) H K1 F1.1
    refine ⟨_, h1, us1, fs1, Dk, ds, dm, rfl, fun k p w => (by rw [ez] at w; cases w), fun e' s' w => ?_⟩
    rw [ez] at w
    injection Sum.inr.inj w with w1 w2
    rw [← w1, ← w2]
    exact ⟨x, rfl, JQ1 s.1 F1, ⟨Nat.le_refl _, r4⟩, KR_le (KR_KJ (q' := 4) (d := 0) JK1 (by omega)) c4 (by omega) (by omega) (by omega) (by omega), tsD_refl, ⟨_, _, _, rfl, c1, M1, cB'⟩, nk1⟩
  · obtain ⟨a, h2, g1', g2', g3', g4'⟩ := fit2 s1
    have n0 : btN lb.2.2.1 ≠ 0 := fun w => s1 (by
      have k5 : ¬ lb.2.2.1 < 5 := fun w5 => by have := btN_1 w5; omega
      unfold btT
      rw [if_neg (by omega), if_neg (by omega), if_neg (by omega), if_neg (by omega), if_neg (by omega)]
      decide)
    rw [if_pos ⟨by rw [n1]; exact n0, s1⟩] at e
    have ez : zz = .inl (7, lb.1) := (Option.some.inj e).symm
    rw [g1']
    exact ⟨_, h2, us1, fs1, Dk, ds, dm, rfl, NmO_f ez (JF_le (JF_KF2 (q' := 0) H g3' g2' (KF_le (KF_trans K1 g4') (Nat.le_refl _) (by omega) (by omega)) r4 (by omega)) (by omega) (by omega) (by omega) (by omega))⟩
/-- A NAME IS JUDGED -/
theorem c_nameJ (nd : ndN N) (J : JOk E B) (J2 : JOk2 E) (ok : nok E lb Γ.length) (hΓ : ∀ T ∈ Γ, T ≠ .leaf) {s : JS} {zz : (Nat × Nat) ⊕ (Et × JS)} (e : jnm E lb Γ s = some zz) (H : JQ G N cl tb l0 sc rest Gx io E jg Lb h us fs Dk ds dm Sl Γ s.1) (C : JCE N cl fo mo E h (UU us rest) Sl) (Nc : nmC h N cl (UU us rest) Sl fo mo lb Γ.length nm) (At : atU h lb.2.2.2.2.2 uo) (hn : nm < hz h) (r0 : fR h 1482 nm = 0) (hlo : lo ≤ dm) (h0 : H0 ≤ hz h) (R : RmJ us fs ds dm s.1 (nCs E lb) 4) : ∃ (v : Nat ⊕ Nat) (h' : om_H) (us' fs' : List Nat) (Dk' : Nat → Prop) (ds' : List Nat) (dm' : Nat), C_37_name G jg nm uo h = some (v, h') ∧ NmO G N cl tb l0 sc rest Gx io E jg Lb lo H0 Sl Γ lb nm (nCs E lb) s zz h us fs Dk ds dm v h' us' fs' Dk' ds' dm' := by
  obtain ⟨r1, r2, r3, r4⟩ := id R
  unfold jnm at e
  unfold C_37_name
  rw [c_forall C ok Nc, Option.bind_some, gd_pos Nc.1.1, c_manyN Nc, Option.bind_some]
  by_cases k0 : lb.2.1 = 0
  · rw [if_pos k0] at e
    rw [if_pos k0, if_pos (by omega), gd_pos Nc.1.1, c_isBound Nc, Option.bind_some, if_pos k0, if_neg (by decide), gd_pos Nc.1.1]
    cases qa : lb.2.2.2.2.2 with
    | nil =>
      rw [qa] at e
      simp only at e
      obtain ⟨T, eT, ez⟩ := Option.map_eq_some_iff.mp e
      rcases Nc.2.2 with ⟨_, w2, _⟩ | w
      · obtain ⟨Fq, kj, bd, _⟩ := id H
        obtain ⟨up, u1, u2⟩ : ∃ up : Nat, fI h 1464 nm = (up : Int) ∧ up + lb.2.2.1 + 1 = Γ.length := by
          rcases Nc.2.1 with y | ⟨_, y | y | y⟩
          · exact y.2.1
          · omega
          · omega
          · omega
        have il := (List.getElem?_eq_some_iff.mp eT).1
        have il2 : lb.2.2.1 < (ll h Lb).length := by rw [bd.2.1]; exact il
        have ey : (ll h Lb)[lb.2.2.1]? = some (ll h Lb)[lb.2.2.1] := List.getElem?_eq_getElem il2
        generalize (ll h Lb)[lb.2.2.1] = yv at ey
        have cy := bd.2.2 _ _ _ ey eT
        have o3 := bd.1.2.2.1
        have o4 := bd.1.2.2.2.1
        have sz : P_J2_size G Lb h = some ((Γ.length : Nat) : Int) := by
          unfold P_J2_size
          rw [gd_pos bd.1.2.1, bd.2.1]
        have gt : P_J2_get G Lb (lb.2.2.1 : Int) h = some yv := by
          unfold P_J2_get
          rw [gd_pos ⟨bd.1.2.1, by omega⟩, show ((lb.2.2.1 : Int)).toNat = lb.2.2.1 by omega, ey]
        have gm : Γ.length ≤ 2000000000 := by rw [← bd.2.1]; omega
        have ix : w32 (w32 (((Γ.length : Nat) : Int) - 1) - fI h 1464 nm) = (lb.2.2.1 : Int) := by
          rw [u1, w32_s (x := ((Γ.length : Nat) : Int) - 1) (by omega) (by omega), w32_s (by omega) (by omega)]
          omega
        rw [if_neg (fun w => w w2), kj.2.2.2, gd_pos ⟨kj.1.1, bd.1.2.1⟩, sz, Option.bind_some, gd_pos ⟨Nc.1.1, bd.1.2.1⟩, ix, gt, Option.bind_some, gd_pos (.inr (tyC_34 cy (hΓ _ (List.mem_of_getElem? eT))).1)]
        refine ⟨_, h, us, fs, Dk, ds, dm, rfl, fun k p w => (by rw [← ez] at w; cases w), fun e' s' w => ?_⟩
        rw [← ez] at w
        injection Sum.inr.inj w with w1 w2
        rw [← w1, ← w2]
        exact ⟨_, rfl, H, ⟨Nat.le_refl _, r4⟩, KR_le (KR_KJ (q' := 0) (d := 0) (KJ_refl H.1.2.1) (by omega)) (by omega) (by omega) (by omega) (by omega) (by omega), tsD_refl, ⟨_, _, _, rfl, cy, NmS_0 H Nc hn r0 hlo h0, fun w => by omega⟩, nmK_eq (eqA_refl _ _)⟩
      · exact absurd qa w.1
    | cons a l =>
      rw [qa] at e
      have ez : zz = .inl (4, a.2) := (Option.some.inj e).symm
      rcases Nc.2.2 with w | ⟨_, w, _⟩
      · rw [qa] at w; cases w.1
      · obtain ⟨h1, f1, f2⟩ := c_nmFt (alo := nm) (ahi := nm + 1) (k := 0) (p := a) nd H r4 Nc At (by rw [qa]; rfl)
        have f1' : C_37_name_65 G jg nm uo 0 h = some (.inl (hz h), h1) := f1
        rw [if_pos w.1, f1']
        exact ⟨_, h1, us, fs, Dk, ds, dm, rfl, NmO_f ez (JF_le f2 (by omega) (by omega) (by omega) (by omega))⟩
  · rw [if_neg k0] at e
    rw [if_neg k0]
    by_cases l1 : lb.2.2.2.2.2.length < jnN E lb.2.1 lb.2.2.1
    · rw [if_pos l1] at e
      have ez : zz = .inl (4, lb.1) := (Option.some.inj e).symm
      obtain ⟨h1, f1, f2, f3, f4⟩ := JQ_fault (alo := nm) (ahi := nm + 1) nd H r4 4 lb.1
      have f1' : C_15_init G (hz h) 4 (lb.1 : Int) (nO h 16 8) = some h1 := f1
      have kn : kd (nO h 16 8) nm = 28 := by rw [kd_nO, if_neg (by omega)]; exact Nc.1.1
      have fn : fI (nO h 16 8) 1372 nm = (lb.1 : Int) := by rw [fI_nO, if_neg (by omega)]; exact Nc.1.2.1
      rw [if_neg (by omega), gd_pos ⟨kn, f2⟩, fn, f1', Option.bind_some, gd_pos f3]
      exact ⟨_, h1, us, fs, Dk, ds, dm, rfl, NmO_f ez (JF_le f4 (by omega) (by omega) (by omega) (by omega))⟩
    · rw [if_neg l1] at e
      rw [if_pos (by omega), gd_pos Nc.1.1, c_isBound Nc, Option.bind_some, if_neg k0, if_pos rfl]
      cases qk : lb.2.2.2.2.2[jnN E lb.2.1 lb.2.2.1]? with
      | some a =>
        rw [qk] at e
        have ez : zz = .inl (4, a.2) := (Option.some.inj e).symm
        obtain ⟨h1, f1, f2⟩ := c_nmFt (alo := nm) (ahi := nm + 1) nd H r4 Nc At qk
        rw [f1]
        exact ⟨_, h1, us, fs, Dk, ds, dm, rfl, NmO_f ez (JF_le f2 (by omega) (by omega) (by omega) (by omega))⟩
      | none =>
        rw [qk] at e
        have l2 := List.getElem?_eq_none_iff.mp qk
        have hl : lb.2.2.2.2.2.length = jnN E lb.2.1 lb.2.2.1 := by omega
        rcases ok.1 with w | w | w | w
        · exact absurd w.1 k0
        · exact c_nm1 nd J J2 ok w.1 hl e H C Nc hn r0 hlo h0 R
        · exact c_nm2 nd J J2 ok w.1 hl e H C Nc hn r0 hlo h0 R
        · exact c_nm3 nd ok w.1 hl e H Nc hn r0 hlo h0 R
end LNN
