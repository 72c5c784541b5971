set_option maxRecDepth 100000
/-! THE ONE ABOVE IS HAD FOR EACH INST, in the component -/
/-- a fault's end: what is left -/
def FtB (G : om_G) (N : List (List Int)) (cl : Nat → Nat) (tb : Nat) (rest : List (Nat × List Nat)) (ss : List (Nat × List GVs)) (Sl Gx W : Nat → Prop) (h : om_H) (us fs : List Nat) (Dk : Nat → Prop) (ds : List Nat) (dm : Nat) (k p : Int) (a : Nat) (h' : om_H) (us' fs' : List Nat) (Dk' : Nat → Prop) (ds' : List Nat) (dm' q z u : Nat) : Prop := flt h' a k p ∧ TB G h' N cl tb us' fs' rest ∧ PoolC G h' tb Sl Dk' ds' dm' ∧ KB N cl tb rest ss Sl Gx W h us fs Dk ds dm h' us' fs' Dk' ds' dm' q z u
/-- the insts of a program -/
def AbE (h : om_H) (N : List (List Int)) (cl : Nat → Nat) (tb pr : Nat) (U Sl : Nat → Prop) (io : Nat → Nat) (ins : List INs) (ss : List (Nat × List GVs)) (pl : Nat → Nat) : Prop := (kd h pr = 2 ∧ pr < hz h ∧ fR h 78 pr = tb) ∧ (Sl (fR h 86 pr) ∧ fR h 86 pr < hz h ∧ kd h (fR h 86 pr) = 42 ∧ (ll h (fR h 86 pr)).length = ins.length ∧ ∀ (i x : Nat), (ll h (fR h 86 pr))[i]? = some x → x = io i) ∧ ∀ (i : Nat) (d : INs), ins[i]? = some d → clO h cl d.1 ∧ (io i ≠ 0 ∧ io i < hz h ∧ kd h (io i) = 21 ∧ fR h 1302 (io i) = cl d.1 ∧ fI h 1280 (io i) = (i : Int)) ∧ (fR h 1286 (io i), gvI d) ∈ ss ∧ (fR h 1290 (io i) < hz h ∧ kd h (fR h 1290 (io i)) = 17 ∧ fI h 1188 (fR h 1290 (io i)) = (pl i : Int)) ∧ tyC h N cl U (hdI d) (fR h 1318 (io i))
/-- what has come of the first ones -/
def AbD (h : om_H) (N : List (List Int)) (cl : Nat → Nat) (U Lv : Nat → Prop) (io : Nat → Nat) (ab : List (Option Nat)) (ins : List INs) (f : Nat) : Prop := ∀ (i : Nat) (d : INs), ins[i]? = some d → (i < f → ∀ c, ab[d.1]? = some (some c) → ∃ D, dcT ab ins (gvI d) 70 c (hdI d) = some D ∧ DcX h N cl U Lv io ab (gvI d) D [fR h 1334 (io i)]) ∧ (ab[d.1]? = some none ∨ f ≤ i → fR h 1334 (io i) = 0)
theorem hdI_wf {d : INs} (h3 : d.2.1 ≤ 3) (hN : d.2.2.1.length = pN d.2.1) : wfT (hdI d) := by
  have n0 : ∀ i, hdN d.2.2.1 i = .leaf ↔ d.2.2.1.length ≤ i := fun i => by
    unfold hdN
    cases e : d.2.2.1[i]? with
    | none => exact ⟨fun _ => List.getElem?_eq_none_iff.mp e, fun _ => rfl⟩
    | some w => exact ⟨fun z => (by cases z), fun z => (by have := (List.getElem?_eq_some_iff.mp e).1; omega)⟩
  have nw : ∀ i, wfT (hdN d.2.2.1 i) := fun i => by
    unfold hdN
    split
    · exact ⟨.inl ⟨rfl, rfl, rfl⟩, trivial, trivial⟩
    · trivial
  unfold pN at hN
  refine ⟨.inr (.inl ⟨rfl, h3, (n0 0).trans ?_, (n0 1).trans ?_⟩), nw 0, nw 1⟩
  · split at hN <;> omega
  · split at hN <;> omega
theorem hdI_ok {ins : List INs} {d : INs} : okF ins (hdI d) := by
  unfold hdI
  refine ⟨fun z => (by cases z), ?_, ?_⟩
  · unfold hdN; split
    · exact ⟨fun z => (by cases z), trivial, trivial⟩
    · trivial
  · unfold hdN; split
    · exact ⟨fun z => (by cases z), trivial, trivial⟩
    · trivial
theorem hdI_sz {d : INs} : tsz (hdI d) ≤ 3 := by
  have s1 : ∀ i, tsz (hdN d.2.2.1 i) ≤ 1 := fun i => by
    unfold hdN
    split
    · exact (show (1 + 0 + 0 : Nat) ≤ 1 by omega)
    · exact Nat.zero_le 1
  have := s1 0
  have := s1 1
  show 1 + tsz (hdN d.2.2.1 0) + tsz (hdN d.2.2.1 1) ≤ _
  omega
section LAB
variable {G : om_G} {N : List (List Int)} {cl : Nat → Nat} {tb pr : Nat} {rest : List (Nat × List Nat)} {ss : List (Nat × List GVs)} {Sl Gx W : Nat → Prop} {io : Nat → Nat} {ab : List (Option Nat)} {ins : List INs} {pl : Nat → Nat}
theorem AbE_hS {g : Prop} {U U' : Nat → Prop} {h h1 : om_H} (X : hSg g Sl h h1) (kp : ∀ T a, tyC h N cl U T a → tyC h1 N cl U' T a) (H : AbE h N cl tb pr U Sl io ins ss pl) : AbE h1 N cl tb pr U' Sl io ins ss pl := by
  obtain ⟨⟨a1, a2, a3⟩, ⟨b1, b2, b3, b4, b5⟩, c⟩ := H
  have sp := X.2.2.1 pr a2 (by rw [a1]; decide)
  have e86 := sp.2 86 (by decide)
  have el := X.2.2.2.2 _ b2 b1
  refine ⟨⟨by rw [X.2.1 _ a2]; exact a1, Nat.lt_of_lt_of_le a2 X.1, by rw [sp.2 78 (by decide)]; exact a3⟩, ?_, fun i d e => ?_⟩
  · rw [e86, el, X.2.1 _ b2]
    exact ⟨b1, Nat.lt_of_lt_of_le b2 X.1, b3, b4, b5⟩
  · obtain ⟨c1, ⟨c2, c3, c4, c5, c6⟩, c7, ⟨c8, c9, c10⟩, c11⟩ := c i d e
    have si := X.2.2.1 _ c3 (by rw [c4]; decide)
    rw [si.2 1302 (by decide), si.1 1280 (by decide), si.2 1286 (by decide), si.2 1290 (by decide), si.2 1318 (by decide), X.2.1 _ c3, X.2.1 _ c8, (X.2.2.1 _ c8 (by rw [c9]; decide)).1 1188 (by decide)]
    exact ⟨clO_hS X c1, ⟨c2, Nat.lt_of_lt_of_le c3 X.1, c4, c5, c6⟩, c7, ⟨Nat.lt_of_lt_of_le c8 X.1, c9, c10⟩, kp _ _ c11⟩
theorem AbD_KB {h h1 : om_H} {us fs us1 fs1 : List Nat} {Dk Dk1 : Nat → Prop} {ds ds1 : List Nat} {dm dm1 q z u f : Nat} (P : PoolC G h tb Sl Dk ds dm) (K : KB N cl tb rest ss Sl Gx W h us fs Dk ds dm h1 us1 fs1 Dk1 ds1 dm1 q z u) (hk : ∀ (i : Nat) (d : INs), ins[i]? = some d → io i < hz h ∧ kd h (io i) = 21 ∧ ¬ W (io i)) (H : AbD h N cl (UU us rest) (Dl3 Dk ds 0 dm) io ab ins f) : AbD h1 N cl (UU us1 rest) (Dl3 Dk1 ds1 0 dm1) io ab ins f := fun i d e => by
  obtain ⟨k1, k2, k3⟩ := hk i d e
  have eq := K.2.2.2.2.1.2.1 (io i) k1 (fun w => by omega) (fun w => by omega) (fun w => by omega) (fun w => by omega) (fun w => by omega) (fun _ => k3) (by omega)
  rw [eq.2.2.1]
  refine ⟨fun hi c ec => ?_, (H i d e).2⟩
  obtain ⟨D, d1, d2⟩ := (H i d e).1 hi c ec
  exact ⟨D, d1, DcX_KB P K (Nat.zero_le _) d2⟩
set_option maxHeartbeats 2000000 in
/-- THE ONE ABOVE, in the component -/
theorem c_abv (nd : ndN N) (h8 : ab.length ≤ 8) (hC : insK ins) (hI20 : ins.length ≤ 20) (hN : ∀ d ∈ ins, d.2.2.1.length = pN d.2.1) (hI : insF ins 2700) (hcd : ∀ d ∈ ins, ∀ c ∈ d.2.2.2.1, c.1 < 100) (hW : ∀ i, i < ins.length → W (io i)) : ∀ (k f : Nat) (s : JS) (zz : (Nat × Nat) ⊕ JS) (h : om_H) (us fs : List Nat) (Dk : Nat → Prop) (ds : List Nat) (dm : Nat), f + k = ins.length → abJ ab ins ((ins.drop f).zip ((List.range' f k).map pl)) s = some zz → BQ G h N cl tb us fs rest Sl Gx io ab ins ss Dk ds dm s.1 → AbE h N cl tb pr (UU us rest) Sl io ins ss pl → AbD h N cl (UU us rest) (Dl3 Dk ds 0 dm) io ab ins f → s.1 ≤ 300 → tl us fs + 80 * (300 - s.1) + 7560 ≤ 149000 → ds.length ≤ 49000 → dm ≤ 5 * s.1 + f → ∃ r h' us' fs' Dk' ds' dm', om_loop (C_1_judge_20s G pr) ((f : Int), h) = some r ∧ dm' ≤ 2000 ∧ (∀ s', zz = .inr s' → r = .inr (.inl h') ∧ BQ G h' N cl tb us' fs' rest Sl Gx io ab ins ss Dk' ds' dm' s'.1 ∧ AbE h' N cl tb pr (UU us' rest) Sl io ins ss pl ∧ AbD h' N cl (UU us' rest) (Dl3 Dk' ds' 0 dm') io ab ins ins.length ∧ (s.1 ≤ s'.1 ∧ s'.1 ≤ 300) ∧ KB N cl tb rest ss Sl Gx W h us fs Dk ds dm h' us' fs' Dk' ds' dm' (80 * (s'.1 - s.1)) k (5 * k) ∧ dm' ≤ 5 * s'.1 + ins.length ∧ ∃ D, s'.2 = s.2 ++ D ∧ ∀ X ∈ D, ∃ y, tyC h' N cl (UU us' rest) X y) ∧ (∀ kk p, zz = .inl (kk, p) → (kk = 7 ∧ ∃ a, r = .inr (.inr (.inl a, h')) ∧ FtB G N cl tb rest ss Sl Gx W h us fs Dk ds dm 7 (p : Int) a h' us' fs' Dk' ds' dm' (80 * (300 - s.1) + 7560) (k + 2) (5 * k + 13)) ∨ (kk = 3 ∧ ∃ a, r = .inl (a, h') ∧ (kd h' a = 21 ∧ a < hz h') ∧ (kd h' (fR h' 1290 a) = 17 ∧ fR h' 1290 a < hz h' ∧ fI h' 1188 (fR h' 1290 a) = (p : Int)) ∧ (∃ tt, BQ G h' N cl tb us' fs' rest Sl Gx io ab ins ss Dk' ds' dm' tt) ∧ KB N cl tb rest ss Sl Gx W h us fs Dk ds dm h' us' fs' Dk' ds' dm' (80 * (300 - s.1) + 7560) (k + 2) (5 * k + 13)))
  | 0, f, s, zz, h, us, fs, Dk, ds, dm, e, ez, Q, E, A, h300, R1, R2, R3 => by
    have ef : ins.drop f = [] := List.drop_eq_nil_iff.mpr (by omega)
    rw [ef] at ez
    have ez' : zz = .inr s := (Option.some.inj ez).symm
    have fl : f = ins.length := by omega
    obtain ⟨⟨a1, a2, a3⟩, ⟨b1, b2, b3, b4, b5⟩, _⟩ := id E
    refine ⟨.inr (.inl h), h, us, fs, Dk, ds, dm, om_loop_out ?_, by omega, fun s' w => ?_, fun kk p w => (by rw [ez'] at w; cases w)⟩
    · unfold C_1_judge_20s P_J2_size
      simp only
      rw [gd_pos ⟨a1, b3⟩, gd_pos b3, Option.bind_some, if_pos (by omega)]
    · rw [ez'] at w
      rw [← Sum.inr.inj w]
      refine ⟨rfl, Q, E, by rw [← fl]; exact A, ⟨Nat.le_refl _, h300⟩, KB_le (KB_refl (W := W) Q.2.2.2.2.1) (fun _ _ w => w) (by omega) (by omega) (by omega), by omega, [], by simp, fun X hX => absurd hX List.not_mem_nil⟩
  | k + 1, f, s, zz, h, us, fs, Dk, ds, dm, e, ez, Q, E, A, h300, R1, R2, R3 => by
    have ed : ins[f]? = some (ins[f]'(by omega)) := List.getElem?_eq_getElem (by omega)
    generalize hdd : ins[f]'(by omega) = d at ed
    have dmm := List.mem_of_getElem? ed
    have edr : ins.drop f = d :: ins.drop (f + 1) := by rw [← hdd]; exact List.drop_eq_getElem_cons (by omega)
    have err : (List.range' f (k + 1)).map pl = pl f :: (List.range' (f + 1) k).map pl := by rw [List.range'_succ]; rfl
    rw [edr, err, List.zip_cons_cons] at ez
    obtain ⟨⟨a1, a2, a3⟩, ⟨b1, b2, b3, b4, b5⟩, c0⟩ := id E
    obtain ⟨c1, ⟨c2, c3, c4, c5, c6⟩, c7, ⟨c8, c9, c10⟩, c11⟩ := c0 f d ed
    have fN : ((f : Int)).toNat = f := by omega
    have wk : w32 ((f : Int) + 1) = ((f + 1 : Nat) : Int) := by rw [w32_s (by omega) (by omega)]; rfl
    have sz : P_J2_size G (fR h 86 pr) h = some ((ins.length : Nat) : Int) := by
      unfold P_J2_size
      rw [gd_pos b3, b4]
    have exf : (ll h (fR h 86 pr))[f]? = some (io f) := by
      have q : (ll h (fR h 86 pr))[f]? = some ((ll h (fR h 86 pr))[f]'(by omega)) := List.getElem?_eq_getElem (by omega)
      rw [q, b5 f _ q]
    have gt : P_J2_get G (fR h 86 pr) (f : Int) h = some (io f) := by
      unfold P_J2_get
      rw [gd_pos ⟨b3, by omega⟩, fN, exf]
    obtain ⟨⟨o, eab, e1226, hab⟩, _⟩ := Q.2.2.1.1 d.1 c1
    have k18 : kd h (cl d.1) = 18 := c1.2.2.1
    cases o with
    | none =>
      have ez' : abJ ab ins ((ins.drop (f + 1)).zip ((List.range' (f + 1) k).map pl)) s = some zz := by
        unfold abJ at ez
        rw [eab] at ez
        exact ez
      have st : C_1_judge_20s G pr ((f : Int), h) = some (.inl (((f + 1 : Nat) : Int), h)) := by
        unfold C_1_judge_20s
        simp only
        rw [gd_pos ⟨a1, b3⟩, sz, Option.bind_some, if_neg (by omega), gd_pos ⟨a1, b3⟩, gt, Option.bind_some, c5, gd_pos ⟨.inr c4, c4, k18⟩, e1226, if_neg (fun z => z rfl), wk]
      obtain ⟨r, h', us', fs', Dk', ds', dm', r1, r0, r2, r3⟩ := c_abv nd h8 hC hI20 hN hI hcd hW k (f + 1) s zz h us fs Dk ds dm (by omega) ez' Q E (fun i x ex => ⟨fun hi c ec => (by
        by_cases w : i = f
        · rw [w, ed] at ex
          rw [← Option.some.inj ex, eab] at ec
          cases Option.some.inj ec
        · exact (A i x ex).1 (by omega) c ec), fun w => (A i x ex).2 (w.imp id (fun v => by omega))⟩) h300 R1 R2 (by omega)
      refine ⟨r, h', us', fs', Dk', ds', dm', by rw [om_loop_in st]; exact r1, r0, fun s' w => ?_, fun kk p w => ?_⟩
      · obtain ⟨t1, t2, t3, t4, t5, t6, t7⟩ := r2 s' w
        exact ⟨t1, t2, t3, t4, t5, KB_le t6 (fun _ _ w => w) (by omega) (by omega) (by omega), t7⟩
      · rcases r3 kk p w with ⟨w1, a, w2, w3, w4, w5, w6⟩ | ⟨w1, a, w2, w3, w4, w5, w6⟩
        · exact .inl ⟨w1, a, w2, w3, w4, w5, KB_le w6 (fun _ _ w => w) (by omega) (by omega) (by omega)⟩
        · exact .inr ⟨w1, a, w2, w3, w4, w5, KB_le w6 (fun _ _ w => w) (by omega) (by omega) (by omega)⟩
    | some c =>
      have e1226' : fR h 1226 (cl d.1) = cl c := e1226
      have hcc : clO h cl c := (hab c rfl).2
      have g100 := gvI_100 (hcd d dmm)
      have h3 := (hC d dmm).1
      -- a new finder
      obtain ⟨h1, i1, i2, i3, ⟨i4, i5, i6, i7⟩, Q1, K1, H1⟩ := BQ_fin (s := (fR h 1286 (io f), gvI d)) nd Q c7
      have E1 : AbE h1 N cl tb pr (UU us rest) Sl io ins ss pl := AbE_hS K1.1 K1.2.2.2.2.2.2.2.1 E
      obtain ⟨⟨a1', a2', a3'⟩, _, c0'⟩ := id E1
      obtain ⟨d1, ⟨d2, d3, d4, d5, d6⟩, d7, ⟨d8, d9, d10⟩, d11⟩ := c0' f d ed
      have f1226 : fR h1 1226 (cl d.1) = cl c := by rw [(i3 (cl d.1) c1.2.1).2.2.1]; exact e1226'
      unfold abJ at ez
      rw [eab] at ez
      simp only at ez
      cases q : hd ab ins (gvI d) 70 (0, s.1, s.2) c (hdI d) with
      | none => rw [q] at ez; cases ez
      | some za =>
      rw [q, Option.bind_some] at ez
      have AD1 : AbD h1 N cl (UU us rest) (Dl3 Dk ds 0 dm) io ab ins f := AbD_KB Q.2.2.2.2.1 K1 (fun i x ex => ⟨(c0 i x ex).2.1.2.1, (c0 i x ex).2.1.2.2.1, fun w => w⟩) A
      obtain ⟨v, h2, us2, fs2, Dk2, ds2, dm2, j1, j2, j3⟩ := c_asked (B := 2700) nd h8 hC hI20 hN (Nat.le_refl _) hI (fun g hg w => by have := g100 g hg; omega) (fun g hg w => by have := g100 g hg; omega) (pl f : Int) q H1 (clO_hS K1.1 hcc) d11 (by unfold hdI; intro z; cases z) (hdI_wf h3 (hN d dmm)) hdI_ok (by have := hdI_sz (d := d); omega) h300 (by omega) R2 (by omega)
      have n21 : kd (nO h 9 5) (io f) = 21 := by rw [kd_nO, if_neg (by omega)]; exact c4
      have n2 : kd (nO h 9 5) pr = 2 := by rw [kd_nO, if_neg (by omega)]; exact a1
      have n86 : fR (nO h 9 5) 1286 (io f) = fR h 1286 (io f) := by rw [fR_nO, if_neg (by omega)]
      have n78 : fR (nO h 9 5) 78 pr = tb := by rw [fR_nO, if_neg (by omega)]; exact a3
      have k18' : kd h1 (cl d.1) = 18 := d1.2.2.1
      have st0 : C_1_judge_20s G pr ((f : Int), h) = xc (some (v, h2)) (fun t h => some (.inr (.inr (.inr (.inl t, h))))) (fun p4 h4 => gd (kd h4 (io f) = 21 ∧ kd h4 (io f) = 21) (if (fR (sR h4 1334 (io f) p4) 1334 (io f)) ≠ 0 then some (.inl (((f + 1 : Nat) : Int), (sR h4 1334 (io f) p4))) else some (.inr (.inl (io f, (sR h4 1334 (io f) p4)))))) := by
        unfold C_1_judge_20s
        simp only
        rw [gd_pos ⟨a1, b3⟩, sz, Option.bind_some, if_neg (by omega), gd_pos ⟨a1, b3⟩, gt, Option.bind_some, c5, gd_pos ⟨.inr c4, c4, k18⟩, e1226', if_pos hcc.1, gd_pos ⟨n21, n2, i2⟩, n86, n78, i1, Option.bind_some, d5, gd_pos ⟨d4, k18', d9, i6⟩, f1226, d10, j1, wk]
      cases za with
      | none =>
        have ez' : zz = .inl (7, pl f) := (Option.some.inj ez).symm
        obtain ⟨a, ea, t1, t2, t3, t4, t5⟩ := j2 rfl
        obtain ⟨K2, _⟩ := BQ_KH Q1 c7 H1.1.2.1.2 t4
        refine ⟨.inr (.inr (.inl a, h2)), h2, us2, fs2, Dk2, ds2, dm2, om_loop_out ?_, by omega, fun s' w => (by rw [ez'] at w; cases w), fun kk p w => ?_⟩
        · rw [st0, ea, xc_t]
        · rw [ez'] at w
          injection Sum.inl.inj w with w1 w2
          rw [← w1, ← w2]
          exact .inl ⟨rfl, a, rfl, t2, t1, t3, KB_le (KB_trans K1 K2) (fun _ _ w => w.elim) (by omega) (by omega) (by omega)⟩
      | some p0 =>
      obtain ⟨b, s'⟩ := p0
      obtain ⟨⟨t1, t2, t3, t4, D, t5, t6⟩, t7, t8⟩ := j3 b s' rfl
      obtain ⟨K2, BB⟩ := BQ_KH Q1 c7 H1.1.2.1.2 t3
      have Q2 := BB _ t1
      have K02 := KB_trans K1 K2
      have E2 : AbE h2 N cl tb pr (UU us2 rest) Sl io ins ss pl := AbE_hS K2.1 K2.2.2.2.2.2.2.2.1 E1
      have AD2 : AbD h2 N cl (UU us2 rest) (Dl3 Dk2 ds2 0 dm2) io ab ins f := AbD_KB Q1.2.2.2.2.1 K2 (fun i x ex => ⟨(c0' i x ex).2.1.2.1, (c0' i x ex).2.1.2.2.1, fun w => w⟩) AD1
      obtain ⟨_, _, c02⟩ := id E2
      obtain ⟨g1, ⟨g2, g3, g4, g5, g6⟩, g7, ⟨g8, g9, g10⟩, g11⟩ := c02 f d ed
      have injI : ∀ (i : Nat) (x : INs), ins[i]? = some x → i ≠ f → io i ≠ io f := fun i x ex n w => by
        have := (c02 i x ex).2.1.2.2.2.2
        rw [w, g6] at this
        omega
      -- the field is written
      have wr : ∀ p4, BQ G (sR h2 1334 (io f) p4) N cl tb us2 fs2 rest Sl Gx io ab ins ss Dk2 ds2 dm2 s'.2.1 ∧ KB N cl tb rest ss Sl Gx (fun y => y = io f) h2 us2 fs2 Dk2 ds2 dm2 (sR h2 1334 (io f) p4) us2 fs2 Dk2 ds2 dm2 0 0 0 := fun p4 => by
        refine BQ_w (z := 0) (u := 0) nd Q2 (hT_sR (f := 1334) (a := io f) (x := p4)) (fun y w _ => ?_) (fun y w => by rw [w]; exact g3) ⟨Nat.le_refl _, Nat.le_refl _⟩
        refine .inl ⟨⟨.inr ⟨.inl (by rw [w]; exact g4), w⟩, fun _ _ => rfl, fun ff hf => ?_⟩, rfl, fun _ => rfl, fun _ => rfl, ?_⟩
        · exact fR_ne (fun w => by rw [w] at hf; exact absurd hf (by decide))
        · exact fR_ne (by decide)
      have g21 : kd h2 (io f) = 21 ∧ kd h2 (io f) = 21 := ⟨g4, g4⟩
      cases b with
      | false =>
        simp only [Bool.false_eq_true, if_false] at ez
        have ez' : zz = .inl (3, pl f) := (Option.some.inj ez).symm
        have ev := t7 rfl
        obtain ⟨Q3, K3⟩ := wr 0
        have E3 : AbE (sR h2 1334 (io f) 0) N cl tb pr (UU us2 rest) Sl io ins ss pl := AbE_hS K3.1 K3.2.2.2.2.2.2.2.1 E2
        obtain ⟨_, _, c03⟩ := id E3
        obtain ⟨_, ⟨_, m3, m4, _⟩, _, ⟨m8, m9, m10⟩, _⟩ := c03 f d ed
        refine ⟨.inl (io f, sR h2 1334 (io f) 0), sR h2 1334 (io f) 0, us2, fs2, Dk2, ds2, dm2, om_loop_out ?_, by omega, fun s' w => (by rw [ez'] at w; cases w), fun kk p w => ?_⟩
        · rw [st0, ev, xc_v]
          rw [gd_pos g21, fR_eq, if_neg (fun z => z rfl)]
        · rw [ez'] at w
          injection Sum.inl.inj w with w1 w2
          rw [← w1, ← w2]
          exact .inr ⟨rfl, io f, rfl, ⟨m4, m3⟩, ⟨m9, m8, m10⟩, ⟨_, Q3⟩, KB_le (KB_trans (KB_le K02 (fun _ _ w => w.elim) (Nat.le_refl _) (Nat.le_refl _) (Nat.le_refl _)) (KB_le K3 (W' := W) (fun y _ w => by rw [w]; exact hW f (by omega)) (Nat.le_refl _) (Nat.le_refl _) (Nat.le_refl _))) (fun _ _ w => w) (by omega) (by omega) (by omega)⟩
      | true =>
        simp only [if_true] at ez
        obtain ⟨Dd, x', dc1, ev, dX⟩ := t8 rfl
        obtain ⟨Q3, K3⟩ := wr x'
        have x0 : x' ≠ 0 := by
          cases Dd with
          | leaf => cases dX
          | inner tt aa _ cs nx =>
            obtain ⟨y, l', y1, _, y3, _⟩ := dX
            have yx : x' = y := (List.cons.inj y1).1
            rw [yx]
            split at y3
            · obtain ⟨gg, _, gg2⟩ := y3
              have lv := gcX_lv gg2
              exact (Q2.2.2.2.2.1.2.2.2.2.2.1 _ lv.1).1.1
            · exact y3.2.1.1
        have E3 : AbE (sR h2 1334 (io f) x') N cl tb pr (UU us2 rest) Sl io ins ss pl := AbE_hS K3.1 K3.2.2.2.2.2.2.2.1 E2
        have st : C_1_judge_20s G pr ((f : Int), h) = some (.inl (((f + 1 : Nat) : Int), sR h2 1334 (io f) x')) := by
          rw [st0, ev, xc_v]
          rw [gd_pos g21, fR_eq, if_pos x0]
        have AD3 : AbD (sR h2 1334 (io f) x') N cl (UU us2 rest) (Dl3 Dk2 ds2 0 dm2) io ab ins (f + 1) := fun i x ex => by
          by_cases w : i = f
          · rw [w] at ex ⊢
            have exd : d = x := Option.some.inj (ed.symm.trans ex)
            rw [← exd, fR_eq]
            refine ⟨fun _ c' ec => ?_, fun v => ?_⟩
            · rw [eab] at ec
              have ecc : c = c' := Option.some.inj (Option.some.inj ec)
              rw [← ecc]
              refine ⟨Dd, dc1, DcX_KB Q2.2.2.2.2.1 K3 (Nat.zero_le _) (DcX_keep (h' := h2) (fun y _ => eqA_refl _ _) (fun y _ => ⟨fun _ => rfl, fun _ => rfl⟩) (fun _ _ => rfl) (Nat.le_refl _) (fun y L => Dl3_lo (Nat.zero_le _) L) (fun _ _ c => c) dX)⟩
            · rcases v with v | v
              · rw [eab] at v
                cases Option.some.inj v
              · omega
          · rw [fR_na (injI i x ex w)]
            refine ⟨fun hi c' ec => ?_, fun v => (AD2 i x ex).2 (v.imp id (fun v => by omega))⟩
            obtain ⟨D', y1, y2⟩ := (AD2 i x ex).1 (by omega) c' ec
            exact ⟨D', y1, DcX_KB Q2.2.2.2.2.1 K3 (Nat.zero_le _) y2⟩
        have K03 : KB N cl tb rest ss Sl Gx W h us fs Dk ds dm (sR h2 1334 (io f) x') us2 fs2 Dk2 ds2 dm2 (80 * (s'.2.1 - s.1)) 1 5 := KB_le (KB_trans (KB_le K02 (fun _ _ w => w.elim) (Nat.le_refl _) (Nat.le_refl _) (Nat.le_refl _)) (KB_le K3 (W' := W) (fun y _ w => by rw [w]; exact hW f (by omega)) (Nat.le_refl _) (Nat.le_refl _) (Nat.le_refl _))) (fun _ _ w => w) (by omega) (by omega) (by omega)
        have tl3 := K03.2.2.2.2.2.1
        have dl3 := K03.2.2.2.2.2.2.2.2.1.2.2
        obtain ⟨r, h', us', fs', Dk', ds', dm', r1, r0, r2, r3⟩ := c_abv nd h8 hC hI20 hN hI hcd hW k (f + 1) (s'.2.1, s'.2.2 ++ [hdI d]) zz (sR h2 1334 (io f) x') us2 fs2 Dk2 ds2 dm2 (by omega) ez Q3 E3 AD3 t2.2 (by show tl us2 fs2 + 80 * (300 - s'.2.1) + 7560 ≤ 149000; omega) (by omega) (by show dm2 ≤ 5 * s'.2.1 + (f + 1); omega)
        refine ⟨r, h', us', fs', Dk', ds', dm', by rw [om_loop_in st]; exact r1, r0, fun s2 w => ?_, fun kk p w => ?_⟩
        · obtain ⟨v1, v2, v3, v4, v5, v6, v7, D2, v8, v9⟩ := r2 s2 w
          have v5a : s'.2.1 ≤ s2.1 := v5.1
          have v8a : s2.2 = s'.2.2 ++ [hdI d] ++ D2 := v8
          have v6' := KB_trans K03 v6
          refine ⟨v1, v2, v3, v4, ⟨by omega, v5.2⟩, KB_le v6' (fun _ _ w => w) (by show 80 * (s'.2.1 - s.1) + 80 * (s2.1 - s'.2.1) ≤ _; omega) (by omega) (by omega), v7, D ++ [hdI d] ++ D2, by rw [v8a, t5, List.append_assoc, List.append_assoc, List.append_assoc], fun X hX => ?_⟩
          rcases List.mem_append.mp hX with m | m
          · rcases List.mem_append.mp m with m | m
            rotate_left
            · rw [List.mem_singleton.mp m]
              exact ⟨_, v6.2.2.2.2.2.2.2.1 _ _ (K3.2.2.2.2.2.2.2.1 _ _ g11)⟩
            obtain ⟨y, hy⟩ := t6 X m
            exact ⟨y, v6.2.2.2.2.2.2.2.1 _ _ (K3.2.2.2.2.2.2.2.1 _ _ hy)⟩
          · exact v9 X m
        · rcases r3 kk p w with ⟨w1, a, w2, w3, w4, w5, w6⟩ | ⟨w1, a, w2, w3, w4, w5, w6⟩
          · exact .inl ⟨w1, a, w2, w3, w4, w5, KB_le (KB_trans K03 w6) (fun _ _ w => w) (by show 80 * (s'.2.1 - s.1) + (80 * (300 - s'.2.1) + 7560) ≤ _; omega) (by omega) (by omega)⟩
          · exact .inr ⟨w1, a, w2, w3, w4, w5, KB_le (KB_trans K03 w6) (fun _ _ w => w) (by show 80 * (s'.2.1 - s.1) + (80 * (300 - s'.2.1) + 7560) ≤ _; omega) (by omega) (by omega)⟩
end LAB
