set_option maxRecDepth 100000
/-! THE COMPONENT: a dictionary of an inst, as a whole -/
section LBK
variable {G : om_G} {N : List (List Int)} {cl : Nat → Nat} {tb l0 sc : Nat} {rest : List (Nat × List Nat)} {Sl Gx : Nat → Prop} {io : Nat → Nat} {ab : List (Option Nat)} {ins : List INs} {gv : List GVs} {h0 h : om_H} {us0 fs0 us fs : List Nat} {Dk0 Dk : Nat → Prop} {ds0 ds : List Nat} {dm0 dm d c i B : Nat} {s : WS} {q : Nat}
theorem OwnS_new (nd : ndN N) (O : OwnS G N cl tb l0 sc rest Sl Gx io ab ins gv h0 us0 fs0 Dk0 ds0 dm0 d c i h us fs Dk ds dm s q) {f0 cap : Nat} (o : (f0 = 1630 ∧ cap = 2) ∨ (f0 = 1634 ∧ cap = 4)) (z0 : fR h f0 d = 0) : OwnS G N cl tb l0 sc rest Sl Gx io ab ins gv h0 us0 fs0 Dk0 ds0 dm0 d c i (nwL h f0 cap d) us fs Dk ds dm s q ∧ ∀ T a, tyC h N cl (UU us rest) T a → tyC (nwL h f0 cap d) N cl (UU us rest) T a := by
  have dd := OwnS_dd O
  obtain ⟨⟨H, K⟩, ⟨P0, o1, o4⟩, o5, o6, o7, o8, o9⟩ := O
  obtain ⟨a1, a2, a3⟩ := own_new nd H K P0 dd.1 o4 o z0
  obtain ⟨X, _, ⟨n1, n2, n3⟩, _⟩ := nwL_f (f0 := f0) (cap := cap) dd.2.2.2.2.1
  have ne : ∀ f, f ≠ 1630 → f ≠ 1634 → fR (nwL h f0 cap d) f d = fR h f d := fun f h1 h2 => n2 f (by omega)
  exact ⟨⟨⟨a1, a2⟩, ⟨P0, o1, o4⟩, by rw [n3]; exact o5, by rw [ne 1622 (by decide) (by decide)]; exact o6, by rw [ne 1614 (by decide) (by decide)]; exact o7, by rw [ne 1626 (by decide) (by decide)]; exact o8, by rw [ne 1638 (by decide) (by decide)]; exact o9⟩, a3⟩
/-- the lists are there -/
theorem c_lists (nd : ndN N) {r : Nat → Nat → Nat → Int → om_H → Option ((Nat ⊕ Nat) × om_H)} {x io' : Nat} {pl : Int} (O : OwnS G N cl tb l0 sc rest Sl Gx io ab ins gv h0 us0 fs0 Dk0 ds0 dm0 d c i h us fs Dk ds dm s q) (em : ∀ L, L ≠ 0 → L = fR h 1630 d ∨ L = fR h 1634 d → ll h L = []) : ∃ h', (if fR h 1630 d ≠ 0 then C_8_byInstance_61 G r l0 x pl io' d h else C_8_byInstance_48 G r l0 x pl io' d h) = C_8_byInstance_82 G r l0 x pl io' d h' ∧ OwnS G N cl tb l0 sc rest Sl Gx io ab ins gv h0 us0 fs0 Dk0 ds0 dm0 d c i h' us fs Dk ds dm s q ∧ (∀ T a, tyC h N cl (UU us rest) T a → tyC h' N cl (UU us rest) T a) ∧ (fR h' 1630 d ≠ 0 ∧ ll h' (fR h' 1630 d) = []) ∧ (fR h' 1634 d ≠ 0 ∧ ll h' (fR h' 1634 d) = []) := by
  -- the second list
  have s2 : ∀ h1 : om_H, OwnS G N cl tb l0 sc rest Sl Gx io ab ins gv h0 us0 fs0 Dk0 ds0 dm0 d c i h1 us fs Dk ds dm s q → (fR h1 1630 d ≠ 0 ∧ ll h1 (fR h1 1630 d) = []) → (fR h1 1634 d ≠ 0 → ll h1 (fR h1 1634 d) = []) → ∃ h', C_8_byInstance_61 G r l0 x pl io' d h1 = C_8_byInstance_82 G r l0 x pl io' d h' ∧ OwnS G N cl tb l0 sc rest Sl Gx io ab ins gv h0 us0 fs0 Dk0 ds0 dm0 d c i h' us fs Dk ds dm s q ∧ (∀ T a, tyC h1 N cl (UU us rest) T a → tyC h' N cl (UU us rest) T a) ∧ (fR h' 1630 d ≠ 0 ∧ ll h' (fR h' 1630 d) = []) ∧ (fR h' 1634 d ≠ 0 ∧ ll h' (fR h' 1634 d) = []) := fun h1 O1 L1 L2 => by
    have dd := OwnS_dd O1
    unfold C_8_byInstance_61
    rw [gd_pos dd.2.2.2.2.2]
    by_cases z0 : fR h1 1634 d = 0
    · rw [if_neg (fun z => z z0)]
      obtain ⟨i1, i2⟩ := nwL_init (G := G) (h := h1) (cap := 4) (by decide) (by decide)
      have i1' : P_J2_init_2 G (hz h1) 4 (nO h1 41 3) = some (gL (nO h1 41 3) (hz h1) [] 4 1 4) := i1
      obtain ⟨O2, k2⟩ := OwnS_new nd O1 (.inr ⟨rfl, rfl⟩) z0
      have dd2 := OwnS_dd O2
      obtain ⟨X, _, ⟨n1, n2, n3⟩, n4, n5, n6⟩ := nwL_f (f0 := 1634) (cap := 4) dd.2.2.2.2.1
      rw [gd_pos i2, i1', Option.bind_some, gd_pos (show kd (gL (nO h1 41 3) (hz h1) [] 4 1 4) d = 36 from dd2.2.2.2.2.2)]
      have l1 := ((O1.1.1.2.1.2.2.2.2.2.1 d dd.1.1).2.1.resolve_left L1.1).1
      refine ⟨nwL h1 1634 4 d, rfl, O2, k2, ⟨by rw [n2 1630 (by decide)]; exact L1.1, ?_⟩, ⟨by rw [n1]; have := dd.2.2.2.2.1; omega, by rw [n1]; exact n6⟩⟩
      rw [n2 1630 (by decide), (X.2.2.2 _ l1.1 (fun w => by have := l1.2; rw [w, dd.2.2.2.2.2] at this; omega)).2.2.2.2.2.2.1]
      exact L1.2
    · rw [if_pos z0]
      exact ⟨h1, rfl, O1, fun _ _ c => c, L1, ⟨z0, L2 z0⟩⟩
  have dd := OwnS_dd O
  by_cases z0 : fR h 1630 d = 0
  · rw [if_neg (fun z => z z0)]
    obtain ⟨i1, i2⟩ := nwL_init (G := G) (h := h) (cap := 2) (by decide) (by decide)
    have i1' : P_J2_init_2 G (hz h) 2 (nO h 41 3) = some (gL (nO h 41 3) (hz h) [] 2 1 2) := i1
    obtain ⟨O2, k2⟩ := OwnS_new nd O (.inl ⟨rfl, rfl⟩) z0
    have dd2 := OwnS_dd O2
    obtain ⟨X, _, ⟨n1, n2, n3⟩, n4, n5, n6⟩ := nwL_f (f0 := 1630) (cap := 2) dd.2.2.2.2.1
    have un : C_8_byInstance_48 G r l0 x pl io' d h = C_8_byInstance_61 G r l0 x pl io' d (nwL h 1630 2 d) := by
      unfold C_8_byInstance_48
      rw [gd_pos i2, i1', Option.bind_some, gd_pos (show kd (gL (nO h 41 3) (hz h) [] 2 1 2) d = 36 from dd2.2.2.2.2.2)]
      rfl
    rw [un]
    obtain ⟨h', r1, r2, r3, r4⟩ := s2 (nwL h 1630 2 d) O2 ⟨by rw [n1]; have := dd.2.2.2.2.1; omega, by rw [n1]; exact n6⟩ (fun n => by
      rw [n2 1634 (by decide)] at n ⊢
      have l1 := ((O.1.1.2.1.2.2.2.2.2.1 d dd.1.1).2.2.resolve_left n).1
      rw [(X.2.2.2 _ l1.1 (fun w => by have := l1.2; rw [w, dd.2.2.2.2.2] at this; omega)).2.2.2.2.2.2.1]
      exact em _ n (.inr rfl))
    exact ⟨h', r1, r2, fun T a c => r3 T a (k2 T a c), r4⟩
  · rw [if_pos z0]
    exact s2 h O ⟨z0, em _ z0 (.inl rfl)⟩ (fun n => em _ n (.inr rfl))
theorem arD1 {a b B : Nat} (h : a + 81 * (60 - b) + B ≤ 149000) : a + 81 * (60 - (b + 1)) + B ≤ 149000 := by omega
theorem arD2 {l l' m b : Nat} (h1 : l' ≤ max l (m + 1)) (h2 : l ≤ 49000) (h3 : m + 5 * (60 - b) + 1 ≤ 49000) : l' ≤ 49000 := by omega
theorem arD3 {m b L : Nat} (h3 : m + 5 * (60 - b) + 1 ≤ 49000) (hb : b + 1 ≤ 60) (hL : L ≤ 4) : m + 1 + 5 * (60 - (b + 1)) + L + 1 ≤ 49000 := by omega
theorem arD4 {m a : Nat} : m + 1 ≤ m + 5 * (a - a) + (1 + 0) := by omega
theorem arD5 {m m' b : Nat} (hb : b + 1 ≤ 60) (h : m' ≤ m + (5 * (60 - (b + 1)) + 5)) : m' ≤ m + (5 * (60 - b) + 1) := by omega
theorem arD6 {b B : Nat} : 0 + (81 * (60 - (b + 1)) + B) ≤ 81 * (60 - b) + B := by omega
theorem arD7 {a b : Nat} : 0 + 80 * (a - (b + 1)) ≤ 80 * (a - b) := by omega
theorem arD8 {m m' a b : Nat} (h : b + 1 ≤ a) (h2 : m' ≤ m + 5 * (a - (b + 1)) + 5) : m' ≤ m + 5 * (a - b) + 0 := by omega
theorem arD9 {a b : Nat} : 80 * (a - (b + 1)) ≤ 80 * (a - b) := by omega
/-- A DICTIONARY OF AN INST -/
theorem c_byInst (nd : ndN N) (hI : ins.length ≤ 20) {f : Nat} {r : Nat → Nat → Nat → Int → om_H → Option ((Nat ⊕ Nat) × om_H)} (Hr : HdC G N cl tb l0 sc rest Sl Gx io ab ins gv B f r) (hC : insK ins) {w : Nat} {xu : Unit} {lt rt : Ty} (wf : wfT (.inner 1 w xu lt rt)) (oku : okF ins (.inner 1 w xu lt rt)) (hzu : tsz (.inner 1 w xu lt rt) ≤ 60) {x : Nat} (pl : Int) {z : Option (Bool × WS)} (e : (match iOf ins c w with
          | none => some (some (false, s))
          | some i => if 60 < s.1 + 1 ∨ 300 < s.2.1 + 1 then some none else match ins[i]? with
            | none => none
            | some d => hdL (hd ab ins gv f) (.inner 1 w xu lt rt) d.2.2.2.1 (s.1 + 1, s.2.1 + 1, s.2.2)) = some z) (H : HvC G h N cl tb l0 sc us fs rest Sl Gx io ab ins gv Dk ds dm s) (hc : clO h cl c) (cx : tyC h N cl (UU us rest) (.inner 1 w xu lt rt) x) (h60 : s.1 ≤ 60) (h300 : s.2.1 ≤ 300) (R1 : tl us fs + 81 * (60 - s.1) + B ≤ 149000) (R2 : ds.length ≤ 49000) (R3 : dm + 5 * (60 - s.1) + 1 ≤ 49000) : ∃ (v : Nat ⊕ Nat) (h' : om_H) (us' fs' : List Nat) (Dk' : Nat → Prop) (ds' : List Nat) (dm' : Nat), C_8_byInstance G r l0 (cl c) x pl h = some (v, h') ∧ (z = none → ∃ a, v = .inl a ∧ HdF G N cl tb l0 sc rest Sl Gx h us fs Dk ds dm pl a h' us' fs' Dk' ds' dm' (81 * (60 - s.1) + B) (5 * (60 - s.1) + 1)) ∧ ∀ b s', z = some (b, s') → HdS G N cl tb l0 sc rest Sl Gx io ab ins gv h us fs Dk ds dm s s' h' us' fs' Dk' ds' dm' 0 ∧ (b = false → v = .inr 0) ∧ (b = true → ∃ i dd d as h1 Dk1 ds1, iOf ins c w = some i ∧ ins[i]? = some dd ∧ v = .inr d ∧ KH N cl tb l0 sc rest Sl Gx h us fs Dk ds dm h1 us fs Dk1 ds1 dm 0 0 0 ∧ OwnS G N cl tb l0 sc rest Sl Gx io ab ins gv h1 us fs Dk1 ds1 dm d c i h' us' fs' Dk' ds' dm' s' (80 * (s'.1 - s.1)) ∧ tyC h' N cl (UU us' rest) (.inner 1 w xu lt rt) x ∧ (fR h' 1630 d ≠ 0 ∧ fR h' 1634 d ≠ 0) ∧ tyL h' N cl (UU us' rest) (.inner 1 w xu lt rt) (fR h' 1630 d) (pN w) ∧ as.length = dd.2.2.2.1.length ∧ dcS h' N cl (UU us' rest) (Dl3 Dk' ds' (dm + 1) dm') io ab gv as (ll h' (fR h' 1634 d)) ∧ ∀ (k : Nat) (p : Nat × Nat) (b : Dc), dd.2.2.2.1[k]? = some p → as[k]? = some b → dcT ab ins gv f p.1 (if p.2 = 0 then lt else rt) = some b) := by
  obtain ⟨F, P, RW, Hg⟩ := id H
  obtain ⟨T, ⟨⟨f1, f2, f3⟩, f4⟩, ⟨g1, g2, g3, hcl⟩, PG, V, k0, k1, k2⟩ := id F
  have sh := wf.1
  have w3 : w ≤ 3 := by
    unfold shT at sh
    rcases sh with ⟨z, _⟩ | ⟨_, h1, _⟩ | ⟨z, _⟩ | ⟨z, _⟩ <;> omega
  obtain ⟨⟨r1, r2, r3⟩, r4⟩ := (PG.1 c hc).2
  have ew := (c_many (G := G) w3 cx).2
  have eA : aR h (fR h 1238 (cl c)) w = (iOf ins c w).elim 0 io := r4 w (by omega)
  have e0 : C_8_byInstance G r l0 (cl c) x pl h = (if (iOf ins c w).elim 0 io ≠ 0 then gd (kd h l0 = 9) (xc (C_8_counted G l0 pl h) (fun t h => some (.inl t, h)) (fun p1 h1 => gd (kd h1 l0 = 9 ∧ kd h1 (fR h1 214 l0) = 3) ((C_2_dictionary G (fR h1 214 l0) (cl c) h1).bind fun p2 => gd (kd p2.2 p2.1 = 36) (if (fR p2.2 1630 p2.1) ≠ 0 then C_8_byInstance_61 G r l0 x pl ((iOf ins c w).elim 0 io) p2.1 (sR p2.2 1626 p2.1 ((iOf ins c w).elim 0 io)) else C_8_byInstance_48 G r l0 x pl ((iOf ins c w).elim 0 io) p2.1 (sR p2.2 1626 p2.1 ((iOf ins c w).elim 0 io)))))) else some (.inr 0, h)) := by
    unfold C_8_byInstance
    rw [gd_pos ⟨hc.2.2.1, cx.2.1, r2, by omega, by rw [r3]; omega⟩, ew, show ((w : Int)).toNat = w by omega, eA]
  rw [e0]
  cases qi : iOf ins c w with
  | none =>
    rw [qi] at e
    have ez : z = some (false, s) := (Option.some.inj e).symm
    refine ⟨.inr 0, h, us, fs, Dk, ds, dm, by rw [if_neg (fun z => z rfl)], fun q => (by rw [ez] at q; cases q), fun b s' q => ?_⟩
    rw [ez] at q
    injection Option.some.inj q with q1 q2
    subst q1 q2
    exact ⟨⟨H, ⟨Nat.le_refl _, h60, h300⟩, KH_le (HvC_KF (s' := s) H (KF_refl (q := 0) (z := 0) (u := 0)) T).1 (by omega) (Nat.le_refl _) (Nat.le_refl _), by omega, [], by rw [List.append_nil], fun X hX => absurd hX List.not_mem_nil⟩, fun _ => rfl, fun z => by cases z⟩
  | some i =>
  rw [qi] at e
  simp only at e
  obtain ⟨dd, ei, ei2⟩ := ixF_some qi
  have ei3 : dd.1 = c ∧ dd.2.1 = w := by simpa using ei2
  have io0 : io i ≠ 0 := (PG.2.2 i dd ei).2.1.1
  have sm : (Option.some i).elim 0 io = io i := rfl
  rw [sm]
  clear sm eA e0
  rw [if_pos io0, gd_pos f1]
  clear io0
  obtain ⟨cA, cB⟩ := c_counted nd F (.inr rfl) h60 h300 pl
  by_cases ov : 60 < s.1 + 1 ∨ 300 < s.2.1 + 1
  · rw [if_pos ov] at e
    have ez : z = none := (Option.some.inj e).symm
    obtain ⟨a, h1, a1, a2, a3, a4⟩ := cA ⟨rfl, ov⟩
    rw [a1]
    refine ⟨.inl a, h1, us, fs, Dk, ds, dm, rfl, fun _ => ⟨a, rfl, a3, a2, PoolC_KF T f1 a4 P, KH_le (HvC_KF (s' := s) H a4 a3).1 (by omega) (Nat.le_refl _) (Nat.le_refl _), by omega⟩, fun b s' q => (by rw [ez] at q; cases q)⟩
  · rw [if_neg ov, ei] at e
    simp only at e
    obtain ⟨hA, a1, TA, KA, a4, a5⟩ := cB (fun z => ov z.2)
    rw [a1, xc_v]
    obtain ⟨KHA, HA'⟩ := HvC_KF (s' := (s.1 + 1, s.2.1 + 1, s.2.2)) H KA TA
    have HA := HA' (by rw [a4]; rfl) (a5 rfl).1 (a5 rfl).2
    obtain ⟨d, hB, dsB, DkB, b1, HB, KB, ⟨bL, bI, b0, bz, bk⟩, ⟨c1, c2, c3, c4, c5, c6⟩, bE, bN⟩ := HvC_pl nd HA (by omega) (cl c)
    have kA9 := FnC_kd HA.1
    have eA214 : fR hA 214 l0 = tb := HA.1.2.1.1.2.2
    rw [gd_pos ⟨kA9.1, by rw [eA214]; exact (TB_3 TA).1⟩, eA214, b1, Option.bind_some]
    simp only
    rw [gd_pos bk]
    have bM : d ∈ dsB := List.mem_of_getElem? bI
    -- its inst
    obtain ⟨HC, KC, tC⟩ := own_fld (h2 := sR hB 1626 d (io i)) nd HB KB HA.2.1 ⟨bL.1, bM⟩ bN hT_sR (fR_ne (by decide)) (fR_ne (by decide)) ⟨rfl, rfl⟩
    have OC : OwnS G N cl tb l0 sc rest Sl Gx io ab ins gv hA us fs Dk ds dm d c i (sR hB 1626 d (io i)) us fs DkB dsB (dm + 1) (s.1 + 1, s.2.1 + 1, s.2.2) 0 := ⟨⟨HC, KC⟩, ⟨HA.2.1, ⟨bL, bI, Nat.le_refl _⟩, bN⟩, c2, by rw [fR_ne (by decide)]; exact c3, by rw [fR_ne (by decide)]; exact c1, fR_eq, by rw [fR_ne (by decide)]; exact c5⟩
    have e1630 : fR hB 1630 d = fR (sR hB 1626 d (io i)) 1630 d := (fR_ne (by decide)).symm
    rw [e1630]
    clear e1630
    obtain ⟨hD, d1, OD, tD, LD1, LD2⟩ := c_lists (r := r) (x := x) (io' := io i) (pl := pl) nd OC (fun L hL eL => bE L hL (by rw [fR_ne (by decide), fR_ne (by decide)] at eL; exact eL))
    rw [d1]
    clear d1
    unfold C_8_byInstance_82
    have cxA := KA.2.2.2.2.2.2.1 _ _ cx
    obtain ⟨zB, uB, KGB, _⟩ := KB.1
    have cxD := tD _ _ (tC _ _ (KGB.2.2.2.2.2.2.2.2.1 _ _ cxA))
    obtain ⟨hE, e1, OE, cxE, LE, YE, tE⟩ := c_types (r := r) (io' := io i) (pl := pl) nd wf w3 (pN w) 0 hD (by omega) (Nat.zero_le _) OD cxD ⟨LD1.1, LD2.1, LD2.2⟩ ⟨by rw [LD1.2]; rfl, fun k y ek => by rw [LD1.2] at ek; cases ek⟩
    have e1' : om_loop (C_8_byInstance_85s G r l0 x pl (io i) d) (0, hD) = some hE := e1
    rw [e1', Option.bind_some]
    clear c1 c2 c3 c4 c5 c6 b0 bz bk kA9 eA214 a4 r1 r2 r3 r4 ew f2 f3 f4 k0 g1 g2 e1 e1' LD1 LD2 bN bM bI w3
    have KE := OE.1.2
    have hl := KE.2.2
    obtain ⟨zE, uE, KGE, _⟩ := KE.1
    have lenE := KGE.2.2.2.2.2.1
    have s61 : s.1 + 1 ≤ 60 ∧ s.2.1 + 1 ≤ 300 := by omega
    obtain ⟨ev, h', us', fs', Dk', ds', dm', m1, m2, m3⟩ := c_conds nd Hr hC ei wf oku hzu ei3.2 (x := x) (pl := pl) dd.2.2.2.1 0 (s.1 + 1, s.2.1 + 1, s.2.2) (s.1 + 1, s.2.1 + 1, s.2.2) z hE us fs DkB dsB (dm + 1) [] rfl (Nat.zero_le _) e ⟨⟨OE.1.1, KH_le OE.1.2 (Nat.zero_le _) (Nat.le_refl _) (Nat.le_refl _)⟩, OE.2⟩ cxE ⟨LE.1, LE.2.1⟩ YE ⟨rfl, ⟨by rw [LE.2.2]; rfl, fun k y a ek => by rw [LE.2.2] at ek; cases ek⟩, fun k p b _ eb => by cases eb⟩ ⟨Nat.le_refl _, s61.1, s61.2⟩ ⟨OE.1.1, ⟨Nat.le_refl _, s61.1, s61.2⟩, KH_le OE.1.2 (Nat.zero_le _) (Nat.le_refl _) (Nat.le_refl _), arD4, [], by rw [List.append_nil], fun X hX => absurd hX List.not_mem_nil⟩ (arD1 R1) (arD2 hl R2 R3) (arD3 R3 s61.1 (hC dd (List.mem_of_getElem? ei)).2.1)
    have m1' : om_loop (C_8_byInstance_118s G r l0 x pl (io i) d) (0, hE) = some ev := m1
    rw [m1', Option.bind_some]
    cases z with
    | none =>
      obtain ⟨a, ea, t1, t2, t3, t4, t5⟩ := m2 rfl
      subst ea
      exact ⟨.inl a, h', us', fs', Dk', ds', dm', rfl, fun _ => ⟨a, rfl, t1, t2, t3, KH_le (KH_trans KHA t4) arD6 (Nat.le_refl _) (Nat.le_refl _), arD5 s61.1 t5⟩, fun b s' q => by cases q⟩
    | some pb =>
    obtain ⟨b, s'⟩ := pb
    obtain ⟨⟨t1, t2, t3, t4, D, t5, t6⟩, t7, t8⟩ := m3 b s' rfl
    have SS : HdS G N cl tb l0 sc rest Sl Gx io ab ins gv h us fs Dk ds dm s s' h' us' fs' Dk' ds' dm' 0 := ⟨t1, ⟨Nat.le_of_succ_le t2.1, t2.2⟩, KH_le (KH_trans KHA t3) arD7 (Nat.le_refl _) (Nat.le_refl _), arD8 t2.1 t4, D, t5, t6⟩
    cases b with
    | false =>
      have ee := t7 rfl
      subst ee
      refine ⟨.inr 0, h', us', fs', Dk', ds', dm', rfl, fun q => (by cases q), fun b s'' q => ?_⟩
      injection Option.some.inj q with q1 q2
      subst q1 q2
      exact ⟨SS, fun _ => rfl, fun z => by cases z⟩
    | true =>
      obtain ⟨ee, as, OF, cxF, LF, YF, A1, A2, A3⟩ := t8 rfl
      subst ee
      refine ⟨.inr d, h', us', fs', Dk', ds', dm', rfl, fun q => (by cases q), fun b s'' q => ?_⟩
      injection Option.some.inj q with q1 q2
      subst q1 q2
      exact ⟨SS, fun z => (by cases z), fun _ => ⟨i, dd, d, as, hA, Dk, ds, rfl, ei, rfl, KHA, ⟨⟨OF.1.1, KH_le OF.1.2 arD9 (Nat.le_refl _) (Nat.le_refl _)⟩, OF.2⟩, cxF, LF, YF, A1, A2, A3⟩⟩
end LBK
