set_option maxRecDepth 100000
/-! THE COMPONENT: a dictionary of an inst: its conditions -/
/-- conditions are few, and each is of a name's first place -/
def insK (ins : List INs) : Prop := ∀ d ∈ ins, d.2.1 ≤ 3 ∧ d.2.2.2.1.length ≤ 4 ∧ ∀ c ∈ d.2.2.2.1, c.2 < d.2.2.1.length ∧ ∀ k, k < c.2 → d.2.2.1[k]? ≠ d.2.2.1[c.2]?
/-- a Fault came of it -/
def HdF (G : om_G) (N : List (List Int)) (cl : Nat → Nat) (tb l0 sc : Nat) (rest : List (Nat × List Nat)) (Sl Gx : Nat → Prop) (h : om_H) (us fs : List Nat) (Dk : Nat → Prop) (ds : List Nat) (dm : Nat) (pl : Int) (a : Nat) (h' : om_H) (us' fs' : List Nat) (Dk' : Nat → Prop) (ds' : List Nat) (dm' q n : Nat) : Prop := TB G h' N cl tb us' fs' rest ∧ flt h' a 7 pl ∧ PoolC G h' tb Sl Dk' ds' dm' ∧ KH N cl tb l0 sc rest Sl Gx h us fs Dk ds dm h' us' fs' Dk' ds' dm' q 1 8 ∧ dm' ≤ dm + n
/-- all but the answer -/
def HdS (G : om_G) (N : List (List Int)) (cl : Nat → Nat) (tb l0 sc : Nat) (rest : List (Nat × List Nat)) (Sl Gx : Nat → Prop) (io : Nat → Nat) (ab : List (Option Nat)) (ins : List INs) (gv : List GVs) (h : om_H) (us fs : List Nat) (Dk : Nat → Prop) (ds : List Nat) (dm : Nat) (s s' : WS) (h' : om_H) (us' fs' : List Nat) (Dk' : Nat → Prop) (ds' : List Nat) (dm' n : Nat) : Prop := HvC G h' N cl tb l0 sc us' fs' rest Sl Gx io ab ins gv Dk' ds' dm' s' ∧ (s.1 ≤ s'.1 ∧ s'.1 ≤ 60 ∧ s'.2.1 ≤ 300) ∧ KH N cl tb l0 sc rest Sl Gx h us fs Dk ds dm h' us' fs' Dk' ds' dm' (80 * (s'.1 - s.1)) 0 0 ∧ dm' ≤ dm + 5 * (s'.1 - s.1) + n ∧ ∃ D, s'.2.2 = s.2.2 ++ D ∧ ∀ X ∈ D, ∃ y, tyC h' N cl (UU us' rest) X y
/-- what had does -/
def HdC (G : om_G) (N : List (List Int)) (cl : Nat → Nat) (tb l0 sc : Nat) (rest : List (Nat × List Nat)) (Sl Gx : Nat → Prop) (io : Nat → Nat) (ab : List (Option Nat)) (ins : List INs) (gv : List GVs) (B f : Nat) (r : Nat → Nat → Nat → Int → om_H → Option ((Nat ⊕ Nat) × om_H)) : Prop := ∀ (s : WS) (c : Nat) (T : Ty) (z : Option (Bool × WS)) (h : om_H) (us fs : List Nat) (Dk : Nat → Prop) (ds : List Nat) (dm x : Nat) (pl : Int), hd ab ins gv f s c T = some z → HvC G h N cl tb l0 sc us fs rest Sl Gx io ab ins gv Dk ds dm s → clO h cl c → tyC h N cl (UU us rest) T x → T ≠ .leaf → wfT T → okF ins T → tsz T ≤ 1000000 → s.1 ≤ 60 → s.2.1 ≤ 300 → tl us fs + 81 * (60 - s.1) + B ≤ 149000 → ds.length ≤ 49000 → dm + 5 * (60 - s.1) + 1 ≤ 49000 → ∃ (v : Nat ⊕ Nat) (h' : om_H) (us' fs' : List Nat) (Dk' : Nat → Prop) (ds' : List Nat) (dm' : Nat), r l0 (cl c) x pl h = some (v, h') ∧ (z = none → ∃ a, v = .inl a ∧ HdF G N cl tb l0 sc rest Sl Gx h us fs Dk ds dm pl a h' us' fs' Dk' ds' dm' (81 * (60 - s.1) + B) (5 * (60 - s.1) + 1)) ∧ ∀ b s', z = some (b, s') → HdS G N cl tb l0 sc rest Sl Gx io ab ins gv h us fs Dk ds dm s s' h' us' fs' Dk' ds' dm' 1 ∧ (b = false → v = .inr 0) ∧ (b = true → ∃ D x', dcT ab ins gv f c T = some D ∧ v = .inr x' ∧ DcX h' N cl (UU us' rest) (Dl3 Dk' ds' dm dm') io ab gv D [x'])
section LBJ
variable {G : om_G} {N : List (List Int)} {cl : Nat → Nat} {tb l0 sc : Nat} {rest : List (Nat × List Nat)} {Sl Gx : Nat → Prop} {io : Nat → Nat} {ab : List (Option Nat)} {ins : List INs} {gv : List GVs} {h0 h1 h2 : om_H} {us0 fs0 us1 fs1 us2 fs2 : List Nat} {Dk0 Dk1 Dk2 : Nat → Prop} {ds0 ds1 ds2 : List Nat} {dm0 dm1 dm2 d c i B : Nat} {s s1 s2 : WS} {q n n' : Nat}
theorem HdS_trans (A : HdS G N cl tb l0 sc rest Sl Gx io ab ins gv h0 us0 fs0 Dk0 ds0 dm0 s s1 h1 us1 fs1 Dk1 ds1 dm1 n) (B : HdS G N cl tb l0 sc rest Sl Gx io ab ins gv h1 us1 fs1 Dk1 ds1 dm1 s1 s2 h2 us2 fs2 Dk2 ds2 dm2 n') : HdS G N cl tb l0 sc rest Sl Gx io ab ins gv h0 us0 fs0 Dk0 ds0 dm0 s s2 h2 us2 fs2 Dk2 ds2 dm2 (n + n') := by
  obtain ⟨a1, ⟨a2, a3, a4⟩, a5, a6, D, a7, a8⟩ := A
  obtain ⟨b1, ⟨b2, b3, b4⟩, b5, b6, E, b7, b8⟩ := B
  obtain ⟨z1, u1, KG1, _⟩ := b5.1
  refine ⟨b1, ⟨by omega, b3, b4⟩, KH_le (KH_trans a5 b5) (by omega) (by omega) (by omega), by omega, D ++ E, by rw [b7, a7, List.append_assoc], fun X hX => ?_⟩
  rcases List.mem_append.mp hX with h | h
  · obtain ⟨y, hy⟩ := a8 X h
    exact ⟨y, KG1.2.2.2.2.2.2.2.2.1 _ _ hy⟩
  · exact b8 X h
theorem HdF_trans {pl : Int} {a : Nat} (A : HdS G N cl tb l0 sc rest Sl Gx io ab ins gv h0 us0 fs0 Dk0 ds0 dm0 s s1 h1 us1 fs1 Dk1 ds1 dm1 n) (F : HdF G N cl tb l0 sc rest Sl Gx h1 us1 fs1 Dk1 ds1 dm1 pl a h2 us2 fs2 Dk2 ds2 dm2 (81 * (60 - s1.1) + B) n') : HdF G N cl tb l0 sc rest Sl Gx h0 us0 fs0 Dk0 ds0 dm0 pl a h2 us2 fs2 Dk2 ds2 dm2 (81 * (60 - s.1) + B) (5 * (s1.1 - s.1) + n + n') := by
  obtain ⟨a1, ⟨a2, a3, a4⟩, a5, a6, D, a7, a8⟩ := A
  obtain ⟨b1, b2, b3, b4, b5⟩ := F
  exact ⟨b1, b2, b3, KH_le (KH_trans a5 b4) (by omega) (by omega) (by omega), by omega⟩
/-- which of the names a condition is of -/
theorem c_whichName (nd : ndN N) {h : om_H} {r : Nat → Nat → Nat → Int → om_H → Option ((Nat ⊕ Nat) × om_H)} {U : Nat → Prop} {dd : INs} {io' g x : Nat} {l6 pl : Int} {p : Nat × Nat} (I : InC h N cl U Sl dd i io') (g22 : kd h g = 22) {w : Nat} (ew : dd.2.2.1[p.2]? = some w) (W : wN h N w (fR h 1342 g)) (pn : ∀ k, k < p.2 → dd.2.2.1[k]? ≠ dd.2.2.1[p.2]?) : ∀ (n k : Nat), p.2 - k = n → k ≤ p.2 → om_loop (C_8_byInstance_155s G r l0 x pl io' d l6 g h) (k : Int) = some ((p.2 : Nat) : Int) := by
  obtain ⟨⟨a1, a2, a3, a4, a5⟩, ⟨b1, b2⟩, ⟨c1, ⟨c2, c2'⟩, c3, c4, c5⟩, _⟩ := I
  have pl2 := (List.getElem?_eq_some_iff.mp ew).1
  have stp : ∀ (k v : Nat), dd.2.2.1[k]? = some v → C_8_byInstance_155s G r l0 x pl io' d l6 g h (k : Int) = if v = w then some (.inr (k : Int)) else some (.inl (w32 ((k : Int) + 1))) := fun k v e => by
    have kl := (List.getElem?_eq_some_iff.mp e).1
    have ea : (ll h (fR h 162 (fR h 1286 io')))[k]? = some (ll h (fR h 162 (fR h 1286 io')))[k] := List.getElem?_eq_getElem (by omega)
    have wa := c5 k _ v ea e
    generalize (ll h (fR h 162 (fR h 1286 io')))[k] = a at *
    have k17 : kd h a = 17 := by obtain ⟨_, L, _, b⟩ := wa; exact b.1
    unfold C_8_byInstance_155s P_J2_get
    rw [gd_pos ⟨a3, b2, c2'⟩, gd_pos ⟨c2', by omega⟩, show ((k : Int)).toNat = k by omega, ea, Option.bind_some, gd_pos ⟨.inr k17, g22, k17⟩, c_isN nd wa W, Option.bind_some]
    by_cases q : v = w
    · rw [if_pos q, if_pos q, if_pos (by decide)]
    · rw [if_neg q, if_neg q, if_neg (by decide)]
  intro n
  induction n with
  | zero =>
    intro k en hk
    have ek : k = p.2 := by omega
    rw [ek]
    have := stp p.2 w ew
    rw [if_pos rfl] at this
    exact om_loop_out this
  | succ n ih =>
    intro k en hk
    have kl : k < dd.2.2.1.length := by omega
    have ek : dd.2.2.1[k]? = some dd.2.2.1[k] := List.getElem?_eq_getElem kl
    have ne : dd.2.2.1[k] ≠ w := fun e => pn k (by omega) (by rw [ek, ew, e])
    have := stp k _ ek
    rw [if_neg ne, w32_s (by omega) (by omega)] at this
    rw [om_loop_in this]
    exact ih (k + 1) (by omega) (by omega)
/-- THE CONDITIONS -/
theorem c_conds (nd : ndN N) {f : Nat} {r : Nat → Nat → Nat → Int → om_H → Option ((Nat ⊕ Nat) × om_H)} (Hr : HdC G N cl tb l0 sc rest Sl Gx io ab ins gv B f r) (hC : insK ins) {dd : INs} (ei : ins[i]? = some dd) {w : Nat} {xu : Unit} {lt rt : Ty} (wf : wfT (.inner 1 w xu lt rt)) (oku : okF ins (.inner 1 w xu lt rt)) (hzu : tsz (.inner 1 w xu lt rt) ≤ 60) (ew : dd.2.1 = w) {x : Nat} {pl : Int} : ∀ (l : List (Nat × Nat)) (j : Nat) (s s1 : WS) (z : Option (Bool × WS)) (h : om_H) (us fs : List Nat) (Dk : Nat → Prop) (ds : List Nat) (dm : Nat) (as : List Dc), dd.2.2.2.1.drop j = l → j ≤ dd.2.2.2.1.length → hdL (hd ab ins gv f) (.inner 1 w xu lt rt) l s1 = some z → OwnS G N cl tb l0 sc rest Sl Gx io ab ins gv h0 us0 fs0 Dk0 ds0 dm0 d c i h us fs Dk ds dm s1 (80 * (s1.1 - s.1)) → tyC h N cl (UU us rest) (.inner 1 w xu lt rt) x → (fR h 1630 d ≠ 0 ∧ fR h 1634 d ≠ 0) → tyL h N cl (UU us rest) (.inner 1 w xu lt rt) (fR h 1630 d) (pN w) → (as.length = j ∧ dcS h N cl (UU us rest) (Dl3 Dk ds (dm0 + 1) dm) io ab gv as (ll h (fR h 1634 d)) ∧ ∀ (k : Nat) (p : Nat × Nat) (b : Dc), dd.2.2.2.1[k]? = some p → as[k]? = some b → dcT ab ins gv f p.1 (if p.2 = 0 then lt else rt) = some b) → (s.1 ≤ s1.1 ∧ s1.1 ≤ 60 ∧ s1.2.1 ≤ 300) → HdS G N cl tb l0 sc rest Sl Gx io ab ins gv h0 us0 fs0 Dk0 ds0 dm0 s s1 h us fs Dk ds dm (1 + j) → tl us fs + 81 * (60 - s1.1) + B ≤ 149000 → ds.length ≤ 49000 → dm + 5 * (60 - s1.1) + l.length + 1 ≤ 49000 → ∃ (e : om_H ⊕ om_H ⊕ ((Nat ⊕ Nat) × om_H)) (h' : om_H) (us' fs' : List Nat) (Dk' : Nat → Prop) (ds' : List Nat) (dm' : Nat), om_loop (C_8_byInstance_118s G r l0 x pl (io i) d) ((j : Int), h) = some e ∧ (z = none → ∃ a, e = .inr (.inr (.inl a, h')) ∧ HdF G N cl tb l0 sc rest Sl Gx h0 us0 fs0 Dk0 ds0 dm0 pl a h' us' fs' Dk' ds' dm' (81 * (60 - s.1) + B) (5 * (60 - s.1) + 5)) ∧ ∀ b s', z = some (b, s') → HdS G N cl tb l0 sc rest Sl Gx io ab ins gv h0 us0 fs0 Dk0 ds0 dm0 s s' h' us' fs' Dk' ds' dm' 5 ∧ (b = false → e = .inl h') ∧ (b = true → e = .inr (.inl h') ∧ ∃ as', OwnS G N cl tb l0 sc rest Sl Gx io ab ins gv h0 us0 fs0 Dk0 ds0 dm0 d c i h' us' fs' Dk' ds' dm' s' (80 * (s'.1 - s.1)) ∧ tyC h' N cl (UU us' rest) (.inner 1 w xu lt rt) x ∧ (fR h' 1630 d ≠ 0 ∧ fR h' 1634 d ≠ 0) ∧ tyL h' N cl (UU us' rest) (.inner 1 w xu lt rt) (fR h' 1630 d) (pN w) ∧ as'.length = dd.2.2.2.1.length ∧ dcS h' N cl (UU us' rest) (Dl3 Dk' ds' (dm0 + 1) dm') io ab gv as' (ll h' (fR h' 1634 d)) ∧ ∀ (k : Nat) (p : Nat × Nat) (b : Dc), dd.2.2.2.1[k]? = some p → as'[k]? = some b → dcT ab ins gv f p.1 (if p.2 = 0 then lt else rt) = some b)
  | [], j, s, s1, z, h, us, fs, Dk, ds, dm, as, hd', hj, e, O, cx, L, Y, A, sb, S, R1, R2, R3 => by
    have lj : dd.2.2.2.1.length ≤ j := List.drop_eq_nil_iff.mp hd'
    have ez : z = some (true, s1) := (Option.some.inj e).symm
    have c4 := (hC dd (List.mem_of_getElem? ei)).2.1
    obtain ⟨⟨a1, a2, a3, a4, a5⟩, ⟨b1, b2⟩, _, _, ⟨g1, g2, g3⟩, g4, _⟩ := (O.1.1.1.2.2.2.1.2.2 i dd ei).2
    refine ⟨.inr (.inl h), h, us, fs, Dk, ds, dm, om_loop_out ?_, fun q => (by rw [ez] at q; cases q), fun b s' q => ?_⟩
    · unfold C_8_byInstance_118s P_J2_size
      simp only
      rw [gd_pos ⟨a3, b2, g3⟩, gd_pos g3, Option.bind_some, if_pos (by rw [g4]; omega)]
    · rw [ez] at q
      injection Option.some.inj q with q1 q2
      subst q1 q2
      obtain ⟨S1, S2, S3, S4, S5⟩ := S
      refine ⟨⟨S1, S2, S3, by omega, S5⟩, fun z => (by cases z), fun _ => ⟨rfl, as, O, cx, L, Y, by have := A.1; omega, A.2.1, A.2.2⟩⟩
  | p :: l, j, s, s1, z, h, us, fs, Dk, ds, dm, as, hd', hj, e, O, cx, L, Y, A, sb, S, R1, R2, R3 => by
    have ej : dd.2.2.2.1[j]? = some p := by
      have := congrArg (fun z => z[0]?) hd'
      simpa using this
    have jl := (List.getElem?_eq_some_iff.mp ej).1
    have c4 := (hC dd (List.mem_of_getElem? ei)).2.1
    have pc := (hC dd (List.mem_of_getElem? ei)).2.2 p (List.mem_of_getElem? ej)
    obtain ⟨F, P, RW, Hg⟩ := O.1.1
    obtain ⟨nmw, IC⟩ := F.2.2.2.1.2.2 i dd ei
    obtain ⟨⟨a1, a2, a3, a4, a5⟩, ⟨b1, b2⟩, _, _, ⟨g1, g2, g3⟩, g4, g5⟩ := id IC
    have eg : (ll h (fR h 166 (fR h 1286 (io i))))[j]? = some (ll h (fR h 166 (fR h 1286 (io i))))[j] := List.getElem?_eq_getElem (by omega)
    obtain ⟨⟨x1, x2, x3⟩, ⟨x4, x5⟩, wn, x6, x7⟩ := g5 j _ p eg ej
    generalize (ll h (fR h 166 (fR h 1286 (io i))))[j] = g at *
    rw [ew] at nmw
    have pN2 : p.2 < pN w := by rw [← nmw]; exact pc.1
    obtain ⟨pn1, pn2, pn3⟩ := part_nl wf pN2
    obtain ⟨y, y1, y2⟩ := c_part (G := G) (k := p.2) cx
    obtain ⟨⟨dD, dM⟩, dT, dL, d1, d2, d3⟩ := OwnS_dd O
    have hzp : tsz (if p.2 = 0 then lt else rt) ≤ 1000000 ∧ wfT (if p.2 = 0 then lt else rt) ∧ okF ins (if p.2 = 0 then lt else rt) := by
      have hz' : 1 + tsz lt + tsz rt ≤ 60 := hzu
      by_cases q : p.2 = 0
      · rw [if_pos q]; exact ⟨by omega, wf.2.1, oku.2.1⟩
      · rw [if_neg q]; exact ⟨by omega, wf.2.2, oku.2.2⟩
    unfold hdL at e
    cases q1 : hd ab ins gv f s1 p.1 (if p.2 = 0 then tL (.inner 1 w xu lt rt) else tR' (.inner 1 w xu lt rt)) with
    | none => rw [q1] at e; cases e
    | some a =>
    rw [q1, Option.bind_some] at e
    obtain ⟨v, h5, us5, fs5, Dk5, ds5, dm5, v1, v2, v3⟩ := Hr s1 p.1 (if p.2 = 0 then lt else rt) a h us fs Dk ds dm y pl q1 O.1.1 x5 y2 pn1 hzp.2.1 hzp.2.2 hzp.1 sb.2.1 sb.2.2 R1 R2 (by rw [List.length_cons] at R3; omega)
    have stp : C_8_byInstance_118s G r l0 x pl (io i) d ((j : Int), h) = xc (some (v, h5)) (fun t h => some (.inr (.inr (.inr (.inl t, h))))) (fun p5 h5 => if p5 ≠ 0 then gd (kd h5 d = 36 ∧ kd h5 (fR h5 1634 d) = 42) ((P_J2_add G (fR h5 1634 d) p5 h5).bind fun p6 => some (.inl ((w32 ((j : Int) + 1)), p6.2))) else some (.inr (.inl h5))) := by
      unfold C_8_byInstance_118s P_J2_size P_J2_get
      simp only
      rw [gd_pos ⟨a3, b2, g3⟩, gd_pos g3, Option.bind_some, if_neg (by rw [g4]; omega), gd_pos ⟨a3, b2, g3⟩, gd_pos ⟨g3, by omega⟩, show ((j : Int)).toNat = j by omega, eg, Option.bind_some, gd_pos (.inr x2)]
      have wh := c_whichName (G := G) (l0 := l0) (d := d) (x := x) (l6 := (j : Int)) (pl := pl) (r := r) nd IC x2 x6 x7 pc.2 p.2 0 rfl (Nat.zero_le _)
      have wh' : om_loop (C_8_byInstance_155s G r l0 x pl (io i) d (j : Int) g h) 0 = some ((p.2 : Nat) : Int) := wh
      rw [wh', Option.bind_some, gd_pos ⟨x2, cx.2.1⟩, y1, Option.bind_some, gd_pos F.2.1.1.1, x4, v1]
    cases a with
    | none =>
      have ez : z = none := (Option.some.inj e).symm
      obtain ⟨a, ea, Fl⟩ := v2 rfl
      subst ea
      refine ⟨.inr (.inr (.inl a, h5)), h5, us5, fs5, Dk5, ds5, dm5, om_loop_out (by rw [stp]; rfl), fun _ => ⟨a, rfl, ?_⟩, fun b s' q => (by rw [ez] at q; cases q)⟩
      have FF := HdF_trans S Fl
      obtain ⟨t1, t2, t3, t4, t5⟩ := FF
      exact ⟨t1, t2, t3, t4, by omega⟩
    | some pb =>
    obtain ⟨b, s2⟩ := pb
    obtain ⟨S1, w1, w2⟩ := v3 b s2 rfl
    simp only at e
    by_cases hb : b = true
    · rw [if_pos hb] at e
      obtain ⟨Dx, x', dx1, dx2, dx3⟩ := w2 hb
      subst dx2
      obtain ⟨⟨m1, m2, m3⟩, m4⟩ := DcX_36 dx3
      have KH1 := S1.2.2.1
      obtain ⟨O5, ed, el1, el2⟩ := OwnS_KH O KH1 S1.1
      have dd5 := OwnS_dd O5
      have e1630 : fR h5 1630 d = fR h 1630 d := ed.2.2.1 1630
      have e1634 : fR h5 1634 d = fR h 1634 d := ed.2.2.1 1634
      have P5 := O5.1.1.2.1
      have l2 := (P5.2.2.2.2.2.1 d dd5.1.1).2.2.resolve_left (by rw [e1634]; exact L.2)
      obtain ⟨zz1, uu1, KG1, _, _⟩ := KH1.1
      have dm1 := KG1.2.2.1.2.2.1
      have hlo : dm0 + 1 ≤ ds.length := dL
      have A5 := dcS_KG P KG1 hlo A.2.1
      have ll2 : ll h5 (fR h5 1634 d) = ll h (fR h 1634 d) := by rw [e1634]; exact (el2 L.2).2.2.2.2.2.2.1
      have ll1 : ll h5 (fR h5 1630 d) = ll h (fR h 1630 d) := by rw [e1630]; exact (el1 L.1).2.2.2.2.2.2.1
      have kp5 : ∀ T a, tyC h N cl (UU us rest) T a → tyC h5 N cl (UU us5 rest) T a := KG1.2.2.2.2.2.2.2.2.1
      obtain ⟨h6, c1, O6, c3, c4', c5, c6, c7, c8, c9⟩ := OwnS_add nd O5 (.inr ⟨rfl, rfl⟩) (by rw [e1634]; exact L.2) (x := x') (.inl ⟨m2, by omega, by omega⟩) (fun y' hy' => by
        rw [ll2] at hy'
        obtain ⟨k, kl, ek⟩ := List.mem_iff_getElem.mp hy'
        have ek' : (ll h (fR h 1634 d))[k]? = some y' := by rw [List.getElem?_eq_getElem kl, ek]
        have kl' : k < as.length := by rw [← A.2.1.1]; exact kl
        have o := (DcX_36 (A5.2 k y' as[k] ek' (List.getElem?_eq_getElem kl'))).1
        exact .inl ⟨o.2.1, by omega, by omega⟩) (by rw [ll2, A.2.1.1, A.1]; omega)
      have O6' : OwnS G N cl tb l0 sc rest Sl Gx io ab ins gv h0 us0 fs0 Dk0 ds0 dm0 d c i h6 us5 fs5 Dk5 ds5 dm5 s2 (80 * (s2.1 - s.1)) := ⟨⟨O6.1.1, KH_le O6.1.2 (by have := S1.2.1; omega) (Nat.le_refl _) (Nat.le_refl _)⟩, O6.2⟩
      have stp' : C_8_byInstance_118s G r l0 x pl (io i) d ((j : Int), h) = some (.inl (((j + 1 : Nat) : Int), h6)) := by
        rw [stp, xc_v, if_pos m1, gd_pos ⟨dd5.2.2.2.2.2, l2.1.2⟩, c1, Option.bind_some, w32_s (by omega) (by omega)]
        rfl
      have ne : fR h5 1630 d ≠ fR h5 1634 d := fun e => by
        have := (P5.2.2.2.2.2.2 d d 1630 1634 dd5.1.1 dd5.1.1 (.inl rfl) (.inr rfl) (by rw [e1630]; exact L.1) e).2
        omega
      have dcold : ∀ (D : Dc) (l' : List Nat), DcX h5 N cl (UU us5 rest) (Dl3 Dk5 ds5 (dm0 + 1) dm5) io ab gv D l' → DcX h6 N cl (UU us5 rest) (Dl3 Dk5 ds5 (dm0 + 1) dm5) io ab gv D l' := fun D l' H => DcX_own P5 dd5.1.1 c9 c3 dd5.2.1 H
      have dxn : DcX h5 N cl (UU us5 rest) (Dl3 Dk5 ds5 (dm0 + 1) dm5) io ab gv Dx [x'] := DcX_keep (fun _ _ => eqA_refl _ _) (fun _ _ => ⟨fun _ => rfl, fun _ => rfl⟩) (fun _ _ => rfl) (Nat.le_refl _) (fun y' L' => Dl3_lo O.2.1.2.1.2.2 L') (fun _ _ c => c) dx3
      obtain ⟨ev, h', us', fs', Dk', ds', dm', r1, r2, r3⟩ := c_conds nd Hr hC ei wf oku hzu ew l (j + 1) s s2 z h6 us5 fs5 Dk5 ds5 dm5 (as ++ [Dx]) (by rw [← List.tail_drop, hd']; rfl) (by omega) e O6' (c3 _ _ (kp5 _ _ cx)) ⟨by rw [c6, e1630]; exact L.1, by rw [c6, e1634]; exact L.2⟩ ⟨by rw [c6, c5 _ ne, ll1]; exact Y.1, fun k y' ek => by
        rw [c6, c5 _ ne, ll1] at ek
        exact c3 _ _ (kp5 _ _ (Y.2 k y' ek))⟩ ⟨by rw [List.length_append, A.1]; rfl, ⟨by rw [c6, c4', ll2, List.length_append, List.length_append, A.2.1.1]; rfl, fun k y' a' ek1 ek2 => by
        rw [c6, c4', ll2] at ek1
        by_cases kl : k < as.length
        · rw [List.getElem?_append_left (by rw [A.2.1.1]; exact kl)] at ek1
          rw [List.getElem?_append_left kl] at ek2
          exact dcold _ _ (A5.2 k y' a' ek1 ek2)
        · have kk : k = as.length := by
            have := (List.getElem?_eq_some_iff.mp ek2).1
            rw [List.length_append, List.length_singleton] at this
            omega
          rw [kk, List.getElem?_append_right (Nat.le_refl _), Nat.sub_self] at ek2
          rw [kk, ← A.2.1.1, List.getElem?_append_right (Nat.le_refl _), Nat.sub_self] at ek1
          have e1 : x' = y' := Option.some.inj ek1
          have e2 : Dx = a' := Option.some.inj ek2
          rw [← e1, ← e2]
          exact dcold _ _ dxn⟩, fun k p' b' ek1 ek2 => by
        by_cases kl : k < as.length
        · rw [List.getElem?_append_left kl] at ek2
          exact A.2.2 k p' b' ek1 ek2
        · have kk : k = as.length := by
            have := (List.getElem?_eq_some_iff.mp ek2).1
            rw [List.length_append, List.length_singleton] at this
            omega
          rw [kk, List.getElem?_append_right (Nat.le_refl _), Nat.sub_self] at ek2
          rw [kk, A.1, ej] at ek1
          have e1 : p = p' := Option.some.inj ek1
          have e2 : Dx = b' := Option.some.inj ek2
          rw [← e1, ← e2]
          exact dx1⟩ ⟨by have := S1.2.1; omega, S1.2.1.2.1, S1.2.1.2.2⟩ ⟨O6'.1.1, ⟨by have := S1.2.1; omega, S1.2.1.2.1, S1.2.1.2.2⟩, O6'.1.2, by have := S.2.2.2.1; have := S1.2.2.2.1; have := S1.2.1; omega, by
        obtain ⟨D, t5, t6⟩ := (HdS_trans S S1).2.2.2.2
        exact ⟨D, t5, fun X hX => by obtain ⟨y', hy'⟩ := t6 X hX; exact ⟨y', c3 _ _ hy'⟩⟩⟩ (by have := KG1.2.2.2.2.2.1; have := S1.2.1; omega) (by have := KH1.2.2; have := S1.2.2.2.1; have := S1.2.1; rw [List.length_cons] at R3; omega) (by have := S1.2.2.2.1; have := S1.2.1; rw [List.length_cons] at R3; omega)
      refine ⟨ev, h', us', fs', Dk', ds', dm', ?_, r2, r3⟩
      rw [om_loop_in stp']
      exact r1
    · rw [if_neg hb] at e
      have ez : z = some (false, s2) := (Option.some.inj e).symm
      have hbf : b = false := by simpa using hb
      have v0 := w1 hbf
      subst v0
      refine ⟨.inl h5, h5, us5, fs5, Dk5, ds5, dm5, om_loop_out (by rw [stp, xc_v, if_neg (fun z => z rfl)]), fun q => (by rw [ez] at q; cases q), fun b' s' q => ?_⟩
      rw [ez] at q
      injection Option.some.inj q with q1 q2
      subst q1 q2
      obtain ⟨t1, t2, t3, t4, t5⟩ := HdS_trans S S1
      exact ⟨⟨t1, t2, t3, by omega, t5⟩, fun _ => rfl, fun z => by cases z⟩
end LBJ
