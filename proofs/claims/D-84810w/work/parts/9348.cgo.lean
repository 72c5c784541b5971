set_option maxRecDepth 100000
/-! THE COMPONENT: what a family goes to -/
section LCG
variable {G : om_G} {h h' : om_H} {N : List (List Int)} {cl : Nat → Nat} {tb l0 sc : Nat} {us fs us' fs' : List Nat} {rest : List (Nat × List Nat)} {Sl U U' : Nat → Prop} {io : Nat → Nat} {ab : List (Option Nat)} {ins : List INs} {gv : List GVs} {c bg bg' B : Nat} {s s' : WS} {q z u : Nat}
theorem hdP_fst {d : INs} {p : Ty} (hl : d.2.2.1.length = pN d.2.1) (h3 : d.2.1 ≤ 3) : (hdP d p).map Prod.fst = d.2.2.1 ∧ ∀ (k : Nat) (q : Nat × Ty), (hdP d p)[k]? = some q → (k = 0 ∧ q.2 = tL p) ∨ (k = 1 ∧ q.2 = tR' p) := by
  have l2 : d.2.2.1.length ≤ 2 := by
    rw [hl]; unfold pN; split <;> omega
  unfold hdP
  rcases e : d.2.2.1 with _ | ⟨x, _ | ⟨y, _ | ⟨z, l⟩⟩⟩
  · exact ⟨rfl, fun k q e => by cases e⟩
  · refine ⟨rfl, fun k q e => ?_⟩
    rcases k with _ | k
    · have : (x, tL p) = q := Option.some.inj e
      exact .inl ⟨rfl, by rw [← this]⟩
    · cases e
  · refine ⟨rfl, fun k q e => ?_⟩
    rcases k with _ | _ | k
    · have : (x, tL p) = q := Option.some.inj e
      exact .inl ⟨rfl, by rw [← this]⟩
    · have : (y, tR' p) = q := Option.some.inj e
      exact .inr ⟨rfl, by rw [← this]⟩
    · cases e
  · rw [e] at l2; simp at l2
theorem FnC_kd (F : FnC G h N cl tb l0 sc us fs rest Sl io ab ins gv c bg s) : kd h l0 = 9 ∧ l0 < hz h := ⟨F.2.1.1.1, F.2.1.1.2.1⟩
/-- WHAT A FAMILY GOES TO -/
theorem c_goes (nd : ndN N) (hc : c = 0 ∨ c = 2) (hI : insF ins B) (hG : gvF' ins gv) (hN : gvN gv) (F : FnC G h N cl tb l0 sc us fs rest Sl io ab ins gv c bg s) {v : Ty} {x : Nat} (cx : tyC h N cl (UU us rest) v x) (hv : v ≠ .leaf) (wv : wfT v) (ok : okF ins v) (b1 : s.1 ≤ 60) (b2 : s.2.1 ≤ 300) (hn : tl us fs + B ≤ 149000) (pl : Int) :
    (gby ins gv v = none → C_8_goes G l0 x pl h = some (.inr 0, h)) ∧ ∀ b, gby ins gv v = some b → ((c = 2 ∧ (60 < s.1 + 1 ∨ 300 < s.2.1 + 1)) → ∃ a h', C_8_goes G l0 x pl h = some (.inl a, h') ∧ flt h' a 7 pl ∧ TB G h' N cl tb us fs rest ∧ KF N cl tb l0 rest h us fs h' us fs 0 1 8) ∧ (¬ (c = 2 ∧ (60 < s.1 + 1 ∨ 300 < s.2.1 + 1)) → (b < 100 ∧ ¬ tszW (gto ins gv b (tL v)) ≤ 60 ∧ ∃ a h' us' fs', C_8_goes G l0 x pl h = some (.inl a, h') ∧ flt h' a 7 pl ∧ TB G h' N cl tb us' fs' rest ∧ KF N cl tb l0 rest h us fs h' us' fs' B 1 8) ∨ ((100 ≤ b ∨ tszW (gto ins gv b (tL v)) ≤ 60) ∧ ∃ y h' us' fs', C_8_goes G l0 x pl h = some (.inr y, h') ∧ TB G h' N cl tb us' fs' rest ∧ tyC h' N cl (UU us' rest) (gto ins gv b (tL v)) y ∧ gto ins gv b (tL v) ≠ .leaf ∧ (100 ≤ b → thB (gto ins gv b (tL v)) = false) ∧ KF N cl tb l0 rest h us fs h' us' fs' B 0 0 ∧ KF N cl tb l0 rest h us fs h' us' fs' (tsz (gto ins gv b (tL v))) 0 0 ∧ fI h' 220 l0 = (bg : Int) ∧ (c = 2 → fI h' 216 l0 = ((s.1 + 1 : Nat) : Int) ∧ fI h' 128 tb = ((s.2.1 + 1 : Nat) : Int)) ∧ ((∃ y0, tyC h N cl (UU us rest) (gto ins gv b (tL v)) y0) → us' = us ∧ fs' = fs))) := by
  rcases v with ⟨k, f, u, p, r'⟩ | _
  rotate_left
  · exact absurd rfl hv
  obtain ⟨T, ⟨⟨f1, f2, f3⟩, f4⟩, ⟨g1, g2, g3, g4⟩, P, V, k1, k2, k3⟩ := id F
  obtain ⟨c0, c1, c2, c3, c4, c5, c6⟩ := id cx
  have t3 := (TB_3 T).1
  by_cases k2' : k = 2
  rotate_left
  · have nb : gby ins gv (.inner k f u p r') = none := by
      rcases p with ⟨k', w, u', l, r⟩ | _
      · show (if k = 2 then _ else none) = none
        rw [if_neg k2']
      · rfl
    refine ⟨fun _ => ?_, fun b e => by rw [nb] at e; cases e⟩
    unfold C_8_goes
    rw [gd_pos c1, c2, if_neg (by omega)]
  subst k2'
  have pl' : p ≠ .leaf := by
    have := wv.1
    unfold shT at this
    rcases this with s | s | s | s
    · omega
    · omega
    · exact s.2.1
    · omega
  have hf : clO h cl f ∧ fR h 1578 x = cl f := by
    rcases c3 with d | d | ⟨d1, d2, d3, d4, d5, d6, d7, d8⟩ | d
    · omega
    · omega
    · rw [d6] at d4 d5 d7 d8
      exact ⟨⟨d4, d5, d7, d8⟩, d6⟩
    · omega
  obtain ⟨hf, ef⟩ := hf
  rcases p with ⟨k', w, u', l, r⟩ | _
  rotate_left
  · exact absurd rfl pl'
  obtain ⟨d0, d1, d2, d3, d4, d5, d6⟩ := id c4
  have etl : tL (.inner 2 f u (.inner k' w u' l r) r') = .inner k' w u' l r := rfl
  rw [etl]
  have egb : gby ins gv (.inner 2 f u (.inner k' w u' l r) r') = (if k' = 1 then iOf ins f w else if k' = 0 then (gFm gv f w).map (fun g => 100 + g) else none) := rfl
  rw [egb]
  have st : C_8_goes G l0 x pl h = (if ((k' : Nat) : Int) ≠ 0 then (if ((k' : Nat) : Int) ≠ 1 then C_8_goes_101 G l0 x pl 0 h else gd (kd h x = 34 ∧ kd h (cl f) = 18 ∧ kd h (fR h 1582 x) = 34 ∧ kd h (fR h 1238 (cl f)) = 58 ∧ 0 ≤ fI h 1560 (fR h 1582 x) ∧ fI h 1560 (fR h 1582 x) < an h (fR h 1238 (cl f))) (C_8_goes_101 G l0 x pl (aR h (fR h 1238 (cl f)) (fI h 1560 (fR h 1582 x)).toNat) h)) else gd (kd h x = 34 ∧ kd h (fR h 1582 x) = 34 ∧ kd h l0 = 9) ((C_8_equalFor G l0 (cl f) (fR h 1574 (fR h 1582 x)) h).bind fun p1 => if p1 < 0 then C_8_goes_45 G l0 p1 h else gd (kd h l0 = 9) (xc (C_8_counted G l0 pl h) (fun t h => some (.inl t, h)) (fun p2 h2 => C_8_goes_45 G l0 p1 h2)))) := by
    unfold C_8_goes
    rw [gd_pos c1, c2, if_pos (by decide), gd_pos ⟨c1, d1⟩, gd_pos ⟨c1, d1⟩, d2, ef]
  have s101 : C_8_goes_101 G l0 x pl 0 h = some (.inr 0, h) := by
    unfold C_8_goes_101
    rw [if_neg (fun z => z rfl)]
  by_cases k0 : k' = 0
  · -- a given
    subst k0
    rw [if_neg (by decide), if_pos rfl]
    have wx : wN h N w (fR h 1574 (fR h 1582 x)) := by
      rcases d3 with ⟨e1, e2, e3, e4, e5, L, e6, e7⟩ | e | e | e
      · exact ⟨e5, L, e6, e7⟩
      · omega
      · omega
      · omega
    rw [st, if_neg (fun z => z rfl), gd_pos ⟨c1, d1, f1⟩, c_equalFor nd F hf wx, Option.bind_some]
    cases qg : gFm gv f w with
    | none =>
      refine ⟨fun _ => ?_, fun b e => by cases e⟩
      show (if (-1 : Int) < 0 then _ else _) = _
      rw [if_pos (by decide)]
      unfold C_8_goes_45
      show (if (0 : Int) ≤ -1 then _ else _) = _
      rw [if_neg (by decide)]
    | some j =>
      refine ⟨fun e => (by cases e), fun b e => ?_⟩
      have eb : 100 + j = b := Option.some.inj e
      obtain ⟨y, y1, y2⟩ := ixF_some qg
      have y2' : y.1 = 100 + f ∧ y.2.1 = w := by simpa using y2
      have jl := (List.getElem?_eq_some_iff.mp y1).1
      have eg : gto ins gv b (.inner 0 w u' l r) = y.2.2 := by
        unfold gto
        rw [if_neg (by omega), show b - 100 = j by omega, y1]
        rfl
      rw [eg]
      obtain ⟨m1, m2⟩ := c_counted nd F hc b1 b2 pl
      have st2 : (if oI (some j) < 0 then C_8_goes_45 G l0 (oI (some j)) h else gd (kd h l0 = 9) (xc (C_8_counted G l0 pl h) (fun t h => some (.inl t, h)) (fun p2 h2 => C_8_goes_45 G l0 (oI (some j)) h2))) = xc (C_8_counted G l0 pl h) (fun t h => some (.inl t, h)) (fun p2 h2 => C_8_goes_45 G l0 ((j : Nat) : Int) h2) := by
        show (if ((j : Nat) : Int) < 0 then _ else gd (kd h l0 = 9) _) = _
        rw [if_neg (by omega), gd_pos f1]
        rfl
      rw [st2]
      refine ⟨fun ov => ?_, fun ov => .inr ⟨.inl (by omega), ?_⟩⟩
      · obtain ⟨a, h1, n1, n2, n3, n4⟩ := m1 ov
        exact ⟨a, h1, by rw [n1]; rfl, n2, n3, n4⟩
      · obtain ⟨h1, n1, n2, n3, n4, n5⟩ := m2 ov
        have F1 : FnC G h1 N cl tb l0 sc us fs rest Sl io ab ins gv c bg (if c = 2 then (s.1 + 1, s.2.1 + 1, s.2.2) else s) := FnC_next F n3 n2 n4 (fun z => by rw [if_pos z]; exact n5 z)
        obtain ⟨_, ⟨⟨q1, q2, q3⟩, q4⟩, _, _, ⟨⟨v1, v2⟩, ⟨v3, v4, v5⟩, ⟨v6, v7⟩, v8⟩, _⟩ := id F1
        have ea : (ll h1 (fR h1 166 sc))[j]? = some (ll h1 (fR h1 166 sc))[j] := List.getElem?_eq_getElem (by omega)
        obtain ⟨⟨x1, x2⟩, x3, x4⟩ := v8 j _ y ea y1
        generalize (ll h1 (fR h1 166 sc))[j] = xx at *
        have get : P_J2_get G (fR h1 166 sc) (j : Int) h1 = some xx := by
          unfold P_J2_get
          rw [gd_pos ⟨v5, by omega⟩, show ((j : Int)).toNat = j by omega, ea]
        have x5 : tyC h1 N cl (UU us rest) y.2.2 (fR h1 1354 xx) := by
          rcases x4 with ⟨_, _, _, _, x5⟩ | ⟨x5, _⟩
          · exact x5
          · omega
        have gm := hG y (List.mem_of_getElem? y1) (by omega)
        refine ⟨fR h1 1354 xx, h1, us, fs, ?_, n2, x5, gm.1, fun _ => hN y (List.mem_of_getElem? y1) (by omega), KF_le n3 (by omega) (by omega) (by omega), KF_le n3 (by omega) (by omega) (by omega), n4, n5, fun _ => ⟨rfl, rfl⟩⟩
        rw [n1]
        show C_8_goes_45 G l0 ((j : Nat) : Int) h1 = _
        unfold C_8_goes_45
        rw [if_pos (by omega), q4, gd_pos ⟨q1, v2, v5⟩, get, Option.bind_some, gd_pos ⟨.inr x2, x2⟩]
  · by_cases k1' : k' = 1
    · -- an inst
      subst k1'
      rw [if_pos rfl]
      have con : fI h 1560 (fR h 1582 x) = (w : Int) := by
        rcases d3 with e | e | e | e
        · omega
        · exact e.2.1
        · omega
        · omega
      have w3 : w ≤ 3 := by
        have := wv.2.1.1
        unfold shT at this
        rcases this with s | s | s | s
        · omega
        · exact s.2.1
        · omega
        · omega
      obtain ⟨_, ⟨p1, p2, p3⟩, p4⟩ := P.1 f hf
      have ar := p4 w (by omega)
      rw [st, if_pos (by decide), if_neg (fun z => z rfl), con, gd_pos ⟨c1, hf.2.2.1, d1, p2, by omega, by omega⟩, show ((w : Int)).toNat = w by omega, ar]
      cases qi : iOf ins f w with
      | none =>
        exact ⟨fun _ => s101, fun b e => by cases e⟩
      | some i =>
        refine ⟨fun e => (by cases e), fun b e => ?_⟩
        have eb : i = b := Option.some.inj e
        subst eb
        obtain ⟨d, i1, i2⟩ := ixF_some qi
        have i2' : d.1 = f ∧ d.2.1 = w := by simpa using i2
        have lt := (List.getElem?_eq_some_iff.mp i1).1
        have l20 := P.2.1
        have eg : gto ins gv i (.inner 1 w u' l r) = sbT (hdP d (.inner 1 w u' l r)) d.2.2.2.2 := by
          unfold gto
          rw [if_pos (by omega), i1]
          rfl
        rw [eg]
        obtain ⟨j1, j2, j3, j4⟩ := hI d (List.mem_of_getElem? i1)
        have nl : d.2.2.2.2 ≠ .leaf := (ok.1 rfl).2 d (List.mem_of_getElem? i1) i2'.1
        obtain ⟨m1, m2⟩ := c_counted nd F hc b1 b2 pl
        have i0 : io i ≠ 0 := (P.2.2 i d i1).2.1.1
        have st2 : ∀ (h1 : om_H), C_8_counted G l0 pl h = some (.inr (), h1) → C_8_goes_101 G l0 x pl (io i) h = gd (kd h1 (io i) = 21 ∧ kd h1 (fR h1 1286 (io i)) = 5 ∧ kd h1 x = 34 ∧ kd h1 l0 = 9) ((C_8_put0 G l0 (fR h1 1314 (io i)) (fR h1 162 (fR h1 1286 (io i))) 0 (fR h1 1582 x) h1).bind fun p2 => xc (C_8_fit G p2.1 pl p2.2) (fun t h => some (.inl t, h)) (fun p3 h3 => some (.inr p3, h3))) := fun h1 e => by
          unfold C_8_goes_101
          rw [if_pos i0, gd_pos f1, e]
          rfl
        refine ⟨fun ov => ?_, fun ov => ?_⟩
        · obtain ⟨a, h1, n1, n2, n3, n4⟩ := m1 ov
          refine ⟨a, h1, ?_, n2, n3, n4⟩
          show C_8_goes_101 G l0 x pl (io i) h = _
          unfold C_8_goes_101
          rw [if_pos i0, gd_pos f1, n1]
          rfl
        · obtain ⟨h1, n1, n2, n3, n4, n5⟩ := m2 ov
          have F1 : FnC G h1 N cl tb l0 sc us fs rest Sl io ab ins gv c bg (if c = 2 then (s.1 + 1, s.2.1 + 1, s.2.2) else s) := FnC_next F n3 n2 n4 (fun z => by rw [if_pos z]; exact n5 z)
          obtain ⟨T1, ⟨⟨q1, q2, q3⟩, q4⟩, ⟨z1, z2, z3, z4⟩, P1, _⟩ := id F1
          obtain ⟨hl, ⟨a1, a2, a3, a4, a5⟩, ⟨b1', b2'⟩, ⟨e1, e2⟩, e3, _⟩ := P1.2.2 i d i1
          have cx1 := n3.2.2.2.2.2.2.1 _ _ cx
          have kx := cx1.2.1
          have cp : tyC h1 N cl (UU us rest) (.inner 1 w u' l r) (fR h1 1582 x) := cx1.2.2.2.2.1
          have hθ := hdP_wf (d := d) (by rw [hl, i2'.2]) rfl wv.2.1
          obtain ⟨hf1, hf2⟩ := hdP_fst (d := d) (p := .inner 1 w u' l r) hl (by omega)
          have np : fR h1 1582 x ≠ 0 := cp.1.2.1
          have PC : PutC h1 N cl (UU us rest) (fR h1 162 (fR h1 1286 (io i))) 0 (fR h1 1582 x) (hdP d (.inner 1 w u' l r)) := ⟨by rw [hf1]; exact e2, .inl ⟨np, _, (fun z => by cases z), cp, hf2⟩⟩
          have nn := nnT_le d.2.2.2.2
          obtain ⟨x', h2, us2, fs2, o1, o2, o3, o4, o5⟩ := c_put0 nd hθ (f := 70) T1 ⟨q1, q2, q3⟩ ⟨fun z => z2 (z ▸ e1), fun z => z1 z.symm⟩ PC (e3 nl) nl j2 (by omega) (by omega)
          have o1' : C_8_put0 G l0 (fR h1 1314 (io i)) (fR h1 162 (fR h1 1286 (io i))) 0 (fR h1 1582 x) h1 = some (x', h2) := o1
          have K2 := KF_trans n3 (KF_CS T1 ⟨q1, q2⟩ o3)
          have nl' : sbT (hdP d (.inner 1 w u' l r)) d.2.2.2.2 ≠ .leaf := fun z => nl ((sbT_leaf hθ).mp z)
          have st3 := st2 h1 n1
          rw [gd_pos ⟨a3, b2', kx, q1⟩, o1', Option.bind_some] at st3
          have kd2 : kd h2 l0 = 9 ∧ l0 < hz h2 := ⟨by rw [o3.1.2.2.1 _ q2]; exact q1, Nat.lt_of_lt_of_le q2 o3.1.1⟩
          obtain ⟨w1, w2⟩ := c_fit nd o2 kd2 o4 nl' pl
          have e0 := (KF_CS T1 ⟨q1, q2⟩ o3).2.2.2.2.2.1
          have eI0 : ∀ g, fI h2 g l0 = fI h1 g l0 := fun g => (o3.1.2.2.2 l0 q2 (fun z => z.elim (fun z => by have := DT_kd T1 z; omega) id)).2.1 g
          show _ ∨ _
          show (_ ∧ _ ∧ ∃ a h' us' fs', C_8_goes_101 G l0 x pl (io i) h = _ ∧ _) ∨ (_ ∧ ∃ y h' us' fs', C_8_goes_101 G l0 x pl (io i) h = _ ∧ _)
          by_cases hsz : tszW (sbT (hdP d (.inner 1 w u' l r)) d.2.2.2.2) ≤ 60
          · refine .inr ⟨.inr hsz, x', h2, us2, fs2, ?_, o2, o4, nl', fun z => by omega, KF_le K2 (by omega) (by omega) (by omega), KF_le K2 (by have := nnT_sb (θ := hdP d (.inner 1 w u' l r)) d.2.2.2.2; omega) (by omega) (by omega), by rw [eI0]; exact n4, fun hc2 => ⟨by rw [eI0]; exact (n5 hc2).1, by rw [o3.2.2.2.2.1.1 128 (by decide)]; exact (n5 hc2).2⟩, fun ⟨y0, hy0⟩ => (o5 ⟨y0, n3.2.2.2.2.2.2.1 _ _ hy0⟩).2⟩
            rw [st3, w1 hsz]
            rfl
          · obtain ⟨a, h3, r1, r2, r3, r4⟩ := w2 hsz
            refine .inl ⟨by omega, hsz, a, h3, us2, fs2, ?_, r2, r3, KF_le (KF_trans K2 r4) (by omega) (by omega) (by omega)⟩
            rw [st3, r1]
            rfl
    · rw [if_neg k1', if_neg k0]
      refine ⟨fun _ => ?_, fun b e => by cases e⟩
      rw [st, if_pos (by omega), if_pos (by omega), s101]
end LCG
