set_option maxRecDepth 100000
/-! THE COMPONENT: a class is had for a type -/
section LCH
variable {G : om_G} {N : List (List Int)} {cl : Nat → Nat} {tb l0 sc : Nat} {rest : List (Nat × List Nat)} {Sl Gx U Lv : Nat → Prop} {io : Nat → Nat} {ab : List (Option Nat)} {ins : List INs} {gv : List GVs} {h0 h h' : om_H} {us0 fs0 us fs us' fs' : List Nat} {Dk0 Dk Dk' : Nat → Prop} {ds0 ds ds' : List Nat} {dm0 dm dm' d c i B : Nat} {s s' : WS} {q : Nat}
/-- a given's dictionary, cast -/
theorem gcX_cast {g1 j n a : Nat} (H : gcX h cl ab Lv g1 j n a) (L : Lv d) (k : d ≠ 0 ∧ d < hz h ∧ kd h d = 36) (e1 : fI h 1616 d = fI h 1616 a) (e2 : fR h 1622 d = fR h 1622 a) (e3 : fR h 1626 d = 0) (e4 : fR h 1614 d = fR h 1614 a) : gcX h cl ab Lv g1 j n d := by
  cases n with
  | zero =>
    obtain ⟨_, _, a3, a4, a5, a6⟩ := H
    exact ⟨L, k, by rw [e1]; exact a3, by rw [e2]; exact a4, e3, by rw [e4]; exact a6⟩
  | succ n =>
    obtain ⟨_, _, a3, a4, ⟨kk, a5, a6⟩, a7, a8⟩ := H
    exact ⟨L, k, by rw [e1]; exact a3, e3, ⟨kk, a5, by rw [e4]; exact a6⟩, by rw [e2]; exact a7, by rw [e2]; exact a8⟩
/-- what a cast writes -/
def wCs (h : om_H) (d a l4 l2 : Nat) : om_H := sR (sR (sR (sI h 1616 d (fI h 1616 a)) 1622 d (fR h 1622 a)) 1638 d l4) 1642 d l2
theorem wCs_f {a l4 l2 : Nat} : hT (fun y => y = d) h (wCs h d a l4 l2) ∧ (hz (wCs h d a l4 l2) = hz h ∧ hu (wCs h d a l4 l2) = hu h) ∧ fI (wCs h d a l4 l2) 1616 d = fI h 1616 a ∧ fR (wCs h d a l4 l2) 1622 d = fR h 1622 a ∧ fR (wCs h d a l4 l2) 1638 d = l4 ∧ fR (wCs h d a l4 l2) 1642 d = l2 ∧ (∀ f, f ≠ 1622 → f ≠ 1638 → f ≠ 1642 → fR (wCs h d a l4 l2) f d = fR h f d) ∧ ∀ y, kd (wCs h d a l4 l2) y = kd h y := by
  unfold wCs
  refine ⟨⟨Nat.le_refl _, Nat.le_refl _, fun _ _ => rfl, fun y _ nd => ⟨rfl, fun g => fI_na nd, fun g => ?_, rfl, fun g => rfl, fun g => rfl, rfl, rfl⟩⟩, ⟨rfl, rfl⟩, fI_eq, ?_, ?_, fR_eq, fun f h1 h2 h3 => ?_, fun _ => rfl⟩
  · rw [fR_na nd, fR_na nd, fR_na nd, fR_sI]
  · rw [fR_ne (by decide), fR_ne (by decide), fR_eq]
  · rw [fR_ne (by decide), fR_eq]
  · rw [fR_ne h3, fR_ne h2, fR_ne h1, fR_sI]
/-- THE CAST of a given's dictionary -/
theorem c_castG (nd : ndN N) (r : Nat → Nat → Nat → Int → om_H → Option ((Nat ⊕ Nat) × om_H)) (H : HvC G h N cl tb l0 sc us fs rest Sl Gx io ab ins gv Dk ds dm s) (R2 : ds.length ≤ 49000) {j n a x y : Nat} {g : GVs} {u T : Ty} (eg : gv[j]? = some g) (A : gcX h cl ab (fun y => Dk y ∧ y ∉ ds) g.1 j n a) (a0 : fR h 1638 a = 0 ∧ fR h 1626 a = 0) (cy : tyC h N cl (UU us rest) u y) (cx : tyC h N cl (UU us rest) T x) (hu : u ≠ .leaf) : ∃ (d : Nat) (h' : om_H) (Dk' : Nat → Prop) (ds' : List Nat) (dm' : Nat), C_8_had_50 G r l0 x y a h = some (.inr d, h') ∧ HvC G h' N cl tb l0 sc us fs rest Sl Gx io ab ins gv Dk' ds' dm' s ∧ KH N cl tb l0 sc rest Sl Gx h us fs Dk ds dm h' us fs Dk' ds' dm' 0 0 0 ∧ dm' ≤ dm + 1 ∧ DcX h' N cl (UU us rest) (Dl3 Dk' ds' dm dm') io ab gv (.inner 0 (j, n, u, T) () .leaf .leaf) [d] := by
  obtain ⟨F, P, RW, Hg⟩ := id H
  obtain ⟨TT, ⟨⟨f1, f2, f3⟩, f4⟩, _⟩ := id F
  have La := gcX_lv A
  have ak := (P.2.2.2.2.2.1 a La.1).1
  have dml := P.2.2.1.2.1
  unfold C_8_had_50
  rw [if_neg ak.1]
  by_cases q : u = T
  · have e : y = x := TT.2.2.1 _ _ _ cy (by rw [q]; exact cx)
    rw [if_neg (fun z => z e)]
    refine ⟨a, h, Dk, ds, dm, rfl, H, (HvC_KF (s' := s) H (KF_refl (q := 0) (z := 0) (u := 0)) TT).1, by omega, a, [], rfl, .inl ⟨tyE_iff.mpr q, a0.1⟩, ?_, ?_, rfl⟩
    · rw [if_pos rfl]
      exact ⟨g, eg, gcX_keep (fun _ _ => eqA_refl _ _) (Nat.le_refl _) (fun y L => ⟨L.1, fun m => L.2 (List.mem_of_mem_take m), fun m => L.2 (List.mem_of_mem_drop m)⟩) A⟩
    · rw [if_pos rfl]; rfl
  · have e : y ≠ x := fun z => q (tyC_fun nd cy (by rw [z]; exact cx))
    rw [if_pos e, gd_pos ak.2.2, if_neg (fun z => z a0.2), f3, gd_pos ⟨f1, ak.2.2, (TB_3 TT).1⟩]
    obtain ⟨d, h1, ds1, Dk1, b1, H1, K1, ⟨bL, bI, b0, bz, bk⟩, ⟨c1, c2, c3, c4, c5, c6⟩, bE, bN⟩ := HvC_pl nd H (by omega) (fR h 1614 a)
    obtain ⟨z1, u1, KG1, _⟩ := K1.1
    have ea := (KG1.2.1 a ⟨a, La.1, fun m => La.2 (List.mem_of_mem_drop m), .inl rfl⟩).2
    have nda : a ≠ d := fun z => bN (by rw [← z]; exact ⟨a, La.1, fun m => La.2 (List.mem_of_mem_drop m), .inl rfl⟩)
    obtain ⟨X, r2, w1, w2, w3, w4, w5, w6⟩ := wCs_f (h := h1) (d := d) (a := a) (l4 := y) (l2 := x)
    have cast : C_36_cast G a d y x h1 = some (d, wCs h1 d a y x) := by
      unfold C_36_cast
      rw [gd_pos ⟨by rw [ea.1]; exact ak.2.2, bk⟩]
      rfl
    rw [b1, Option.bind_some]
    simp only
    rw [gd_pos (show kd h1 a = 36 by rw [ea.1]; exact ak.2.2), cast]
    obtain ⟨H2, K2, t2⟩ := own_fld (h2 := wCs h1 d a y x) nd H1 K1 P ⟨bL.1, List.mem_of_getElem? bI⟩ bN X (w5 1630 (by decide) (by decide) (by decide)) (w5 1634 (by decide) (by decide) (by decide)) r2
    obtain ⟨z2, u2, KG2, _⟩ := K2.1
    refine ⟨d, wCs h1 d a y x, Dk1, ds1, dm + 1, rfl, H2, K2, Nat.le_refl _, d, [], rfl, .inr ⟨?_, ?_, ?_, ?_⟩, ?_, ?_, rfl⟩
    · cases qq : tyE u T with
      | false => rfl
      | true => exact absurd (tyE_iff.mp qq) q
    · rw [w3]; exact (tyC_34 cy hu).2.1
    · rw [w3]; exact KG2.2.2.2.2.2.2.2.2.1 _ _ cy
    · rw [w4]; exact KG2.2.2.2.2.2.2.2.2.1 _ _ cx
    · rw [if_pos rfl]
      refine ⟨g, eg, gcX_cast (a := a) (gcX_keep (h := h) (fun y' L' => (KG2.2.1 y' ⟨y', L'.1, fun m => L'.2 (List.mem_of_mem_drop m), .inl rfl⟩).2) KG2.1.1 (fun y' L' => ?_) A) bL ⟨b0, by rw [r2.1]; exact bz, by rw [w6]; exact bk⟩ ?_ ?_ ?_ ?_⟩
      · have lt := (P.2.2.2.2.2.1 y' L'.1).1.2.1
        obtain ⟨e', d1, d2⟩ := KG2.2.2.1.2.2.2
        have nm : y' ∉ ds1 := fun m => by
          rw [d1] at m
          rcases List.mem_append.mp m with m | m
          · exact L'.2 m
          · have := d2 y' m; omega
        exact ⟨KG2.2.2.1.1 y' L'.1, fun m => nm (List.mem_of_mem_take m), fun m => nm (List.mem_of_mem_drop m)⟩
      · rw [w1]
        have := (X.2.2.2 a (Nat.lt_of_lt_of_le ak.2.1 KG1.1.1) nda).2.1 1616
        rw [this]
      · rw [w2]
        have := (X.2.2.2 a (Nat.lt_of_lt_of_le ak.2.1 KG1.1.1) nda).2.2.1 1622
        rw [this]
      · rw [w5 1626 (by decide) (by decide) (by decide)]; exact c4
      · rw [w5 1614 (by decide) (by decide) (by decide), c1]
        have := (X.2.2.2 a (Nat.lt_of_lt_of_le ak.2.1 KG1.1.1) nda).2.2.1 1614
        rw [this, ea.2.2.1]
    · rw [if_pos rfl]; rfl
/-- THE CAST of an inst's dictionary -/
theorem c_castI (nd : ndN N) (r : Nat → Nat → Nat → Int → om_H → Option ((Nat ⊕ Nat) × om_H)) (O : OwnS G N cl tb l0 sc rest Sl Gx io ab ins gv h0 us0 fs0 Dk0 ds0 dm0 d c i h us fs Dk ds dm s q) (io0 : io i ≠ 0) {x y w : Nat} {xu : Unit} {lt rt T : Ty} (cy : tyC h N cl (UU us rest) (.inner 1 w xu lt rt) y) (cx : tyC h N cl (UU us rest) T x) (L : fR h 1630 d ≠ 0 ∧ fR h 1634 d ≠ 0) (Y : tyL h N cl (UU us rest) (.inner 1 w xu lt rt) (fR h 1630 d) (pN w)) {as : List Dc} (A : dcS h N cl (UU us rest) (Dl3 Dk ds (dm0 + 1) dm) io ab gv as (ll h (fR h 1634 d))) : ∃ h', C_8_had_50 G r l0 x y d h = some (.inr d, h') ∧ HvC G h' N cl tb l0 sc us fs rest Sl Gx io ab ins gv Dk ds dm s ∧ KH N cl tb l0 sc rest Sl Gx h0 us0 fs0 Dk0 ds0 dm0 h' us fs Dk ds dm q 0 0 ∧ (∀ T a, tyC h N cl (UU us rest) T a → tyC h' N cl (UU us rest) T a) ∧ DcX h' N cl (UU us rest) (Dl3 Dk ds dm0 dm) io ab gv (.inner 1 (i, c, .inner 1 w xu lt rt, T) () (chD as) .leaf) [d] := by
  have dd := OwnS_dd O
  obtain ⟨⟨H, K⟩, ⟨P0, ⟨o1, o2, o3⟩, o4⟩, o5, o6, o7, o8, o9⟩ := O
  have P := H.2.1
  have TT := H.1.1
  have l1 := (P.2.2.2.2.2.1 d dd.1.1).2.1.resolve_left L.1
  have l2 := (P.2.2.2.2.2.1 d dd.1.1).2.2.resolve_left L.2
  have lo : ∀ (h1 : om_H) (D : Dc) (l : List Nat), DcX h1 N cl (UU us rest) (Dl3 Dk ds (dm0 + 1) dm) io ab gv D l → DcX h1 N cl (UU us rest) (Dl3 Dk ds dm0 dm) io ab gv D l := fun h1 D l B => DcX_keep (fun _ _ => eqA_refl _ _) (fun _ _ => ⟨fun _ => rfl, fun _ => rfl⟩) (fun _ _ => rfl) (Nat.le_refl _) (fun y' L' => Dl3_lo (Nat.le_succ _) L') (fun _ _ c => c) B
  unfold C_8_had_50
  rw [if_neg dd.2.2.2.1]
  by_cases q : (.inner 1 w xu lt rt : Ty) = T
  · have e : y = x := TT.2.2.1 _ _ _ cy (by rw [q]; exact cx)
    rw [if_neg (fun z => z e)]
    refine ⟨h, rfl, H, K, fun _ _ c => c, d, [], rfl, .inl ⟨tyE_iff.mpr q, o9⟩, ?_, ?_, rfl⟩
    · rw [if_neg (by decide)]
      exact ⟨o1, dd.2.2.2, ⟨o5, o6, o7, o8, io0⟩, ⟨L.1, l1.1⟩, ⟨L.2, l2.1⟩, Y.1, Y.2⟩
    · rw [if_neg (by decide)]
      exact lo _ _ _ (dcS_ch A)
  · have e : y ≠ x := fun z => q (tyC_fun nd cy (by rw [z]; exact cx))
    rw [if_pos e, gd_pos dd.2.2.2.2.2, if_pos (by rw [o8]; exact io0), gd_pos dd.2.2.2.2.2]
    have X : hT (fun y => y = d) h (sR (sR h 1638 d y) 1642 d x) := hT_trans hT_sR hT_sR (fun _ _ z => z)
    have ef : ∀ f, f ≠ 1638 → f ≠ 1642 → fR (sR (sR h 1638 d y) 1642 d x) f d = fR h f d := fun f h1 h2 => by rw [fR_ne h2, fR_ne h1]
    have e38 : fR (sR (sR h 1638 d y) 1642 d x) 1638 d = y := by rw [fR_ne (by decide), fR_eq]
    have e42 : fR (sR (sR h 1638 d y) 1642 d x) 1642 d = x := fR_eq
    have eI : ∀ f, fI (sR (sR h 1638 d y) 1642 d x) f d = fI h f d := fun f => rfl
    have eL : ∀ L, ll (sR (sR h 1638 d y) 1642 d x) L = ll h L := fun L => rfl
    obtain ⟨H2, K2, t2⟩ := own_fld (h2 := sR (sR h 1638 d y) 1642 d x) nd H K P0 dd.1 o4 X (ef 1630 (by decide) (by decide)) (ef 1634 (by decide) (by decide)) ⟨rfl, rfl⟩
    have kk : ∀ y', kd (sR (sR h 1638 d y) 1642 d x) y' = kd h y' := fun _ => rfl
    have hzz : hz (sR (sR h 1638 d y) 1642 d x) = hz h := rfl
    generalize sR (sR h 1638 d y) 1642 d x = h2 at *
    have Xo : hT (oD h d) h h2 := hT_mono X (fun y' _ z => .inl z)
    refine ⟨h2, rfl, H2, K2, t2, d, [], rfl, .inr ⟨?_, ?_, ?_, ?_⟩, ?_, ?_, rfl⟩
    · cases qq : tyE (.inner 1 w xu lt rt) T with
      | false => rfl
      | true => exact absurd (tyE_iff.mp qq) q
    · rw [e38]; exact cy.1.2.1
    · rw [e38]; exact t2 _ _ cy
    · rw [e42]; exact t2 _ _ cx
    · rw [if_neg (by decide)]
      unfold icX
      rw [ef 1622 (by decide) (by decide), ef 1614 (by decide) (by decide), ef 1626 (by decide) (by decide), ef 1630 (by decide) (by decide), ef 1634 (by decide) (by decide), eI, eL, hzz, kk, kk, kk]
      exact ⟨o1, dd.2.2.2, ⟨o5, o6, o7, o8, io0⟩, ⟨L.1, l1.1⟩, ⟨L.2, l2.1⟩, Y.1, fun k y' ek => t2 _ _ (Y.2 k y' ek)⟩
    · rw [if_neg (by decide), ef 1634 (by decide) (by decide), eL]
      exact lo _ _ _ (dcS_ch ⟨A.1, fun k y' a ek1 ek2 => DcX_own P dd.1.1 Xo t2 dd.2.1 (A.2 k y' a ek1 ek2)⟩)
end LCH
