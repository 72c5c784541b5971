set_option maxRecDepth 100000
/-! THE COMPONENT's judge: types are made -/
section LCM
variable {G : om_G} {N : List (List Int)} {cl : Nat → Nat} {tb l0 sc jg Lb : Nat} {rest : List (Nat × List Nat)} {Sl : Nat → Prop} {io : Nat → Nat} {ab : List (Option Nat)} {ins : List INs} {gv : List GVs} {tot : Nat} {h : om_H} {us fs : List Nat}
/-- a type is made, or is there -/
theorem c_mk (nd : ndN N) (F : FnQ G h N cl tb l0 sc us fs rest Sl io ab ins gv tot) {k w nm fam : Nat} {con : Int} {l r : Ty} {a b : Nat} (W : tyW h N cl k w con nm fam) (A : tyC h N cl (UU us rest) l a) (B : tyC h N cl (UU us rest) r b) (hn : tl us fs ≤ 149000) : ∃ x h' us' fs', C_2_get G tb (k : Int) con nm fam a b h = some (x, h') ∧ FnQ G h' N cl tb l0 sc us' fs' rest Sl io ab ins gv tot ∧ KF N cl tb l0 rest h us fs h' us' fs' 1 0 0 ∧ tyC h' N cl (UU us' rest) (tnd k w l r) x := by
  obtain ⟨x, h', us', fs', e1, T', C, c, _⟩ := c_getS F.1 nd W A B hn
  have K := KF_CS (l0 := l0) F.1 ⟨F.2.1.1.1, F.2.1.1.2.1⟩ C
  exact ⟨x, h', us', fs', e1, FnQ_next F K T' (by rw [C.2.2.2.2.1.1 128 (by decide)]; exact F.2.2.2.2.2.2), K, c⟩
theorem c_mkCon (nd : ndN N) (F : FnQ G h N cl tb l0 sc us fs rest Sl io ab ins gv tot) {w : Nat} {l r : Ty} {a b : Nat} (A : tyC h N cl (UU us rest) l a) (B : tyC h N cl (UU us rest) r b) (hn : tl us fs ≤ 149000) : ∃ x h' us' fs', C_2_con G tb (w : Int) a b h = some (x, h') ∧ FnQ G h' N cl tb l0 sc us' fs' rest Sl io ab ins gv tot ∧ KF N cl tb l0 rest h us fs h' us' fs' 1 0 0 ∧ tyC h' N cl (UU us' rest) (tnd 1 w l r) x := by
  obtain ⟨x, h', us', fs', e1, e2⟩ := c_mk (k := 1) nd F (.inr (.inl ⟨rfl, rfl, rfl, rfl⟩)) A B hn
  exact ⟨x, h', us', fs', c_con (TB_3 F.1).1 e1, e2⟩
theorem c_mkArr (nd : ndN N) (F : FnQ G h N cl tb l0 sc us fs rest Sl io ab ins gv tot) {l r : Ty} {a b : Nat} (A : tyC h N cl (UU us rest) l a) (B : tyC h N cl (UU us rest) r b) (hn : tl us fs ≤ 149000) : ∃ x h' us' fs', C_2_arrow G tb a b h = some (x, h') ∧ FnQ G h' N cl tb l0 sc us' fs' rest Sl io ab ins gv tot ∧ KF N cl tb l0 rest h us fs h' us' fs' 1 0 0 ∧ tyC h' N cl (UU us' rest) (tArr l r) x := by
  obtain ⟨x, h', us', fs', e1, e2⟩ := c_mk (k := 3) (w := 0) nd F (.inr (.inr (.inr ⟨rfl, rfl, rfl, rfl, rfl⟩))) A B hn
  exact ⟨x, h', us', fs', c_arrow (TB_3 F.1).1 e1, e2⟩
theorem c_mkFam (nd : ndN N) (F : FnQ G h N cl tb l0 sc us fs rest Sl io ab ins gv tot) {c : Nat} (hc : clO h cl c) {l : Ty} {a : Nat} (A : tyC h N cl (UU us rest) l a) (hn : tl us fs ≤ 149000) : ∃ x h' us' fs', C_2_family G tb (cl c) a h = some (x, h') ∧ FnQ G h' N cl tb l0 sc us' fs' rest Sl io ab ins gv tot ∧ KF N cl tb l0 rest h us fs h' us' fs' 1 0 0 ∧ tyC h' N cl (UU us' rest) (tnd 2 c l .leaf) x := by
  obtain ⟨x, h', us', fs', e1, e2⟩ := c_mk (k := 2) (w := c) (b := 0) (r := .leaf) nd F (.inr (.inr (.inl ⟨rfl, rfl, rfl, hc.1, hc.2.1, rfl, hc.2.2.1, hc.2.2.2⟩))) A rfl hn
  exact ⟨x, h', us', fs', c_family (TB_3 F.1).1 e1, e2⟩
/-- Int, Bool -/
theorem c_jcon (nd : ndN N) (F : FnQ G h N cl tb l0 sc us fs rest Sl io ab ins gv tot) (Hj : JgC h jg l0 tb Lb) (w : Nat) (hn : tl us fs ≤ 149000) : ∃ x h' us' fs', C_37_con G jg (w : Int) h = some (x, h') ∧ FnQ G h' N cl tb l0 sc us' fs' rest Sl io ab ins gv tot ∧ KF N cl tb l0 rest h us fs h' us' fs' 1 0 0 ∧ tyC h' N cl (UU us' rest) (tnd 1 w .leaf .leaf) x := by
  obtain ⟨x, h', us', fs', e1, e2⟩ := c_mkCon (w := w) (l := .leaf) (r := .leaf) (a := 0) (b := 0) nd F rfl rfl hn
  refine ⟨x, h', us', fs', ?_, e2⟩
  unfold C_37_con
  rw [gd_pos ⟨Hj.1.1, by rw [Hj.2.2.1]; exact (TB_3 F.1).1⟩, Hj.2.2.1, e1]
  rfl
/-- the types of names that are there always, the things being there -/
theorem c_built77 (nd : ndN N) (F : FnQ G h N cl tb l0 sc us fs rest Sl io ab ins gv tot) {k : Nat} {A C : Ty} {a b li pa : Nat} (ca : k < 5 → tyC h N cl (UU us rest) A a) (cb : 2 ≤ k → k < 5 → tyC h N cl (UU us rest) C b) (cl1 : k < 5 → tyC h N cl (UU us rest) (tnd 1 2 A .leaf) li) (cp : 2 ≤ k → k < 5 → tyC h N cl (UU us rest) (tnd 1 3 A C) pa) (hn : tl us fs + 2 ≤ 149000) : ∃ x h' us' fs', C_37_built_77 G tb (k : Int) a b li pa h = some (x, h') ∧ FnQ G h' N cl tb l0 sc us' fs' rest Sl io ab ins gv tot ∧ KF N cl tb l0 rest h us fs h' us' fs' 2 0 0 ∧ tyC h' N cl (UU us' rest) (btT k A C) x := by
  have t3 := (TB_3 F.1).1
  unfold C_37_built_77 btT
  by_cases k0 : k = 0
  · rw [if_pos (by omega), if_pos k0]
    exact ⟨li, h, us, fs, rfl, F, KF_refl, cl1 (by omega)⟩
  rw [if_neg (by omega), if_neg k0]
  by_cases k1 : k = 1
  · rw [if_pos (by omega), if_pos k1, gd_pos t3]
    obtain ⟨x1, h1, us1, fs1, e1, F1, K1, c1⟩ := c_mkArr nd F (cl1 (by omega)) (cl1 (by omega)) (by omega)
    have l1 := K1.2.2.2.1
    obtain ⟨x2, h2, us2, fs2, e2, F2, K2, c2⟩ := c_mkArr nd F1 (K1.2.2.2.2.2.2.1 _ _ (ca (by omega))) c1 (by omega)
    rw [e1, Option.bind_some, gd_pos (TB_3 F1.1).1, e2]
    exact ⟨x2, h2, us2, fs2, rfl, F2, KF_trans K1 K2, c2⟩
  rw [if_neg (by omega), if_neg k1]
  by_cases k2 : k = 2
  · rw [if_pos (by omega), if_pos k2, gd_pos t3]
    obtain ⟨x1, h1, us1, fs1, e1, F1, K1, c1⟩ := c_mkArr nd F (cb (by omega) (by omega)) (cp (by omega) (by omega)) (by omega)
    have l1 := K1.2.2.2.1
    obtain ⟨x2, h2, us2, fs2, e2, F2, K2, c2⟩ := c_mkArr nd F1 (K1.2.2.2.2.2.2.1 _ _ (ca (by omega))) c1 (by omega)
    rw [e1, Option.bind_some, gd_pos (TB_3 F1.1).1, e2]
    exact ⟨x2, h2, us2, fs2, rfl, F2, KF_trans K1 K2, c2⟩
  rw [if_neg (by omega), if_neg k2]
  by_cases k3 : k = 3
  · rw [if_pos (by omega), if_pos k3, gd_pos t3]
    obtain ⟨x1, h1, us1, fs1, e1, F1, K1, c1⟩ := c_mkArr nd F (cp (by omega) (by omega)) (ca (by omega)) (by omega)
    rw [e1]
    exact ⟨x1, h1, us1, fs1, rfl, F1, KF_le K1 (by omega) (by omega) (by omega), c1⟩
  rw [if_neg (by omega), if_neg k3]
  by_cases k4 : k = 4
  · rw [if_pos (by omega), if_pos k4, gd_pos t3]
    obtain ⟨x1, h1, us1, fs1, e1, F1, K1, c1⟩ := c_mkArr nd F (cp (by omega) (by omega)) (cb (by omega) (by omega)) (by omega)
    rw [e1]
    exact ⟨x1, h1, us1, fs1, rfl, F1, KF_le K1 (by omega) (by omega) (by omega), c1⟩
  rw [if_neg (by omega), if_neg k4, gd_pos t3]
  obtain ⟨x1, h1, us1, fs1, e1, F1, K1, c1⟩ := c_mkCon (w := 1) (l := .leaf) (r := .leaf) (a := 0) (b := 0) nd F rfl rfl (by omega)
  have e1' : C_2_con G tb 1 0 0 h = some (x1, h1) := e1
  rw [e1']
  exact ⟨x1, h1, us1, fs1, rfl, F1, KF_le K1 (by omega) (by omega) (by omega), c1⟩
end LCM
