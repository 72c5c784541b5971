set_option maxRecDepth 100000
/-! THE COMPONENT's judge: an ex is to be of a form -/
section LCK
variable {G : om_G} {N : List (List Int)} {cl : Nat → Nat} {tb l0 sc jg Lb : Nat} {rest : List (Nat × List Nat)} {Sl : Nat → Prop} {io : Nat → Nat} {E : JE} {B : Nat} {h : om_H} {us fs : List Nat}
theorem isK_C {T : Ty} {x k w : Nat} {U : Nat → Prop} (hk : (k = 3 ∧ w = 0) ∨ (k = 1 ∧ w = 2)) (hT : T ≠ .leaf) (c : tyC h N cl U T x) : (isK k w T = true ↔ fI h 1556 x = (k : Int) ∧ fI h 1560 x = (w : Int)) ∧ kd h x = 34 := by
  cases T with
  | leaf => exact absurd rfl hT
  | inner k' w' u l r =>
    obtain ⟨_, c1, c2, c3, _⟩ := c
    refine ⟨?_, c1⟩
    rw [c2]
    show ((k' == k && w' == w) = true) ↔ _
    simp only [Bool.and_eq_true, beq_iff_eq]
    rcases c3 with ⟨d1, d2, _⟩ | ⟨d1, d2, _⟩ | ⟨d1, d2, _⟩ | ⟨d1, d0, d2, _⟩
    · omega
    · rw [d2]; omega
    · omega
    · rw [d2]; omega
/-- AN EX IS TO BE OF A FORM -/
theorem c_as (nd : ndN N) (J : JOk E B) (hGN : gvN E.2.2.2.2) {k w pl : Nat} (hk : (k = 3 ∧ w = 0) ∨ (k = 1 ∧ w = 2)) {e : Et} {s : JS} {zz : (Nat × Nat) ⊕ (Et × Ty × JS)} (ez : jf E k w pl e s = some zz) (F : FnQ G h N cl tb l0 sc us fs rest Sl io E.2.2.1 E.2.2.2.1 E.2.2.2.2 s.1) (Hj : JgC h jg l0 tb Lb) {x : Nat} (cx : tyC h N cl (UU us rest) (eTy e) x) (okE : tyOk E.2.2.2.1 (eTy e)) (hzE : tsz (eTy e) ≤ 1000000) (h300 : s.1 ≤ 300) (R : tl us fs + 81 * 60 + B ≤ 149000) : ∃ (v : Nat ⊕ Nat) (h' : om_H) (us' fs' : List Nat), C_37_as G jg x (k : Int) (w : Int) (pl : Int) h = some (v, h') ∧ ((zz = .inl (7, pl) ∧ ∃ a, v = .inl a ∧ TB G h' N cl tb us' fs' rest ∧ flt h' a 7 (pl : Int) ∧ KF N cl tb l0 rest h us fs h' us' fs' (81 * 60 + B) 1 8) ∨ (zz = .inl (4, pl) ∧ v = .inr 0 ∧ (∃ tot', FnQ G h' N cl tb l0 sc us' fs' rest Sl io E.2.2.1 E.2.2.2.1 E.2.2.2.2 tot') ∧ KF N cl tb l0 rest h us fs h' us' fs' (80 * 60) 0 0) ∨ ∃ e' U s' y, zz = .inr (e', U, s') ∧ v = .inr y ∧ (y ≠ 0 ∧ tyC h' N cl (UU us' rest) U y) ∧ FnQ G h' N cl tb l0 sc us' fs' rest Sl io E.2.2.1 E.2.2.2.1 E.2.2.2.2 s'.1 ∧ (s.1 ≤ s'.1 ∧ s'.1 ≤ 300) ∧ KF N cl tb l0 rest h us fs h' us' fs' (80 * (s'.1 - s.1)) 0 0 ∧ (∃ D, s'.2 = s.2 ++ D ∧ ∀ X ∈ D, ∃ y, tyC h' N cl (UU us' rest) X y) ∧ ((e' = e ∧ U = eTy e ∧ y = x) ∨ (e' = eCs U e ∧ U ≠ eTy e ∧ y ≠ x))) := by
  obtain ⟨hB, hI, hG, _⟩ := J.1
  obtain ⟨kq, k34⟩ := isK_C hk okE.1 cx
  unfold jf at ez
  by_cases q0 : isK k w (eTy e) = true
  · rw [if_pos q0] at ez
    have ez' : zz = .inr (e, eTy e, s) := (Option.some.inj ez).symm
    obtain ⟨k1, k2⟩ := kq.mp q0
    refine ⟨.inr x, h, us, fs, ?_, .inr (.inr ⟨e, eTy e, s, x, ez', rfl, ⟨(tyC_34 cx okE.1).2.1, cx⟩, F, ⟨Nat.le_refl _, h300⟩, KF_refl, ⟨[], by rw [List.append_nil], fun X hX => absurd hX List.not_mem_nil⟩, .inl ⟨rfl, rfl, rfl⟩⟩)⟩
    unfold C_37_as
    rw [gd_pos k34, if_neg (fun z => z k1), gd_pos k34, if_neg (fun z => z k2)]
  · rw [if_neg q0] at ez
    have e18 : C_37_as G jg x (k : Int) (w : Int) (pl : Int) h = C_37_as_18 G jg x (k : Int) (w : Int) (pl : Int) h := by
      unfold C_37_as
      rw [gd_pos k34]
      by_cases c1 : fI h 1556 x = (k : Int)
      · rw [if_neg (fun z => z c1), gd_pos k34, if_pos (fun c2 => q0 (kq.mpr ⟨c1, c2⟩))]
      · rw [if_pos c1]
    rw [e18]
    obtain ⟨h1, b1, K1, F1⟩ := c_begin8 F s.2
    have Hj1 := JgC_KF F.1 F.2.1.1.1 K1 Hj
    obtain ⟨a, q, _⟩ := wk_ends (ins := E.2.2.2.1) (gv := E.2.2.2.2) 130 false 0 (0, s.1, s.2) (eTy e) 0 (by decide) (Nat.le_refl _) (Nat.zero_le _) (by rw [if_neg (by decide)]; omega)
    rw [q, Option.bind_some] at ez
    have cx1 := K1.2.2.2.2.2.2.1 _ _ cx
    obtain ⟨v2, h2, us2, fs2, g2, o1, o2⟩ := c_worked2 nd hB hI hG hGN (pl : Int) q F1 cx1 okE.1 okE.2.1 okE.2.2 hzE (Nat.zero_le _) h300 R
    unfold C_37_as_18
    rw [gd_pos ⟨Hj.1.1, by rw [Hj.2.1]; exact F.2.1.1.1⟩, Hj.2.1, b1, Option.bind_some, gd_pos ⟨Hj1.1.1, by rw [Hj1.2.1]; exact (FnC_kd F1).1⟩, Hj1.2.1, g2]
    cases a with
    | none =>
      have ez' : zz = .inl (7, pl) := (Option.some.inj ez).symm
      obtain ⟨a, ea, c1, c2, c3, c4⟩ := o1 rfl
      subst ea
      exact ⟨.inl a, h2, us2, fs2, rfl, .inl ⟨ez', a, rfl, c1, c3, KF_le (KF_trans K1 c4) (by show 0 + (81 * (60 - 0) + B) ≤ _; omega) (by omega) (by omega)⟩⟩
    | some p =>
      obtain ⟨U, s'⟩ := p
      obtain ⟨y, ey, S⟩ := o2 U s' rfl
      subst ey
      rw [xc_v]
      have F2 := CkS_F (.inr rfl) F1 S
      have K2 : KF N cl tb l0 rest h1 us fs h2 us2 fs2 (80 * (s'.1 - 0)) 0 0 := (S.2.2.2.1 rfl).2.2
      obtain ⟨D, d, x1, _⟩ := wk_st q
      have sd : s'.2.1 = s.1 + s'.1 := by rw [x1.1]; show s.1 + d = s.1 + (0 + d); omega
      have s60 : s'.1 ≤ 60 := by rw [x1.1]; exact x1.2.2 rfl (Nat.zero_le _)
      have y5 : s'.2.2 = s.2 ++ D := by rw [x1.1]
      obtain ⟨⟨wu, nu, oku⟩, zu⟩ := wk_tsz hB hI hG (by have := J.1.2.2.2.1; omega) J.1.2.2.2.2 hzE okE.2.1 okE.1 okE.2.2 q
      obtain ⟨kq2, k34'⟩ := isK_C hk nu S.2.1
      rw [gd_pos k34']
      simp only at ez
      by_cases qk : isK k w U = true
      · rw [if_pos qk] at ez
        have ez' : zz = .inr (eCs U e, U, s'.2.1, s'.2.2) := (Option.some.inj ez).symm
        obtain ⟨k1, k2⟩ := kq2.mp qk
        rw [if_neg (fun z => z k1), gd_pos k34', if_neg (fun z => z k2)]
        have ne : U ≠ eTy e := fun w' => q0 (by rw [← w']; exact qk)
        have KK := KF_trans K1 K2
        refine ⟨.inr y, h2, us2, fs2, rfl, .inr (.inr ⟨eCs U e, U, (s'.2.1, s'.2.2), y, ez', rfl, ⟨(tyC_34 S.2.1 nu).2.1, S.2.1⟩, FnQ_C F2, ⟨by show s.1 ≤ s'.2.1; omega, (S.2.2.2.1 rfl).2.1⟩, KF_le KK (by show 0 + 80 * (s'.1 - 0) ≤ 80 * (s'.2.1 - s.1); omega) (by omega) (by omega), ⟨D, y5, S.2.2.2.2.1 D y5⟩, .inr ⟨rfl, ne, fun w' => ne (tyC_fun nd S.2.1 (by rw [w']; exact KK.2.2.2.2.2.2.1 _ _ cx))⟩⟩)⟩
      · rw [if_neg qk] at ez
        have ez' : zz = .inl (4, pl) := (Option.some.inj ez).symm
        have e60 : C_37_as_60 G h2 = some (.inr 0, h2) := rfl
        have out : (if fI h2 1556 y ≠ (k : Int) then C_37_as_60 G h2 else gd (kd h2 y = 34) (if fI h2 1560 y ≠ (w : Int) then C_37_as_60 G h2 else some (.inr y, h2))) = some (.inr 0, h2) := by
          by_cases c1 : fI h2 1556 y = (k : Int)
          · rw [if_neg (fun z => z c1), gd_pos k34', if_pos (fun c2 => qk (kq2.mpr ⟨c1, c2⟩)), e60]
          · rw [if_pos c1, e60]
        rw [out]
        exact ⟨.inr 0, h2, us2, fs2, rfl, .inr (.inl ⟨ez', rfl, ⟨_, FnQ_C F2⟩, KF_le (KF_trans K1 K2) (by show 0 + 80 * (s'.1 - 0) ≤ _; omega) (by omega) (by omega)⟩)⟩
end LCK
