set_option maxRecDepth 100000
/-! THE TWIN SAYS EXS: all but what lies left -/
theorem nz_ne {t c : Nat} (h : ¬ t = c) : ¬ (t : Int) = (c : Int) := by omega
section LCO
variable (nm con fam cnm : Nat → List Int) (ab : List (Option Nat)) (ins : List INs) (gv : List GVs)
/-- an ex without its cast -/
def corB (t : Nat) (a : XL × Ty × Ty × List Dc) (l r : Et) : List Int := if t = 10 then nmB nm con fam cnm ab ins gv a.1 a.2.2.2
    else if t = 11 then numB a.1.2.1
    else if t = 12 then 40 :: exB nm con fam cnm ab ins gv l [] ++ [32] ++ exB nm con fam cnm ab ins gv r [] ++ [41]
    else if t = 14 then 92 :: nm a.1.2.2.2.1 ++ [58] ++ tyB nm con fam (lbT a.1) ++ [46] ++ exB nm con fam cnm ab ins gv l []
    else if t = 15 then [108, 101, 116, 32] ++ nm a.1.2.2.2.1 ++ [58] ++ tyB nm con fam (lbT a.1) ++ [61] ++ exB nm con fam cnm ab ins gv l [] ++ [32, 105, 110, 32] ++ exB nm con fam cnm ab ins gv r []
    else if t = 16 then [105, 102, 32] ++ exB nm con fam cnm ab ins gv l [] ++ [32, 116, 104, 101, 110, 32] ++ exB nm con fam cnm ab ins gv r [32, 101, 108, 115, 101, 32]
    else if t = 17 then [99, 97, 115, 101, 32] ++ exB nm con fam cnm ab ins gv l [] ++ [32, 111, 102, 32, 123, 110, 105, 108, 45, 62] ++ exB nm con fam cnm ab ins gv r ([59, 99, 111, 110, 115, 32] ++ nm a.1.2.2.2.1 ++ [32] ++ nm a.1.2.2.2.2.1 ++ [45, 62]) ++ [125]
    else if t = 18 then 40 :: exB nm con fam cnm ab ins gv l [] ++ sgB a.1.2.1 ++ exB nm con fam cnm ab ins gv r [] ++ [41] else []
end LCO
section LP2
variable {E : JE} {ab : List (Option Nat)} {ins : List INs} {gv : List GVs} {B n : Nat} {σ σ0 τ : tS} {nm con fam cnm : Nat → List Int} {r : Int → tS → Option tS}
theorem exB_i {t : Nat} {a : XL × Ty × Ty × List Dc} {u : Unit} {l r : Et} {sep : List Int} (h : t ≠ 0) : exB nm con fam cnm ab ins gv (.inner t a u l r) sep = (if lfB a.2.2.1 = true then [] else [40]) ++ corB nm con fam cnm ab ins gv t a l r ++ cstB nm con fam ins gv a.2.1 a.2.2.1 := by
  show (if t = 0 then _ else _) = _
  rw [if_neg h]
  rfl
theorem exB_0 {a : XL × Ty × Ty × List Dc} {u : Unit} {l r : Et} {sep : List Int} : exB nm con fam cnm ab ins gv (.inner 0 a u l r) sep = exB nm con fam cnm ab ins gv l [] ++ sep ++ exB nm con fam cnm ab ins gv r [] := by
  show (if (0 : Nat) = 0 then _ else _) = _
  rw [if_pos rfl]
theorem RZ_le {m m' : Nat} {f : Int → tS → Option tS} {x : Int} {L : List Int} (H : RZ σ0 m f x L) (h : m ≤ m') : RZ σ0 m' f x L := fun σ t F S hs ht => H σ t F S ⟨hs.1, by have := hs.2; omega⟩ ht
/-- a child -/
def chE (t : Nat) (l r e : Et) : Prop := (t ≠ 10 ∧ t ≠ 11 ∧ e = l) ∨ (t = 15 ∧ e = r) ∨ ((t = 16 ∨ t = 17) ∧ ∃ a u r1 r2, r = .inner 0 a u r1 r2 ∧ (e = r1 ∨ e = r2))
/-- what is known of the children -/
def RCh (E : JE) (σ0 : tS) (n : Nat) (nm con fam cnm : Nat → List Int) (r : Int → tS → Option tS) (t : Nat) (l r' : Et) : Prop := ∀ (e : Et) (lo hi v : Nat), chE t l r' e → XTf σ0 n e lo hi v → eK E (QN σ0 n) e → eO σ0 E.2.2.2.1 nm con fam e → eTy e ≠ .leaf → RZ σ0 (hi - lo) r (v : Int) (exB nm con fam cnm E.2.2.1 E.2.2.2.1 E.2.2.2.2 e [])
theorem lbO_t {lb : XL} (O : lbO σ0 ins nm con fam lb) {p : Ty × Nat} (h : lb.2.2.2.2.2[0]? = some p) : (tyOk ins (lbT lb) ∧ tdp (lbT lb) < 70) ∧ tOn nm con fam σ0 (lbT lb) := by
  have e : lbT lb = p.1 := by unfold lbT; rw [h]; rfl
  have := O.2 p (List.mem_of_getElem? h)
  rw [e]
  exact ⟨⟨this.1.1, this.1.2.2⟩, this.2⟩
/-- a name at a token -/
theorem t_nmAt {k w : Nat} (F : fr WZS WZA σ0 σ) (hk : k < 4100) (e : ga σ0 482 k = (w : Int)) : T_nameAt (k : Int) σ = some (w : Int) := by
  unfold T_nameAt
  rw [if_pos (by omega), show ((k : Int)).toNat = k by omega, F.2 482 (by decide), e]
/-- a type, then on -/
theorem sz_T (hn : n ≤ 126000) {T : Ty} {x : Int} {t : Nat} (F : fr WZS WZA σ0 σ) (H : tyT σ0 n T x) (okT : tyOk ins T ∧ tdp T < 70) (O : tOn nm con fam σ0 T) (S : SkT σ t) (ht : t + (tyB nm con fam T).length < 1800000000) : ∃ σ' t', T_sayType x σ = some σ' ∧ SyZ σ (tyB nm con fam T) σ' ∧ SkT σ' t' ∧ t' ≤ t + (tyB nm con fam T).length := by
  unfold T_sayType
  obtain ⟨σ2, c1, c2⟩ := t_sayTypeD (nm := nm) (con := con) (fam := fam) hn 70 T x σ t okT.1.1 (tyT_Z F H) okT.2 okT.1.2.1 (tOn_Z F O) S (by omega)
  obtain ⟨t2, S2, t2a, t2b⟩ := SyO_t S c2
  exact ⟨σ2, t2, c1, SyZ_of (SyW_of c2), S2, t2b⟩
set_option maxHeartbeats 1000000 in
/-- ALL BUT WHAT LIES LEFT -/
theorem t_plain (V : EnvT σ0 n E B nm con fam cnm) {t : Nat} {a : XL × Ty × Ty × List Dc} {u : Unit} {l r' : Et} {lo hi v : Nat} (X : XTf σ0 n (.inner t a u l r') lo hi v) (K : eK E (QN σ0 n) (.inner t a u l r')) (O : eO σ0 E.2.2.2.1 nm con fam (.inner t a u l r')) (hty : a.2.1 ≠ .leaf) (ht12 : t ≠ 12 ∧ t ≠ 18) (RC : RCh E σ0 n nm con fam cnm r t l r') : RZ σ0 (hi - lo) (T_sayPlain r) (v : Int) (corB nm con fam cnm E.2.2.1 E.2.2.2.1 E.2.2.2.2 t a l r') := by
  have i84 := XTg_in X
  have X' := X
  unfold XTf at X'
  rw [XTg_e] at X'
  obtain ⟨_, h538, ⟨⟨pe1, pe2⟩, fx1, fx2, fx3, fx4⟩, h4⟩ := X'
  obtain ⟨k1, ⟨kl, kr⟩, eKl, eKr⟩ := id K
  obtain ⟨t13, okT, cs, kn⟩ := k1 hty
  obtain ⟨_, lbo, lbn, n17, eOl, eOr⟩ := id O
  have n126 : n ≤ 126000 := by have := V.2.2.1.2; omega
  intro σ tt F S sp ht
  have vb : (0 : Int) ≤ (v : Int) ∧ (v : Int) < 8400 := by omega
  have vN : ((v : Int)).toNat = v := by omega
  unfold T_sayPlain
  rw [if_pos vb, vN, F.2 538 (by decide), h538]
  unfold corB at ht ⊢
  by_cases t10 : t = 10
  · rw [if_pos t10] at ht h4 ⊢
    rw [if_pos (by omega)]
    obtain ⟨σ', c1, c2⟩ := t_sayNamed (m := 0) V ⟨by omega, i84.2.2⟩ h4.2.2 (lbo (.inl t10)) (kn t10) σ tt F S ⟨sp.1, by have := sp.2; omega⟩ ht
    have c1' : T_sayNamed (v : Int) σ = some σ' := c1
    exact ⟨σ', by rw [c1', Option.bind_some], c2⟩
  rw [if_neg t10] at ht h4 ⊢
  rw [if_neg (by omega)]
  by_cases t11 : t = 11
  · rw [if_pos t11] at ht h4 ⊢
    rw [if_pos (by omega)]
    obtain ⟨k, q1, q2, q3, q4⟩ := fx1 (by rw [h538, t11]; rfl)
    have l12 := numBD_len (f := 12) (v := a.1.2.1)
    rw [F.2 542 (by decide), q1, t_nmAt F q2 q3, Option.bind_some]
    have b31 : a.1.2.1 ≤ 2147483647 := by omega
    exact ⟨_, by rw [t_sayNum b31 S (by omega), Option.bind_some], SyZ_of (SyW_of (SyO_L S (by unfold numB; omega)))⟩
  rw [if_neg t11] at ht h4 ⊢
  rw [if_neg (show ¬ (t : Int) = 11 from nz_ne t11), if_neg (show ¬ (t : Int) = 12 from nz_ne ht12.1), if_neg (show ¬ (t : Int) = 13 from nz_ne t13)]
  rw [if_neg ht12.1] at ht h4 ⊢
  rw [if_neg t13] at h4
  by_cases t14 : t = 14
  · rw [if_pos t14] at ht h4 ⊢
    rw [if_pos (by omega)]
    simp only [List.length_append, List.length_cons, List.length_nil] at ht
    obtain ⟨k, q1, q2, q3, q4⟩ := fx2 (.inl (by rw [h538, t14]; rfl))
    obtain ⟨lbn1, p, lbn2⟩ := lbn (.inl t14)
    have lo' := lbo (.inr (.inl t14))
    obtain ⟨tok, ton⟩ := lbO_t lo' lbn2
    obtain ⟨g1, g2, g3, m, x, g4, g5, g6⟩ := h4
    obtain ⟨b1, b2, b3⟩ := sz_b S (by omega) 92
    have F1 := fr_trans F b2.2.2.2.1
    rw [b1, Option.bind_some, if_pos vb, F1.2 546 (by decide), q1, t_nmAt F1 q2 q3, Option.bind_some]
    obtain ⟨c1, c2, c3⟩ := sz_N (nmT_Z F1 lo'.1) q4 b3 (by omega)
    have F2 := fr_trans F1 c2.2.2.2.1
    rw [c1, Option.bind_some]
    obtain ⟨d1, d2, d3⟩ := sz_b c3 (by omega) 58
    have F3 := fr_trans F2 d2.2.2.2.1
    rw [d1, Option.bind_some, if_pos vb, F3.2 550 (by decide)]
    obtain ⟨σ4, t4, e1, e2, e3, e4⟩ := sz_T n126 F3 g3 tok ton d3 (by omega)
    have F4 := fr_trans F3 e2.2.2.2.1
    rw [e1, Option.bind_some]
    obtain ⟨f1, f2, f3⟩ := sz_b e3 (by omega) 46
    have F5 := fr_trans F4 f2.2.2.2.1
    rw [f1, Option.bind_some, if_pos vb, F5.2 554 (by decide), g5]
    have gi := XTg_in g6
    have e856 : gs (say1 σ4 46) 856 = gs σ 856 := by rw [f2.2.2.2.2.1, e2.2.2.2.2.1, d2.2.2.2.2.1, c2.2.2.2.2.1, b2.2.2.2.2.1]
    obtain ⟨σ6, i1, i2⟩ := RC l m v x (.inl ⟨t10, t11, rfl⟩) g6 eKl (eOl t10 t11) (kl (by omega) (by omega)) _ _ F5 f3 ⟨by rw [e856]; exact sp.1, by rw [e856]; have := sp.2; omega⟩ (by omega)
    refine ⟨σ6, by rw [i1, Option.bind_some], ?_⟩
    have := SyZ_trans (SyZ_trans (SyZ_trans (SyZ_trans (SyZ_trans b2 c2) d2) e2) f2) i2
    rw [show 92 :: nm a.1.2.2.2.1 ++ [58] ++ tyB nm con fam (lbT a.1) ++ [46] ++ exB nm con fam cnm E.2.2.1 E.2.2.2.1 E.2.2.2.2 l [] = [92] ++ nm a.1.2.2.2.1 ++ [58] ++ tyB nm con fam (lbT a.1) ++ [46] ++ exB nm con fam cnm E.2.2.1 E.2.2.2.1 E.2.2.2.2 l [] by simp]
    exact this
  rw [if_neg t14] at ht h4 ⊢
  rw [if_neg (by omega)]
  by_cases t15 : t = 15
  · rw [if_pos t15] at ht h4 ⊢
    rw [if_pos (by omega)]
    simp only [List.length_append, List.length_cons, List.length_nil] at ht
    obtain ⟨k, q1, q2, q3, q4⟩ := fx2 (.inr (by rw [h538, t15]; rfl))
    obtain ⟨lbn1, p, lbn2⟩ := lbn (.inr t15)
    have lo' := lbo (.inr (.inr t15))
    obtain ⟨tok, ton⟩ := lbO_t lo' lbn2
    obtain ⟨g1, g2, g3, m, m', x, y, g4, g5, g6, g7, g8⟩ := h4
    have gi := XTg_in g7
    have gj := XTg_in g8
    obtain ⟨b1, b2, b3⟩ := sz_L sg_let S (by simp; omega)
    have F1 := fr_trans F b2.2.2.2.1
    rw [b1, Option.bind_some, if_pos vb, F1.2 546 (by decide), q1, t_nmAt F1 q2 q3, Option.bind_some]
    simp only [List.length_cons, List.length_nil] at b3
    obtain ⟨c1, c2, c3⟩ := sz_N (nmT_Z F1 lo'.1) q4 b3 (by omega)
    have F2 := fr_trans F1 c2.2.2.2.1
    rw [c1, Option.bind_some]
    obtain ⟨d1, d2, d3⟩ := sz_b c3 (by omega) 58
    have F3 := fr_trans F2 d2.2.2.2.1
    rw [d1, Option.bind_some, if_pos vb, F3.2 550 (by decide)]
    obtain ⟨σ4, t4, e1, e2, e3, e4⟩ := sz_T n126 F3 g3 tok ton d3 (by omega)
    have F4 := fr_trans F3 e2.2.2.2.1
    rw [e1, Option.bind_some]
    obtain ⟨f1, f2, f3⟩ := sz_b e3 (by omega) 61
    have F5 := fr_trans F4 f2.2.2.2.1
    rw [f1, Option.bind_some, if_pos vb, F5.2 554 (by decide), g5]
    have e856 : gs (say1 σ4 61) 856 = gs σ 856 := by rw [f2.2.2.2.2.1, e2.2.2.2.2.1, d2.2.2.2.2.1, c2.2.2.2.2.1, b2.2.2.2.2.1]
    obtain ⟨σ6, i1, i2⟩ := RC l m m' x (.inl ⟨t10, t11, rfl⟩) g7 eKl (eOl t10 t11) (kl (by omega) (by omega)) _ _ F5 f3 ⟨by rw [e856]; exact sp.1, by rw [e856]; have := sp.2; omega⟩ (by omega)
    obtain ⟨t6, S6, t6a, t6b⟩ := SyZ_t f3 i2
    have F6 := fr_trans F5 i2.2.2.2.1
    rw [i1, Option.bind_some]
    obtain ⟨j1, j2, j3⟩ := sz_L sg_in S6 (by simp; omega)
    simp only [List.length_cons, List.length_nil] at j3
    have F7 := fr_trans F6 j2.2.2.2.1
    rw [j1, Option.bind_some, if_pos vb, F7.2 558 (by decide), g6]
    have e857 : gs (sayL [32, 105, 110, 32] σ6) 856 = gs σ 856 := by rw [j2.2.2.2.2.1, i2.2.2.2.2.1, e856]
    obtain ⟨σ8, y1, y2⟩ := RC r' m' v y (.inr (.inl ⟨t15, rfl⟩)) g8 eKr (eOr t10 t11 (by omega)) (kr (by omega) (by omega) (by omega) (by omega) (by omega)) _ _ F7 j3 ⟨by rw [e857]; exact sp.1, by rw [e857]; have := sp.2; omega⟩ (by omega)
    exact ⟨σ8, by rw [y1, Option.bind_some], SyZ_trans (SyZ_trans (SyZ_trans (SyZ_trans (SyZ_trans (SyZ_trans (SyZ_trans b2 c2) d2) e2) f2) i2) j2) y2⟩
  rw [if_neg t15] at ht h4 ⊢
  rw [if_neg (by omega)]
  rw [if_neg ht12.2] at h4
  cases r' with
  | leaf => exact h4.elim
  | inner t' a' u' r1 r2 =>
    simp only at h4
    obtain ⟨g1, g2, g3, h4⟩ := h4
    subst g3
    obtain ⟨_, ⟨kpl, kpr⟩, eK1, eK2⟩ := id eKr
    obtain ⟨_, _, _, _, eO1, eO2⟩ := eOr t10 t11 (by omega)
    by_cases t16 : t = 16
    · rw [if_pos t16] at ht h4 ⊢
      rw [if_pos (by omega)]
      rw [exB_0] at ht ⊢
      simp only [List.length_append, List.length_cons, List.length_nil] at ht
      obtain ⟨m, m', x, y, z, g4, g5, g6, g7, g8, g9⟩ := h4
      have gi := XTg_in g7
      have gj := XTg_in g8
      have gk := XTg_in g9
      obtain ⟨b1, b2, b3⟩ := sz_L sg_if S (by simp; omega)
      simp only [List.length_cons, List.length_nil] at b3
      have F1 := fr_trans F b2.2.2.2.1
      rw [b1, Option.bind_some, if_pos vb, F1.2 546 (by decide), g4]
      have e1 : gs (sayL [105, 102, 32] σ) 856 = gs σ 856 := b2.2.2.2.2.1
      obtain ⟨σ2, c1, c2⟩ := RC l lo m x (.inl ⟨t10, t11, rfl⟩) g7 eKl (eOl t10 t11) (kl (by omega) (by omega)) _ _ F1 b3 ⟨by rw [e1]; exact sp.1, by rw [e1]; have := sp.2; omega⟩ (by omega)
      obtain ⟨t2, S2, t2a, t2b⟩ := SyZ_t b3 c2
      have F2 := fr_trans F1 c2.2.2.2.1
      rw [c1, Option.bind_some]
      obtain ⟨d1, d2, d3⟩ := sz_L sg_then S2 (by simp; omega)
      simp only [List.length_cons, List.length_nil] at d3
      have F3 := fr_trans F2 d2.2.2.2.1
      rw [d1, Option.bind_some, if_pos vb, F3.2 550 (by decide), g5]
      have e3 : gs (sayL [32, 116, 104, 101, 110, 32] σ2) 856 = gs σ 856 := by rw [d2.2.2.2.2.1, c2.2.2.2.2.1, e1]
      obtain ⟨σ4, f1, f2⟩ := RC r1 m m' y (.inr (.inr ⟨.inl t16, a', u', r1, r2, rfl, .inl rfl⟩)) g8 eK1 (eO1 (by decide) (by decide)) (kpl (by decide) (by decide)) _ _ F3 d3 ⟨by rw [e3]; exact sp.1, by rw [e3]; have := sp.2; omega⟩ (by omega)
      obtain ⟨t4, S4, t4a, t4b⟩ := SyZ_t d3 f2
      have F4 := fr_trans F3 f2.2.2.2.1
      rw [f1, Option.bind_some]
      obtain ⟨i1, i2, i3⟩ := sz_L sg_else S4 (by simp; omega)
      simp only [List.length_cons, List.length_nil] at i3
      have F5 := fr_trans F4 i2.2.2.2.1
      rw [i1, Option.bind_some, if_pos vb, F5.2 554 (by decide), g6]
      have e5 : gs (sayL [32, 101, 108, 115, 101, 32] σ4) 856 = gs σ 856 := by rw [i2.2.2.2.2.1, f2.2.2.2.2.1, e3]
      obtain ⟨σ6, j1, j2⟩ := RC r2 m' v z (.inr (.inr ⟨.inl t16, a', u', r1, r2, rfl, .inr rfl⟩)) g9 eK2 (eO2 (by decide) (by decide) (by decide)) (kpr (by decide) (by decide) (by decide) (by decide) (by decide)) _ _ F5 i3 ⟨by rw [e5]; exact sp.1, by rw [e5]; have := sp.2; omega⟩ (by omega)
      refine ⟨σ6, by rw [j1, Option.bind_some], ?_⟩
      have := SyZ_trans (SyZ_trans (SyZ_trans b2 c2) d2) (SyZ_trans (SyZ_trans f2 i2) j2)
      exact this
    rw [if_neg t16] at ht h4 ⊢
    rw [if_neg (by omega)]
    by_cases t17 : t = 17
    rotate_left
    · rw [if_neg t17] at h4
      exact h4.elim
    rw [if_pos t17] at ht h4 ⊢
    rw [exB_0] at ht ⊢
    simp only [List.length_append, List.length_cons, List.length_nil] at ht
    obtain ⟨m, m', x, y, z, g4, g5, g6, g7, g8, g9⟩ := h4
    have gi := XTg_in g7
    have gj := XTg_in g8
    have gk := XTg_in g9
    obtain ⟨k, q1, q2, ⟨q3, q4⟩, q5, q6⟩ := fx3 (by rw [h538, t17]; rfl)
    obtain ⟨nx, nxs⟩ := n17 t17
    unfold T_sayPlain_258
    obtain ⟨b1, b2, b3⟩ := sz_L sg_case S (by simp; omega)
    simp only [List.length_cons, List.length_nil] at b3
    have F1 := fr_trans F b2.2.2.2.1
    rw [b1, Option.bind_some, if_pos vb, vN, F1.2 546 (by decide), g4]
    have e1 : gs (sayL [99, 97, 115, 101, 32] σ) 856 = gs σ 856 := b2.2.2.2.2.1
    obtain ⟨σ2, c1, c2⟩ := RC l lo m x (.inl ⟨t10, t11, rfl⟩) g7 eKl (eOl t10 t11) (kl (by omega) (by omega)) _ _ F1 b3 ⟨by rw [e1]; exact sp.1, by rw [e1]; have := sp.2; omega⟩ (by omega)
    obtain ⟨t2, S2, t2a, t2b⟩ := SyZ_t b3 c2
    have F2 := fr_trans F1 c2.2.2.2.1
    rw [c1, Option.bind_some]
    obtain ⟨d1, d2, d3⟩ := sz_L sg_of S2 (by simp; omega)
    simp only [List.length_cons, List.length_nil] at d3
    rw [d1, Option.bind_some]
    obtain ⟨d1', d2', d3'⟩ := sz_L sg_nil d3 (by simp; omega)
    simp only [List.length_cons, List.length_nil] at d3'
    have F3 := fr_trans (fr_trans F2 d2.2.2.2.1) d2'.2.2.2.1
    rw [d1', Option.bind_some, if_pos vb, F3.2 550 (by decide), g5]
    have e3 : gs (sayL [110, 105, 108, 45, 62] (sayL [32, 111, 102, 32, 123] σ2)) 856 = gs σ 856 := by rw [d2'.2.2.2.2.1, d2.2.2.2.2.1, c2.2.2.2.2.1, e1]
    obtain ⟨σ4, f1, f2⟩ := RC r1 m m' y (.inr (.inr ⟨.inr t17, a', u', r1, r2, rfl, .inl rfl⟩)) g8 eK1 (eO1 (by decide) (by decide)) (kpl (by decide) (by decide)) _ _ F3 d3' ⟨by rw [e3]; exact sp.1, by rw [e3]; have := sp.2; omega⟩ (by omega)
    obtain ⟨t4, S4, t4a, t4b⟩ := SyZ_t d3' f2
    have F4 := fr_trans F3 f2.2.2.2.1
    rw [f1, Option.bind_some]
    obtain ⟨i1, i2, i3⟩ := sz_L sg_cons S4 (by simp; omega)
    simp only [List.length_cons, List.length_nil] at i3
    have F5 := fr_trans F4 i2.2.2.2.1
    rw [i1, Option.bind_some, if_pos vb, F5.2 554 (by decide), q1, t_nmAt F5 (by omega) q3, Option.bind_some]
    obtain ⟨l1, l2, l3⟩ := sz_N (nmT_Z F5 nx) q4 i3 (by omega)
    have F6 := fr_trans F5 l2.2.2.2.1
    rw [l1, Option.bind_some]
    obtain ⟨p1, p2, p3⟩ := sz_b l3 (by omega) 32
    have F7 := fr_trans F6 p2.2.2.2.1
    have w1 : w32 ((k : Int) + 1) = ((k + 1 : Nat) : Int) := (w32_s (by omega) (by omega)).trans (by omega)
    rw [p1, Option.bind_some, if_pos vb, F7.2 554 (by decide), q1, w1, t_nmAt F7 (by omega) q5, Option.bind_some]
    obtain ⟨s1, s2, s3⟩ := sz_N (nmT_Z F7 nxs) q6 p3 (by omega)
    have F8 := fr_trans F7 s2.2.2.2.1
    rw [s1, Option.bind_some]
    obtain ⟨v1, v2, v3⟩ := sz_b s3 (by omega) 45
    rw [v1, Option.bind_some]
    obtain ⟨w1', w2, w3⟩ := sz_b v3 (by omega) 62
    have F9 := fr_trans (fr_trans F8 v2.2.2.2.1) w2.2.2.2.1
    rw [w1', Option.bind_some, if_pos vb, F9.2 558 (by decide), g6]
    have e9 : ∀ τ, τ = say1 (say1 (sayL (nm a.1.2.2.2.2.1) (say1 (sayL (nm a.1.2.2.2.1) (sayL [59, 99, 111, 110, 115, 32] σ4)) 32)) 45) 62 → gs τ 856 = gs σ 856 := fun τ e => by rw [e, w2.2.2.2.2.1, v2.2.2.2.2.1, s2.2.2.2.2.1, p2.2.2.2.2.1, l2.2.2.2.2.1, i2.2.2.2.2.1, f2.2.2.2.2.1, e3]
    have e9' := e9 _ rfl
    obtain ⟨σ6, j1, j2⟩ := RC r2 m' v z (.inr (.inr ⟨.inr t17, a', u', r1, r2, rfl, .inr rfl⟩)) g9 eK2 (eO2 (by decide) (by decide) (by decide)) (kpr (by decide) (by decide) (by decide) (by decide) (by decide)) _ _ F9 w3 ⟨by rw [e9']; exact sp.1, by rw [e9']; have := sp.2; omega⟩ (by omega)
    obtain ⟨t6, S6, t6a, t6b⟩ := SyZ_t w3 j2
    rw [j1, Option.bind_some]
    obtain ⟨z1, z2, z3⟩ := sz_b S6 (by omega) 125
    refine ⟨_, by rw [z1, Option.bind_some], ?_⟩
    have := SyZ_trans (SyZ_trans (SyZ_trans (SyZ_trans (SyZ_trans (SyZ_trans (SyZ_trans (SyZ_trans (SyZ_trans (SyZ_trans (SyZ_trans (SyZ_trans b2 c2) d2) d2') f2) i2) l2) p2) s2) v2) w2) j2) z2
    rw [show [99, 97, 115, 101, 32] ++ exB nm con fam cnm E.2.2.1 E.2.2.2.1 E.2.2.2.2 l [] ++ [32, 111, 102, 32, 123, 110, 105, 108, 45, 62] ++ (exB nm con fam cnm E.2.2.1 E.2.2.2.1 E.2.2.2.2 r1 [] ++ ([59, 99, 111, 110, 115, 32] ++ nm a.1.2.2.2.1 ++ [32] ++ nm a.1.2.2.2.2.1 ++ [45, 62]) ++ exB nm con fam cnm E.2.2.1 E.2.2.2.1 E.2.2.2.2 r2 []) ++ [125] = [99, 97, 115, 101, 32] ++ exB nm con fam cnm E.2.2.1 E.2.2.2.1 E.2.2.2.2 l [] ++ [32, 111, 102, 32, 123] ++ [110, 105, 108, 45, 62] ++ exB nm con fam cnm E.2.2.1 E.2.2.2.1 E.2.2.2.2 r1 [] ++ [59, 99, 111, 110, 115, 32] ++ nm a.1.2.2.2.1 ++ [32] ++ nm a.1.2.2.2.2.1 ++ [45] ++ [62] ++ exB nm con fam cnm E.2.2.1 E.2.2.2.1 E.2.2.2.2 r2 [] ++ [125] by simp]
    exact this
end LP2
