set_option maxRecDepth 100000
/-! THE TWIN SAYS EXS: rows of letters, casts, all but what lies left -/
/-- the letters of a row that is told as a number -/
noncomputable def sg1 (L : Int) (k : Nat) : List Int := if and64 (shr64 L ((8 * k : Nat) : Int)) 255 = 0 then [] else [l2i (and64 (shr64 L ((8 * k : Nat) : Int)) 255)]
noncomputable def sgD (L : Int) : Nat → List Int
  | 0 => sg1 L 0
  | k + 1 => sg1 L (k + 1) ++ sgD L k
/-- a judged ex, with names and numbers -/
def Pf (σ : tS) (n : Nat) (a : XL × Ty × Ty × List Dc) (v : Nat) : Prop := Pe σ n a v ∧ Fx σ a.1 v
abbrev XTf (σ : tS) (n : Nat) (e : Et) (lo hi v : Nat) : Prop := XTg Prod.fst (Pf σ n) σ n e lo hi v
/-- its names and types can be said -/
def eO (σ : tS) (ins : List INs) (nm con fam : Nat → List Int) : Et → Prop
  | .leaf => True
  | .inner t a _ l r => (t ≠ 0 → a.2.2.1 ≠ .leaf → tOn nm con fam σ a.2.1 ∧ tOn nm con fam σ a.2.2.1) ∧ (t = 10 ∨ t = 14 ∨ t = 15 → lbO σ ins nm con fam a.1) ∧ (t = 14 ∨ t = 15 → lbT a.1 ≠ .leaf ∧ ∃ p, a.1.2.2.2.2.2[0]? = some p) ∧ (t = 17 → nmT σ a.1.2.2.2.1 (nm a.1.2.2.2.1) ∧ nmT σ a.1.2.2.2.2.1 (nm a.1.2.2.2.2.1)) ∧ (t ≠ 10 → t ≠ 11 → eO σ ins nm con fam l) ∧ (t ≠ 10 → t ≠ 11 → t ≠ 14 → eO σ ins nm con fam r)
section LPL
variable {E : JE} {ins : List INs} {gv : List GVs} {B n : Nat} {σ σ0 τ : tS} {nm con fam cnm : Nat → List Int} {Q Q' : Ty → Prop} {t : Nat}
theorem sg1_le {L : Int} {k : Nat} : (sg1 L k).length ≤ 1 := by
  unfold sg1
  split
  · exact Nat.zero_le _
  · exact Nat.le_refl _
theorem sgD_le {L : Int} : ∀ {k : Nat}, (sgD L k).length ≤ k + 1
  | 0 => sg1_le
  | k + 1 => by
    show (sg1 L (k + 1) ++ sgD L k).length ≤ _
    rw [List.length_append]
    have := sg1_le (L := L) (k := k + 1)
    have := sgD_le (L := L) (k := k)
    omega
theorem t_says3 {L : Int} : ∀ (k : Nat) (σ : tS) (t : Nat), k < 8 → SkT σ t → t + k < 1900000000 → om_loop (T_says_3s L) (((8 * k : Nat) : Int), σ) = some (sayL (sgD L k) σ) := by
  have one : ∀ (k : Nat) (σ : tS) (t : Nat), k < 8 → SkT σ t → T_says_3s L (((8 * k : Nat) : Int), σ) = some (.inl (((8 * k : Nat) : Int) + (-8), sayL (sg1 L k) σ)) := by
    intro k σ t hk S
    unfold T_says_3s sg1
    simp only
    rw [if_neg (by omega), w32_s (by omega) (by omega)]
    by_cases c : and64 (shr64 L ((8 * k : Nat) : Int)) 255 = 0
    · rw [if_pos c, if_pos c]
      rfl
    · rw [if_neg c, if_neg c, t_say S, Option.bind_some]
      rfl
  intro k
  induction k with
  | zero =>
    intro σ t hk S ht
    rw [om_loop_in (one 0 σ t (by omega) S)]
    refine om_loop_out ?_
    unfold T_says_3s
    simp only
    rw [if_pos (by omega)]
    rfl
  | succ k ih =>
    intro σ t hk S ht
    have l1 := sg1_le (L := L) (k := k + 1)
    rw [om_loop_in (one (k + 1) σ t hk S), show ((8 * (k + 1) : Nat) : Int) + (-8) = ((8 * k : Nat) : Int) by omega]
    have S2 := sayL_t (L := sg1 L (k + 1)) S (by omega)
    rw [ih _ _ (by omega) S2 (by omega)]
    show some (sayL (sgD L k) (sayL (sg1 L (k + 1)) σ)) = some (sayL (sg1 L (k + 1) ++ sgD L k) σ)
    rw [sayL_app]
theorem t_says {L : Int} {W : List Int} (e : sgD L 7 = W) (S : SkT σ t) (ht : t < 1800000000) : T_says L σ = some (sayL W σ) := by
  unfold T_says
  have := t_says3 (L := L) 7 σ t (by omega) S (by omega)
  have h : om_loop (T_says_3s L) (56, σ) = some (sayL (sgD L 7) σ) := this
  rw [h, Option.bind_some, e]
theorem sg_case : sgD 426836714784 7 = [99, 97, 115, 101, 32] := by decide
theorem sg_of : sgD 139307917435 7 = [32, 111, 102, 32, 123] := by decide
theorem sg_nil : sgD 474215099710 7 = [110, 105, 108, 45, 62] := by decide
theorem sg_cons : sgD 65298257310496 7 = [59, 99, 111, 110, 115, 32] := by decide
theorem sg_let : sgD 1818588192 7 = [108, 101, 116, 32] := by decide
theorem sg_in : sgD 543780384 7 = [32, 105, 110, 32] := by decide
theorem sg_if : sgD 6907424 7 = [105, 102, 32] := by decide
theorem sg_then : sgD 35684339772960 7 = [32, 116, 104, 101, 110, 32] := by decide
theorem sg_else : sgD 35619983287584 7 = [32, 101, 108, 115, 101, 32] := by decide
/-- a row of letters, then on -/
theorem sz_L {L : Int} {W : List Int} (e : sgD L 7 = W) (S : SkT σ t) (ht : t + W.length < 1800000000) : T_says L σ = some (sayL W σ) ∧ SyZ σ W (sayL W σ) ∧ SkT (sayL W σ) (t + W.length) := ⟨t_says e S (by omega), SyZ_of (SyW_of (SyO_L S (by omega))), sayL_t S (by omega)⟩
theorem sz_N {w : Nat} (H : nmT σ w (nm w)) (hw : w < 2100) (S : SkT σ t) (ht : t + (nm w).length < 1800000000) : T_sayName (w : Int) σ = some (sayL (nm w) σ) ∧ SyZ σ (nm w) (sayL (nm w) σ) ∧ SkT (sayL (nm w) σ) (t + (nm w).length) := ⟨t_sayName H hw S (by omega), SyZ_of (SyW_of (SyO_L S (by omega))), sayL_t S (by omega)⟩
theorem eK_mono (h : ∀ X, Q X → Q' X) : ∀ {e : Et}, eK E Q e → eK E Q' e
  | .leaf, _ => trivial
  | .inner t a u l r, k => by
    obtain ⟨k1, k2, k3, k4⟩ := k
    refine ⟨fun w => ?_, k2, eK_mono h k3, eK_mono h k4⟩
    obtain ⟨a0, a1, a2, a3⟩ := k1 w
    refine ⟨a0, a1, ?_, fun w => ?_⟩
    · rcases a2 with a2 | ⟨b1, b2, b3⟩
      · exact .inl a2
      · exact .inr ⟨b1, b2, oneK_mono h b3⟩
    · have gm : ∀ {θ : List (Nat × Ty)} {l : List GVs} {Ds : List Dc}, gvK E Q θ l Ds → gvK E Q' θ l Ds := by
        intro θ l
        induction l with
        | nil =>
          intro Ds k
          cases Ds with
          | nil => trivial
          | cons D Ds => exact k.elim
        | cons g l ih =>
          intro Ds k
          cases Ds with
          | nil => exact k.elim
          | cons D Ds =>
            refine ⟨?_, ih k.2⟩
            have k1 := k.1
            by_cases c : g.1 < 100
            · rw [if_pos c] at k1 ⊢
              exact ⟨k1.1, dcK_mono h k1.2⟩
            · rw [if_neg c] at k1 ⊢
              exact ⟨k1.1, oneK_mono h k1.2.1, ⟨h _ k1.2.2.1.1, h _ k1.2.2.1.2⟩, k1.2.2.2⟩
      rcases a3 w with b | ⟨b1, b2, b3⟩
      · exact .inl b
      · refine .inr ⟨b1, b2, ?_⟩
        rcases b3 with ⟨c1, f, c2, c3⟩ | ⟨c1, m, D, c2, c3, c4, c5⟩ | c
        · exact .inl ⟨c1, f, c2, gm c3⟩
        · exact .inr (.inl ⟨c1, m, D, c2, c3, c4, dcK_mono h c5⟩)
        · exact .inr (.inr c)
theorem eO_Z (F : fr WZS WZA σ τ) : ∀ {e : Et}, eO σ ins nm con fam e → eO τ ins nm con fam e
  | .leaf, _ => trivial
  | .inner _ _ _ _ _, ⟨a1, b, b', c, d, e⟩ => ⟨fun z w => ⟨tOn_Z F (a1 z w).1, tOn_Z F (a1 z w).2⟩, fun w => lbO_Z F (b w), b', fun w => ⟨nmT_Z F (c w).1, nmT_Z F (c w).2⟩, fun z1 z2 => eO_Z F (d z1 z2), fun z1 z2 z3 => eO_Z F (e z1 z2 z3)⟩
theorem XTf_Z {e : Et} {lo hi v : Nat} (F : fr WZS WZA σ τ) (H : XTf σ n e lo hi v) : XTf τ n e lo hi v := XTg_keepN (frN_Z F) (tx_Z F) (lo0 := lo) (hi0 := hi) (fun a x _ _ p => ⟨⟨by rw [F.2 842 (by decide)]; exact tyT_Z F p.1.1, by rw [F.2 846 (by decide)]; exact tyT_Z F p.1.2⟩, Fx_keepN (frN_Z F) p.2⟩) e lo hi v (Nat.le_refl _) (Nat.le_refl _) H
/-- the end of a cast -/
def cstB (nm con fam : Nat → List Int) (ins : List INs) (gv : List GVs) (T C : Ty) : List Int := if lfB C = true then [] else [124, 62] ++ oneB nm con fam ins gv T C ++ [41]
theorem t_sayCast (V : EnvT σ0 n E B nm con fam cnm) {v : Nat} {T C : Ty} (hv : v < 4200) (cT : tyT σ0 n T (ga σ0 842 v)) (cC : tyT σ0 n C (ga σ0 846 v)) (okT : tOk1 E.2.2.2.1 T) (K : csK E (QN σ0 n) T C) (oTC : C ≠ .leaf → tOn nm con fam σ0 T ∧ tOn nm con fam σ0 C) {m : Nat} : RZ σ0 m T_sayCast (v : Int) (cstB nm con fam E.2.2.2.1 E.2.2.2.2 T C) := by
  intro σ t F S _ ht
  have vN : ((v : Int)).toNat = v := by omega
  unfold T_sayCast
  unfold cstB at ht ⊢
  rw [if_pos (by omega), vN, F.2 846 (by decide)]
  rcases K with c | ⟨okC, ne, ok⟩
  · rw [if_pos (lfB_t.mpr c), if_neg (fun z => z ((tyT_not cC).mp c))]
    exact ⟨σ, rfl, SyZ_of (SyW_of SyO_nil)⟩
  · have nl : ¬ lfB C = true := fun z => okC.1.1 (lfB_t.mp z)
    obtain ⟨oT, oC⟩ := oTC okC.1.1
    rw [if_neg nl] at ht ⊢
    rw [if_pos (fun z => okC.1.1 ((tyT_not cC).mpr z))]
    simp only [List.length_append, List.length_cons, List.length_nil] at ht
    obtain ⟨a1, a2, a3⟩ := sz_b S (by omega) 124
    rw [a1, Option.bind_some]
    obtain ⟨b1, b2, b3⟩ := sz_b a3 (by omega) 62
    have F2 := fr_trans F (fr_trans a2.2.2.2.1 b2.2.2.2.1)
    rw [b1, Option.bind_some, if_pos (by omega), F2.2 842 (by decide), F2.2 846 (by decide)]
    have V2 := EnvT_Z F2 V
    have := V2.2.2.1.1.1.1
    have := V2.2.2.1.2
    have k2 : kn2 (say1 (say1 σ 124) 62) n E.2.2.2.1 E.2.2.2.2 nm con fam T C := ⟨⟨okT.1.1, okC.1.1⟩, ⟨tyOk_GTy okT.1 okT.2 (tOn_Z F2 oT), tyOk_GTy okC.1 okC.2 (tOn_Z F2 oC)⟩, fun z => absurd z ne, oneK_kn (oneK_mono (fun X hX => QN_Z F2 hX) ok)⟩
    obtain ⟨σ3, c1, c2⟩ := t_sayOne V2.2.1 (KW_J V2.1.1 V2.1.2) (by omega) k2 (tyT_Z F2 cT) (tyT_Z F2 cC) _ _ (fr_refl _ _ _) b3 (by omega)
    have c1' : T_sayOne (ga σ0 842 v) (ga σ0 846 v) (say1 (say1 σ 124) 62) = some σ3 := c1
    obtain ⟨t3, S3, t3a, t3b⟩ := SyW_t b3 c2
    rw [c1', Option.bind_some]
    obtain ⟨d1, d2, d3⟩ := sz_b S3 (by omega) 41
    exact ⟨_, by rw [d1, Option.bind_some], SyZ_trans (SyZ_trans (SyZ_trans a2 b2) (SyZ_of c2)) d2⟩
end LPL
