set_option maxRecDepth 100000
/-! THE TWIN SAYS DICTIONARIES -/
section LTD
variable {ab : List (Option Nat)} {ins : List INs} {gv : List GVs} {B n : Nat} {σ0 : tS} {nm con fam cnm : Nat → List Int}
theorem subT_ty : ∀ {T X : Ty} {t : Int}, subT X T → tyT σ0 n T t → QN σ0 n X
  | .leaf, X, t, h, c => by
    have e : X = .leaf := h
    rw [e]; exact ⟨t, c⟩
  | .inner k w u l r, X, t, h, c => by
    obtain ⟨m, c1, c2, c3, c4, c5, c6⟩ := id c
    rcases h with h | h | h
    · rw [h]; exact ⟨t, c⟩
    · exact subT_ty h c5
    · exact subT_ty h c6
/-- what is worked out, worked out again -/
theorem knT_self {f : Nat} {T u : Ty} {t : Int} {Q : Ty → Prop} (kn : knT ins gv Q f T u) (cu : tyT σ0 n u t) : knT ins gv (QN σ0 n) 130 u u := by
  obtain ⟨b, hb, nf, fit⟩ : ∃ b, b ≤ 20 ∧ nmf ins gv u b ∧ tszW u ≤ 60 := by
    by_cases th : thB T = true
    · obtain ⟨D, bg, hw, _⟩ := kn
      have e := hw (0, 0, [])
      have hb : bg < 20 := by
        cases f with
        | zero => cases e
        | succ f => exact Classical.byContradiction (fun q => by
          rw [wk_f, if_pos th, if_pos (by omega)] at e
          cases e)
      have nf := wk_nmf (c := 1) (Nat.le_refl _) (by omega) e
      rw [if_neg (by decide)] at nf
      exact ⟨20 - bg, by omega, nf⟩
    · have eu := knT_no kn th
      obtain ⟨D, bg, hw, _⟩ := kn
      have e := hw (0, 0, [])
      cases f with
      | zero => cases e
      | succ f =>
        rw [wk_f, if_neg th] at e
        obtain ⟨_, _, fit⟩ := fitO_some (Option.some.inj e)
        refine ⟨0, by omega, ?_, by rw [eu]; exact fit⟩
        rw [eu]
        cases T with
        | leaf => trivial
        | inner k w x l r => exact Bool.eq_false_iff.mpr th
  obtain ⟨D, d1, d2⟩ := nmf_wk (c := 1) (Nat.le_refl _) (f := 130) (bg := 0) nf fit (.inr (by omega)) (by omega)
  exact ⟨D, 0, d2, fun X hX => subT_ty (d1 X hX) cu⟩
/-- one after another, with signs ahead -/
def sepL : Nat → List (List Int) → List Int
  | _, [] => []
  | k, a :: L => (if k = 0 then 123 else 44) :: a ++ sepL (k + 1) L
theorem comB_sep : ∀ (a : List Int) (L : List (List Int)) (k : Nat), comB (a :: L) = a ++ sepL (k + 1) L
  | a, [], k => by
    show a = a ++ []
    simp
  | a, b :: L, k => by
    show a ++ [44] ++ comB (b :: L) = a ++ ((if k + 1 = 0 then 123 else 44) :: b ++ sepL (k + 1 + 1) L)
    rw [comB_sep b L (k + 1), if_neg (by omega)]
    simp
theorem dcsB_i {t : Nat} {a : Nat × Nat × Ty × Ty} {u : Unit} {cs nx : Dc} : dcsB nm con fam cnm ab ins gv (.inner t a u cs nx) = evB nm con fam cnm ab ins gv (.inner t a u cs nx) :: dcsB nm con fam cnm ab ins gv nx := rfl
theorem dcsB_dnx {D b : Dc} (h : D ≠ .leaf) : dcsB nm con fam cnm ab ins gv (dnx D b) = evB nm con fam cnm ab ins gv D :: dcsB nm con fam cnm ab ins gv b := by
  cases D with
  | leaf => exact absurd rfl h
  | inner t a u cs nx => rfl
/-- conditions in a row -/
theorem t_dcs (P : PGT σ0 n ab ins) {r : Int → Int → tS → Option tS} {rr : Nat → Ty → Option Dc} {i m : Nat} {d : INs} (ed : ins[i]? = some d) (hm : m < 126000) {u : Ty} {l1 l2 : Int} (IH : ∀ p ∈ d.2.2.2.1, ∀ D, rr p.1 (if p.2 = 0 then tL u else tR' u) = some D → D ≠ .leaf ∧ RW σ0 (fun y σ => r (p.1 : Int) y σ) (if p.2 = 0 then ga σ0 510 m else ga σ0 514 m) (evB nm con fam cnm ab ins gv D)) : ∀ (l : List (Nat × Nat)) (k : Nat) (cs : Dc) (σ : tS) (t : Nat), d.2.2.2.1.drop k = l → k ≤ d.2.2.2.1.length → dcL rr u l = some cs → fr WYS WYA σ0 σ → SkT σ t → t + (sepL k (dcsB nm con fam cnm ab ins gv cs)).length < 1000000000 → ∃ σ', om_loop (T_sayDictionary_114s r l1 l2 (m : Int) (i : Int)) (((4 * i + k : Nat) : Int), σ) = some σ' ∧ SyW σ (sepL k (dcsB nm con fam cnm ab ins gv cs)) σ'
  | [], k, cs, σ, t, el, hk, ec, F, S, ht => by
    obtain ⟨_, _, _, ⟨a6, a7, a8⟩, _⟩ := P.2.2.2 i d ed
    have i20 := P.2.2.1
    have il := (List.getElem?_eq_some_iff.mp ed).1
    have kl : d.2.2.2.1.length ≤ k := List.drop_eq_nil_iff.mp el
    have ecs : cs = .leaf := (Option.some.inj ec).symm
    rw [ecs]
    refine ⟨σ, om_loop_out ?_, SyW_of SyO_nil⟩
    unfold T_sayDictionary_114s
    simp only
    rw [if_pos (by omega), show ((i : Int)).toNat = i by omega, F.2 710 (by decide), a6, w32_s (x := 4 * (i : Int)) (by omega) (by omega), w32_s (by omega) (by omega), if_pos (by omega)]
  | p :: l, k, cs, σ, t, el, hk, ec, F, S, ht => by
    obtain ⟨_, _, _, ⟨a6, a7, a8⟩, _⟩ := P.2.2.2 i d ed
    have i20 := P.2.2.1
    have il := (List.getElem?_eq_some_iff.mp ed).1
    have kl : k < d.2.2.2.1.length := Classical.byContradiction (fun z => by
      rw [List.drop_eq_nil_iff.mpr (by omega)] at el
      cases el)
    have ek := List.drop_eq_getElem_cons kl
    rw [el] at ek
    injection ek with ek1 ek2
    have ep : d.2.2.2.1[k]? = some p := by rw [List.getElem?_eq_getElem kl, ek1]
    obtain ⟨g1, g2, g3, g4⟩ := a8 k p ep
    have ec' : (rr p.1 (if p.2 = 0 then tL u else tR' u)).bind (fun a => (dcL rr u l).map fun b => dnx a b) = some cs := ec
    cases q1 : rr p.1 (if p.2 = 0 then tL u else tR' u) with
    | none => rw [q1] at ec'; cases ec'
    | some D =>
    rw [q1, Option.bind_some] at ec'
    cases q2 : dcL rr u l with
    | none => rw [q2] at ec'; cases ec'
    | some cs' =>
    rw [q2] at ec'
    have ecs : cs = dnx D cs' := (Option.some.inj ec').symm
    obtain ⟨Dn, R⟩ := IH p (List.mem_of_getElem? ep) D q1
    rw [ecs, dcsB_dnx Dn] at ht ⊢
    have es : sepL k (evB nm con fam cnm ab ins gv D :: dcsB nm con fam cnm ab ins gv cs') = [if k = 0 then 123 else 44] ++ evB nm con fam cnm ab ins gv D ++ sepL (k + 1) (dcsB nm con fam cnm ab ins gv cs') := rfl
    rw [es] at ht ⊢
    simp only [List.length_append, List.length_cons, List.length_nil] at ht
    obtain ⟨b1, b2, b3⟩ := sw_b S (by omega) (if k = 0 then 123 else 44)
    have F1 := fr_trans F b2.2.2.2
    obtain ⟨σ2, c1, c2⟩ := R _ _ F1 b3 (by omega)
    obtain ⟨t2, S2, t2a, t2b⟩ := SyW_t b3 c2
    have F2 := fr_trans F1 c2.2.2.2
    have t148 : T_sayDictionary_148 r l1 l2 (m : Int) (i : Int) ((4 * i + k : Nat) : Int) (if k = 0 then 123 else 44) σ = some (.inl (((4 * i + (k + 1) : Nat) : Int), σ2)) := by
      unfold T_sayDictionary_148
      rw [b1, Option.bind_some, if_pos (by omega), show (((4 * i + k : Nat) : Int)).toNat = 4 * i + k by omega, F1.2 718 (by decide), F1.2 714 (by decide), g1, g2, show ((m : Int)).toNat = m by omega]
      unfold T_sayDictionary_184
      have wk : w32 (((4 * i + k : Nat) : Int) + 1) = ((4 * i + (k + 1) : Nat) : Int) := (w32_s (by omega) (by omega)).trans (by omega)
      by_cases z : p.2 = 0
      · rw [if_pos z] at c1
        have c1 : r (p.1 : Int) (ga σ0 510 m) (say1 σ (if k = 0 then 123 else 44)) = some σ2 := c1
        rw [if_neg (by omega), if_pos (by omega), F1.2 510 (by decide), c1, Option.bind_some, wk]
      · rw [if_neg z] at c1
        have c1 : r (p.1 : Int) (ga σ0 514 m) (say1 σ (if k = 0 then 123 else 44)) = some σ2 := c1
        rw [if_pos (by omega), if_pos (by omega), F1.2 514 (by decide), c1, Option.bind_some, wk]
    have st : T_sayDictionary_114s r l1 l2 (m : Int) (i : Int) (((4 * i + k : Nat) : Int), σ) = some (.inl (((4 * i + (k + 1) : Nat) : Int), σ2)) := by
      unfold T_sayDictionary_114s
      simp only
      rw [if_pos (by omega), show ((i : Int)).toNat = i by omega, F.2 710 (by decide), a6, w32_s (x := 4 * (i : Int)) (by omega) (by omega), w32_s (by omega) (by omega), if_neg (by omega)]
      by_cases z : k = 0
      · rw [if_pos z] at t148
        rw [if_neg (by omega)]
        exact t148
      · rw [if_neg z] at t148
        rw [if_pos (by omega)]
        exact t148
    obtain ⟨σ3, d1, d2⟩ := t_dcs P ed hm (l1 := l1) (l2 := l2) IH l (k + 1) cs' σ2 t2 ek2.symm (by omega) q2 F2 S2 (by omega)
    exact ⟨σ3, by rw [om_loop_in st]; exact d1, SyW_trans (SyW_trans b2 c2) d2⟩
/-- with a cast -/
def csB (nm con fam cnm : Nat → List Int) (ins : List INs) (gv : List GVs) (c : Nat) (u T : Ty) (core : List Int) : List Int := if tyE u T = true then core else 40 :: core ++ [124, 62] ++ cnm c ++ [40] ++ oneB nm con fam ins gv u T ++ [41, 41]
/-- in braces -/
def cosB : List (List Int) → List Int
  | [] => []
  | a :: l => 123 :: comB (a :: l) ++ [125]
theorem evB_0 {j n : Nat} {u T : Ty} {x : Unit} {cs nx : Dc} {g : GVs} (e : gv[j]? = some g) : evB nm con fam cnm ab ins gv (.inner 0 (j, n, u, T) x cs nx) = csB nm con fam cnm ins gv ((upA ab n g.1).getD 0) u T (gvBy cnm ab g.1 j n) := by
  unfold evB csB
  simp only [dcsB, e, List.getElem?_cons_zero, Option.getD_some]
  try rfl
theorem evB_1 {i c : Nat} {u T : Ty} {x : Unit} {cs nx : Dc} : evB nm con fam cnm ab ins gv (.inner 1 (i, c, u, T) x cs nx) = csB nm con fam cnm ins gv c u T (105 :: numB i ++ prtB nm con fam u ++ cosB (dcsB nm con fam cnm ab ins gv cs)) := by
  unfold evB csB
  cases h : dcsB nm con fam cnm ab ins gv cs with
  | nil =>
    simp only [dcsB, h, List.getElem?_cons_zero, Option.getD_some]
    try rfl
  | cons a l =>
    simp only [dcsB, h, List.getElem?_cons_zero, Option.getD_some]
    try rfl
theorem t_csB (I : InO σ0 nm con fam ins gv B) (K0 : KW σ0 n ab ins gv) (hn : n + B < 126000) {c : Nat} {T u : Ty} {x y : Int} {r : Int → Int → tS → Option tS} {core : List Int} (hc : clN σ0 cnm c) (kn : kn1 σ0 n ins gv T u) (hT : T ≠ .leaf) (gT : GTy σ0 ins nm con fam T) (cx : tyT σ0 n T x) (cy : tyT σ0 n u y) (HC : ∀ (σ : tS) (t : Nat), fr WYS WYA σ0 σ → SkT σ t → t + core.length < 1000000000 → ∃ σ', T_sayDictionary_29 r (c : Int) x y σ = T_sayDictionary_199 r (c : Int) x y σ' ∧ SyW σ core σ') : RW σ0 (fun z σ => T_sayDictionaryB r (c : Int) z σ) x (csB nm con fam cnm ins gv c u T core) := by
  intro σ t F S ht
  obtain ⟨gu, hu⟩ := kn_good I (by decide) kn hT gT
  show ∃ σ', T_sayDictionaryB r (c : Int) x σ = some σ' ∧ _
  unfold T_sayDictionaryB
  by_cases ci : gs σ 904 ≤ gs σ 908
  rotate_left
  · rw [if_neg ci]
    exact ⟨σ, rfl, SyW_skip ci⟩
  rw [if_pos ci]
  obtain ⟨t', σ1, a1, a2, a3, a4, a5⟩ := t_outW I.1.1 I.1.2.1 I.1.2.2 (KW_W F K0) (Nat.le_refl _) kn (fun X hX => ⟨_, tyT_W F hX.choose_spec⟩) (tyT_W F cx) hT gT.2.1 gT.2.2.1 hn
  have F1 := fr_trans F a2.2.2.2
  obtain ⟨t1, S1, t1a, t1b⟩ := SyW_t S a2
  have t1b' : t1 ≤ t := t1b
  have ey : t' = y := tyT_inj (KW_W F1 K0).1.1 a3 (tyT_W F1 cy)
  subst ey
  rw [a1, Option.bind_some]
  show ∃ σ', (if t' = x then _ else _) = some σ' ∧ _
  unfold csB at ht ⊢
  by_cases e : u = T
  · rw [if_pos (tyE_iff.mpr e)] at ht ⊢
    have ex := a4.mpr e
    rw [if_pos ex]
    obtain ⟨σ2, b1, b2⟩ := HC σ1 t1 F1 S1 (by omega)
    refine ⟨σ2, ?_, SyW_trans a2 b2⟩
    show T_sayDictionary_29 r (c : Int) x t' σ1 = _
    rw [b1]
    unfold T_sayDictionary_199
    rw [if_pos ex]
  · rw [if_neg (fun z => e (tyE_iff.mp z))] at ht ⊢
    have ex : ¬ t' = x := fun z => e (a4.mp z)
    simp only [List.length_append, List.length_cons, List.length_nil] at ht
    rw [if_neg ex]
    show ∃ σ', (T_say 40 σ1).bind _ = some σ' ∧ _
    obtain ⟨p1, p2, p3⟩ := sw_b S1 (by omega) 40
    have F2 := fr_trans F1 p2.2.2.2
    rw [p1, Option.bind_some]
    obtain ⟨σ2, b1, b2⟩ := HC _ _ F2 p3 (by omega)
    obtain ⟨t2, S2, t2a, t2b⟩ := SyW_t p3 b2
    have F3 := fr_trans F2 b2.2.2.2
    show ∃ σ', T_sayDictionary_29 r (c : Int) x t' (say1 σ1 40) = some σ' ∧ _
    rw [b1]
    unfold T_sayDictionary_199
    rw [if_neg ex]
    obtain ⟨c1, c2, c3⟩ := sw_b S2 (by omega) 124
    rw [c1, Option.bind_some]
    obtain ⟨d1, d2, d3⟩ := sw_b c3 (by omega) 62
    have F4 := fr_trans F3 (fr_trans c2.2.2.2 d2.2.2.2)
    rw [d1, Option.bind_some, t_sayClass (clN_W F4 hc) d3 (by omega), Option.bind_some]
    have f2 := SyW_of (SyO_L (L := cnm c) d3 (by omega))
    have S5 := sayL_t (L := cnm c) d3 (by omega)
    obtain ⟨g1, g2, g3⟩ := sw_b S5 (by omega) 40
    have F5 := fr_trans F4 (fr_trans f2.2.2.2 g2.2.2.2)
    rw [g1, Option.bind_some]
    have k2 : kn2 σ0 n ins gv nm con fam u T := ⟨⟨hu, hT⟩, ⟨gu, gT⟩, fun z => absurd z e, fun _ => ⟨u, knT_self kn cy, fun _ => kn⟩⟩
    obtain ⟨σ6, h1, h2⟩ := t_sayOne I K0 hn k2 cy cx _ _ F5 g3 (by omega)
    have h1' : T_sayOne t' x _ = some σ6 := h1
    obtain ⟨t6, S6, t6a, t6b⟩ := SyW_t g3 h2
    rw [h1', Option.bind_some]
    obtain ⟨i1, i2, i3⟩ := sw_b S6 (by omega) 41
    rw [i1, Option.bind_some]
    obtain ⟨j1, j2, j3⟩ := sw_b i3 (by omega) 41
    refine ⟨_, by rw [j1, Option.bind_some], ?_⟩
    have := SyW_trans (SyW_trans (SyW_trans (SyW_trans (SyW_trans (SyW_trans (SyW_trans (SyW_trans (SyW_trans a2 p2) b2) c2) d2) f2) g2) h2) i2) j2
    rw [show 40 :: core ++ [124, 62] ++ cnm c ++ [40] ++ oneB nm con fam ins gv u T ++ [41, 41] = [] ++ [40] ++ core ++ [124] ++ [62] ++ cnm c ++ [40] ++ oneB nm con fam ins gv u T ++ [41] ++ [41] by simp]
    exact this
/-- A DICTIONARY IS SAID -/
theorem t_sayDictD (I : InO σ0 nm con fam ins gv B) (K0 : KW σ0 n ab ins gv) (hn : n + B < 126000) (hg : ∀ g ∈ gv, g.1 < 100 → g.1 < ab.length) (hc : ∀ k, k < ab.length → clN σ0 cnm k) : ∀ (f c : Nat) (T : Ty) (D : Dc) (x : Int) (f1 : Nat), f ≤ f1 → dcK ab ins gv (QN σ0 n) f c T → dcT ab ins gv f c T = some D → c < ab.length → T ≠ .leaf → GTy σ0 ins nm con fam T → tyT σ0 n T x → D ≠ .leaf ∧ RW σ0 (fun y σ => T_sayDictionaryD f1 (c : Int) y σ) x (evB nm con fam cnm ab ins gv D)
  | 0, _, _, _, _, _, _, k, _, _, _, _, _ => k.elim
  | f + 1, c, T, D, x, f1, hf, k, e, hcl, hT, gT, cx => by
    obtain ⟨u, kn, _, hcn⟩ := k
    obtain ⟨f1', rfl⟩ : ∃ a, f1 = a + 1 := ⟨f1 - 1, by omega⟩
    obtain ⟨gu, hu⟩ := kn_good I (by decide) kn hT gT
    -- the dictionary
    have ed : dcU ab ins gv (dcT ab ins gv f) c T u = some D := by
      obtain ⟨D0, hw, _⟩ := knT_130 (Nat.le_refl _) kn
      obtain ⟨D1, d1, _, w0⟩ := wk_st (hw (0, 0, []))
      have w := w0 0 0 (0, 0, []) (by decide) (by decide) (by decide)
      have e' : (wk 0 ins gv 130 false 0 (0, 0, []) T).bind (fun a => a.bind fun p => dcU ab ins gv (dcT ab ins gv f) c T p.1) = some D := e
      rw [w] at e'
      exact e'
    have n126 : n ≤ 126000 := by omega
    -- the number of what it is worked out to
    obtain ⟨t', σ', a1, a2, a3, a4, a5⟩ := t_outW I.1.1 I.1.2.1 I.1.2.2 K0 (Nat.le_refl _) kn (fun X hX => hX) cx hT gT.2.1 gT.2.2.1 hn
    have cu : tyT σ0 n u t' := tyT_W (fr_symm a2.2.2.2) a3
    have wu := gu.1
    have fitu := knT_fit I kn hT gT
    rcases u with ⟨k, w, z, l, rr⟩ | _
    rotate_left
    · exact absurd rfl hu
    obtain ⟨m, c1, c2, c3, c4, c5, c6⟩ := id cu
    subst c1
    have rg : (0 : Int) ≤ (m : Int) ∧ (m : Int) < 126000 := by omega
    have mN : ((m : Int)).toNat = m := by omega
    rw [dcU_inner] at ed
    by_cases k0 : k = 0
    · rw [if_pos k0] at ed
      cases q1 : gCl ab gv c w with
      | none => rw [q1] at ed; cases ed
      | some j =>
      rw [q1, Option.bind_some] at ed
      cases q2 : gv[j]? with
      | none => rw [q2] at ed; cases ed
      | some g =>
      rw [q2, Option.bind_some] at ed
      cases q3 : stpA ab 9 g.1 c with
      | none => rw [q3] at ed; cases ed
      | some s =>
      rw [q3] at ed
      have eD : D = .inner 0 (j, s, .inner k w z l rr, T) () .leaf .leaf := (Option.some.inj ed).symm
      have jl := (List.getElem?_eq_some_iff.mp q2).1
      have g4 := I.2.1.2.1
      have eB : evB nm con fam cnm ab ins gv D = csB nm con fam cnm ins gv c (.inner k w z l rr) T (gvBy cnm ab g.1 j s) := by
        have ec : (upA ab s g.1).getD 0 = c := by rw [(stpA_up q3).1]; rfl
        rw [eD, evB_0 q2, ec]
      refine ⟨by rw [eD]; exact fun z => (by cases z), ?_⟩
      rw [eB]
      refine t_csB I K0 hn (hc c hcl) kn hT gT cx cu (fun σ t F S ht => ?_)
      refine ⟨_, ?_, SyW_of (SyO_L S (by omega))⟩
      have b3 := (K0.2.2.2.2 j g q2)
      unfold T_sayDictionary_29
      rw [if_pos rg, mN, F.2 502 (by decide), c3, if_neg (by omega), if_pos rg, F.2 506 (by decide), c4, t_givenOf (KW_W F K0).2.1 (KW_W F K0).2.2 hg c w, q1, Option.bind_some]
      show (if 0 ≤ (j : Int) ∧ (j : Int) < 4 then _ else _) = _
      rw [if_pos (by omega)]
      show (T_sayAbove (ga σ 798 ((j : Int)).toNat) (c : Int) (j : Int) σ).bind _ = _
      rw [show ((j : Int)).toNat = j by omega, F.2 798 (by decide), b3.1, t_sayAbove K0.2.1 q3 hc hcl F S (by omega) ht, Option.bind_some]
    · rw [if_neg k0] at ed
      by_cases k1 : k = 1
      rotate_left
      · rw [if_neg k1] at ed; cases ed
      rw [if_pos k1] at ed
      cases q1 : iOf ins c w with
      | none => rw [q1] at ed; cases ed
      | some i =>
      rw [q1, Option.bind_some] at ed
      cases q2 : ins[i]? with
      | none => rw [q2] at ed; cases ed
      | some d =>
      rw [q2, Option.bind_some] at ed
      cases q3 : dcL (dcT ab ins gv f) (.inner k w z l rr) d.2.2.2.1 with
      | none => rw [q3] at ed; cases ed
      | some cs =>
      rw [q3] at ed
      have eD : D = .inner 1 (i, c, .inner k w z l rr, T) () cs .leaf := (Option.some.inj ed).symm
      have il := (List.getElem?_eq_some_iff.mp q2).1
      have i20 := I.2.1.1
      obtain ⟨d0, i1, i2⟩ := ixF_some q1
      have ed0 : d0 = d := Option.some.inj (i1.symm.trans q2)
      have i2' : d.1 = c ∧ d.2.1 = w := by rw [ed0] at i2; simpa using i2
      obtain ⟨_, _, ⟨_, a4', _⟩, ⟨a6, a7, a8⟩, _⟩ := K0.2.1.2.2.2 i d q2
      generalize hcs : dcsB nm con fam cnm ab ins gv cs = L at *
      have eB : evB nm con fam cnm ab ins gv D = csB nm con fam cnm ins gv c (.inner k w z l rr) T (105 :: numB i ++ prtB nm con fam (.inner k w z l rr) ++ cosB L) := by
        rw [eD, evB_1, hcs]
      refine ⟨by rw [eD]; exact fun z => (by cases z), ?_⟩
      rw [eB]
      refine t_csB I K0 hn (hc c hcl) kn hT gT cx cu (fun σ t F S ht => ?_)
      simp only [List.length_append, List.length_cons] at ht
      obtain ⟨p1, p2, p3⟩ := sw_b S (by omega) 105
      have n1 := t_sayNum (v := i) (by omega) p3 (by omega)
      have n2 := SyW_of (SyO_L (L := numB i) p3 (by omega))
      have S2 := sayL_t (L := numB i) p3 (by omega)
      have F2 := fr_trans F (fr_trans p2.2.2.2 n2.2.2.2)
      obtain ⟨σ3, b1, b2⟩ := t_sayParts n126 (tyT_W F2 cu) hu fitu.2.2 wu (tOn_W F2 gu.2.2.2) S2 (by omega)
      obtain ⟨t3, S3, t3a, t3b⟩ := SyO_t S2 b2
      have F3 := fr_trans F2 (SyW_of b2).2.2.2
      have B3 := SyW_trans (SyW_trans p2 n2) (SyW_of b2)
      have go : T_sayDictionary_29 (T_sayDictionaryD f1') (c : Int) x (m : Int) σ = if ((d.2.2.2.1.length : Nat) : Int) ≤ 0 then T_sayDictionary_199 (T_sayDictionaryD f1') (c : Int) x (m : Int) σ3 else (om_loop (T_sayDictionary_114s (T_sayDictionaryD f1') (c : Int) x (m : Int) (i : Int)) (w32 (4 * (i : Int)), σ3)).bind fun y5 => (T_say 125 y5).bind fun p6 => T_sayDictionary_199 (T_sayDictionaryD f1') (c : Int) x (m : Int) p6 := by
        unfold T_sayDictionary_29
        rw [if_pos rg, mN, F.2 502 (by decide), c3, if_pos (by omega), if_pos rg, F.2 506 (by decide), c4, t_instanceOf (KW_W F K0).2.1 c w, q1, Option.bind_some]
        show (T_say 105 σ).bind _ = _
        rw [p1, Option.bind_some]
        show (T_sayNumber (i : Int) (say1 σ 105)).bind _ = _
        rw [n1, Option.bind_some, b1, Option.bind_some]
        show (if 0 ≤ (i : Int) ∧ (i : Int) < 20 then (if (ga σ3 710 ((i : Int)).toNat) ≤ 0 then _ else _) else _) = _
        rw [if_pos (by omega), show ((i : Int)).toNat = i by omega, F3.2 710 (by decide), a6]
        rfl
      have IH : ∀ p ∈ d.2.2.2.1, ∀ D, dcT ab ins gv f p.1 (if p.2 = 0 then tL (.inner k w z l rr) else tR' (.inner k w z l rr)) = some D → D ≠ .leaf ∧ RW σ0 (fun y σ => T_sayDictionaryD f1' (p.1 : Int) y σ) (if p.2 = 0 then ga σ0 510 m else ga σ0 514 m) (evB nm con fam cnm ab ins gv D) := fun p hp D eD' => by
        obtain ⟨j, hj, ej⟩ := List.getElem_of_mem hp
        obtain ⟨g1, g2, g3, g4⟩ := a8 j p (by rw [List.getElem?_eq_getElem hj, ej])
        obtain ⟨gl, gr⟩ := GTy_l gu
        have kk := hcn k w z l rr rfl k1 i d q1 q2 p hp
        have shp : 2 ≤ w ∧ (p.2 ≠ 0 → w = 3) ∧ w ≤ 3 := by
          rw [a4', i2'.2] at g4
          have w3 : w ≤ 3 := by
            rcases wu.1 with s | s | s | s
            · omega
            · exact s.2.1
            · omega
            · omega
          unfold pN at g4
          split at g4
          · exact ⟨by omega, fun _ => by omega, w3⟩
          · omega
        have lv : l ≠ .leaf ∧ (w = 3 → rr ≠ .leaf) := by
          rcases wu.1 with s | s | s | s
          · omega
          · exact ⟨fun z => by have := s.2.2.1.mp z; omega, fun w3 z => s.2.2.2.mp z w3⟩
          · omega
          · omega
        by_cases zz : p.2 = 0
        · rw [if_pos zz] at kk eD' ⊢
          exact t_sayDictD I K0 hn hg hc f p.1 l D _ f1' (by omega) kk eD' g3 lv.1 gl c5
        · rw [if_neg zz] at kk eD' ⊢
          exact t_sayDictD I K0 hn hg hc f p.1 rr D _ f1' (by omega) kk eD' g3 (lv.2 (shp.2.1 zz)) gr c6
      rw [go]
      by_cases lz : d.2.2.2.1.length = 0
      · have cz : d.2.2.2.1 = [] := List.length_eq_zero_iff.mp lz
        rw [cz] at q3
        have ecs : cs = .leaf := (Option.some.inj q3).symm
        have eL : L = [] := by rw [← hcs, ecs]; rfl
        rw [if_pos (by omega)]
        refine ⟨σ3, rfl, ?_⟩
        rw [eL]
        show SyW σ (105 :: numB i ++ prtB nm con fam (.inner k w z l rr) ++ []) σ3
        rw [List.append_nil]
        exact B3
      · rw [if_neg (by omega)]
        -- there are conditions
        obtain ⟨a, L', eL⟩ : ∃ a L', L = a :: L' := by
          obtain ⟨p, l', el⟩ : ∃ p l', d.2.2.2.1 = p :: l' := by
            cases q : d.2.2.2.1 with
            | nil => rw [q] at lz; exact absurd rfl lz
            | cons p l' => exact ⟨p, l', rfl⟩
          rw [el] at q3
          have q3' : (dcT ab ins gv f p.1 (if p.2 = 0 then tL (.inner k w z l rr) else tR' (.inner k w z l rr))).bind (fun a => (dcL (dcT ab ins gv f) (.inner k w z l rr) l').map fun b => dnx a b) = some cs := q3
          cases y1 : dcT ab ins gv f p.1 (if p.2 = 0 then tL (.inner k w z l rr) else tR' (.inner k w z l rr)) with
          | none => rw [y1] at q3'; cases q3'
          | some D1 =>
          rw [y1, Option.bind_some] at q3'
          cases y2 : dcL (dcT ab ins gv f) (.inner k w z l rr) l' with
          | none => rw [y2] at q3'; cases q3'
          | some cs' =>
          rw [y2] at q3'
          have ecs : cs = dnx D1 cs' := (Option.some.inj q3').symm
          have := (IH p (by rw [el]; exact List.mem_cons_self) D1 y1).1
          exact ⟨_, _, by rw [← hcs, ecs, dcsB_dnx this]⟩
        have em : cosB L = sepL 0 L ++ [125] := by
          rw [eL]
          show 123 :: comB (a :: L') ++ [125] = ((if 0 = 0 then 123 else 44) :: a ++ sepL (0 + 1) L') ++ [125]
          rw [comB_sep a L' 0, if_pos rfl]
          simp
        rw [em] at ht ⊢
        rw [List.length_append] at ht
        obtain ⟨σ4, d1, d2⟩ := t_dcs (nm := nm) (con := con) (fam := fam) (cnm := cnm) (gv := gv) K0.2.1 q2 (by omega) (l1 := (c : Int)) (l2 := x) IH d.2.2.2.1 0 cs σ3 t3 rfl (Nat.zero_le _) q3 F3 S3 (by rw [hcs]; omega)
        rw [hcs] at d2
        obtain ⟨t4, S4, t4a, t4b⟩ := SyW_t S3 d2
        have w4 : w32 (4 * (i : Int)) = ((4 * i + 0 : Nat) : Int) := (w32_s (by omega) (by omega)).trans (by omega)
        obtain ⟨e1, e2, e3⟩ := sw_b S4 (by simp only [List.length_cons, List.length_nil] at ht; omega) 125
        refine ⟨_, by rw [w4, d1, Option.bind_some, e1, Option.bind_some], ?_⟩
        have := SyW_trans (SyW_trans B3 d2) e2
        rw [show 105 :: numB i ++ prtB nm con fam (.inner k w z l rr) ++ (sepL 0 L ++ [125]) = [105] ++ numB i ++ prtB nm con fam (.inner k w z l rr) ++ sepL 0 L ++ [125] by simp]
        exact this
end LTD
