set_option maxRecDepth 100000
/-! THE TWIN'S MACHINE: names -/
/-- the class and the type that a given of a name is for (none: two types are one) -/
def gTy (M : MPg) (lb : XL) (g : Nat) : Option (Option (Nat × Ty)) := if lb.2.1 = 1 then (M.1[lb.2.2.1]?).bind fun f => (f.2.1[g]?).map fun gg => if gg.1 < 100 then some (gg.1, (lkT (f.1.zip (lb.2.2.2.2.2.map Prod.fst)) gg.2.1).getD .leaf) else none else if lb.2.1 = 2 ∧ g = 0 then ((M.2.1[lb.2.2.1]?).bind id).map fun mm => some (mm.1, (lb.2.2.2.2.2.map Prod.fst)[0]?.getD .leaf) else none
/-- what is kept of a name's given is right -/
def chO (σ0 : tS) (n : Nat) (M : MPg) (rg : Nat → Nat × Nat) (σ : tS) (v g : Nat) : Prop := ∀ (o : Nat) (e : Et), cdN σ0 n M rg o e (v : Int) → eTg e = 10 → ∀ z, gTy M (eLb e) g = some z → (z = none → ga σ 1046 (4 * v + g) = -1) ∧ ∀ c T, z = some (c, T) → ∃ u, tyT σ n u (ga σ 1046 (4 * v + g)) ∧ u ≠ .leaf ∧ knT M.2.2.2 (gvW M o) (QN σ0 n) 130 T u
def chM (σ0 : tS) (n : Nat) (M : MPg) (rg : Nat → Nat × Nat) (σ : tS) : Prop := ∀ v g : Nat, v < 4200 → g < 4 → ga σ 1042 (4 * v + g) = gs σ 1048 → chO σ0 n M rg σ v g
/-- the program's things, for the machine -/
def MtS (σ0 : tS) (n : Nat) (M : MPg) (rg : Nat → Nat × Nat) (B : MBd) : Prop := (DcP σ0 n M ∧ mPO M ∧ JT0 σ0 n (M.1, M.2.1, M.2.2.1, M.2.2.2, []) ∧ n + 9000 < 126000 ∧ gs σ0 904 ≤ gs σ0 908) ∧ (∀ w : Nat, w < 2100 → ga σ0 638 w ≠ 1 → ga σ0 638 w ≠ 2 → 0 ≤ ga σ0 642 w → ga σ0 642 w < 7 → ga σ0 638 w = 3) ∧ (∀ o, owO M o → JOk (eW M o) 2700 ∧ ∀ g ∈ gvW M o, g.1 < 100 → g.1 < M.2.2.1.length) ∧ (∀ o o', owO M o → owO M o' → o ≠ o' → (rg o).2 ≤ (rg o').1 ∨ (rg o').2 ≤ (rg o).1) ∧ (∀ i : Nat, i < M.1.length → ∃ dd : Nat, ga σ0 730 i = (dd : Int) ∧ dd < 700 ∧ cdN σ0 n M rg i (B.1 i) (ga σ0 622 dd)) ∧ ∀ (i k : Nat) (d : INs) (mm : Nat × Nat × Ty), M.2.2.2[i]? = some d → M.2.1[k]? = some (some mm) → d.1 = mm.1 → cdN σ0 n M rg (100 + i) (B.2 i (k % 4)) (ga σ0 726 (4 * i + k % 4))
/-- what a step writes, but for how many there were and what is shown -/
abbrev SWS : List Nat := [784, 792, 808, 812, 816, 823, 827, 836, 856, 880, 884, 888, 924, 952, 964, 992, 996, 1000, 1008, 1020, 1024, 1028, 1037, 1084]
abbrev SWA : List Nat := [778, 798, 802, 806, 830, 834, 850, 914, 918, 922, 930, 934, 938, 942, 946, 950, 958, 962, 970, 974, 978, 982, 986, 990, 1042, 1046, 1054, 1058, 1062, 1066, 1070, 1074, 1078, 1082]
/-- what came of a step -/
def mRs (σ0 : tS) (n : Nat) (M : MPg) (rg : Nat → Nat × Nat) (Z : tS) (r : Option tS) : MS ⊕ MF → Prop
  | .inl s => ∃ σ', r = some σ' ∧ mTw σ0 n M rg σ' s ∧ chM σ0 n M rg σ' ∧ fr SWS SWA Z σ'
  | .inr f => (f.1 = 2 ∧ ∃ (x : Int) (σ1 : tS), r = T_show x (us σ1 1000 2) ∧ mDw σ0 n M rg σ1 f.2.1 x f.2.2.1 f.2.2.2 ∧ fr SWS SWA Z σ1) ∨ (f.1 ≠ 2 ∧ ∃ σ', r = some σ' ∧ mFw σ0 σ' f.1 f.2.2.1 f.2.2.2 ∧ fr SWS SWA Z σ')
section LTN
variable {M : MPg} {B : MBd} {rg : Nat → Nat × Nat} {σ0 σ τ Z : tS} {n : Nat}
theorem chM_fr {fs as : List Nat} (F : fr fs as σ τ) (h1 : 1048 ∉ fs) (h2 : 1042 ∉ as ∧ 1046 ∉ as) (X : tx σ n τ n) (H : chM σ0 n M rg σ) : chM σ0 n M rg τ := fun v g hv hg e o e' hcd h10 z hz => by
  rw [F.2 1042 h2.1, F.1 1048 h1] at e
  obtain ⟨c1, c2⟩ := H v g hv hg e o e' hcd h10 z hz
  refine ⟨fun w => by rw [F.2 1046 h2.2]; exact c1 w, fun c T w => ?_⟩
  obtain ⟨u, u1, u2⟩ := c2 c T w
  exact ⟨u, by rw [F.2 1046 h2.2]; exact tyT_mono X u1, u2⟩
theorem mRs_of (A : fr SWS SWA Z σ) (C : chM σ0 n M rg σ) {r : Option tS} : ∀ {q : MS ⊕ MF}, mRw σ0 n M rg σ r q → mRs σ0 n M rg Z r q
  | .inl s, ⟨σ', h1, h2, h3⟩ => ⟨σ', h1, h2, chM_fr h3 (by decide) (by decide) (tx_M (fr_sub h3 (by decide) (by decide))) C, fr_trans A (fr_sub h3 (by decide) (by decide))⟩
  | .inr f, h => by
    rcases h with ⟨h1, x, σ1, h2, h3, h4⟩ | ⟨h1, σ', h2, h3, h4⟩
    · exact .inl ⟨h1, x, σ1, h2, h3, fr_trans A (fr_sub h4 (by decide) (by decide))⟩
    · exact .inr ⟨h1, σ', h2, h3, fr_trans A (fr_sub h4 (by decide) (by decide))⟩
/-- a name that is bound is found -/
theorem t_lk {cd : Nat → Et → Int → Prop} {v i : Nat} (hv : v < 8400) (hi : ga σ 550 v = (i : Int)) : ∀ {en : Vt} {x : Int}, vTw M cd σ en false x → gs σ 924 ≤ 4000 → i < (xls en).length → ∃ (y : Nat) (w : Vt), om_loop (T_wantedName_15s (v : Int) σ) x = some (y : Int) ∧ y < 4100 ∧ (xls en)[i]? = some w ∧ vTw M cd σ w true (ga σ 922 y)
  | .leaf, _, _, _, h => by cases h
  | .inner t a u l r, x, ⟨h1, k, h2, h3, h0, h4, h5, h6⟩, hc, hl => by
    have ex : xls (.inner t a u l r) = xls r ++ [l] := rfl
    have st : T_wantedName_15s (v : Int) σ x = if ((xls r).length : Int) = (i : Int) then some (.inr x) else some (.inl (ga σ 914 k)) := by
      unfold T_wantedName_15s
      rw [h2, if_pos ⟨by omega, by omega, by omega, by omega⟩, show ((k : Int)).toNat = k by omega, show ((v : Int)).toNat = v by omega, h5, hi]
      split
      · rfl
      · rw [if_pos (by omega)]
    by_cases q : (xls r).length = i
    · rw [if_pos (by omega)] at st
      refine ⟨k, l, by rw [om_loop_out st, h2], by omega, ?_, h6⟩
      rw [ex, List.getElem?_append_right (by omega), q, Nat.sub_self]; rfl
    · rw [if_neg (by omega)] at st
      rw [ex, List.length_append, List.length_singleton] at hl
      obtain ⟨y, w, y1, y2, y3, y4⟩ := t_lk hv hi h4 hc (by omega)
      refine ⟨y, w, by rw [om_loop_in st]; exact y1, y2, ?_, y4⟩
      rw [ex, List.getElem?_append_left (by omega)]
      exact y3
/-- what is at a name's node -/
theorem cd_10 {o : Nat} {e : Et} {v : Nat} (H : cdN σ0 n M rg o e (v : Int)) (h : eTg e = 10) : (∃ lo hi, v < 4200 ∧ hi ≤ 4200 ∧ lo ≤ v ∧ v < hi ∧ nmTw σ0 n (eLb e) hi v ∧ ((rg o).1 ≤ lo ∧ hi ≤ (rg o).2)) ∧ nmK2 (eW M o) (QN σ0 n) (eLb e) (eEv e) ∧ owO M o ∧ (∀ p ∈ (eLb e).2.2.2.2.2, tyOk M.2.2.2 p.1 ∧ tsz p.1 ≤ 2700) := by
  obtain ⟨v', lo, hi, e1, e2, e3, e4, eA, rl, rh, ow⟩ := H
  have ev : v' = v := by omega
  subst ev
  cases e with
  | leaf => exact (XTg_l e2).elim
  | inner t a u l r =>
    have ht : t = 10 := h
    unfold XTf at e2
    rw [XTg_e] at e2
    unfold XTb at e2
    obtain ⟨hv, _, hp, h4⟩ := e2
    rw [if_pos ht] at h4
    have k := e3.1 e4
    exact ⟨⟨lo, hi, by omega, by omega, hv.1, hv.2.1, h4.2.2, rl, rh⟩, k.2.2.2 ht, ow, eA.1 ht⟩
/-- nodes are of one owner, with one label -/
theorem cd_one (S : MtS σ0 n M rg B) {o o' : Nat} {e e' : Et} {v : Nat} (H : cdN σ0 n M rg o e (v : Int)) (H' : cdN σ0 n M rg o' e' (v : Int)) (h : eTg e = 10) (h' : eTg e' = 10) (k0 : (eLb e).2.1 ≠ 0) : o' = o ∧ ∀ g, gTy M (eLb e') g = gTy M (eLb e) g := by
  obtain ⟨⟨lo, hi, a1, a2, a3, a3', ⟨⟨k, a4, a5, a6, a7⟩, a8, os, a9, a10, a11⟩, a12⟩, _, a13, _⟩ := cd_10 H h
  obtain ⟨⟨lo', hi', b1, b2, b3, b3', ⟨⟨k', b4, b5, b6, b7⟩, b8, os', b9, b10, b11⟩, b12⟩, _, b13, _⟩ := cd_10 H' h'
  have eo : o' = o := Classical.byContradiction (fun z => by
    rcases S.2.2.2.1 o' o b13 a13 z with q | q
    · omega
    · omega)
  refine ⟨eo, fun g => ?_⟩
  have ek : k' = k := by omega
  subst ek
  have ew : (eLb e').2.2.2.1 = (eLb e).2.2.2.1 := by omega
  rw [ew] at b8
  have eos : os' = os := chain_det b9 a9
  rw [eos] at b10 b11
  have el : (eLb e').2.2.2.2.2.map Prod.fst = (eLb e).2.2.2.2.2.map Prod.fst := by
    refine List.ext_getElem? (fun j => ?_)
    rw [List.getElem?_map, List.getElem?_map]
    by_cases q : j < os.length
    · have eoj : os[j]? = some (os[j]) := List.getElem?_eq_getElem q
      have e1 : (eLb e').2.2.2.2.2[j]? = some ((eLb e').2.2.2.2.2[j]'(by omega)) := List.getElem?_eq_getElem (by omega)
      have e2 : (eLb e).2.2.2.2.2[j]? = some ((eLb e).2.2.2.2.2[j]'(by omega)) := List.getElem?_eq_getElem (by omega)
      generalize (eLb e').2.2.2.2.2[j]'(by omega) = p1 at e1
      generalize (eLb e).2.2.2.2.2[j]'(by omega) = p2 at e2
      have t1 := (b11 j _ p1 eoj e1).2.2
      have t2 := (a11 j _ p2 eoj e2).2.2
      rw [e1, e2]
      show some p1.1 = some p2.1
      rw [tyT_fun t1 t2]
    · rw [List.getElem?_eq_none (by omega), List.getElem?_eq_none (by omega)]
  have hk : (eLb e').2.1 = (eLb e).2.1 ∧ (eLb e').2.2.1 = (eLb e).2.2.1 := by
    rcases a8 with ⟨z, _⟩ | ⟨_, c1, c2, c3⟩
    · exact absurd z k0
    · rcases b8 with ⟨y, y1⟩ | ⟨_, d1, d2, d3⟩
      · omega
      · refine ⟨?_, by omega⟩
        rcases c3 with ⟨z1, z2⟩ | ⟨z1, z2⟩ | ⟨z1, z2, z3⟩
        · rcases d3 with ⟨y1, y2⟩ | ⟨y1, y2⟩ | ⟨y1, y2, y3⟩
          · omega
          · omega
          · omega
        · rcases d3 with ⟨y1, y2⟩ | ⟨y1, y2⟩ | ⟨y1, y2, y3⟩
          · omega
          · omega
          · omega
        · rcases d3 with ⟨y1, y2⟩ | ⟨y1, y2⟩ | ⟨y1, y2, y3⟩
          · omega
          · omega
          · omega
  unfold gTy
  rw [el, hk.1, hk.2]
end LTN
