set_option maxRecDepth 100000
/-! THE COMPONENT's judge: names that are there always -/
/-- the types that a name's @s stand for -/
def tsC (h : om_H) (N : List (List Int)) (cl : Nat → Nat) (U : Nat → Prop) (Lt : Nat) (ts : List Ty) : Prop := (ts = [] ∧ Lt = 0) ∨ (ts ≠ [] ∧ (Lt ≠ 0 ∧ Lt < hz h ∧ kd h Lt = 42) ∧ (ll h Lt).length = ts.length ∧ ∀ (i y : Nat) (T : Ty), (ll h Lt)[i]? = some y → ts[i]? = some T → tyC h N cl U T y)
/-- of a name that is there always: the list of its first type is there -/
def btX (h : om_H) (N : List (List Int)) (cl : Nat → Nat) (U : Nat → Prop) (lb : XL) : Prop := lb.2.1 = 3 → 2 ≤ lb.2.2.1 → lb.2.2.1 < 5 → ∃ y, tyC h N cl U (tnd 1 2 ((lb.2.2.2.2.2.map Prod.fst)[0]?.getD .leaf) .leaf) y
theorem btX_keep {h h' : om_H} {N : List (List Int)} {cl : Nat → Nat} {U U' : Nat → Prop} (kp : ∀ T a, tyC h N cl U T a → tyC h' N cl U' T a) {lb : XL} (H : btX h N cl U lb) : btX h' N cl U' lb := fun a b c => by
  obtain ⟨y, hy⟩ := H a b c
  exact ⟨y, kp _ _ hy⟩
section LCN2
variable {G : om_G} {N : List (List Int)} {cl : Nat → Nat} {tb l0 sc jg Lb : Nat} {rest : List (Nat × List Nat)} {Sl : Nat → Prop} {io : Nat → Nat} {ab : List (Option Nat)} {ins : List INs} {gv : List GVs} {tot : Nat} {h : om_H} {us fs : List Nat}
theorem tsC_get {U : Nat → Prop} {Lt : Nat} {ts : List Ty} (H : tsC h N cl U Lt ts) {i : Nat} {T : Ty} (e : ts[i]? = some T) : ∃ y, P_J2_get G Lt (i : Int) h = some y ∧ tyC h N cl U T y ∧ kd h Lt = 42 ∧ Lt ≠ 0 := by
  rcases H with ⟨h1, _⟩ | ⟨_, ⟨h0, h1, h2⟩, h3, h4⟩
  · rw [h1] at e; cases e
  · have il := (List.getElem?_eq_some_iff.mp e).1
    have ey : (ll h Lt)[i]? = some (ll h Lt)[i] := List.getElem?_eq_getElem (by omega)
    refine ⟨_, ?_, h4 i _ T ey e, h2, h0⟩
    unfold P_J2_get
    rw [gd_pos ⟨h2, by omega⟩, show ((i : Int)).toNat = i by omega, ey]
/-- A NAME THAT IS THERE ALWAYS -/
theorem c_built (nd : ndN N) (F : FnQ G h N cl tb l0 sc us fs rest Sl io ab ins gv tot) {k Lt : Nat} {ts : List Ty} (H : tsC h N cl (UU us rest) Lt ts) (hl : ts.length = btN k) (hT : ∀ T ∈ ts, T ≠ .leaf) (hn : tl us fs + 4 ≤ 149000) : ∃ x h' us' fs', C_37_built G tb (k : Int) Lt h = some (x, h') ∧ FnQ G h' N cl tb l0 sc us' fs' rest Sl io ab ins gv tot ∧ KF N cl tb l0 rest h us fs h' us' fs' 4 0 0 ∧ tyC h' N cl (UU us' rest) (btT k (ts[0]?.getD .leaf) (ts[1]?.getD .leaf)) x ∧ (2 ≤ k → k < 5 → ∃ y, tyC h' N cl (UU us' rest) (tnd 1 2 (ts[0]?.getD .leaf) .leaf) y) := by
  have t3 := (TB_3 F.1).1
  have sz : Lt ≠ 0 → kd h Lt = 42 → P_J2_size G Lt h = some ((ts.length : Nat) : Int) := fun h0 hk => by
    unfold P_J2_size
    rcases H with ⟨_, h1⟩ | ⟨_, _, h3, _⟩
    · exact absurd h1 h0
    · rw [gd_pos hk, h3]
  by_cases k5 : k < 5
  · -- with @s
    have l1 := btN_1 k5
    match ts, hl, hT, H, sz with
    | [], hl, _, _, _ => exact absurd hl (by show ¬ 0 = btN k; omega)
    | A :: tl, hl, hT, H, sz =>
      obtain ⟨a, a1, a2, a3, a4⟩ := tsC_get (G := G) H (i := 0) (T := A) rfl
      have hA := hT A List.mem_cons_self
      have ka := tyC_34 a2 hA
      have a1' : P_J2_get G Lt 0 h = some a := a1
      -- the List
      obtain ⟨li, h1, us1, fs1, e1, F1, K1, c1⟩ := c_mkCon (w := 2) (l := A) (r := .leaf) (b := 0) nd F a2 rfl (by omega)
      have e1' : C_2_con G tb 2 a 0 h = some (li, h1) := e1
      have le1 := K1.2.2.2.1
      have ca1 := K1.2.2.2.2.2.2.1 _ _ a2
      have st0 : C_37_built G tb (k : Int) Lt h = C_37_built_16 G tb (k : Int) Lt a h := by
        unfold C_37_built
        rw [if_pos a4, gd_pos a3, a1', Option.bind_some, gd_pos (.inr ka.1)]
      have st41 : ∀ b, C_37_built_41 G tb (k : Int) a b h = C_37_built_58 G tb (k : Int) a b li h1 := fun b => by
        unfold C_37_built_41
        rw [if_pos ka.2.1, gd_pos t3, e1', Option.bind_some]
      rw [st0]
      unfold C_37_built_16
      rw [if_neg a4, gd_pos a3, sz a4 a3, Option.bind_some]
      match tl, hl, hT, H with
      | [], hl, hT, H =>
        have k2 : k < 2 := by
          by_cases w : k < 2
          · exact w
          · have := btN_2 (k := k) (by omega) k5
            have hl' : 1 = btN k := hl
            omega
        rw [if_pos (by show ((1 : Nat) : Int) ≤ 1; decide), st41]
        unfold C_37_built_58
        rw [if_neg (fun w => w rfl)]
        obtain ⟨x, h2, us2, fs2, e2, F2, K2, c2⟩ := c_built77 (k := k) (A := A) (C := .leaf) (a := a) (b := 0) (li := li) (pa := 0) nd F1 (fun _ => ca1) (fun w _ => absurd w (by omega)) (fun _ => c1) (fun w _ => absurd w (by omega)) (by omega)
        exact ⟨x, h2, us2, fs2, e2, F2, KF_le (KF_trans K1 K2) (by omega) (by omega) (by omega), c2, fun w _ => absurd w (by omega)⟩
      | C :: tl', hl, hT, H =>
        have k2 : 2 ≤ k := by
          by_cases w : 2 ≤ k
          · exact w
          · have hl' : (tl'.length + 1) + 1 = btN k := hl
            unfold btN at hl'
            rw [if_pos (by omega)] at hl'
            omega
        have h0 : tl' = [] := by
          have hl' : (tl'.length + 1) + 1 = btN k := hl
          unfold btN at hl'
          rw [if_neg (by omega), if_pos k5] at hl'
          exact List.length_eq_zero_iff.mp (by omega)
        subst h0
        obtain ⟨b, b1, b2, _, _⟩ := tsC_get (G := G) H (i := 1) (T := C) rfl
        have hC := hT C (List.mem_cons_of_mem _ List.mem_cons_self)
        have kb := tyC_34 b2 hC
        have b1' : P_J2_get G Lt 1 h = some b := b1
        have cb1 := K1.2.2.2.2.2.2.1 _ _ b2
        rw [if_neg (by show ¬ ((2 : Nat) : Int) ≤ 1; decide), gd_pos a3, b1', Option.bind_some, gd_pos (.inr kb.1), st41]
        obtain ⟨pa, h2, us2, fs2, e2, F2, K2, c2⟩ := c_mkCon (w := 3) (l := A) (r := C) nd F1 ca1 cb1 (by omega)
        have e2' : C_2_con G tb 3 a b h1 = some (pa, h2) := e2
        have le2 := K2.2.2.2.1
        unfold C_37_built_58
        rw [if_pos kb.2.1, gd_pos (TB_3 F1.1).1, e2', Option.bind_some]
        obtain ⟨x, h3, us3, fs3, e3, F3, K3, c3⟩ := c_built77 (k := k) (A := A) (C := C) (a := a) (b := b) (li := li) (pa := pa) nd F2 (fun _ => K2.2.2.2.2.2.2.1 _ _ ca1) (fun _ _ => K2.2.2.2.2.2.2.1 _ _ cb1) (fun _ => K2.2.2.2.2.2.2.1 _ _ c1) (fun _ _ => c2) (by omega)
        exact ⟨x, h3, us3, fs3, e3, F3, KF_le (KF_trans (KF_trans K1 K2) K3) (by omega) (by omega) (by omega), c3, fun _ _ => ⟨li, K3.2.2.2.2.2.2.1 _ _ (K2.2.2.2.2.2.2.1 _ _ c1)⟩⟩
  · have l0' : ts = [] := by
      unfold btN at hl
      rw [if_neg (by omega), if_neg k5] at hl
      exact List.length_eq_zero_iff.mp hl
    subst l0'
    have lt0 : Lt = 0 := by
      rcases H with w | w
      · exact w.2
      · exact absurd rfl w.1
    subst lt0
    obtain ⟨x, h2, us2, fs2, e2, F2, K2, c2⟩ := c_built77 (k := k) (A := .leaf) (C := .leaf) (a := 0) (b := 0) (li := 0) (pa := 0) nd F (fun w => absurd w k5) (fun _ w => absurd w k5) (fun w => absurd w k5) (fun _ w => absurd w k5) (by omega)
    refine ⟨x, h2, us2, fs2, ?_, F2, KF_le K2 (by omega) (by omega) (by omega), c2, fun _ w => absurd w k5⟩
    unfold C_37_built C_37_built_16 C_37_built_41 C_37_built_58
    rw [if_neg (fun w => w rfl), if_pos rfl, if_neg (fun w => w rfl), if_neg (fun w => w rfl)]
    exact e2
end LCN2
