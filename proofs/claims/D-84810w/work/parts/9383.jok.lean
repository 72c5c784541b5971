set_option maxRecDepth 100000
/-! JUDGING COMES TO AN END, and its types are well formed -/
def tyOk (ins : List INs) (T : Ty) : Prop := T ≠ .leaf ∧ wfT T ∧ okF ins T
/-- what is known of the program -/
def JOk (E : JE) (B : Nat) : Prop := (B ≤ 2700 ∧ insF E.2.2.2.1 B ∧ gvF' E.2.2.2.1 E.2.2.2.2 ∧ E.2.2.2.1.length ≤ 20 ∧ ∀ d ∈ E.2.2.2.1, d.2.2.1.length = pN d.2.1) ∧ (∀ f ∈ E.1, (tyOk E.2.2.2.1 f.2.2 ∧ tsz f.2.2 ≤ 2700 ∧ tdp f.2.2 < 60) ∧ (f.1.length ≤ 4 ∧ f.2.1.length ≤ 4) ∧ ∀ g ∈ f.2.1, g.2.1 ∈ f.1 ∧ (100 ≤ g.1 → g.1 < 1000 ∧ tyOk E.2.2.2.1 g.2.2 ∧ tsz g.2.2 ≤ 2700 ∧ tdp g.2.2 < 60 ∧ ∀ d ∈ E.2.2.2.1, d.1 = g.1 - 100 → d.2.2.2.2 ≠ .leaf)) ∧ ∀ m, some m ∈ E.2.1 → tyOk E.2.2.2.1 m.2.2 ∧ tsz m.2.2 ≤ 2700 ∧ tdp m.2.2 < 60
def nok (E : JE) (lb : XL) (d : Nat) : Prop := ((lb.2.1 = 0 ∧ lb.2.2.1 < d) ∨ (lb.2.1 = 1 ∧ lb.2.2.1 < E.1.length) ∨ (lb.2.1 = 2 ∧ ∃ m, E.2.1[lb.2.2.1]? = some (some m)) ∨ (lb.2.1 = 3 ∧ lb.2.2.1 < 7)) ∧ ∀ a ∈ lb.2.2.2.2.2, tyOk E.2.2.2.1 a.1 ∧ tsz a.1 ≤ 2700
/-- an ex is well formed, so many names being bound -/
def xok (E : JE) : Xt → Nat → Prop
  | .leaf, _ => False
  | .inner t lb _ l r, d => if t = 10 then nok E lb d else if t = 11 then True else if t = 12 then xok E l d ∧ xok E r d else if t = 13 then xok E l d else if t = 14 then tyOk E.2.2.2.1 (lbT lb) ∧ xok E l (d + 1) else if t = 15 then tyOk E.2.2.2.1 (lbT lb) ∧ xok E l d ∧ xok E r (d + 1) else if t = 18 then xok E l d ∧ xok E r d else match r with
    | .leaf => False
    | .inner _ _ _ r1 r2 => if t = 16 then xok E l d ∧ xok E r1 d ∧ xok E r2 d else if t = 17 then xok E l d ∧ xok E r1 d ∧ xok E r2 (d + 2) else False
/-- the same, one step -/
def xokB (E : JE) (W : Xt → Nat → Prop) (t : Nat) (lb : XL) (l r : Xt) (d : Nat) : Prop := if t = 10 then nok E lb d else if t = 11 then True else if t = 12 then W l d ∧ W r d else if t = 13 then W l d else if t = 14 then tyOk E.2.2.2.1 (lbT lb) ∧ W l (d + 1) else if t = 15 then tyOk E.2.2.2.1 (lbT lb) ∧ W l d ∧ W r (d + 1) else if t = 18 then W l d ∧ W r d else match r with
    | .leaf => False
    | .inner _ _ _ r1 r2 => if t = 16 then W l d ∧ W r1 d ∧ W r2 d else if t = 17 then W l d ∧ W r1 d ∧ W r2 (d + 2) else False
theorem xok_e {E : JE} {t d : Nat} {lb : XL} {u : Unit} {l r : Xt} : xok E (.inner t lb u l r) d = xokB E (xok E) t lb l r d := by
  cases r with
  | leaf => rw [xok]; rfl
  | inner _ _ _ _ _ => rw [xok]; rfl
/-- how big an ex is, with its types -/
def xsz : Xt → Nat
  | .leaf => 0
  | .inner _ lb _ l r => 1 + 2 * tsz (lbT lb) + xsz l + xsz r
section LJO
variable {E : JE} {B : Nat} {ab : List (Option Nat)} {ins : List INs} {gv : List GVs}
theorem hd_ends : ∀ (f : Nat) (s : WS) (c : Nat) (T : Ty), s.1 ≤ 60 → 61 - s.1 ≤ f → ∃ z, hd ab ins gv f s c T = some z ∧ ∀ b s', z = some (b, s') → s.1 ≤ s'.1 ∧ s'.1 ≤ 60
  | 0, s, _, _, h1, h2 => by omega
  | f + 1, s, c, T, h1, h2 => by
    have ih := fun (s : WS) c T => hd_ends f s c T
    obtain ⟨z, e, ez⟩ := wk_ends (ins := ins) (gv := gv) 130 false 0 s T s.1 (by decide) (Nat.le_refl _) h1 (by rw [if_neg (by decide)]; omega)
    have lst : ∀ (u : Ty) (l : List (Nat × Nat)) (s1 : WS), s1.1 ≤ 60 → 61 - s1.1 ≤ f → ∃ z, hdL (hd ab ins gv f) u l s1 = some z ∧ ∀ b s', z = some (b, s') → s1.1 ≤ s'.1 ∧ s'.1 ≤ 60 := fun u l => by
      induction l with
      | nil => exact fun s1 a1 _ => ⟨_, rfl, fun b s' q => by
          injection Option.some.inj q with q1 q2
          rw [← q2]; exact ⟨Nat.le_refl _, a1⟩⟩
      | cons p l ihl =>
        intro s1 a1 a2
        obtain ⟨z1, e1, k1⟩ := ih s1 p.1 (if p.2 = 0 then tL u else tR' u) a1 a2
        unfold hdL
        rw [e1, Option.bind_some]
        cases z1 with
        | none => exact ⟨none, rfl, fun b s' q => by cases q⟩
        | some pb =>
          obtain ⟨b, s2⟩ := pb
          obtain ⟨m1, m2⟩ := k1 b s2 rfl
          simp only
          by_cases hb : b = true
          · rw [if_pos hb]
            obtain ⟨z2, e2, k2⟩ := ihl s2 m2 (by omega)
            exact ⟨z2, e2, fun b' s' q => by have := k2 b' s' q; omega⟩
          · rw [if_neg hb]
            refine ⟨_, rfl, fun b' s' q => ?_⟩
            injection Option.some.inj q with q1 q2
            rw [← q2]; exact ⟨m1, m2⟩
    unfold hd
    rw [e, Option.bind_some]
    cases z with
    | none => exact ⟨none, rfl, fun b s' q => by cases q⟩
    | some p =>
      obtain ⟨u, s1⟩ := p
      obtain ⟨m1, m2⟩ := ez u s1 rfl
      have fin : ∀ b0 : Bool, ∃ z, (some (some (b0, s1)) : Option (Option (Bool × WS))) = some z ∧ ∀ b s', z = some (b, s') → s.1 ≤ s'.1 ∧ s'.1 ≤ 60 := fun b0 => ⟨_, rfl, fun b s' q => by
        injection Option.some.inj q with q1 q2
        rw [← q2]; exact ⟨m1, m2⟩⟩
      cases u with
      | leaf => exact fin false
      | inner k w x l r =>
        simp only
        by_cases k0 : k = 0
        · rw [if_pos k0]; exact fin _
        rw [if_neg k0]
        by_cases k1 : k = 1
        · rw [if_pos k1]
          cases qi : iOf ins c w with
          | none => exact fin false
          | some i =>
            simp only
            by_cases ov : 60 < s1.1 + 1 ∨ 300 < s1.2.1 + 1
            · rw [if_pos ov]; exact ⟨none, rfl, fun b s' q => by cases q⟩
            · rw [if_neg ov]
              obtain ⟨dd, ei, _⟩ := ixF_some qi
              rw [ei]
              obtain ⟨z2, e2, k2⟩ := lst (.inner k w x l r) dd.2.2.2.1 (s1.1 + 1, s1.2.1 + 1, s1.2.2) (by show s1.1 + 1 ≤ 60; omega) (by show 61 - (s1.1 + 1) ≤ f; omega)
              exact ⟨z2, e2, fun b s' q => by have := k2 b s' q; have : s1.1 + 1 ≤ s'.1 ∧ s'.1 ≤ 60 := this; omega⟩
        · rw [if_neg k1]; exact fin false
theorem one_ends (s : WS) (T U : Ty) (h1 : s.1 ≤ 60) : ∃ z, oneP ins gv s T U = some z := by
  unfold oneP
  split
  · exact ⟨_, rfl⟩
  · obtain ⟨z, e, ez⟩ := wk_ends (ins := ins) (gv := gv) 130 false 0 s T s.1 (by decide) (Nat.le_refl _) h1 (by rw [if_neg (by decide)]; omega)
    rw [e, Option.bind_some]
    cases z with
    | none => exact ⟨_, rfl⟩
    | some p =>
      obtain ⟨u, s1⟩ := p
      obtain ⟨m1, m2⟩ := ez u s1 rfl
      obtain ⟨z2, e2, _⟩ := wk_ends (ins := ins) (gv := gv) 130 false 0 s1 U s1.1 (by decide) (Nat.le_refl _) m2 (by rw [if_neg (by decide)]; omega)
      simp only
      rw [e2, Option.bind_some]
      cases z2 with
      | none => exact ⟨_, rfl⟩
      | some q => exact ⟨_, rfl⟩
theorem jb_ok {α β : Type} {x : Option ((Nat × Nat) ⊕ α)} {f : α → Option ((Nat × Nat) ⊕ β)} {P : α → Prop} {Q : β → Prop} (h : ∃ z, x = some z ∧ ∀ a, z = .inr a → P a) (k : ∀ a, P a → ∃ w, f a = some w ∧ ∀ b, w = .inr b → Q b) : ∃ w, jb x f = some w ∧ ∀ b, w = .inr b → Q b := by
  obtain ⟨z, e, ez⟩ := h
  unfold jb
  rw [e, Option.bind_some]
  cases z with
  | inl a => exact ⟨_, rfl, fun b q => by cases q⟩
  | inr a => exact k a (ez a rfl)
theorem jcl_ok {pl c : Nat} {T : Ty} {s : JS} : ∃ z, jcl E pl c T s = some z ∧ ∀ a, z = .inr a → True := by
  obtain ⟨z, e, _⟩ := hd_ends (ab := E.2.2.1) (ins := E.2.2.2.1) (gv := E.2.2.2.2) 70 (0, s.1, s.2) c T (Nat.zero_le _) (by show 61 - 0 ≤ 70; omega)
  unfold jcl ja
  rw [e, Option.bind_some]
  cases z with
  | none => exact ⟨_, rfl, fun _ _ => trivial⟩
  | some p =>
    obtain ⟨b, s'⟩ := p
    have hdc := hd_dc e
    simp only
    cases b with
    | false => exact ⟨_, if_neg (by decide), fun _ _ => trivial⟩
    | true =>
      obtain ⟨D, hD⟩ := Option.isSome_iff_exists.mp hdc
      rw [if_pos rfl, hD]
      exact ⟨_, rfl, fun _ _ => trivial⟩
theorem jeq_ok {pl : Nat} {T U : Ty} {s : JS} : ∃ z, jeq E pl T U s = some z ∧ ∀ a, z = .inr a → True := by
  unfold jeq ja
  split
  · exact ⟨_, rfl, fun _ _ => trivial⟩
  · obtain ⟨z, e⟩ := one_ends (ins := E.2.2.2.1) (gv := E.2.2.2.2) (0, s.1, s.2) T U (Nat.zero_le _)
    rw [e, Option.bind_some]
    cases z with
    | none => exact ⟨_, rfl, fun _ _ => trivial⟩
    | some p =>
      obtain ⟨b, s'⟩ := p
      simp only
      split <;> exact ⟨_, rfl, fun _ _ => trivial⟩
theorem jgv_ok {pl : Nat} {θ : List (Nat × Ty)} : ∀ (l : List GVs) (s : JS), ∃ z, jgv E pl θ l s = some z ∧ ∀ a, z = .inr a → True
  | [], s => ⟨_, rfl, fun _ _ => trivial⟩
  | g :: l, s => by
    unfold jgv
    refine jb_ok (P := fun _ => True) ?_ (fun a _ => jb_ok (P := fun _ => True) (jgv_ok l a.2) (fun b _ => ⟨_, rfl, fun _ _ => trivial⟩))
    split
    · exact jcl_ok
    · exact jeq_ok
theorem tyOk_parts {k w : Nat} {u : Unit} {l r : Ty} (H : tyOk ins (.inner k w u l r)) (hk : k = 3 ∨ (k = 1 ∧ 2 ≤ w)) : tyOk ins l ∧ (k = 3 → tyOk ins r) := by
  obtain ⟨_, h2, h3⟩ := H
  have sh := h2.1
  unfold shT at sh
  refine ⟨⟨fun e => ?_, h2.2.1, h3.2.1⟩, fun k3 => ⟨fun e => ?_, h2.2.2, h3.2.2⟩⟩
  · rcases sh with ⟨z, _⟩ | ⟨z, z1, z2, z3⟩ | ⟨z, z1, z2⟩ | ⟨z, z1, z2, z3⟩
    · omega
    · have := z2.mp e; omega
    · exact z1 e
    · exact z2 e
  · rcases sh with ⟨z, _⟩ | ⟨z, z1, z2, z3⟩ | ⟨z, z1, z2⟩ | ⟨z, z1, z2, z3⟩
    · omega
    · omega
    · omega
    · exact z3 e
theorem tyOk_sb {θ : List (Nat × Ty)} (hθ : ∀ p ∈ θ, tyOk ins p.2) {T : Ty} (H : tyOk ins T) : tyOk ins (sbT θ T) := by
  have w : wfS θ := fun p hp => ⟨(hθ p hp).2.1, (hθ p hp).1⟩
  exact ⟨fun e => H.1 ((sbT_leaf w).mp e), sbT_wf w H.2.1, okF_sb (fun p hp => (hθ p hp).2.2) H.2.2⟩
theorem tyOk_con {w : Nat} {l r : Ty} (hw : w ≤ 3) (hl : if 2 ≤ w then tyOk ins l else l = .leaf) (hr : if w = 3 then tyOk ins r else r = .leaf) : tyOk ins (tnd 1 w l r) := by
  refine ⟨(by intro z; cases z), ⟨.inr (.inl ⟨rfl, hw, ⟨fun e => ?_, fun e => ?_⟩, ⟨fun e => ?_, fun e => ?_⟩⟩), ?_, ?_⟩, ⟨fun z => by omega, ?_, ?_⟩⟩
  · by_cases q : 2 ≤ w
    · rw [if_pos q] at hl; exact absurd e hl.1
    · omega
  · rw [if_neg (by omega)] at hl; exact hl
  · intro q
    rw [if_pos q] at hr; exact hr.1 e
  · rw [if_neg e] at hr; exact hr
  · split at hl
    · exact hl.2.1
    · rw [hl]; trivial
  · split at hr
    · exact hr.2.1
    · rw [hr]; trivial
  · split at hl
    · exact hl.2.2
    · rw [hl]; trivial
  · split at hr
    · exact hr.2.2
    · rw [hr]; trivial
theorem tyOk_arr {l r : Ty} (hl : tyOk ins l) (hr : tyOk ins r) : tyOk ins (tArr l r) := ⟨(by intro z; cases z), ⟨.inr (.inr (.inr ⟨rfl, rfl, hl.1, hr.1⟩)), hl.2.1, hr.2.1⟩, ⟨fun z => by omega, hl.2.2, hr.2.2⟩⟩
theorem tyOk_bt {k : Nat} {a b : Ty} (ha : k < 5 → tyOk ins a) (hb : 2 ≤ k → k < 5 → tyOk ins b) : tyOk ins (btT k a b) := by
  have li : k < 5 → tyOk ins (tnd 1 2 a .leaf) := fun h => tyOk_con (by decide) (by rw [if_pos (by decide)]; exact ha h) (by rw [if_neg (by decide)])
  have pa : 2 ≤ k → k < 5 → tyOk ins (tnd 1 3 a b) := fun h h' => tyOk_con (by decide) (by rw [if_pos (by decide)]; exact ha h') (by rw [if_pos rfl]; exact hb h h')
  have bo : tyOk ins tBool := tyOk_con (by decide) (by rw [if_neg (by decide)]) (by rw [if_neg (by decide)])
  unfold btT
  split
  · exact li (by omega)
  split
  · exact tyOk_arr (ha (by omega)) (tyOk_arr (li (by omega)) (li (by omega)))
  split
  · exact tyOk_arr (ha (by omega)) (tyOk_arr (hb (by omega) (by omega)) (pa (by omega) (by omega)))
  split
  · exact tyOk_arr (pa (by omega) (by omega)) (ha (by omega))
  split
  · exact tyOk_arr (pa (by omega) (by omega)) (hb (by omega) (by omega))
  · exact bo
theorem btN_1 {k : Nat} (h : k < 5) : 1 ≤ btN k := by
  unfold btN
  rw [if_pos h]
  split <;> omega
theorem btN_2 {k : Nat} (h2 : 2 ≤ k) (h : k < 5) : 2 ≤ btN k := by
  unfold btN
  rw [if_neg (by omega), if_pos h]
  omega
/-- a name's type, its @s being as many as its names -/
theorem jnT_ok (J : JOk E B) {lb : XL} {d : Nat} (H : nok E lb d) (k0 : lb.2.1 ≠ 0) (hl : lb.2.2.2.2.2.length = jnN E lb.2.1 lb.2.2.1) : tyOk E.2.2.2.1 (jnT E lb.2.1 lb.2.2.1 (lb.2.2.2.2.2.map Prod.fst)) ∧ tsz (jnT E lb.2.1 lb.2.2.1 (lb.2.2.2.2.2.map Prod.fst)) ≤ 80000000 ∧ (jnN E lb.2.1 lb.2.2.1 = 0 → tsz (jnT E lb.2.1 lb.2.2.1 (lb.2.2.2.2.2.map Prod.fst)) ≤ 2700) := by
  obtain ⟨H1, H2⟩ := H
  generalize lb.2.2.2.2.2 = as at *
  have hm : ∀ T ∈ as.map Prod.fst, tyOk E.2.2.2.1 T ∧ tsz T ≤ 2700 := fun T hT => by
    obtain ⟨a, a1, a2⟩ := List.mem_map.mp hT
    rw [← a2]; exact H2 a a1
  have zp : ∀ (ns : List Nat) (p : Nat × Ty), p ∈ ns.zip (as.map Prod.fst) → tyOk E.2.2.2.1 p.2 ∧ tsz p.2 ≤ 2700 := fun ns p hp => hm _ (List.of_mem_zip hp).2
  have sz : ∀ (ns : List Nat) (T : Ty), wfT T → tsz T ≤ 2700 → tsz (sbT (ns.zip (as.map Prod.fst)) T) ≤ 80000000 := fun ns T w h => by
    have := sbT_tsz (B := 2700) (by decide) (fun p hp => (zp ns p hp).2) w
    have h2 : 2700 * tsz T ≤ 2700 * 2700 := Nat.mul_le_mul_left _ h
    omega
  rcases H1 with ⟨h, _⟩ | ⟨h, h'⟩ | ⟨h, m, h'⟩ | ⟨h, h'⟩
  · exact absurd h k0
  · have ef : E.1[lb.2.2.1]? = some E.1[lb.2.2.1] := List.getElem?_eq_getElem h'
    obtain ⟨⟨f1, f2, f3⟩, _⟩ := J.2.1 _ (List.mem_of_getElem? ef)
    unfold jnT jnN
    rw [if_pos h, if_pos h, ef]
    show tyOk E.2.2.2.1 (if E.1[lb.2.2.1].1 = [] then _ else _) ∧ tsz (if E.1[lb.2.2.1].1 = [] then _ else _) ≤ 80000000 ∧ (E.1[lb.2.2.1].1.length = 0 → tsz (if E.1[lb.2.2.1].1 = [] then _ else _) ≤ 2700)
    by_cases q : E.1[lb.2.2.1].1 = []
    · rw [if_pos q]; exact ⟨f1, by omega, fun _ => f2⟩
    · rw [if_neg q]
      exact ⟨tyOk_sb (fun p hp => (zp _ p hp).1) f1, sz _ _ f1.2.1 f2, fun z => absurd (List.length_eq_zero_iff.mp z) q⟩
  · obtain ⟨m1, m2, m3⟩ := J.2.2 m (List.mem_of_getElem? h')
    unfold jnT jnN
    rw [if_neg (by omega), if_pos h, if_neg (by omega), if_pos h, h']
    exact ⟨tyOk_sb (fun p hp => (zp [m.2.1] p hp).1) m1, sz [m.2.1] _ m1.2.1 m2, fun z => absurd z (by decide)⟩
  · unfold jnN at hl
    rw [if_neg (by omega), if_neg (by omega)] at hl
    unfold jnT jnN
    rw [if_neg (by omega), if_neg (by omega), if_neg (by omega), if_neg (by omega)]
    have g : ∀ k, k < as.length → tyOk E.2.2.2.1 (((as.map Prod.fst)[k]?).getD .leaf) ∧ tsz (((as.map Prod.fst)[k]?).getD .leaf) ≤ 2700 := fun k hk => by
      have hk' : k < (as.map Prod.fst).length := by rw [List.length_map]; exact hk
      have e : (as.map Prod.fst)[k]? = some ((as.map Prod.fst)[k]'hk') := List.getElem?_eq_getElem hk'
      rw [e]; exact hm _ (List.mem_of_getElem? e)
    have gz : ∀ k, tsz (((as.map Prod.fst)[k]?).getD .leaf) ≤ 2700 := fun k => by
      by_cases hk : k < as.length
      · exact (g k hk).2
      · rw [List.getElem?_eq_none (by rw [List.length_map]; omega)]
        exact Nat.zero_le _
    refine ⟨tyOk_bt (fun h5 => (g 0 (by have := btN_1 h5; omega)).1) (fun h2 h5 => (g 1 (by have := btN_2 h2 h5; omega)).1), ?_, fun z => ?_⟩
    · have g0 := gz 0
      have g1 := gz 1
      generalize ((as.map Prod.fst)[0]?).getD .leaf = A at *
      generalize ((as.map Prod.fst)[1]?).getD .leaf = C at *
      unfold btT
      repeat' split
      all_goals (simp only [tsz]; omega)
    · have h5 : ¬ lb.2.2.1 < 5 := fun h5 => by have := btN_1 h5; omega
      unfold btT
      rw [if_neg (by omega), if_neg (by omega), if_neg (by omega), if_neg (by omega), if_neg (by omega)]
      show 1 + 0 + 0 ≤ 2700
      omega
end LJO
