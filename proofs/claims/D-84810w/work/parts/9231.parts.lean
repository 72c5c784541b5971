set_option maxRecDepth 100000
/-! PARTS OF A TYPE THAT IS READ: how both go through them -/
/-- the twin's row of four while parts are gone through -/
def accF : List Int → Int × Int × Int × Int → Int × Int × Int × Int
  | [], x => x
  | t :: ts, x => accF ts (x.1 + 1, (if x.1 ≠ 0 then x.2.1 else t), (if x.1 ≠ 0 then t else x.2.2.1), (if x.2.2.2 = 0 then 0 else if t = -1 then 0 else 1))
theorem accF_len : ∀ (ts : List Int) (x : Int × Int × Int × Int), (accF ts x).1 = x.1 + (ts.length : Int)
  | [], x => by simp [accF]
  | t :: ts, x => by
    unfold accF
    rw [accF_len ts]
    simp
    omega
section LPT
variable {G : om_G} {h h' : om_H} {σ τ : tS} {rT : Int → tS → Option (Int × tS)} {rC : Nat → Nat → Nat → Nat → om_H → Option (Nat × om_H)}
theorem t_part {l2 l3 l4 : Int} {m o w al : Int} {p : Nat} {t : Int} (hm : 0 ≤ m ∧ m ≤ 9000) (hp : p < 8400) (e : rT (p : Int) σ = some (t, τ)) : T_known_161s rT l2 l3 l4 (m, o, w, al, (p : Int), σ) = some (.inl (m + 1, (if m ≠ 0 then o else t), (if m ≠ 0 then t else w), (if al = 0 then 0 else if t = -1 then 0 else 1), ga τ 562 p, τ)) := by
  have e9 : ∀ a b c : Int, T_known_209 rT l2 l3 l4 m a b c (p : Int) τ = some (.inl (m + 1, a, b, c, ga τ 562 p, τ)) := by
    intro a b c
    unfold T_known_209
    rw [if_pos (by omega), w32_s (by omega) (by omega), show ((p : Int)).toNat = p by omega]
  have e1 : ∀ s0 : Int, T_known_191 rT l2 l3 l4 m o w (p : Int) t s0 τ = some (.inl (m + 1, (if m ≠ 0 then o else t), (if m ≠ 0 then t else w), s0, ga τ 562 p, τ)) := by
    intro s0
    unfold T_known_191
    by_cases z : m ≠ 0
    · rw [if_pos z, e9, if_pos z, if_pos z]
    · rw [if_neg z, e9, if_neg z, if_neg z]
  unfold T_known_161s
  simp only
  rw [if_neg (by omega), e, Option.bind_some]
  by_cases z : al = 0
  · rw [if_pos z, if_pos z, e1]
  · rw [if_neg z, if_neg z]
    by_cases y : t = -1
    · rw [if_pos y, if_pos y, e1]
    · rw [if_neg y, if_neg y, e1]
theorem t_part_end {l2 l3 l4 : Int} {m o w al : Int} : T_known_161s rT l2 l3 l4 (m, o, w, al, -1, σ) = some (.inr (m, o, w, al, σ)) := by
  unfold T_known_161s
  simp only
  rw [if_pos trivial]
/-- the component's way through parts; gS: what holds all along -/
def CR (rC : Nat → Nat → Nat → Nat → om_H → Option (Nat × om_H)) (pr Ln tb : Nat) (gS : om_H → Prop) : List Nat → om_H → List Nat → om_H → Prop
  | [], h, ys, h' => gS h ∧ ys = [] ∧ h' = h
  | x :: xs, h, ys, h' => gS h ∧ ∃ (y : Nat) (h1 : om_H) (ys' : List Nat), rC pr x Ln tb h = some (y, h1) ∧ y ≠ 0 ∧ ys = y :: ys' ∧ CR rC pr Ln tb gS xs h1 ys' h'
variable {pr Ln tb a Lp : Nat} {xs ys : List Nat} {l4 : Int} {l5 : Nat}
/-- while parts are gone through -/
def gS (a Lp pr : Nat) (xs : List Nat) (h : om_H) : Prop := kd h a = 20 ∧ fR h 1274 a = Lp ∧ kd h Lp = 42 ∧ ll h Lp = xs ∧ kd h pr = 2 ∧ xs.length ≤ 9000 ∧ ∀ x ∈ xs, kd h x = 20
theorem CR_gS {g : om_H → Prop} (C : CR rC pr Ln tb g xs h ys h') : g h := by
  cases xs with
  | nil => exact C.1
  | cons x xs => exact C.1
theorem c_rest : ∀ (zs : List Nat) (i : Nat) (h : om_H) (ys : List Nat) {l6 : Int} {l7 l8 : Nat}, xs.drop i = zs → i ≤ xs.length → l6 = (xs.length : Int) → CR rC pr Ln tb (gS a Lp pr xs) zs h ys h' → om_loop (C_1_typeOf_216s G rC pr a Ln tb l4 l5 l6 l7 l8) ((i : Int), h) = some (.inr h')
  | [], i, h, ys, l6, l7, l8, hd, hi, hl, C => by
    have : xs.length ≤ i := by
      have := congrArg List.length hd
      simp at this; omega
    obtain ⟨_, _, e⟩ := C
    rw [e]
    refine om_loop_out ?_
    unfold C_1_typeOf_216s
    rw [if_pos (by show l6 ≤ (i : Int); omega)]
  | z :: zs, i, h, ys, l6, l7, l8, hd, hi, hl, C => by
    have il : i < xs.length := by
      rcases Nat.lt_or_ge i xs.length with q | q
      · exact q
      · rw [List.drop_eq_nil_of_le q] at hd; cases hd
    have ez : xs[i]? = some z := by
      have := List.getElem?_drop (xs := xs) (i := i) (j := 0)
      rw [hd] at this
      simpa using this.symm
    have ed : xs.drop (i + 1) = zs := by
      have := drop_c ez
      rw [hd] at this
      injection this with _ q
      exact q.symm
    obtain ⟨g, y, h1, ys', e1, e2, e3, e4⟩ := C
    have st : C_1_typeOf_216s G rC pr a Ln tb l4 l5 l6 l7 l8 ((i : Int), h) = some (.inl (((i + 1 : Nat) : Int), h1)) := by
      unfold C_1_typeOf_216s
      obtain ⟨g1, g2, g3, g4, g5, g6, g7⟩ := g
      have eg : P_J2_get G Lp (i : Int) h = some z := by
        unfold P_J2_get
        rw [gd_pos ⟨g3, by omega⟩, g4, show ((i : Int)).toNat = i by omega, ez]
      simp only
      rw [if_neg (by omega), g2, gd_pos ⟨g1, g3⟩, eg, Option.bind_some, gd_pos ⟨.inr (g7 z (List.mem_of_getElem? ez)), g5⟩, e1, Option.bind_some, if_pos e2, w32_s (by omega) (by omega)]
      rfl
    rw [om_loop_in st]
    exact c_rest zs (i + 1) h1 ys' ed (by omega) hl e4
/-- what is made of the parts -/
noncomputable def finC (G : om_G) (rC : Nat → Nat → Nat → Nat → om_H → Option (Nat × om_H)) (l3 : Nat) (l4 : Int) (l5 l7 s0 : Nat) (v1 : om_H) : Option (Nat × om_H) := if 0 ≤ l4 then (C_0_partsOf G l4 v1).bind fun p2 => if p2 ≤ 0 then C_1_typeOf_303 G rC l4 s0 l3 l4 0 v1 else C_1_typeOf_303 G rC l4 s0 l3 l4 l7 v1 else if l5 = 0 then C_1_typeOf_267 G rC l3 v1 else if l7 ≠ 0 then gd (kd v1 l3 = 3) ((C_2_family G l3 l5 l7 v1).bind fun p3 => some (p3.1, p3.2)) else C_1_typeOf_267 G rC l3 v1
theorem c_211 {l6 : Int} {l7 s0 : Nat} (e : om_loop (C_1_typeOf_216s G rC pr a Ln tb l4 l5 l6 l7 s0) (2, h) = some (.inr h')) : C_1_typeOf_211 G rC pr a Ln tb l4 l5 l6 l7 s0 h = finC G rC tb l4 l5 l7 s0 h' := by
  unfold C_1_typeOf_211
  rw [e]
  rfl
theorem c_parts (C : CR rC pr Ln tb (gS a Lp pr xs) xs h ys h') : C_1_typeOf_156 G rC pr a Ln tb l4 l5 (xs.length : Int) h = finC G rC tb l4 l5 (ys.getD 0 0) (ys.getD 1 0) h' := by
  have g0 := CR_gS C
  unfold C_1_typeOf_156
  cases xs with
  | nil =>
    obtain ⟨_, e1, e2⟩ := C
    rw [if_pos (by simp)]
    unfold C_1_typeOf_182
    rw [if_pos (by simp), e1, e2]
    refine c_211 (om_loop_out ?_)
    unfold C_1_typeOf_216s
    rw [if_pos (by simp)]
  | cons x xs =>
    obtain ⟨g, y, h1, ys', e1, e2, e3, e4⟩ := C
    obtain ⟨g1, g2, g3, g4, g5, g6, g7⟩ := g
    have eg : P_J2_get G Lp 0 h = some x := by
      unfold P_J2_get
      rw [gd_pos ⟨g3, by omega⟩, g4]; rfl
    rw [if_neg (by simp), g2, gd_pos ⟨g1, g3⟩, eg, Option.bind_some, gd_pos ⟨.inr (g7 x List.mem_cons_self), g5⟩, e1, Option.bind_some]
    unfold C_1_typeOf_182
    cases xs with
    | nil =>
      obtain ⟨_, f1, f2⟩ := e4
      rw [if_pos (by simp), e3, f1, f2]
      refine c_211 (om_loop_out ?_)
      unfold C_1_typeOf_216s
      rw [if_pos (by simp)]
    | cons x2 xs =>
      obtain ⟨g', y2, h2, ys2, f1, f2, f3, f4⟩ := e4
      obtain ⟨k1, k2, k3, k4, k5, k6, k7⟩ := g'
      have eg2 : P_J2_get G Lp 1 h1 = some x2 := by
        unfold P_J2_get
        rw [gd_pos ⟨k3, by omega⟩, k4]; rfl
      rw [if_neg (by simp; omega), k2, gd_pos ⟨k1, k3⟩, eg2, Option.bind_some, gd_pos ⟨.inr (k7 x2 (List.mem_cons_of_mem _ List.mem_cons_self)), k5⟩, f1, Option.bind_some, e3, f3]
      refine c_211 ?_
      exact c_rest (xs := x :: x2 :: xs) xs 2 h2 ys2 rfl (by simp) rfl f4
end LPT
