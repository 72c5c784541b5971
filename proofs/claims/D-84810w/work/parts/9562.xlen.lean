set_option maxRecDepth 100000
/-! HOW MANY BYTES ARE TOLD: exs -/
/-- labels, all through a tree -/
def xlD : Xt → Prop
  | .leaf => True
  | .inner t lb _ l r => ((t ≠ 0 → lbD lb) ∧ (t = 14 ∨ t = 15 → ∃ p, lb.2.2.2.2.2 = [p]) ∧ (t = 11 → lb.2.1 < 1000000)) ∧ (t ≠ 10 → t ≠ 11 → xlD l) ∧ (t ≠ 10 → t ≠ 11 → t ≠ 13 → t ≠ 14 → xlD r)
theorem lbT_27 {lb : XL} (h : lbD lb) : tsz (lbT lb) ≤ 2700 ∧ tdp (lbT lb) ≤ 59 := by
  unfold lbT
  cases q : lb.2.2.2.2.2[0]? with
  | none => exact ⟨Nat.zero_le _, Nat.zero_le _⟩
  | some p => exact h p (List.mem_of_getElem? q)
section LXL
variable {nm con fam cnm : Nat → List Int} {B : Nat} {E : JE}
/-- what is known of E for it -/
def JL (E : JE) (B : Nat) : Prop := JOk E B ∧ E.2.2.2.2.length ≤ 4 ∧ ∀ d ∈ E.2.2.2.1, d.2.2.2.1.length ≤ 4
theorem JL_I (J : JL E B) : InH hAny E.2.2.2.1 E.2.2.2.2 B := ⟨⟨J.1.1.1, J.1.1.2.1, J.1.1.2.2.1⟩, ⟨J.1.1.2.2.2.1, J.2.1, J.1.1.2.2.2.2⟩, fun d _ => allH_any _, fun g _ _ => allH_any _⟩
theorem atsB_len (L : lt10 nm con fam cnm) : ∀ (l : List (Ty × Nat)), (∀ p ∈ l, tsz p.1 ≤ 2700) → ((l.map (fun p => 91 :: tyB nm con fam p.1 ++ [93])).flatten).length ≤ 35102 * l.length
  | [], _ => Nat.zero_le _
  | p :: l, h => by
    have h1 := atsB_len L l (fun q hq => h q (List.mem_cons_of_mem _ hq))
    have h2 := tyB_len (nm := nm) (con := con) (fam := fam) L p.1
    have h3 := h p List.mem_cons_self
    rw [List.map_cons, List.flatten_cons, List.length_append, List.length_append, List.length_cons, List.length_cons, List.length_cons, List.length_nil]
    omega
/-- a name -/
theorem jnm_len (L : lt10 nm con fam cnm) (J : JL E B) {lb : XL} {Γ : List Ty} {s s' : JS} {e : Et} (hn : nok E lb Γ.length) (H : jnm E lb Γ s = some (.inr (e, s'))) : s.1 ≤ s'.1 ∧ ∃ T ev, e = en 10 lb T .leaf ev .leaf .leaf ∧ (nmB nm con fam cnm E.2.2.1 E.2.2.2.1 E.2.2.2.2 lb ev).length ≤ 149000 + 60000 * (s'.1 - s.1) := by
  have I := JL_I J
  have nm10 := (L lb.2.2.2.1).1
  have tym : ∀ T ∈ lb.2.2.2.2.2.map Prod.fst, tyOk E.2.2.2.1 T ∧ tsz T ≤ 2700 := fun T hT => by
    obtain ⟨p, p1, p2⟩ := List.mem_map.mp hT
    rw [← p2]
    exact hn.2 p p1
  have ats := atsB_len L lb.2.2.2.2.2 (fun p hp => (hn.2 p hp).2)
  have fin : ∀ ev : List Dc, lb.2.2.2.2.2.length ≤ 4 → evsL nm con fam cnm E ev ≤ 60000 * (s'.1 - s.1) + 4008 → (nmB nm con fam cnm E.2.2.1 E.2.2.2.1 E.2.2.2.2 lb ev).length ≤ 149000 + 60000 * (s'.1 - s.1) := fun ev h1 h2 => by
    unfold nmB
    rw [List.length_append, List.length_append]
    have h3 : ((ev.map (fun D => 123 :: evB nm con fam cnm E.2.2.1 E.2.2.2.1 E.2.2.2.2 D ++ [125])).flatten).length = evsL nm con fam cnm E ev := rfl
    rw [h3]
    omega
  unfold jnm at H
  by_cases k0 : lb.2.1 = 0
  · rw [if_pos k0] at H
    cases ql : lb.2.2.2.2.2 with
    | cons a l => rw [ql] at H; cases Option.some.inj H
    | nil =>
      rw [ql] at H
      simp only at H
      cases qg : Γ[lb.2.2.1]? with
      | none => rw [qg] at H; cases H
      | some T =>
        rw [qg] at H
        injection Sum.inr.inj (Option.some.inj H) with e1 e2
        refine ⟨by rw [← e2]; exact Nat.le_refl _, T, [], e1.symm, fin [] (by rw [ql]; exact Nat.zero_le _) (Nat.zero_le _)⟩
  rw [if_neg k0] at H
  by_cases c1 : lb.2.2.2.2.2.length < jnN E lb.2.1 lb.2.2.1
  · rw [if_pos c1] at H
    cases Option.some.inj H
  rw [if_neg c1] at H
  cases qa : lb.2.2.2.2.2[jnN E lb.2.1 lb.2.2.1]? with
  | some a => rw [qa] at H; cases Option.some.inj H
  | none =>
  rw [qa] at H
  simp only at H
  have el : lb.2.2.2.2.2.length = jnN E lb.2.1 lb.2.2.1 := by
    have := List.getElem?_eq_none_iff.mp qa
    omega
  by_cases c2 : jnN E lb.2.1 lb.2.2.1 ≠ 0 ∧ ¬ tszW (jnT E lb.2.1 lb.2.2.1 (lb.2.2.2.2.2.map Prod.fst)) ≤ 60
  · rw [if_pos c2] at H
    cases Option.some.inj H
  rw [if_neg c2] at H
  obtain ⟨⟨ev, s1⟩, e1, e2⟩ := jbR H
  injection Sum.inr.inj (Option.some.inj e2) with e3 e4
  have e4' : s1 = s' := e4
  subst e4'
  unfold jnG at e1
  by_cases k1 : lb.2.1 = 1
  · rw [if_pos k1] at e1
    cases qf : E.1[lb.2.2.1]? with
    | none => rw [qf] at e1; cases e1
    | some f =>
      rw [qf] at e1
      have e1' : jgv E lb.1 (f.1.zip (lb.2.2.2.2.2.map Prod.fst)) f.2.1 s = some (.inr (ev, s1)) := e1
      have fm := List.mem_of_getElem? qf
      obtain ⟨_, ⟨f4, g4⟩, Jg⟩ := J.1.2.1 f fm
      have el' : lb.2.2.2.2.2.length = f.1.length := by
        rw [el]
        unfold jnN
        rw [if_pos k1, qf]
        rfl
      obtain ⟨h1, h2⟩ := jgv_len (nm := nm) (con := con) (fam := fam) L I J.2.2 (fun g hg => by
        obtain ⟨j1, j2⟩ := Jg g hg
        obtain ⟨Tf, t1, t2⟩ := lkT_zip (ts := lb.2.2.2.2.2.map Prod.fst) j1 (by rw [List.length_map]; omega)
        obtain ⟨okT, zT⟩ := tym Tf t2
        have eT : (lkT (f.1.zip (lb.2.2.2.2.2.map Prod.fst)) g.2.1).getD .leaf = Tf := by rw [t1]; rfl
        rw [eT]
        refine ⟨fun _ => GT_of okT (by omega), fun c => ?_⟩
        obtain ⟨d3, d4, d5, d6, d7⟩ := j2 c
        have hθ : ∀ p ∈ f.1.zip (lb.2.2.2.2.2.map Prod.fst), tyOk E.2.2.2.1 p.2 ∧ tsz p.2 ≤ 2700 := fun p hp => tym p.2 (List.of_mem_zip hp).2
        have hzs : tsz (sbT (f.1.zip (lb.2.2.2.2.2.map Prod.fst)) g.2.2) ≤ 2700 * 2700 := by
          have := sbT_tsz (B := 2700) (by decide) (fun p hp => (hθ p hp).2) d4.2.1
          have h2 : 2700 * tsz g.2.2 ≤ 2700 * 2700 := Nat.mul_le_mul_left _ d5
          omega
        have okU : tyOk E.2.2.2.1 (sbT (f.1.zip (lb.2.2.2.2.2.map Prod.fst)) g.2.2) := tyOk_sb (fun p hp => (hθ p hp).1) d4
        have okF2 : tyOk E.2.2.2.1 (tnd 2 (g.1 - 100) Tf .leaf) := ⟨(by intro z; cases z), ⟨.inr (.inr (.inl ⟨rfl, okT.1, rfl⟩)), okT.2.1, trivial⟩, ⟨fun _ => ⟨by omega, d7⟩, okT.2.2, trivial⟩⟩
        refine ⟨⟨okF2, ?_⟩, okU, by omega⟩
        show 1 + tsz Tf + tsz .leaf ≤ 2147483647
        have : tsz (.leaf : Ty) = 0 := rfl
        omega) e1'
      exact ⟨h1, _, ev, e3.symm, fin ev (by omega) (by omega)⟩
  rw [if_neg k1] at e1
  by_cases k2 : lb.2.1 = 2
  · rw [if_pos k2] at e1
    have el1 : lb.2.2.2.2.2.length = 1 := by
      rw [el]
      unfold jnN
      rw [if_neg k1, if_pos k2]
    cases qm : (E.2.1[lb.2.2.1]?).bind id with
    | none => rw [qm] at e1; cases e1
    | some m =>
      rw [qm] at e1
      have e1' : jb (jcl E lb.1 m.1 ((lb.2.2.2.2.2.map Prod.fst)[0]?.getD .leaf) s) (fun a => some (.inr ([a.1], a.2))) = some (.inr (ev, s1)) := e1
      obtain ⟨⟨D, s2⟩, e5, e6⟩ := jbR e1'
      injection Sum.inr.inj (Option.some.inj e6) with e7 e8
      have e8' : s2 = s1 := e8
      have e7' : [D] = ev := e7
      have gT : GTH E.2.2.2.1 hAny ((lb.2.2.2.2.2.map Prod.fst)[0]?.getD .leaf) := by
        cases qz : (lb.2.2.2.2.2.map Prod.fst)[0]? with
        | none => exact ⟨trivial, trivial, Nat.zero_le _, trivial⟩
        | some T =>
          obtain ⟨okT, zT⟩ := tym T (List.mem_of_getElem? qz)
          exact (GT_of okT (show tsz T ≤ 1000000 by omega))
      obtain ⟨h1, h2⟩ := jcl_len (nm := nm) (con := con) (fam := fam) L I J.2.2 gT e5
      rw [e8'] at h1 h2
      refine ⟨h1, _, ev, e3.symm, fin ev (by omega) ?_⟩
      rw [← e7', evsL_c]
      have : evsL nm con fam cnm E [] = 0 := rfl
      omega
  rw [if_neg k2] at e1
  injection Sum.inr.inj (Option.some.inj e1) with e5 e6
  have e6' : s = s1 := e6
  have e5' : [] = ev := e5
  have el2 : lb.2.2.2.2.2.length ≤ 2 := by
    rw [el]
    unfold jnN btN
    rw [if_neg k1, if_neg k2]
    split
    · omega
    · split <;> omega
  refine ⟨by rw [e6']; exact Nat.le_refl _, _, ev, e3.symm, fin ev (by omega) ?_⟩
  rw [← e5']
  exact Nat.zero_le _
/-- without its cast -/
def coL (nm con fam cnm : Nat → List Int) (E : JE) : Et → Nat
  | .leaf => 0
  | .inner t a _ l r => (corB nm con fam cnm E.2.2.1 E.2.2.2.1 E.2.2.2.2 t a l r).length
def exL (nm con fam cnm : Nat → List Int) (E : JE) (e : Et) : Nat := (exB nm con fam cnm E.2.2.1 E.2.2.2.1 E.2.2.2.2 e []).length
/-- what came of judging -/
def LzR (nm con fam cnm : Nat → List Int) (E : JE) (s : JS) (t : Xt) (e : Et) (s' : JS) : Prop := s.1 ≤ s'.1 ∧ coL nm con fam cnm E e ≤ 150000 * xnN t + 60000 * (s'.1 - s.1) ∧ ∃ (tt : Nat) (lb : XL) (T : Ty) (ev : List Dc) (u : Unit) (l r : Et), e = .inner tt (lb, T, .leaf, ev) u l r ∧ tt ≠ 0
/-- with its cast -/
def LxR (nm con fam cnm : Nat → List Int) (E : JE) (s : JS) (t : Xt) (e : Et) (s' : JS) : Prop := s.1 ≤ s'.1 ∧ exL nm con fam cnm E e ≤ 150000 * xnN t + 60000 * (s'.1 - s.1) + 8 ∧ e ≠ .leaf
theorem LzR_x {s s' : JS} {t : Xt} {e : Et} (H : LzR nm con fam cnm E s t e s') : LxR nm con fam cnm E s t e s' ∧ exL nm con fam cnm E e ≤ 150000 * xnN t + 60000 * (s'.1 - s.1) := by
  obtain ⟨h1, h2, tt, lb, T, ev, u, l, r, ee, h0⟩ := H
  subst ee
  have h2' : (corB nm con fam cnm E.2.2.1 E.2.2.2.1 E.2.2.2.2 tt (lb, T, .leaf, ev) l r).length ≤ 150000 * xnN t + 60000 * (s'.1 - s.1) := h2
  have h3 : exL nm con fam cnm E (.inner tt (lb, T, .leaf, ev) u l r) = (corB nm con fam cnm E.2.2.1 E.2.2.2.1 E.2.2.2.2 tt (lb, T, .leaf, ev) l r).length := by
    unfold exL
    rw [exB_i h0]
    have e1 : (if lfB (Std.DTreeMap.Internal.Impl.leaf : Ty) = true then [] else [(40 : Int)]) = [] := if_pos rfl
    have e2 : cstB nm con fam E.2.2.2.1 E.2.2.2.2 T .leaf = [] := if_pos rfl
    show ((if lfB (Std.DTreeMap.Internal.Impl.leaf : Ty) = true then [] else [(40 : Int)]) ++ corB nm con fam cnm E.2.2.1 E.2.2.2.1 E.2.2.2.2 tt (lb, T, .leaf, ev) l r ++ cstB nm con fam E.2.2.2.1 E.2.2.2.2 T .leaf).length = _
    rw [e1, e2, List.nil_append, List.append_nil]
  exact ⟨⟨h1, by omega, (by intro z; cases z)⟩, by omega⟩
/-- a cast is put -/
theorem LzR_cs {s s1 s' : JS} {t : Xt} {e : Et} {C : Ty} (H : LzR nm con fam cnm E s t e s1) (h1 : s1.1 ≤ s'.1) (ho : (oneB nm con fam E.2.2.2.1 E.2.2.2.2 (eTy e) C).length ≤ 54000 * (s'.1 - s1.1) + 4) : LxR nm con fam cnm E s t (eCs C e) s' := by
  obtain ⟨h2, h3, tt, lb, T, ev, u, l, r, ee, h0⟩ := H
  subst ee
  have h3' : (corB nm con fam cnm E.2.2.1 E.2.2.2.1 E.2.2.2.2 tt (lb, T, .leaf, ev) l r).length ≤ 150000 * xnN t + 60000 * (s1.1 - s.1) := h3
  have h4 : exL nm con fam cnm E (eCs C (.inner tt (lb, T, .leaf, ev) u l r)) ≤ (corB nm con fam cnm E.2.2.1 E.2.2.2.1 E.2.2.2.2 tt (lb, T, .leaf, ev) l r).length + (oneB nm con fam E.2.2.2.1 E.2.2.2.2 T C).length + 4 := by
    unfold exL eCs
    rw [exB_i h0]
    show ((if lfB C = true then [] else [(40 : Int)]) ++ corB nm con fam cnm E.2.2.1 E.2.2.2.1 E.2.2.2.2 tt (lb, T, C, ev) l r ++ cstB nm con fam E.2.2.2.1 E.2.2.2.2 T C).length ≤ _
    have e1 : corB nm con fam cnm E.2.2.1 E.2.2.2.1 E.2.2.2.2 tt (lb, T, C, ev) l r = corB nm con fam cnm E.2.2.1 E.2.2.2.1 E.2.2.2.2 tt (lb, T, .leaf, ev) l r := rfl
    rw [e1]
    unfold cstB
    by_cases c : lfB C = true
    · rw [if_pos c, if_pos c]
      simp only [List.length_append, List.length_nil]
      omega
    · rw [if_neg c, if_neg c]
      simp only [List.length_append, List.length_cons, List.length_nil]
      omega
  have ho' : (oneB nm con fam E.2.2.2.1 E.2.2.2.2 T C).length ≤ 54000 * (s'.1 - s1.1) + 4 := ho
  exact ⟨by omega, by omega, (by intro z; cases z)⟩
theorem jw_len (L : lt10 nm con fam cnm) (J : JL E B) {T : Ty} {t : Xt} {e e' : Et} {s0 s s' : JS} {b : Nat} (H : LzR nm con fam cnm E s0 t e s) (okT : tOk1 E.2.2.2.1 T) (He : eOk E.2.2.2.1 b e) (hb : b ≤ 1000000) (h : jw E T e s = some (.inr (e', s'))) : LxR nm con fam cnm E s0 t e' s' := by
  unfold jw at h
  by_cases c : tyE (eTy e) T = true
  · rw [if_pos c] at h
    injection Sum.inr.inj (Option.some.inj h) with e1 e2
    rw [← e1, ← e2]
    exact (LzR_x H).1
  · rw [if_neg c] at h
    cases q : oneP E.2.2.2.1 E.2.2.2.2 (0, s.1, s.2) (eTy e) T with
    | none => rw [q] at h; cases h
    | some a =>
    rw [q, Option.bind_some] at h
    cases a with
    | none => cases Option.some.inj h
    | some p =>
    obtain ⟨b', w⟩ := p
    simp only at h
    cases b' with
    | false => rw [if_neg (by decide)] at h; cases Option.some.inj h
    | true =>
      rw [if_pos rfl] at h
      injection Sum.inr.inj (Option.some.inj h) with e1 e2
      obtain ⟨h1, h2⟩ := one_len (nm := nm) (con := con) (fam := fam) L (JL_I J) (Nat.zero_le _) (GT_of He.1 (by have := He.2; omega)) (GT_of okT.1 okT.2) He.1.1 okT.1.1 q
      rw [← e1, ← e2]
      exact LzR_cs H h1 (h2 c)
theorem jf_len (L : lt10 nm con fam cnm) (J : JL E B) {k w pl b : Nat} {t : Xt} {e e' : Et} {u : Ty} {s0 s s' : JS} (hb : b ≤ 1000000) (He : eOk E.2.2.2.1 b e) (H : LzR nm con fam cnm E s0 t e s) (h : jf E k w pl e s = some (.inr (e', u, s'))) : LxR nm con fam cnm E s0 t e' s' := by
  unfold jf at h
  by_cases c : isK k w (eTy e) = true
  · rw [if_pos c] at h
    have e0 := Sum.inr.inj (Option.some.inj h)
    injection e0 with e1 e2
    injection e2 with e2 e3
    rw [← e1, ← e3]
    exact (LzR_x H).1
  · rw [if_neg c] at h
    cases q : wk 2 E.2.2.2.1 E.2.2.2.2 130 false 0 (0, s.1, s.2) (eTy e) with
    | none => rw [q] at h; cases h
    | some a =>
    rw [q, Option.bind_some] at h
    cases a with
    | none => cases Option.some.inj h
    | some p =>
    obtain ⟨v, w'⟩ := p
    simp only at h
    by_cases ck : isK k w v = true
    rotate_left
    · rw [if_neg ck] at h
      cases Option.some.inj h
    rw [if_pos ck] at h
    have e0 := Sum.inr.inj (Option.some.inj h)
    injection e0 with e1 e2
    injection e2 with e2 e3
    obtain ⟨_, kn⟩ := knT_wk2 (Q := fun _ => True) q
    have kn := kn (fun _ _ => trivial)
    obtain ⟨y1, y2, y3⟩ := nP_wk (Nat.zero_le _) q
    obtain ⟨D0, d0, x0, _⟩ := wk_st q
    have a1 : w'.1 = 0 + d0 := congrArg (fun y : WS => y.1) x0.1
    have a2 : w'.2.1 = s.1 + d0 := congrArg (fun y : WS => y.2.1) x0.1
    have y3' : nP E.2.2.2.1 E.2.2.2.2 130 (eTy e) ≤ 60 * (w'.1 - 0) := y3
    have gT := GT_of He.1 (by have := He.2; omega)
    have l1 := why_len (nm := nm) (con := con) (fam := fam) L (JL_I J) 130 (by decide) (eTy e) _ 130 (Nat.le_refl _) kn He.1.1 gT
    have n1 : oL (whyB nm con fam E.2.2.2.1 E.2.2.2.2 130 v) = 0 := by
      rw [why_nf (by decide) kn]
      rfl
    have ne : ¬ tyE (eTy e) v = true := fun z => c (by rw [tyE_iff.mp z]; exact ck)
    have l3 := oneB_len (nm := nm) (con := con) (fam := fam) (ins := E.2.2.2.1) (gv := E.2.2.2.2) ne
    rw [← e1, ← e3]
    refine LzR_cs H (by show s.1 ≤ w'.2.1; omega) ?_
    show _ ≤ 54000 * (w'.2.1 - s.1) + 4
    omega
end LXL
