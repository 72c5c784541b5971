set_option maxRecDepth 100000
/-! THE REASONS OF JUDGED NAMES CAN BE TOLD, in the component -/
theorem lkT_zip : ∀ {ws : List Nat} {ts : List Ty} {w : Nat}, w ∈ ws → ws.length ≤ ts.length → ∃ T, lkT (ws.zip ts) w = some T ∧ T ∈ ts
  | [], _, _, h, _ => by cases h
  | v :: ws, [], w, _, hl => by
    rw [List.length_cons, List.length_nil] at hl
    omega
  | v :: ws, t :: ts, w, h, hl => by
    rw [List.zip_cons_cons, lkT_cons]
    by_cases c : v = w
    · exact ⟨t, if_pos c, List.mem_cons_self⟩
    · have h' : w ∈ ws := by
        rcases List.mem_cons.mp h with z | z
        · exact absurd z.symm c
        · exact z
      rw [List.length_cons, List.length_cons] at hl
      obtain ⟨T, e1, e2⟩ := lkT_zip (ts := ts) h' (by omega)
      exact ⟨T, (if_neg c).trans e1, List.mem_cons_of_mem _ e2⟩
section LEN
variable {h : om_H} {N : List (List Int)} {cl : Nat → Nat} {U : Nat → Prop} {nm con fam : Nat → List Int} {E : JE} {B : Nat}
theorem evT_nm (J : JOk E B) (hf : ∀ f ∈ E.1, ∀ g ∈ f.2.1, (g.1 < 100 → g.1 < E.2.2.1.length) ∧ (100 ≤ g.1 → tOc N cl nm con fam h g.2.2 ∧ hdC N cl nm con fam h 2 (g.1 - 100))) (hm : ∀ m, some m ∈ E.2.1 → m.1 < E.2.2.1.length) {lb : XL} {ev : List Dc} (K : nmK2 E (QC h N cl U) lb ev) (ty : ∀ p ∈ lb.2.2.2.2.2, (tyOk E.2.2.2.1 p.1 ∧ tsz p.1 ≤ 2700 ∧ tdp p.1 < 70) ∧ tOc N cl nm con fam h p.1) : ∀ D ∈ ev, evT N cl U E.2.2.1 E.2.2.2.1 E.2.2.2.2 nm con fam h D := by
  rcases K with ⟨_, _, e⟩ | ⟨k0, kl, kk⟩
  · rw [e]
    exact fun D hD => absurd hD List.not_mem_nil
  have tym : ∀ T ∈ lb.2.2.2.2.2.map Prod.fst, (tyOk E.2.2.2.1 T ∧ tsz T ≤ 2700 ∧ tdp T < 70) ∧ tOc N cl nm con fam h T := fun T hT => by
    obtain ⟨p, p1, p2⟩ := List.mem_map.mp hT
    rw [← p2]
    exact ty p p1
  rcases kk with ⟨k1, f, ef, gk⟩ | ⟨k2, m, D, em, ee, dt, dk⟩ | ⟨_, _, e⟩
  · have fm := List.mem_of_getElem? ef
    have el : lb.2.2.2.2.2.length = f.1.length := by
      rw [kl]
      unfold jnN
      rw [if_pos k1, ef]
      rfl
    obtain ⟨_, _, Jg⟩ := J.2.1 f fm
    have go : ∀ (gl : List GVs) (Ds : List Dc), (∀ g ∈ gl, g ∈ f.2.1) → gvK E (QC h N cl U) (f.1.zip (lb.2.2.2.2.2.map Prod.fst)) gl Ds → ∀ D ∈ Ds, evT N cl U E.2.2.1 E.2.2.2.1 E.2.2.2.2 nm con fam h D := by
      intro gl
      induction gl with
      | nil =>
        intro Ds _ gk D hD
        cases Ds with
        | nil => exact absurd hD List.not_mem_nil
        | cons D' Ds => exact gk.elim
      | cons g gl ih =>
        intro Ds hg gk D hD
        cases Ds with
        | nil => exact gk.elim
        | cons D' Ds =>
        obtain ⟨gk1, gk2⟩ := gk
        rcases List.mem_cons.mp hD with z | z
        rotate_left
        · exact ih Ds (fun g hg' => hg g (List.mem_cons_of_mem _ hg')) gk2 D z
        subst z
        have gm := hg g List.mem_cons_self
        obtain ⟨j1, j2⟩ := Jg g gm
        obtain ⟨h7a, h7b⟩ := hf f fm g gm
        obtain ⟨Tf, e1, e2⟩ := lkT_zip (ts := lb.2.2.2.2.2.map Prod.fst) j1 (by rw [List.length_map]; omega)
        obtain ⟨⟨okT, zT, dT⟩, oT⟩ := tym Tf e2
        have eT : (lkT (f.1.zip (lb.2.2.2.2.2.map Prod.fst)) g.2.1).getD .leaf = Tf := by rw [e1]; rfl
        rw [eT] at gk1
        by_cases c : g.1 < 100
        · rw [if_pos c] at gk1
          exact .inl ⟨g.1, Tf, gk1.2, gk1.1, h7a c, okT.1, okT.2.1, okT.2.2, Nat.le_trans zT (by decide), oT⟩
        · rw [if_neg c] at gk1
          obtain ⟨eD, k2, _, z1, z2⟩ := gk1
          obtain ⟨d3, d4, d5, d6, d7⟩ := j2 (by omega)
          obtain ⟨h7c, h7d⟩ := h7b (by omega)
          have hθ : ∀ p ∈ f.1.zip (lb.2.2.2.2.2.map Prod.fst), (tyOk E.2.2.2.1 p.2 ∧ tsz p.2 ≤ 2700) ∧ tOc N cl nm con fam h p.2 := fun p hp => by
            have := tym p.2 (List.of_mem_zip hp).2
            exact ⟨⟨this.1.1, this.1.2.1⟩, this.2⟩
          have hzs : tsz (sbT (f.1.zip (lb.2.2.2.2.2.map Prod.fst)) g.2.2) ≤ 2700 * 2700 := by
            have := sbT_tsz (B := 2700) (by decide) (fun p hp => (hθ p hp).1.2) d4.2.1
            have h2 : 2700 * tsz g.2.2 ≤ 2700 * 2700 := Nat.mul_le_mul_left _ d5
            omega
          have zU := tszW_eq (T := sbT (f.1.zip (lb.2.2.2.2.2.map Prod.fst)) g.2.2) (by omega)
          have okU : tyOk E.2.2.2.1 (sbT (f.1.zip (lb.2.2.2.2.2.map Prod.fst)) g.2.2) := tyOk_sb (fun p hp => (hθ p hp).1.1) d4
          have okF2 : tyOk E.2.2.2.1 (tnd 2 (g.1 - 100) Tf .leaf) := ⟨(by intro z; cases z), ⟨.inr (.inr (.inl ⟨rfl, okT.1, rfl⟩)), okT.2.1, trivial⟩, ⟨fun _ => ⟨by omega, d7⟩, okT.2.2, trivial⟩⟩
          have dU := tdp_tsz (sbT (f.1.zip (lb.2.2.2.2.2.map Prod.fst)) g.2.2)
          refine .inr ⟨_, _, eD, k2, ⟨okF2.1, okU.1⟩, ⟨⟨okF2.2.1, okF2.2.2, ?_, ⟨h7d, oT, trivial⟩⟩, okU.2.1, okU.2.2, by omega, tOn_sb (fun p hp => (hθ p hp).2) h7c⟩, fun z => by rw [z]; omega⟩
          show 1 + tsz Tf + tsz .leaf ≤ 1000000
          have : tsz (.leaf : Ty) = 0 := rfl
          omega
    exact go f.2.1 ev (fun g hg => hg) gk
  · have el : lb.2.2.2.2.2.length = 1 := by
      rw [kl]
      unfold jnN
      rw [if_neg (by omega), if_pos k2]
    rw [ee]
    intro D' hD'
    rw [List.mem_singleton.mp hD']
    have e0 : (lb.2.2.2.2.2.map Prod.fst)[0]? = some ((lb.2.2.2.2.2.map Prod.fst)[0]'(by rw [List.length_map]; omega)) := List.getElem?_eq_getElem (by rw [List.length_map]; omega)
    generalize (lb.2.2.2.2.2.map Prod.fst)[0]'(by rw [List.length_map]; omega) = T at e0
    obtain ⟨⟨okT, zT, dT⟩, oT⟩ := tym T (List.mem_of_getElem? e0)
    rw [e0] at dt dk
    exact .inl ⟨m.1, T, dk, dt, hm m (List.mem_of_getElem? em), okT.1, okT.2.1, okT.2.2, Nat.le_trans zT (by decide), oT⟩
  · rw [e]
    exact fun D hD => absurd hD List.not_mem_nil
end LEN
