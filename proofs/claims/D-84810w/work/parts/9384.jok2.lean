set_option maxRecDepth 100000
/-! JUDGING COMES TO AN END, as a whole -/
/-- what is known of an ex that is judged -/
def eOk (ins : List INs) (b : Nat) (e : Et) : Prop := tyOk ins (eTy e) ∧ tsz (eTy e) ≤ b
section LJP
variable {E : JE} {B : Nat}
theorem eTy_Cs {C : Ty} {e : Et} : eTy (eCs C e) = eTy e ∧ ePl (eCs C e) = ePl e := by
  cases e <;> exact ⟨rfl, rfl⟩
theorem jnm_ok (J : JOk E B) {lb : XL} {Γ : List Ty} {s : JS} {b : Nat} (H : nok E lb Γ.length) (hΓ : ∀ T ∈ Γ, tyOk E.2.2.2.1 T ∧ tsz T ≤ b) (hb : 2700 ≤ b) : ∃ z, jnm E lb Γ s = some z ∧ ∀ a, z = .inr a → eOk E.2.2.2.1 b a.1 ∧ ePl a.1 = lb.1 := by
  unfold jnm
  by_cases k0 : lb.2.1 = 0
  · rw [if_pos k0]
    cases q : lb.2.2.2.2.2 with
    | nil =>
      have h' : lb.2.2.1 < Γ.length := by
        rcases H.1 with h | h | h | h
        · exact h.2
        · omega
        · omega
        · omega
      have e : Γ[lb.2.2.1]? = some Γ[lb.2.2.1] := List.getElem?_eq_getElem h'
      simp only
      rw [e]
      refine ⟨_, rfl, fun a q => ?_⟩
      injection q with q
      rw [← q]
      exact ⟨hΓ _ (List.mem_of_getElem? e), rfl⟩
    | cons a l => exact ⟨_, rfl, fun a q => by cases q⟩
  rw [if_neg k0]
  by_cases l1 : lb.2.2.2.2.2.length < jnN E lb.2.1 lb.2.2.1
  · rw [if_pos l1]; exact ⟨_, rfl, fun a q => by cases q⟩
  rw [if_neg l1]
  cases q : lb.2.2.2.2.2[jnN E lb.2.1 lb.2.2.1]? with
  | some a => exact ⟨_, rfl, fun a q => by cases q⟩
  | none =>
    simp only
    have l2 := List.getElem?_eq_none_iff.mp q
    have hl : lb.2.2.2.2.2.length = jnN E lb.2.1 lb.2.2.1 := by omega
    obtain ⟨o1, o2, o3⟩ := jnT_ok J H k0 hl
    split
    · exact ⟨_, rfl, fun a q => by cases q⟩
    · rename_i nf
      refine jb_ok (P := fun _ => True) ?_ (fun a _ => ⟨_, rfl, fun c q => ?_⟩)
      · unfold jnG
        rcases H.1 with h | ⟨h, h'⟩ | ⟨h, m, h'⟩ | ⟨h, h'⟩
        · exact absurd h.1 k0
        · rw [if_pos h, List.getElem?_eq_getElem h']
          exact jgv_ok _ _
        · rw [if_neg (by omega), if_pos h, h']
          exact jb_ok (P := fun _ => True) jcl_ok (fun a _ => ⟨_, rfl, fun _ _ => trivial⟩)
        · rw [if_neg (by omega), if_neg (by omega)]
          exact ⟨_, rfl, fun _ _ => trivial⟩
      · injection q with q
        rw [← q]
        refine ⟨⟨o1, ?_⟩, rfl⟩
        show tsz (jnT E lb.2.1 lb.2.2.1 (lb.2.2.2.2.2.map Prod.fst)) ≤ b
        by_cases n0 : jnN E lb.2.1 lb.2.2.1 = 0
        · have := o3 n0; omega
        · have f60 : tszW (jnT E lb.2.1 lb.2.2.1 (lb.2.2.2.2.2.map Prod.fst)) ≤ 60 := Classical.byContradiction (fun z => nf ⟨n0, z⟩)
          have := tszW_eq (T := jnT E lb.2.1 lb.2.2.1 (lb.2.2.2.2.2.map Prod.fst)) (by omega)
          omega
theorem jw_ok {T : Ty} {e : Et} {s : JS} {b p : Nat} (H : eOk E.2.2.2.1 b e ∧ ePl e = p) : ∃ z, jw E T e s = some z ∧ ∀ a, z = .inr a → eOk E.2.2.2.1 b a.1 ∧ ePl a.1 = p := by
  unfold jw
  split
  · refine ⟨_, rfl, fun a q => ?_⟩
    injection q with q
    rw [← q]; exact H
  · obtain ⟨z, e1⟩ := one_ends (ins := E.2.2.2.1) (gv := E.2.2.2.2) (0, s.1, s.2) (eTy e) T (Nat.zero_le _)
    rw [e1, Option.bind_some]
    cases z with
    | none => exact ⟨_, rfl, fun a q => by cases q⟩
    | some pb =>
      simp only
      split
      · refine ⟨_, rfl, fun a q => ?_⟩
        injection q with q
        rw [← q]
        obtain ⟨c1, c2⟩ := eTy_Cs (C := T) (e := e)
        unfold eOk
        rw [c1, c2]; exact H
      · exact ⟨_, rfl, fun a q => by cases q⟩
theorem isK_iff {k w : Nat} {T : Ty} (h : isK k w T = true) : ∃ u l r, T = .inner k w u l r := by
  cases T with
  | leaf => cases h
  | inner k' w' u l r =>
    have h' : (k' == k && w' == w) = true := h
    simp only [Bool.and_eq_true, beq_iff_eq] at h'
    rw [h'.1, h'.2]
    exact ⟨u, l, r, rfl⟩
theorem jf_ok (J : JOk E B) {k w pl : Nat} {e : Et} {s : JS} {b p : Nat} (hb : 2700 ≤ b) (hb2 : b ≤ 1000000) (H : eOk E.2.2.2.1 b e ∧ ePl e = p) : ∃ z, jf E k w pl e s = some z ∧ ∀ a, z = .inr a → (eOk E.2.2.2.1 b a.1 ∧ ePl a.1 = p) ∧ tyOk E.2.2.2.1 a.2.1 ∧ tsz a.2.1 ≤ b ∧ isK k w a.2.1 = true := by
  unfold jf
  by_cases q0 : isK k w (eTy e) = true
  · rw [if_pos q0]
    refine ⟨_, rfl, fun a q => ?_⟩
    injection q with q
    rw [← q]; exact ⟨H, H.1.1, H.1.2, q0⟩
  · rw [if_neg q0]
    obtain ⟨z, e1, _⟩ := wk_ends (ins := E.2.2.2.1) (gv := E.2.2.2.2) 130 false 0 (0, s.1, s.2) (eTy e) 0 (by decide) (Nat.le_refl _) (Nat.zero_le _) (by rw [if_neg (by decide)]; omega)
    rw [e1, Option.bind_some]
    cases z with
    | none => exact ⟨_, rfl, fun a q => by cases q⟩
    | some pb =>
      obtain ⟨u, s'⟩ := pb
      obtain ⟨⟨wu, nu, oku⟩, zu⟩ := wk_tsz J.1.1 J.1.2.1 J.1.2.2.1 (by have := J.1.2.2.2.1; omega) J.1.2.2.2.2 (by have := H.1.2; omega) H.1.1.2.1 H.1.1.1 H.1.1.2.2 e1
      rw [if_neg (by decide)] at zu
      simp only
      by_cases qk : isK k w u = true
      · rw [if_pos qk]
        refine ⟨_, rfl, fun a q => ?_⟩
        injection q with q
        rw [← q]
        obtain ⟨c1, c2⟩ := eTy_Cs (C := u) (e := e)
        unfold eOk
        rw [c1, c2]; exact ⟨H, ⟨nu, wu, oku⟩, by show tsz u ≤ b; omega, qk⟩
      · rw [if_neg qk]; exact ⟨_, rfl, fun a q => by cases q⟩
/-- JUDGING COMES TO AN END -/
theorem jd_ok (J : JOk E B) : ∀ (t : Xt) (Γ : List Ty) (s : JS) (b : Nat), xok E t Γ.length → (∀ T ∈ Γ, tyOk E.2.2.2.1 T ∧ tsz T ≤ b) → 2700 ≤ b → b + xsz t ≤ 1000000 → ∃ z, jd E t Γ s = some z ∧ ∀ a, z = .inr a → eOk E.2.2.2.1 (b + xsz t) a.1 ∧ ePl a.1 = xPl t := by
  have tI : tyOk E.2.2.2.1 tInt ∧ tsz tInt ≤ 1 := ⟨tyOk_con (by decide) (by rw [if_neg (by decide)]) (by rw [if_neg (by decide)]), Nat.le_refl _⟩
  have tB : tyOk E.2.2.2.1 tBool ∧ tsz tBool ≤ 1 := ⟨tyOk_con (by decide) (by rw [if_neg (by decide)]) (by rw [if_neg (by decide)]), Nat.le_refl _⟩
  have up : ∀ {b b' : Nat} {e : Et} {p : Nat}, b ≤ b' → eOk E.2.2.2.1 b e ∧ ePl e = p → eOk E.2.2.2.1 b' e ∧ ePl e = p := fun hb h => ⟨⟨h.1.1, Nat.le_trans h.1.2 hb⟩, h.2⟩
  refine tr_ind (fun _ _ _ h => by rw [xok] at h; exact h.elim) (fun t lb u l r ihl ihr ihp => ?_)
  intro Γ s b H hΓ hb hb2
  have gle : ∀ {b' : Nat}, b ≤ b' → ∀ T ∈ Γ, tyOk E.2.2.2.1 T ∧ tsz T ≤ b' := fun h T hT => ⟨(hΓ T hT).1, Nat.le_trans (hΓ T hT).2 h⟩
  have e0 : xsz (.inner t lb u l r) = 1 + 2 * tsz (lbT lb) + xsz l + xsz r := rfl
  rw [xok_e] at H
  unfold xokB at H
  rw [jd_e]
  unfold jdB
  by_cases t10 : t = 10
  · rw [if_pos t10] at H ⊢
    obtain ⟨z, e, ez⟩ := jnm_ok (s := s) J H hΓ hb
    exact ⟨z, e, fun a q => up (by omega) (ez a q)⟩
  rw [if_neg t10] at H ⊢
  by_cases t11 : t = 11
  · rw [if_pos t11]
    refine ⟨_, rfl, fun a q => ?_⟩
    injection q with q
    rw [← q]
    exact ⟨⟨tI.1, by show tsz tInt ≤ _; omega⟩, rfl⟩
  rw [if_neg t11] at H ⊢
  by_cases t12 : t = 12
  · rw [if_pos t12] at H ⊢
    refine jb_ok (ihl Γ s b H.1 hΓ hb (by omega)) (fun a ha => jb_ok (jf_ok J (by omega) (by omega) ha) (fun f hf => ?_))
    obtain ⟨_, f1, f2, f3⟩ := hf
    obtain ⟨u', fl, fr, ef⟩ := isK_iff f3
    rw [ef] at f1 f2
    have f2' : 1 + tsz fl + tsz fr ≤ b + xsz l := f2
    obtain ⟨g1, g2⟩ := tyOk_parts f1 (.inl rfl)
    refine jb_ok (ihr Γ f.2.2 b H.2 hΓ hb (by omega)) (fun c hc => jb_ok (jw_ok hc) (fun dd _ => ⟨_, rfl, fun x q => ?_⟩))
    injection q with q
    rw [← q, ef]
    exact ⟨⟨g2 rfl, by show tsz fr ≤ _; omega⟩, rfl⟩
  rw [if_neg t12] at H ⊢
  by_cases t13 : t = 13
  · rw [if_pos t13] at H ⊢
    exact jb_ok (ihl Γ s b H hΓ hb (by omega)) (fun a ha => ⟨_, rfl, fun x q => by cases q⟩)
  rw [if_neg t13] at H ⊢
  by_cases t14 : t = 14
  · rw [if_pos t14] at H ⊢
    refine jb_ok (ihl (Γ ++ [lbT lb]) s (b + tsz (lbT lb)) (by rw [List.length_append]; exact H.2) (fun T hT => ?_) (by omega) (by omega)) (fun a ha => ⟨_, rfl, fun x q => ?_⟩)
    · rcases List.mem_append.mp hT with h | h
      · exact gle (by omega) T h
      · rw [List.mem_singleton.mp h]; exact ⟨H.1, by omega⟩
    · injection q with q
      rw [← q]
      exact ⟨⟨tyOk_arr H.1 ha.1.1, by have := ha.1.2; show 1 + tsz (lbT lb) + tsz (eTy a.1) ≤ _; omega⟩, rfl⟩
  rw [if_neg t14] at H ⊢
  by_cases t15 : t = 15
  · rw [if_pos t15] at H ⊢
    refine jb_ok (ihl Γ s b H.2.1 hΓ hb (by omega)) (fun a ha => jb_ok (jw_ok ha) (fun a2 _ => jb_ok (ihr (Γ ++ [lbT lb]) a2.2 (b + tsz (lbT lb)) (by rw [List.length_append]; exact H.2.2) (fun T hT => ?_) (by omega) (by omega)) (fun c hc => ⟨_, rfl, fun x q => ?_⟩)))
    · rcases List.mem_append.mp hT with h | h
      · exact gle (by omega) T h
      · rw [List.mem_singleton.mp h]; exact ⟨H.1, by omega⟩
    · injection q with q
      rw [← q]
      exact ⟨⟨hc.1.1, by have := hc.1.2; show tsz (eTy c.1) ≤ _; omega⟩, rfl⟩
  rw [if_neg t15] at H ⊢
  by_cases t18 : t = 18
  · rw [if_pos t18] at H ⊢
    refine jb_ok (ihl Γ s b H.1 hΓ hb (by omega)) (fun a ha => jb_ok (jw_ok ha) (fun a2 _ => jb_ok (ihr Γ a2.2 b H.2 hΓ hb (by omega)) (fun c hc => jb_ok (jw_ok hc) (fun c2 _ => ⟨_, rfl, fun x q => ?_⟩))))
    injection q with q
    rw [← q]
    refine ⟨?_, rfl⟩
    show tyOk _ (if lb.2.1 = 60 ∨ lb.2.1 = 61 then tBool else tInt) ∧ tsz (if lb.2.1 = 60 ∨ lb.2.1 = 61 then tBool else tInt) ≤ _
    split
    · exact ⟨tB.1, by omega⟩
    · exact ⟨tI.1, by omega⟩
  rw [if_neg t18] at H ⊢
  cases r with
  | leaf => exact H.elim
  | inner t' lb' u' r1 r2 =>
    obtain ⟨p1, p2⟩ := ihp t' lb' u' r1 r2 rfl
    have e1 : xsz (.inner t' lb' u' r1 r2) = 1 + 2 * tsz (lbT lb') + xsz r1 + xsz r2 := rfl
    simp only at H ⊢
    by_cases t16 : t = 16
    · rw [if_pos t16] at H ⊢
      refine jb_ok (ihl Γ s b H.1 hΓ hb (by omega)) (fun a ha => jb_ok (jw_ok ha) (fun a2 _ => jb_ok (p1 Γ a2.2 b H.2.1 hΓ hb (by omega)) (fun c hc => jb_ok (p2 Γ c.2 b H.2.2 hΓ hb (by omega)) (fun dd hd' => jb_ok (jw_ok hd') (fun d2 _ => ⟨_, rfl, fun x q => ?_⟩)))))
      injection q with q
      rw [← q]
      exact ⟨⟨hc.1.1, by have := hc.1.2; show tsz (eTy c.1) ≤ _; omega⟩, rfl⟩
    rw [if_neg t16] at H ⊢
    by_cases t17 : t = 17
    · rw [if_pos t17] at H ⊢
      refine jb_ok (ihl Γ s b H.1 hΓ hb (by omega)) (fun a ha => jb_ok (jf_ok J (by omega) (by omega) ha) (fun f hf => ?_))
      obtain ⟨_, f1, f2, f3⟩ := hf
      obtain ⟨u2, fl, fr', ef⟩ := isK_iff f3
      have f1' := f1
      rw [ef] at f1'
      obtain ⟨g1, _⟩ := tyOk_parts f1' (.inr ⟨rfl, Nat.le_refl _⟩)
      have eL : tL f.2.1 = fl := by rw [ef]; rfl
      have f2' : 1 + tsz fl + tsz fr' ≤ b + xsz l := by rw [ef] at f2; exact f2
      refine jb_ok (p1 Γ f.2.2 b H.2.1 hΓ hb (by omega)) (fun c hc => jb_ok (p2 (Γ ++ [tL f.2.1, f.2.1]) c.2 (b + xsz l) (by rw [List.length_append]; exact H.2.2) (fun T hT => ?_) (by omega) (by omega)) (fun dd hd' => jb_ok (jw_ok hd') (fun d2 _ => ⟨_, rfl, fun x q => ?_⟩)))
      · rcases List.mem_append.mp hT with h | h
        · exact gle (by omega) T h
        · rcases List.mem_cons.mp h with h | h
          · rw [h, eL]; exact ⟨g1, by omega⟩
          · rw [List.mem_singleton.mp h]; exact ⟨f1, f2⟩
      · injection q with q
        rw [← q]
        exact ⟨⟨hc.1.1, by have := hc.1.2; show tsz (eTy c.1) ≤ _; omega⟩, rfl⟩
    rw [if_neg t17] at H
    exact H.elim
end LJP
