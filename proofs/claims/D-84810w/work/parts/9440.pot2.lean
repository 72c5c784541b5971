set_option maxRecDepth 100000
/-! HOW MANY NAMES HAVE @s, AND LINES: exs, declarations -/
section LQW
variable {c d : Int} {σ τ υ : tS} {k r : Int} {rT : tS → Option (Int × tS)}
theorem q_product (R : ∀ σ, QO 0 σ (rT σ) Prod.snd) : ∀ σ, QO 0 σ (T_product rT σ) Prod.snd := by
  intro σ
  unfold T_product
  refine QO_b (q_use R σ) (fun p1 => QO_b (QO_lp (st := fun x : Int × tS => x.2) (sb := fun x : Int × tS => x.2) (fun a => ?_)) (fun y2 => QO_some Qv_refl))
  unfold T_product_5s
  exact QO_b QO_tk (fun p1 => QO_i (fun _ => QO_some Qv_refl) (fun _ => QO_b (q_use R _) (fun p2 => QO_b (QO_no (by decide) (by decide)) (fun p3 => QO_some Qv_refl))))
theorem q_sum (R : ∀ σ, QO 0 σ (rT σ) Prod.snd) : ∀ σ, QO 0 σ (T_sum rT σ) Prod.snd := by
  have s30 : ∀ {l1 : Int} {σ : tS}, 0 ≤ gs σ 432 ∧ gs σ 432 < 4100 → QO 0 σ (T_sum_30 rT l1 σ) (Sum.elim (fun x : Int × tS => x.2) (fun x : Int × tS => x.2)) := fun {l1 σ} h => by
    unfold T_sum_30
    exact QO_us (Qv_le (Qv_at h) (by omega)) (QO_b (q_product R _) (fun p1 => QO_b (QO_no (by decide) (by decide)) (fun p2 => QO_some Qv_refl)))
  intro σ
  unfold T_sum
  refine QO_b (q_product R σ) (fun p1 => QO_b (QO_lp (st := fun x : Int × tS => x.2) (sb := fun x : Int × tS => x.2) (fun a => ?_)) (fun y2 => QO_some Qv_refl))
  unfold T_sum_5s
  exact QO_i (fun _ => QO_some Qv_refl) (fun _ => QO_l (fun p1 e1 => QO_i (fun _ => s30 (is_in e1)) (fun _ => QO_l (fun p2 e2 => QO_i (fun _ => QO_some Qv_refl) (fun _ => s30 (is_in e1))))))
theorem q_compare (R : ∀ σ, QO 0 σ (rT σ) Prod.snd) : ∀ σ, QO 0 σ (T_compare rT σ) Prod.snd := by
  have c32 : ∀ {l1 : Int} {σ : tS}, 0 ≤ gs σ 432 ∧ gs σ 432 < 4100 → QO 0 σ (T_compare_32 rT l1 σ) Prod.snd := fun {l1 σ} h => by
    unfold T_compare_32
    exact QO_us (Qv_le (Qv_at h) (by omega)) (QO_b (q_sum R _) (fun p1 => QO_b (QO_no (by decide) (by decide)) (fun p2 => QO_some Qv_refl)))
  intro σ
  unfold T_compare
  exact QO_b (q_sum R σ) (fun p1 => QO_i (fun _ => QO_some Qv_refl) (fun _ => QO_l (fun p2 e2 => QO_i (fun _ => c32 (is_in e2)) (fun _ => QO_l (fun p3 e3 => QO_i (fun _ => c32 (is_in e2)) (fun _ => QO_some Qv_refl))))))
theorem q_case (R : ∀ σ, QO 0 σ (rT σ) Prod.snd) {l1 : Int} : ∀ σ, QO 0 σ (T_readCase rT l1 σ) Prod.snd := by
  have c71 : ∀ {l2 l3 : Int} {σ : tS}, QO 0 σ (T_readCase_71 rT l1 l2 l3 σ) Prod.snd := fun {l2 l3 σ} => by
    unfold T_readCase_71
    exact QO_b QO_nd (fun p1 => QO_b QO_ndd (fun p2 => QO_b QO_nd (fun p3 => QO_b QO_nd (fun p4 => QO_b (R _) (fun p5 => QO_b (QO_no (by decide) (by decide)) (fun p6 => QO_b QO_nd (fun p7 => QO_some Qv_refl)))))))
  have c33 : ∀ {l2 : Int} {σ : tS}, QO 0 σ (T_readCase_33 rT l1 l2 σ) Prod.snd := fun {l2 σ} => by
    unfold T_readCase_33
    exact QO_b QO_nd (fun p1 => QO_b QO_nd (fun p2 => QO_b (R _) (fun p3 => QO_b QO_nd (fun p4 => QO_l (fun p5 e5 => QO_i (fun _ => c71) (fun _ => QO_b QO_wr (fun p6 => c71)))))))
  intro σ
  unfold T_readCase
  exact QO_b (R _) (fun p1 => QO_b QO_nd (fun p2 => QO_b QO_nd (fun p3 => QO_l (fun p4 e4 => QO_i (fun _ => c33) (fun _ => QO_b QO_wr (fun p5 => c33))))))
theorem q_readExB (R : ∀ σ, QO 0 σ (rT σ) Prod.snd) : ∀ σ, QO 0 σ (T_readExB rT σ) Prod.snd := by
  intro σ
  unfold T_readExB
  have en : ∀ {p : Int × tS}, QO 0 (Prod.snd p) (some (p.1, us p.2 436 (w32 ((gs p.2 436) - 1)))) Prod.snd := fun {p} => QO_some (Qv_us (by decide) (by decide) (by decide))
  refine QO_b QO_en (fun p1 => QO_i (fun _ => QO_b QO_tk (fun p2 => QO_i (fun _ => QO_b QO_tk (fun p3 => QO_i (fun _ => QO_b QO_tk (fun p4 => QO_i (fun _ => QO_b QO_tk (fun p5 => QO_i (fun _ => QO_b (q_compare R _) (fun p6 => en)) (fun _ => QO_b (q_case R _) (fun p7 => en)))) (fun _ => ?_))) (fun _ => ?_))) (fun _ => ?_))) (fun _ => QO_b (QO_no (by decide) (by decide)) (fun p28 => en)))
  · exact QO_b (R _) (fun p8 => QO_b QO_nd (fun p9 => QO_b (R _) (fun p10 => QO_b QO_nd (fun p11 => QO_b (R _) (fun p12 => QO_b (QO_no (by decide) (by decide)) (fun p13 => en))))))
  · exact QO_b QO_ndd (fun p14 => QO_b QO_nd (fun p15 => QO_b (q_readType _) (fun p16 => QO_b QO_nd (fun p17 => QO_b (R _) (fun p18 => QO_b QO_nd (fun p19 => QO_b (R _) (fun p20 => QO_b (QO_no (by decide) (by decide)) (fun p21 => en))))))))
  · exact QO_b QO_ndd (fun p14 => QO_b QO_nd (fun p15 => QO_b (q_readType _) (fun p16 => QO_b QO_nd (fun p17 => QO_b (R _) (fun p18 => QO_b (QO_no (by decide) (by decide)) (fun p21 => en))))))
theorem q_readExD : ∀ n σ, QO 0 σ (T_readExD n σ) Prod.snd
  | 0, σ => fun y e => by cases e
  | n + 1, σ => q_readExB (q_readExD n) σ
theorem q_readEx : ∀ σ, QO 0 σ (T_readEx σ) Prod.snd := q_readExD 30
/-! declarations -/
theorem QO_ua {β : Type} {X : Option β} {st : β → tS} {f j : Nat} {x : Int} (h1 : f ≠ 538) (h2 : f ≠ 546) (h : QO 0 (ua σ f j x) X st) : QO 0 σ X st := QO_us (Qv_ua h1 h2) h
theorem q_cond {l1 : Int} : ∀ σ, QO 0 σ (T_conditions l1 σ) Prod.snd := by
  have c80 : ∀ {l2 l7 : Int} {σ : tS}, QO 0 σ (T_conditions_80 l1 l2 l7 σ) (Sum.elim (fun x : Int × Int × Int × tS => x.2.2.2) (fun x : Int × tS => x.2)) := fun {l2 l7 σ} => by
    unfold T_conditions_80
    exact QO_b QO_tk (fun p1 => QO_some Qv_refl)
  have c54 : ∀ {l2 l3 s2 s3 s4 : Int} {σ : tS}, QO 0 σ (T_conditions_54 l1 l2 l3 21 s2 s3 s4 σ) (Sum.elim (fun x : Int × Int × Int × tS => x.2.2.2) (fun x : Int × tS => x.2)) := fun {l2 l3 s2 s3 s4 σ} => by
    unfold T_conditions_54
    exact QO_b (QO_no (by decide) (by decide)) (fun p1 => QO_i (fun _ => QO_i (fun _ => QO_ua (by decide) (by decide) c80) (fun _ => QO_none)) (fun _ => c80))
  intro σ
  unfold T_conditions
  refine QO_b (QO_lp (st := fun x : Int × Int × Int × tS => x.2.2.2) (sb := fun x : Int × tS => x.2) (fun a => ?_)) (fun y1 => QO_b QO_nd (fun p2 => QO_some Qv_refl))
  unfold T_conditions_7s
  exact QO_i (fun _ => QO_some Qv_refl) (fun _ => QO_b QO_ndd (fun p1 => QO_b QO_ndd (fun p2 => QO_i (fun _ => c54) (fun _ => QO_b QO_tk (fun p3 => QO_i (fun _ => c54) (fun _ => QO_b (q_readType _) (fun p4 => c54)))))))
theorem q_class {l1 : Int} : ∀ σ, QO 0 σ (T_aClass l1 σ) id := by
  have c74 : ∀ {σ : tS}, QO 0 σ (T_aClass_74 l1 σ) id := fun {σ} => by
    unfold T_aClass_74
    refine QO_b (QO_lp (st := fun x : Int × tS => x.2) (sb := fun x : tS => x) (fun a => ?_)) (fun y1 => ?_)
    · unfold T_aClass_76s
      exact QO_i (fun _ => QO_some Qv_refl) (fun _ => QO_l (fun p1 e1 => QO_i (fun _ => QO_some Qv_refl) (fun _ => QO_us (Qv_le (Qv_at (is_in e1)) (by omega)) (QO_b QO_nd (fun p2 => QO_b (q_readType _) (fun p3 => QO_b (QO_no (by decide) (by decide)) (fun p4 => QO_b QO_nd (fun p5 => QO_i (fun _ => QO_i (fun _ => QO_some (Qv_ua (by decide) (by decide))) (fun _ => QO_none)) (fun _ => QO_i (fun _ => QO_some (Qv_ua (by decide) (by decide))) (fun _ => QO_none))))))))))
    · unfold T_aClass_164
      exact QO_b QO_nd (fun p1 => QO_some Qv_refl)
  have c42 : ∀ {σ : tS}, QO 0 σ (T_aClass_42 l1 σ) id := fun {σ} => by
    unfold T_aClass_42
    exact QO_b QO_nd (fun p1 => QO_b QO_tk (fun p2 => QO_i (fun _ => c74) (fun _ => QO_b QO_ndd (fun p3 => QO_i (fun _ => QO_ua (by decide) (by decide) (QO_b QO_nd (fun p4 => c74))) (fun _ => QO_none)))))
  intro σ
  unfold T_aClass
  exact QO_b QO_ndd (fun p1 => QO_i (fun _ => QO_ua (by decide) (by decide) (QO_b QO_ndd (fun p2 => QO_i (fun _ => QO_ua (by decide) (by decide) (QO_b QO_tk (fun p3 => QO_i (fun _ => c42) (fun _ => QO_b QO_ndd (fun p4 => QO_i (fun _ => QO_ua (by decide) (by decide) c42) (fun _ => QO_none)))))) (fun _ => QO_none)))) (fun _ => QO_none))
theorem q_names {l1 : Int} {F : Nat} (hF : F = 590 ∨ F = 598) {f : tS → Option (tS ⊕ tS)} (hf : ∀ x, f x = ((T_takes 2 x).bind fun p1 => if p1.1 = 0 then some (.inr p1.2) else if 0 ≤ l1 ∧ l1 < 700 then (some (.inl (ua p1.2 F l1.toNat (w32 ((ga p1.2 F l1.toNat) + 1))))) else none)) : QO 0 σ (om_loop f σ) id := by
  refine QO_lp (st := fun x : tS => x) (sb := id) (fun a => ?_)
  rw [hf]
  exact QO_b QO_tk (fun p1 => QO_i (fun _ => QO_some Qv_refl) (fun _ => QO_i (fun _ => QO_some (Qv_ua (by omega) (by omega))) (fun _ => QO_none)))
/-- a line costs what it has -/
theorem q_line {l1 : Int} (a : Int × tS) : QO 0 a.2 (T_anInstance_152s l1 a) (Sum.elim (fun x : Int × tS => x.2) (fun x : tS => x)) := by
  unfold T_anInstance_152s
  refine QO_i (fun _ => QO_some Qv_refl) (fun _ => QO_l (fun p1 e1 => QO_i (fun _ => QO_some Qv_refl) (fun _ => fun z e => ?_)))
  obtain ⟨p2, e2, e⟩ := obind e
  obtain ⟨p3, e3, e⟩ := obind e
  obtain ⟨p4, e4, e⟩ := obind e
  obtain ⟨p5, e5, e⟩ := obind e
  have f := q_node (r := p4.1) (τ := p4.2) e4 (fun z => by omega)
  rw [if_pos rfl] at f
  have g := Qv_trans (Qv_at (is_in e1)) (Qv_trans (q_need e2) (Qv_trans (q_readEx p2 p3 e3) (Qv_trans f.1 (q_need e5))))
  split at e
  · split at e
    · cases e
      exact Qv_le (Qv_trans g (Qv_ua (by decide) (by decide))) (by omega)
    · cases e
  · split at e
    · cases e
      exact Qv_le (Qv_trans g (Qv_ua (by decide) (by decide))) (by omega)
    · cases e
theorem q_inst {l1 : Int} : ∀ σ, QO 0 σ (T_anInstance l1 σ) id := by
  have c150 : ∀ {σ : tS}, QO 0 σ (T_anInstance_150 l1 σ) id := fun {σ} => by
    unfold T_anInstance_150
    refine QO_b (QO_lp (st := fun x : Int × tS => x.2) (sb := fun x : tS => x) (fun a => q_line a)) (fun y1 => ?_)
    unfold T_anInstance_240
    exact QO_b QO_nd (fun p1 => QO_some Qv_refl)
  have c102 : ∀ {σ : tS}, QO 0 σ (T_anInstance_102 l1 σ) id := fun {σ} => by
    unfold T_anInstance_102
    exact QO_b QO_nd (fun p1 => QO_b QO_tk (fun p2 => QO_i (fun _ => c150) (fun _ => QO_b QO_ndd (fun p3 => QO_i (fun _ => QO_ua (by decide) (by decide) (QO_b QO_nd (fun p4 => QO_b (q_readType _) (fun p5 => QO_i (fun _ => QO_ua (by decide) (by decide) (QO_b QO_nd (fun p6 => c150))) (fun _ => QO_none))))) (fun _ => QO_none)))))
  have c20 : ∀ {σ : tS}, QO 0 σ (T_anInstance_20 l1 σ) id := fun {σ} => by
    unfold T_anInstance_20
    exact QO_b QO_ndd (fun p1 => QO_i (fun _ => QO_ua (by decide) (by decide) (QO_b QO_tk (fun p2 => QO_i (fun _ => QO_b QO_ndd (fun p3 => QO_i (fun _ => QO_ua (by decide) (by decide) c102) (fun _ => QO_none))) (fun _ => QO_b QO_ndd (fun p4 => QO_i (fun _ => QO_ua (by decide) (by decide) (QO_ua (by decide) (by decide) (QO_b (q_names (l1 := l1) (.inl rfl) (fun x => rfl)) (fun y5 => QO_b QO_nd (fun p6 => c102))))) (fun _ => QO_none)))))) (fun _ => QO_none))
  intro σ
  unfold T_anInstance
  exact QO_b QO_tk (fun p1 => QO_i (fun _ => c20) (fun _ => QO_b (q_cond _) (fun p2 => QO_i (fun _ => QO_ua (by decide) (by decide) c20) (fun _ => QO_none))))
theorem q_fun {l1 : Int} : ∀ σ, QO 0 σ (T_aFunction l1 σ) id := by
  have c95 : ∀ {σ : tS}, QO 0 σ (T_aFunction_95 l1 σ) id := fun {σ} => by
    unfold T_aFunction_95
    exact QO_b (q_readType _) (fun p1 => QO_i (fun _ => QO_ua (by decide) (by decide) (QO_b QO_nd (fun p2 => QO_b (q_readEx _) (fun p3 => QO_i (fun _ => QO_some (Qv_ua (by decide) (by decide))) (fun _ => QO_none))))) (fun _ => QO_none))
  have c75 : ∀ {σ : tS}, QO 0 σ (T_aFunction_75 l1 σ) id := fun {σ} => by
    unfold T_aFunction_75
    exact QO_b QO_tk (fun p1 => QO_i (fun _ => c95) (fun _ => QO_b (q_cond _) (fun p2 => QO_i (fun _ => QO_ua (by decide) (by decide) c95) (fun _ => QO_none))))
  intro σ
  unfold T_aFunction
  exact QO_b QO_ndd (fun p1 => QO_i (fun _ => QO_ua (by decide) (by decide) (QO_b QO_nd (fun p2 => QO_b QO_tk (fun p3 => QO_i (fun _ => c75) (fun _ => QO_i (fun _ => QO_ua (by decide) (by decide) (QO_b QO_nd (fun p4 => QO_i (fun _ => QO_ua (by decide) (by decide) (QO_b (q_names (l1 := l1) (.inr rfl) (fun x => rfl)) (fun y5 => QO_b QO_nd (fun p6 => c75)))) (fun _ => QO_none)))) (fun _ => QO_none)))))) (fun _ => QO_none))
/-- A DECLARATION -/
theorem q_decl : ∀ σ, QO 0 σ (T_decl σ) id := by
  have c165 : ∀ {σ : tS}, QO 0 σ (T_decl_165 σ) id := fun {σ} => by
    unfold T_decl_165
    exact QO_b QO_nd (fun p1 => QO_some Qv_refl)
  have c78 : ∀ {l1 : Int} {σ : tS}, QO 0 σ (T_decl_78 l1 σ) id := fun {l1 σ} => by
    unfold T_decl_78
    exact QO_i (fun _ => QO_ua (by decide) (by decide) (QO_ua (by decide) (by decide) (QO_ua (by decide) (by decide) (QO_ua (by decide) (by decide) (QO_ua (by decide) (by decide) (QO_ua (by decide) (by decide) (QO_ua (by decide) (by decide) (QO_b QO_tk (fun p1 => QO_i (fun _ => QO_b QO_tk (fun p2 => QO_i (fun _ => QO_b (q_fun _) (fun p3 => c165)) (fun _ => QO_b (q_inst _) (fun p4 => c165)))) (fun _ => QO_b (q_class _) (fun p5 => c165))))))))))) (fun _ => QO_none)
  intro σ
  unfold T_decl
  exact QO_i (fun _ => QO_us (Qv_us (f := 624) (x := w32 ((gs σ 624) + 1)) (by decide) (by decide) (by decide)) (QO_ua (by decide) (by decide) (QO_ua (by decide) (by decide) (QO_ua (by decide) (by decide) (QO_ua (by decide) (by decide) (QO_ua (by decide) (by decide) (QO_ua (by decide) (by decide) (QO_ua (by decide) (by decide) c78)))))))) (fun _ => QO_none)
end LQW
