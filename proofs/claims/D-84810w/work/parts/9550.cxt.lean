set_option maxRecDepth 100000
/-! JUDGED EXS ARE EXS THAT CAN BE TOLD: their objects -/
section LXT
variable {G : om_G} {h h1 : om_H} {N : List (List Int)} {cl : Nat → Nat} {tb l0 pv Lp te s tm : Nat} {us fs : List Nat} {rest : List (Nat × List Nat)} {Sl : Nat → Prop} {io fo mo : Nat → Nat} {E : JE} {lo H0 dm : Nat} {ds : List Nat} {Dk : Nat → Prop} {e : Et} {d dp a alo ahi : Nat} {evR evR1 : Dc → Nat → Prop}
theorem XCt_of (H : XCg Prod.fst (PhJ N cl rest io E lo H0 Sl h us Dk ds dm) G h N cl (UU us rest) Sl fo mo e d dp 0 0 a alo ahi) : XCt G N cl (UU us rest) Sl fo mo h (evC N cl rest io E lo h us Dk ds dm) e d dp 0 0 a alo ahi := by
  unfold XCt
  refine XCg_keep (hS_refl (g := True)) (fun _ w => w) (fun _ _ c => c) alo ahi ahi (fun t x l r md m a hm g1 g2 g3 g10 _ φ => ?_) e d dp 0 0 a alo ahi (Nat.le_refl _) (Nat.le_refl _) (fun z => absurd rfl z) (.inl (.inr (Nat.le_refl _))) H
  obtain ⟨φ1, φ2, φ3⟩ := φ
  refine ⟨φ1, fun t10 => ?_, φ3⟩
  obtain ⟨evs, r1, r2, r3, rB⟩ := φ2 t10
  exact ⟨evs, r1, r2.1, r2.2, rB⟩
/-- they stay while terms are told -/
theorem XCt_KM (P : TvP G h N cl tb l0 us fs rest pv Lp te s) (m13 : kd h tm = 13) (A : KM N cl tb l0 pv Lp s tm rest us fs h h1) (hSl : ∀ a, Sl a → kd h a = 42 ∧ a ≠ fR h 122 tb ∧ a ≠ Lp) (hE : ∀ D y, evR D y → evR1 D y) (H : XCt G N cl (UU us rest) Sl fo mo h evR e d dp 0 0 a alo ahi) : XCt G N cl (UU us rest) Sl fo mo h1 evR1 e d dp 0 0 a alo ahi := by
  have X : hSg True Sl h h1 := KM_hS P m13 A hSl
  have kp := A.2.1
  unfold XCt at H ⊢
  refine XCg_keep X (fun _ w => w) kp alo ahi ahi (fun t x l r md m a hm g1 g2 g3 g10 _ φ => ?_) e d dp 0 0 a alo ahi (Nat.le_refl _) (Nat.le_refl _) (fun z => absurd rfl z) (.inl (.inr (Nat.le_refl _))) H
  have e := KM_eq P m13 A g1.2.2 (by omega)
  have ea := aX_keep (t := t) (m := m) X hm
  have eN := aN_keep X g1.2.2
  obtain ⟨φ1, φ2, φ3⟩ := φ
  unfold PhT
  dsimp only
  rw [ea, eN]
  generalize aX h t md m a = b at *
  refine ⟨fun w => ?_, fun w => ?_, fun w i ei => ?_⟩
  · rw [e.2.2.1, e.2.2.1]
    exact ⟨kp _ _ (φ1 w).1, kp _ _ (φ1 w).2⟩
  · obtain ⟨evs, r1, r2, r3, rB⟩ := φ2 w
    obtain ⟨z1, z2, z3, z4⟩ := g10 w
    have e' := KM_eq P m13 A z3 (by omega)
    refine ⟨evs, ?_, r2, fun i y D f1 f2 => hE D y (r3 i y D f1 f2), btX_keep kp rB⟩
    unfold rsJ
    rw [e'.2.2.1]
    rcases r1 with v | ⟨v1, v2, v3, v4, v5, v6⟩
    · exact .inl v
    · exact .inr ⟨v1, v2, v3, Nat.lt_of_lt_of_le v4 X.1, by rw [X.2.1 _ v4]; exact v5, by rw [X.2.2.2.2 _ v4 v3]; exact v6⟩
  · obtain ⟨y1, y2, y3⟩ := g3 w
    have eM : aM h1 1494 (md == 1) m b = aM h 1494 (md == 1) m b := aM_keep X (e.2.2.1 _) ⟨y1, y2⟩
    rw [eM, e.2.2.1, X.2.2.2.2 _ y2 y1] at ei
    obtain ⟨_, _, i3, i4⟩ := y3 i ei
    have ei' := KM_eq P m13 A i3 (by omega)
    rw [ei'.2.2.1, ei'.2.2.1]
    exact ⟨kp _ _ (φ3 w i ei).1, kp _ _ (φ3 w i ei).2⟩
end LXT
