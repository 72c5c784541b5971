set_option maxRecDepth 100000
/-! THE COMPONENT: the pool stays while types are worked out -/
section LPK
variable {G : om_G} {h h' : om_H} {N : List (List Int)} {cl : Nat → Nat} {tb l0 dm : Nat} {us fs us' fs' ds : List Nat} {rest : List (Nat × List Nat)} {Sl Dk : Nat → Prop} {q z u : Nat}
theorem PoolC_hT {D : Nat → Prop} (P : PoolC G h tb Sl Dk ds dm) (X : hT D h h') (nD : ∀ y, D y → y < hz h → kd h y ≠ 36 ∧ (kd h y = 42 → y = fR h 122 tb)) (e1 : fI h' 140 tb = fI h 140 tb) (e2 : ∀ f, fR h' f tb = fR h f tb) : PoolC G h' tb Sl Dk ds dm := by
  obtain ⟨⟨p1, p2, p3⟩, p4, ⟨p5, p6, p7⟩, p8, p9, p10, p11⟩ := P
  have n138 : ¬ D (fR h 138 tb) := fun w => p3 ((nD _ w p1.1).2 p1.2.1)
  have e138 := X.2.2.2 _ p1.1 n138
  have ef : ∀ d, Dk d → ∀ f, fR h' f d = fR h f d := fun d hd f => by
    have w := (p10 d hd).1
    exact (X.2.2.2 d w.2.1 (fun y => (nD d y w.2.1).1 w.2.2)).2.2.1 f
  have lsk : ∀ {L cap : Nat}, lsD h tb Sl L cap → lsD h' tb Sl L cap := fun {L cap} w => by
    obtain ⟨⟨c1, c2⟩, ⟨c3, c4⟩, c5, c6, c7⟩ := w
    have e := X.2.2.2 L c1 (fun y => c7 ((nD L y c1).2 c2))
    exact ⟨⟨Nat.lt_of_lt_of_le c1 X.1, by rw [e.1]; exact c2⟩, ⟨by rw [e.2.2.2.2.2.2.2]; exact c3, by rw [e.2.2.2.2.2.2.1]; exact c4⟩, c5, by rw [e2]; exact c6, by rw [e2]; exact c7⟩
  refine ⟨⟨by rw [e2]; exact okV_hT p1 X n138, by rw [e2]; exact p2, by rw [e2, e2]; exact p3⟩, by rw [e2, e138.2.2.2.2.2.2.1]; exact p4, ⟨by rw [e1]; exact p5, p6, p7⟩, p8, p9, fun d hd => ?_, fun d d' f f' h3 h4 o1 o2 n1 e3 => ?_⟩
  · obtain ⟨⟨y0, y1, y2⟩, y3, y4⟩ := p10 d hd
    rw [ef d hd, ef d hd]
    exact ⟨⟨y0, Nat.lt_of_lt_of_le y1 X.1, by rw [X.2.2.1 d y1]; exact y2⟩, y3.imp id lsk, y4.imp id lsk⟩
  · rw [ef d h3] at n1 e3
    rw [ef d' h4] at e3
    exact p11 d d' f f' h3 h4 o1 o2 n1 e3
theorem PoolC_KF (T : TB G h N cl tb us fs rest) (k9 : kd h l0 = 9) (K : KF N cl tb l0 rest h us fs h' us' fs' q z u) (P : PoolC G h tb Sl Dk ds dm) : PoolC G h' tb Sl Dk ds dm := by
  refine PoolC_hT P K.1 (fun y w _ => ?_) (K.2.2.2.2.1.1 140 (by decide) (by decide)) K.2.2.2.2.1.2
  rcases w with w | w
  · have k := DT_kd T w
    refine ⟨by omega, fun e => ?_⟩
    rcases w with w | w | w | w
    · rw [w, (TB_3 T).1] at e; omega
    · exact w
    · have k2 := T.1.2.1.2.1.2.1
      rw [w, k2] at e; omega
    · have := (T.2.1.2.2.2.2 y (List.mem_append_right _ w)).1
      omega
  · rw [w, k9]
    exact ⟨by decide, fun e => by omega⟩
/-- live dictionaries and their lists -/
def Dlv (h : om_H) (Dk : Nat → Prop) (ds : List Nat) (dm a : Nat) : Prop := ∃ d, Dk d ∧ d ∉ ds.drop dm ∧ (a = d ∨ (a ≠ 0 ∧ (a = fR h 1630 d ∨ a = fR h 1634 d)))
/-- types being worked out leave them -/
theorem Dlv_KF (T : TB G h N cl tb us fs rest) (k9 : kd h l0 = 9) (K : KF N cl tb l0 rest h us fs h' us' fs' q z u) (P : PoolC G h tb Sl Dk ds dm) {a : Nat} (L : Dlv h Dk ds dm a) : a < hz h ∧ eqA a h h' := by
  obtain ⟨⟨p1, p2, p3⟩, p4, ⟨p5, p6, p7⟩, p8, p9, p10, p11⟩ := P
  have nD : ∀ y, (DT h tb fs y ∨ y = l0) → kd h y ≠ 36 ∧ (kd h y = 42 → y = fR h 122 tb) := fun y w => by
    rcases w with w | w
    · have k := DT_kd T w
      refine ⟨by omega, fun e => ?_⟩
      rcases w with w | w | w | w
      · rw [w, (TB_3 T).1] at e; omega
      · exact w
      · have k2 := T.1.2.1.2.1.2.1
        rw [w, k2] at e; omega
      · have := (T.2.1.2.2.2.2 y (List.mem_append_right _ w)).1
        omega
    · rw [w, k9]
      exact ⟨by decide, fun e => by omega⟩
  obtain ⟨d, d1, d2, d3⟩ := L
  obtain ⟨⟨y0, y1, y2⟩, y3, y4⟩ := p10 d d1
  have ls : ∀ {L cap : Nat}, lsD h tb Sl L cap → L < hz h ∧ eqA L h h' := fun {L cap} w => ⟨w.1.1, K.1.2.2.2 L w.1.1 (fun y => w.2.2.2.2 ((nD L y).2 w.1.2))⟩
  rcases d3 with e | ⟨e0, e | e⟩
  · rw [e]; exact ⟨y1, K.1.2.2.2 d y1 (fun w => (nD d w).1 y2)⟩
  · rw [e] at e0 ⊢; exact ls (y3.resolve_left e0)
  · rw [e] at e0 ⊢; exact ls (y4.resolve_left e0)
/-- one taken out of the pool leaves those that are live -/
theorem Dlv_pl (k3 : kd h tb = 3) (P : PoolC G h tb Sl Dk ds dm) (X : hT (DPl h tb ds dm) h h') {a : Nat} (L : Dlv h Dk ds dm a) : a < hz h ∧ eqA a h h' := by
  obtain ⟨⟨p1, p2, p3⟩, p4, ⟨p5, p6, p7⟩, p8, p9, p10, p11⟩ := P
  obtain ⟨d, d1, d2, d3⟩ := L
  obtain ⟨⟨y0, y1, y2⟩, y3, y4⟩ := p10 d d1
  have k42 := p1.2.1
  have mem : ∀ y, y ∈ ds.drop dm → Dk y := fun y hy => p9 y (List.mem_of_mem_drop hy)
  have lst : ∀ f, (f = 1630 ∨ f = 1634) → ∀ cap, fR h f d ≠ 0 → lsD h tb Sl (fR h f d) cap → fR h f d < hz h ∧ eqA (fR h f d) h h' := fun f o cap n0 w => by
    refine ⟨w.1.1, X.2.2.2 _ w.1.1 (fun y => ?_)⟩
    rcases y with y | y | y | ⟨d', m', n', y⟩
    · have := w.1.2; rw [y, k3] at this; omega
    · exact w.2.2.2.1 y
    · have := (p10 _ (mem _ y)).1.2.2
      have := w.1.2; omega
    · rcases y with y | y
      · have := (p11 d d' f 1630 d1 (mem d' m') o (.inl rfl) n0 y).1
        rw [this] at d2; exact d2 m'
      · have := (p11 d d' f 1634 d1 (mem d' m') o (.inr rfl) n0 y).1
        rw [this] at d2; exact d2 m'
  rcases d3 with e | ⟨e0, e | e⟩
  · rw [e]
    refine ⟨y1, X.2.2.2 d y1 (fun y => ?_)⟩
    rcases y with y | y | y | ⟨d', m', n', y⟩
    · rw [y, k3] at y2; omega
    · rw [y, k42] at y2; omega
    · exact d2 y
    · obtain ⟨_, w3, w4⟩ := p10 d' (mem d' m')
      rcases y with y | y
      · have := (w3.resolve_left (by rw [← y]; exact n')).1.2
        rw [← y, y2] at this; omega
      · have := (w4.resolve_left (by rw [← y]; exact n')).1.2
        rw [← y, y2] at this; omega
  · rw [e] at e0 ⊢; exact lst 1630 (.inl rfl) 2 e0 (y3.resolve_left e0)
  · rw [e] at e0 ⊢; exact lst 1634 (.inr rfl) 4 e0 (y4.resolve_left e0)
end LPK
