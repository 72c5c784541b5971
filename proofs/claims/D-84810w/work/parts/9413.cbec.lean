set_option maxRecDepth 100000
/-! THE COMPONENT's judge: reasons of a name -/
def rsL (h : om_H) (tb : Nat) (Sl Dk : Nat → Prop) (L : Nat) (evs : List Nat) : Prop := (L ≠ 0 ∧ L < hz h ∧ kd h L = 42) ∧ (lc h L = 4 ∧ ll h L = evs ∧ evs.length ≤ 4) ∧ (∀ y ∈ evs, y < hz h ∧ kd h y = 38) ∧ ¬ Sl L ∧ L ≠ fR h 122 tb ∧ L ≠ fR h 138 tb ∧ ∀ d, Dk d → L ≠ fR h 1630 d ∧ L ≠ fR h 1634 d
/-- the reasons of a name -/
def rsN (h : om_H) (tb : Nat) (Sl Dk : Nat → Prop) (n : Nat) (evs : List Nat) : Prop := (evs = [] ∧ fR h 1482 n = 0) ∨ (evs ≠ [] ∧ rsL h tb Sl Dk (fR h 1482 n) evs)
section LCB
variable {G : om_G} {N : List (List Int)} {cl : Nat → Nat} {tb l0 sc : Nat} {rest : List (Nat × List Nat)} {Sl Gx : Nat → Prop} {io : Nat → Nat} {ab : List (Option Nat)} {ins : List INs} {gv : List GVs} {tot : Nat} {h : om_H} {us fs : List Nat} {Dk : Nat → Prop} {ds : List Nat} {dm : Nat}
theorem add4 {L : Nat} {evs : List Nat} {ev : Nat} (hL : kd h L = 42) (hc : lc h L = 4) (hl : ll h L = evs) (len : evs.length < 4) (he : ev < hz h ∧ kd h ev = 38) (ho : ∀ y ∈ evs, y < hz h ∧ kd h y = 38) : P_J2_add G L ev h = some (1, sL h L (evs ++ [ev])) := by
  have ob : ∀ y, y < hz h ∧ kd h y = 38 → om_obj G h y := fun y w => objY_obj (.inl ⟨w.1, by omega, by omega⟩)
  unfold P_J2_add addL
  rw [gd_pos ⟨hL, by rw [hl, hc]; omega, by rw [hl]; omega, ob ev he, fun y hy => ob y (ho y (by rw [hl] at hy; exact hy))⟩, if_pos (by rw [hl, hc]; exact len), hl]
/-- ONE MORE REASON -/
theorem c_because (nd : ndN N) (H : HvQ G h N cl tb l0 sc us fs rest Sl Gx io ab ins gv Dk ds dm tot) {n ev : Nat} {evs : List Nat} (hn : n < hz h ∧ kd h n = 28) (rs : rsN h tb Sl Dk n evs) (he : ev < hz h ∧ kd h ev = 38) (len : evs.length < 4) : ∃ h', C_28_because G n ev h = some h' ∧ HvQ G h' N cl tb l0 sc us fs rest Sl Gx io ab ins gv Dk ds dm tot ∧ KG N cl tb l0 rest Sl h us fs Dk ds dm h' us fs Dk ds dm 0 2 7 ∧ rsN h' tb Sl Dk n (evs ++ [ev]) ∧ hT (fun y => y = n ∨ (y ≠ 0 ∧ y = fR h 1482 n)) h h' ∧ (∀ f, f ≠ 1482 → fR h' f n = fR h f n) ∧ (∀ f, fI h' f n = fI h f n) ∧ (nlN h ds ≤ nlN h' ds ∧ rwS h sc ≤ rwS h' sc) ∧ (∀ T a, tyC h N cl (UU us rest) T a → tyC h' N cl (UU us rest) T a) ∧ (fR h' 1482 n = fR h 1482 n ∨ fR h' 1482 n = hz h) := by
  have ne : evs ++ [ev] ≠ [] := fun w => by
    have := congrArg List.length w
    rw [List.length_append] at this
    simp at this
  rcases rs with ⟨e0, z0⟩ | ⟨_, ⟨a1, a2, a3⟩, ⟨b1, b2, b3⟩, b4, b5, b6, b7, b8⟩
  · -- the first
    subst e0
    obtain ⟨i1, i2⟩ := nwL_init (G := G) (h := h) (cap := 4) (by decide) (by decide)
    have i1' : P_J2_init_2 G (hz h) 4 (nO h 41 3) = some (gL (nO h 41 3) (hz h) [] 4 1 4) := i1
    obtain ⟨X, ⟨hz1, hu1⟩, ⟨n1, n2, n3⟩, n4, n5, n6⟩ := nwL_f (h := h) (d := n) (f0 := 1482) (cap := 4) hn.1
    have kn : kd (nwL h 1482 4 n) n = 28 := by rw [X.2.2.1 n hn.1]; exact hn.2
    have kev : ev < hz (nwL h 1482 4 n) ∧ kd (nwL h 1482 4 n) ev = 38 := ⟨by omega, by rw [X.2.2.1 ev he.1]; exact he.2⟩
    have ad := add4 (G := G) (h := nwL h 1482 4 n) n4 n5 n6 len kev (fun y hy => absurd hy List.not_mem_nil)
    have X' : hT (fun y => y = n) h (sL (nwL h 1482 4 n) (hz h) ([] ++ [ev])) := hT_trans X hT_sL (fun y hy w => by omega)
    have run : C_28_because G n ev h = some (sL (nwL h 1482 4 n) (hz h) ([] ++ [ev])) := by
      unfold C_28_because
      rw [gd_pos hn.2, if_neg (fun w => w z0), gd_pos i2, i1', Option.bind_some, gd_pos (show kd (gL (nO h 41 3) (hz h) [] 4 1 4) n = 28 from kn)]
      show C_28_because_19 G n ev (nwL h 1482 4 n) = _
      unfold C_28_because_19
      rw [n1, gd_pos ⟨kn, n4⟩, ad]
      rfl
    obtain ⟨w1, w2, w3, w4, w5, w6⟩ := HvQ_w (z := 2) (u := 7) nd H X' (fun y w _ => by
      rw [w]
      refine .inl ⟨by rw [hn.2]; unfold dyK; omega, fun f _ => n3 f, fun f hf => n2 f (fun e => ?_)⟩
      rw [e] at hf; exact absurd hf (by decide)) (fun y w => by rw [w]; exact hn.1) ⟨by show hz (nwL h 1482 4 n) ≤ _; omega, by show hu (nwL h 1482 4 n) ≤ _; omega⟩
    have et := (TB_3 w1.1.1)
    have eR : ∀ f, fR (sL (nwL h 1482 4 n) (hz h) ([] ++ [ev])) f tb = fR h f tb := fun f => w2.2.2.2.2.2.2.1.2 f
    refine ⟨_, run, w1, w2, .inr ⟨ne, ?_⟩, hT_mono X' (fun y _ w => .inl w), n2, n3, ⟨w3, w4⟩, w6, .inr n1⟩
    have e1482 : fR (sL (nwL h 1482 4 n) (hz h) ([] ++ [ev])) 1482 n = hz h := n1
    unfold rsL
    rw [e1482, eR, eR]
    have l122 := H.1.1.2.1.1.1
    have l138 := H.2.1.1.1.1
    refine ⟨⟨by have := hn.1; omega, by show hz h < hz (nwL h 1482 4 n); omega, n4⟩, ⟨n5, by rw [ll_sL, if_pos rfl], by show 1 ≤ 4; decide⟩, fun y hy => ?_, fun w => by have := (H.1.2.2.1.2.2.1 _ w).1; omega, by omega, by omega, fun d hd => ?_⟩
    · rw [List.mem_singleton.mp hy]; exact kev
    · obtain ⟨⟨y0, y1, y2⟩, y3, y4⟩ := H.2.1.2.2.2.2.2.1 d hd
      have nd' : d ≠ n := fun w => by rw [w, hn.2] at y2; omega
      have ed := (X'.2.2.2 d y1 nd').2.2.1
      rw [ed, ed]
      refine ⟨fun w => ?_, fun w => ?_⟩
      · rcases y3 with v | v
        · omega
        · have := v.1.1; omega
      · rcases y4 with v | v
        · omega
        · have := v.1.1; omega
  · -- one more
    have ad := add4 (G := G) a3 b1 b2 len he b4
    have X' : hT (fun y => y = fR h 1482 n) h (sL h (fR h 1482 n) (evs ++ [ev])) := hT_sL
    have run : C_28_because G n ev h = some (sL h (fR h 1482 n) (evs ++ [ev])) := by
      unfold C_28_because C_28_because_19
      rw [gd_pos hn.2, if_pos a1, gd_pos ⟨hn.2, a3⟩, ad]
      rfl
    obtain ⟨w1, w2, w3, w4, w5, w6⟩ := HvQ_w (z := 2) (u := 7) nd H X' (fun y w _ => by rw [w]; exact .inr ⟨a3, b5, b6, b7, b8⟩) (fun y w => by rw [w]; exact a2) ⟨by show hz h ≤ _; omega, by show hu h ≤ _; omega⟩
    refine ⟨_, run, w1, w2, .inr ⟨ne, ⟨a1, a2, a3⟩, ⟨b1, if_pos rfl, by rw [List.length_append, List.length_singleton]; omega⟩, fun y hy => ?_, b5, b6, b7, b8⟩, hT_mono X' (fun y _ w => .inr ⟨by rw [w]; exact a1, w⟩), fun _ _ => rfl, fun _ => rfl, ⟨w3, w4⟩, w6, .inl rfl⟩
    rcases List.mem_append.mp hy with w | w
    · exact b4 y w
    · rw [List.mem_singleton.mp w]; exact he
end LCB
