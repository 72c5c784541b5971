set_option maxRecDepth 100000
/-! THE COMPONENT'S MACHINE: rows, things -/
/-- only numbers in the array B are written -/
def pF (B : Nat) (h h' : om_H) : Prop := (hz h' = hz h ∧ hu h' = hu h) ∧ ∀ a, kd h' a = kd h a ∧ (∀ f, fI h' f a = fI h f a) ∧ (∀ f, fR h' f a = fR h f a) ∧ an h' a = an h a ∧ (∀ k, a ≠ B → aI h' a k = aI h a k) ∧ (∀ k, aR h' a k = aR h a k) ∧ ll h' a = ll h a ∧ lc h' a = lc h a
section LTH
variable {G : om_G} {io : Nat → Nat} {ins : List INs} {M : MPg} {cd : Nat → Et → Nat → Nat → Nat → Prop} {h h1 h2 : om_H} {m nu nu1 nu2 kk A B : Nat} {fs : List Nat}
theorem pF_refl : pF B h h := ⟨⟨rfl, rfl⟩, fun _ => ⟨rfl, fun _ => rfl, fun _ => rfl, rfl, fun _ _ => rfl, fun _ => rfl, rfl, rfl⟩⟩
theorem pF_trans (X : pF B h h1) (Y : pF B h1 h2) : pF B h h2 := ⟨⟨Y.1.1.trans X.1.1, Y.1.2.trans X.1.2⟩, fun a => by
  obtain ⟨a1, a2, a3, a4, a5, a6, a7, a8⟩ := X.2 a
  obtain ⟨b1, b2, b3, b4, b5, b6, b7, b8⟩ := Y.2 a
  exact ⟨b1.trans a1, fun f => (b2 f).trans (a2 f), fun f => (b3 f).trans (a3 f), b4.trans a4, fun k n => (b5 k n).trans (a5 k n), fun k => (b6 k).trans (a6 k), b7.trans a7, b8.trans a8⟩⟩
theorem pF_pI {i : Nat} {x : Int} : pF B h (pI h B i x) := ⟨⟨rfl, rfl⟩, fun a => ⟨rfl, fun _ => rfl, fun _ => rfl, rfl, fun k n => by rw [aI_pI, if_neg (fun z => n z.1)], fun _ => rfl, rfl, rfl⟩⟩
theorem pF_sk (X : pF B h h1) : skE m h h1 := ⟨X.1, fun a => ⟨(X.2 a).1, (X.2 a).2.2.2.1, (X.2 a).2.2.2.2.2.2⟩, fun f a _ => (X.2 a).2.2.1 f, fun a k _ => (X.2 a).2.2.2.2.2.1 k⟩
theorem pF_hT (X : pF B h h1) : hT (fun a => a = B) h h1 := ⟨Nat.le_of_eq X.1.1.symm, Nat.le_of_eq X.1.2.symm, fun a _ => (X.2 a).1, fun a _ n => by
  obtain ⟨a1, a2, a3, a4, a5, a6, a7, a8⟩ := X.2 a
  exact ⟨a1, a2, a3, a4, fun k => a5 k n, a6, a7, a8⟩⟩
/-- four entries are written -/
theorem row_loop {S : Int × om_H → Option ((Int × om_H) ⊕ om_H)} (v : Nat → Int) (out : ∀ g, S (4, g) = some (.inr g)) (st : ∀ (i : Nat) (g : om_H), i < 4 → pF B h g → S ((i : Int), g) = some (.inl (((i + 1 : Nat) : Int), pI g B i (v i)))) : ∃ h', om_loop S (0, h) = some h' ∧ pF B h h' ∧ ∀ j, j < 4 → aI h' B j = v j := by
  have s0 := st 0 h (by decide) pF_refl
  have p1 : pF B h (pI h B 0 (v 0)) := pF_pI
  have s1 := st 1 _ (by decide) p1
  have p2 := pF_trans p1 (pF_pI (i := 1) (x := v 1))
  have s2 := st 2 _ (by decide) p2
  have p3 := pF_trans p2 (pF_pI (i := 2) (x := v 2))
  have s3 := st 3 _ (by decide) p3
  have p4 := pF_trans p3 (pF_pI (i := 3) (x := v 3))
  refine ⟨_, ?_, p4, fun j hj => ?_⟩
  · have e0 : ((0 : Int), h) = (((0 : Nat) : Int), h) := rfl
    rw [e0, om_loop_in s0, om_loop_in s1, om_loop_in s2, om_loop_in s3]
    exact om_loop_out (out _)
  · simp only [aI_pI]
    have : j = 0 ∨ j = 1 ∨ j = 2 ∨ j = 3 := by omega
    rcases this with e | e | e | e
    · rw [e]; simp
    · rw [e]; simp
    · rw [e]; simp
    · rw [e]; simp
/-- the row of the new cell is written -/
theorem CSt_pF (X : CSt G m nu nu1 fs h h1) (Y : pF B h1 h2) (eB : B = fR h1 1718 (cO h1 m nu)) (w : nu < nu1) (w2 : fI h 264 m = (nu : Int)) : CSt G m nu nu1 fs h h2 := by
  obtain ⟨a1, a2, a3, a4, ⟨a5, a6⟩, a7, a9, a10⟩ := X
  have R : ∀ f a, fR h2 f a = fR h1 f a := fun f a => (Y.2 a).2.2.1 f
  have Fi : ∀ f a, fI h2 f a = fI h1 f a := fun f a => (Y.2 a).2.1 f
  have L : ∀ a, ll h2 a = ll h1 a := fun a => (Y.2 a).2.2.2.2.2.2.1
  have C : ∀ a, lc h2 a = lc h1 a := fun a => (Y.2 a).2.2.2.2.2.2.2
  have cOe : ∀ k, cO h2 m k = cO h1 m k := fun k => cO_eq (R 262 m) (L _)
  obtain ⟨q1, q2, ⟨q3, q4, q5⟩, q6⟩ := MC_at a1 (k := nu) (by have := a2.2.1; omega)
  refine ⟨MC_sk (pF_sk Y) a1, ⟨by rw [Fi]; exact a2.1, by rw [R, L]; exact a2.2.1, a2.2.2⟩, ⟨by rw [Fi]; exact a3.1, fun k hk => ?_⟩, ?_, ⟨fun f f1 f2 => (Fi f m).trans (a5 f f1 f2), fun f => (R f m).trans (a6 f)⟩, ?_, fun c hc => (R 1718 c).trans (a9 c hc), ?_⟩
  · obtain ⟨p1, p2, p3⟩ := a3.2 k hk
    have ne := (MC_ne a1 (k := k) (j := nu) (by have := a3.1; have := a2.1; have := a2.2.1; omega) (by have := a2.2.1; omega) (by omega)).2
    unfold cRw at p3 ⊢
    rw [cOe, R, R, R, R, Fi, Fi, Fi]
    exact ⟨p1, p2, fun j hj => ((Y.2 _).2.2.2.2.1 j (fun z => ne (z.trans eB))).trans (p3 j hj)⟩
  · refine hT_trans a4 (pF_hT Y) (fun y hy z => ?_)
    rw [a6 262] at q2
    obtain ⟨d, d1, d2⟩ := a7
    rw [d1] at q2
    rcases List.mem_append.mp q2 with q2 | q2
    · exact .inr (.inr (.inr ⟨_, q2, by rw [z, eB]; exact a9 _ q2⟩))
    · have := (d2 _ q2).2
      omega
  · obtain ⟨d, d1, d2⟩ := a7
    exact ⟨d, by rw [L]; exact d1, fun c hc => by rw [R]; exact d2 c hc⟩
  · rw [Y.1.1, Y.1.2, L, C]; exact a10
/-- a thing of two -/
theorem c_two {x y : Int} (I : MC G h m) (hn : cNu h m nu) (h4 : nu < 4000) : ∃ c h1 h', C_10_fresh G m kk h = some (c, h1) ∧ (c ≠ 0 ∧ kd h1 c = 40 ∧ kd h1 m = 11 ∧ fI h1 264 m = ((nu + 1 : Nat) : Int)) ∧ h' = sI (sI h1 1697 c x) 1701 c y ∧ CSt G m nu (nu + 1) [] h h' ∧ cO h' m nu = c ∧ fR h' 1694 c = kk ∧ fI h' 1697 c = x ∧ fI h' 1701 c = y := by
  obtain ⟨c, h1, c1, c2, c3, ⟨c4, c5, c6⟩, c7, c8⟩ := c_fresh (kk := kk) I hn h4
  have C0 : CSt G m nu (nu + 1) [] h h1 := CSt_of I c7 c2 c3 c8
  have ec : cO h1 m nu = c := c7.2.2.2.2.1.1
  refine ⟨c, h1, _, c1, ⟨c4, c6, c2.1.1, c3.1⟩, rfl, CSt_sI (CSt_sI C0 (.inr ⟨ec.symm, by omega, hn.1⟩)) (.inr ⟨ec.symm, by omega, hn.1⟩), ec, c7.2.2.2.2.1.2.2, by rw [fI_ne (by decide), fI_eq], fI_eq⟩
theorem c_of4 {n : Nat} (hn : n < 4000) : C_10_of G 17179869184 (n : Int) h = some (17179869184 + (n : Int)) := by
  have := c_of (G := G) (h := h) (a := (n : Int)) (k := 4) (by omega) (by omega) (by omega) (by omega)
  rw [show (4294967296 * 4 : Int) = 17179869184 by decide, Int.emod_eq_of_lt (by omega) (by omega)] at this
  exact this
set_option maxHeartbeats 1000000 in
/-- A FUNCTION -/
theorem c_lamM {l1 : Nat} {en : Vt} {o : Ow} {e : Et} (I : MC G h m) (hn : cNu h m nu) (h4 : nu < 4000) (he : vC G io M cd h m en false (fI h 296 m)) (hr : rC G io M.2.2.2 h m (gvW M o.1) o.2 (fR h 302 m)) (hc : cd o.1 e l1 0 (xls en).length) : ∃ h', C_10_lambda G m l1 h = (C_10_comes G m (17179869184 + (nu : Int)) h').bind (fun p4 => some p4) ∧ CSt G m nu (nu + 1) [] h h' ∧ vC G io M cd h' m (xvF o e en) true (17179869184 + (nu : Int)) := by
  obtain ⟨c, h1, c1, c2, c3, ⟨c4, c5, c6⟩, c7, c8⟩ := c_fresh (kk := om_cA G 14) I hn h4
  have C0 : CSt G m nu (nu + 1) [] h h1 := CSt_of I c7 c2 c3 c8
  have ec : cO h1 m nu = c := c7.2.2.2.2.1.1
  have e96 : fI h1 296 m = fI h 296 m := C0.2.2.2.2.1.1 296 (by decide) (by decide)
  have nm : c ≠ m := fun z => by rw [z, c2.1.1] at c6; omega
  obtain ⟨h2, eh⟩ : ∃ h2, h2 = sI (sR h1 1706 c l1) 1708 c (fI h 296 m) := ⟨_, rfl⟩
  have C2 : CSt G m nu (nu + 1) [] h h2 := by
    rw [eh]
    exact CSt_sI (CSt_sR C0 (.inl rfl) ec.symm (by omega) hn.1) (.inr ⟨by
      have : cO (sR h1 1706 c l1) m nu = cO h1 m nu := cO_eq (fR_ne (by decide)) rfl
      rw [this]; exact ec.symm, by omega, hn.1⟩)
  have r62 : ∀ f, f ≠ 1706 → ∀ a, fR h2 f a = fR h1 f a := fun f hf a => by rw [eh]; exact fR_ne hf
  have ec2 : cO h2 m nu = c := (cO_eq (r62 262 (by decide) m) (by rw [eh]; rfl)).trans ec
  have I2 := C2.1
  obtain ⟨g1, g2, ⟨g3, g4, g5⟩, g6⟩ := MC_at I2 (k := nu) (by have := C2.2.1.2.1; omega)
  rw [ec2] at g1 g2 g3 g4 g5 g6
  have nA : fR h2 302 m ≠ fR h2 1718 c := fun z => (I2.2.1.2 c g2).2.2.2.1 z.symm
  have rA := I2.2.2.2.1.1
  obtain ⟨h3, p1, p2, p3⟩ := row_loop (B := fR h2 1718 c) (h := h2) (S := C_10_lambda_28s G m c) (fun j => aI h2 (fR h2 302 m) j) (fun g => by
    unfold C_10_lambda_28s
    rw [if_pos (by show (4 : Int) ≤ 4; omega)]) (fun i g hi Y => by
    obtain ⟨y1, y2, y3, y4, y5, y6⟩ := Y.2 m
    unfold C_10_lambda_28s
    simp only
    have k1 : ∀ a, kd g a = kd h2 a := fun a => (Y.2 a).1
    have n1 : ∀ a, an g a = an h2 a := fun a => (Y.2 a).2.2.2.1
    have R1 : ∀ f a, fR g f a = fR h2 f a := fun f a => (Y.2 a).2.2.1 f
    rw [if_neg (by omega), gd_pos ⟨by rw [k1]; exact g5, by rw [k1]; exact I2.1.1, by rw [R1, k1]; exact rA.2.1, by omega, by rw [R1, n1, rA.2.2]; omega, by rw [R1, k1]; exact g6.2.1, by rw [R1, n1, g6.2.2]; omega⟩, w32_s (by omega) (by omega), R1, R1, show ((i : Int)).toNat = i by omega, (Y.2 _).2.2.2.2.1 i nA]
    rfl)
  have C3 : CSt G m nu (nu + 1) [] h h3 := CSt_pF C2 p2 (by rw [ec2]) (by omega) hn.1
  have ec3 : cO h3 m nu = c := (cO_eq ((p2.2 m).2.2.1 262) (p2.2 _).2.2.2.2.2.2.1).trans ec2
  have R3 : ∀ f a, fR h3 f a = fR h2 f a := fun f a => (p2.2 a).2.2.1 f
  have wn : w32 (fI h3 264 m - 1) = (nu : Int) := by rw [C3.2.1.1]; exact (w32_s (by omega) (by omega)).trans (by omega)
  refine ⟨h3, ?_, C3, ?_⟩
  · unfold C_10_lambda
    rw [gd_pos I.1.1, c1, Option.bind_some]
    show (if c ≠ 0 then _ else _) = _
    rw [if_pos c4, gd_pos ⟨c6, c2.1.1⟩, e96]
    show (om_loop (C_10_lambda_28s G m c) (0, sI (sR h1 1706 c l1) 1708 c (fI h 296 m))).bind _ = _
    rw [← eh, p1, Option.bind_some, gd_pos C3.1.1.1, wn, c_of4 h4, Option.bind_some, gd_pos C3.1.1.1]
  · refine .inr (.inr (.inr ⟨nu, by rw [C3.2.1.1]; omega, rfl, .inr (.inr (.inr ⟨rfl, ?_, ?_, ?_, ?_⟩))⟩))
    · rw [ec3, R3, r62 1694 (by decide)]; exact c7.2.2.2.2.1.2.2
    · rw [ec3, R3, eh]
      show cd o.1 e (fR (sR h1 1706 c l1) 1706 c) 0 _
      rw [fR_eq]; exact hc
    · rw [ec3, (p2.2 c).2.1 1708]
      have : fI h2 1708 c = fI h 296 m := by rw [eh]; exact fI_eq
      rw [this]; exact vC_gr C3.2.2.1 he
    · refine rC_gr C3.2.2.1 (fun j hj => ?_) hr
      rw [ec3, R3, p3 j hj]
      have e2 : fR h2 302 m = fR h 302 m := C2.2.2.2.2.1.2 302
      rw [e2]
      have q := I.2.2.2.1.1
      refine (C2.2.2.2.1.2.2.2 (fR h 302 m) q.1 (fun z => ?_)).2.2.2.2.1 j
      rcases z with z | z | z | ⟨c', hc', z⟩
      · have := q.2.1; rw [z, I.1.1] at this; omega
      · have := q.2.1; rw [z, I.2.1.1.1.2.1] at this; omega
      · have := q.2.1; omega
      · exact (I.2.1.2 c' hc').2.2.2.1 z.symm
theorem c_lamF {l1 : Nat} (I : MC G h m) (hn : cNu h m nu) (h4 : ¬ nu < 4000) : C_10_lambda G m l1 h = some (sI h 280 m 4) := by
  unfold C_10_lambda
  rw [gd_pos I.1.1, c_freshF I hn h4, Option.bind_some]
  exact if_neg (fun z => z rfl)
end LTH
