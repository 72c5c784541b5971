set_option maxRecDepth 100000
/-! THE COMPONENT'S MACHINE: a frame comes, a frame goes -/
section LPU
variable {G : om_G} {io : Nat → Nat} {ins : List INs} {M : MPg} {cd : Nat → Et → Nat → Nat → Nat → Prop} {h h1 h2 : om_H} {m nu nu1 nu2 kk A B n mx : Nat} {fs : List Nat}
theorem MC_f (I : MC G h m) {i : Nat} (hi : i < 300) : (fO h m i ≠ 0 ∧ fO h m i < hz h ∧ kd h (fO h m i) = 12) ∧ rwO h (fR h 374 (fO h m i)) ∧ fR h 374 (fO h m i) ≠ fR h 302 m ∧ fR h 374 (fO h m i) ≠ fR h 306 m := by
  obtain ⟨q1, q2, _, q4, q5, _⟩ := I.2.2.1.2 i hi
  exact ⟨q1, q2, q4, q5⟩
theorem MC_fne (I : MC G h m) {i j : Nat} (hi : i < 300) (hj : j < 300) (ne : i ≠ j) : fO h m i ≠ fO h m j ∧ fR h 374 (fO h m i) ≠ fR h 374 (fO h m j) := by
  obtain ⟨_, _, q, _⟩ := I.2.2.1.2 j hj
  exact ⟨fun z => ne (q i hi (.inl z)), fun z => ne (q i hi (.inr z))⟩
set_option maxHeartbeats 1000000 in
/-- A FRAME COMES -/
theorem c_pushM {wk : Nat} {lv : Int} (I : MC G h m) (hf : fI h 272 m = (n : Int)) (h3 : n < 300) (hm : fI h 276 m = (mx : Int)) (hmx : mx ≤ 300) : ∃ h', C_10_push G m wk lv h = some (1, h') ∧ WSt m [272, 276] h h' ∧ (fI h' 272 m = ((n + 1 : Nat) : Int) ∧ fI h' 276 m = ((max mx (n + 1) : Nat) : Int)) ∧ (∀ f, fR h' f m = fR h f m) ∧ (fR h' 354 (fO h m n) = wk ∧ fR h' 358 (fO h m n) = fR h 290 m ∧ fI h' 360 (fO h m n) = lv ∧ fI h' 364 (fO h m n) = fI h 296 m ∧ ∀ j, j < 4 → aI h' (fR h 374 (fO h m n)) j = aI h (fR h 302 m) j) ∧ (∀ i, i < 300 → i ≠ n → eqA (fO h m i) h h' ∧ eqA (fR h 374 (fO h m i)) h h') ∧ ∀ j, aI h' (fR h 302 m) j = aI h (fR h 302 m) j := by
  obtain ⟨⟨g1, g2, g3⟩, g4, g5, g6⟩ := MC_f I h3
  have k60 := I.2.2.1.1
  have nm : m ≠ fO h m n := fun z => by have := I.1.1; rw [z] at this; omega
  have rA := I.2.2.2.1.1
  obtain ⟨ha, ea⟩ : ∃ ha, ha = sI (sI (sR (sR h 354 (fO h m n) wk) 358 (fO h m n) (fR h 290 m)) 360 (fO h m n) lv) 364 (fO h m n) (fI h 296 m) := ⟨_, rfl⟩
  have Wa : WSt m [272, 276] h ha := by
    rw [ea]
    exact WSt_fI I (WSt_fI I (WSt_fR I (WSt_fR I WSt_refl (.inl rfl) g3) (.inr rfl) g3) g3) g3
  have Ra : ∀ f a, a ≠ fO h m n ∨ (f ≠ 354 ∧ f ≠ 358) → fR ha f a = fR h f a := fun f a w => by
    rw [ea]
    show fR (sR (sR h 354 (fO h m n) wk) 358 (fO h m n) (fR h 290 m)) f a = _
    rcases w with w | w
    · rw [fR_na w, fR_na w]
    · rw [fR_ne w.2, fR_ne w.1]
  have Fa : ∀ f a, a ≠ fO h m n → fI ha f a = fI h f a := fun f a w => by
    rw [ea, fI_na w, fI_na w]
    rfl
  have Aa : ∀ a k, aI ha a k = aI h a k := fun a k => by rw [ea]; rfl
  have ka : ∀ a, kd ha a = kd h a := fun a => (Wa.1.2.1 a).1
  have na : ∀ a, an ha a = an h a := fun a => (Wa.1.2.1 a).2.1
  have r374 : fR ha 374 (fO h m n) = fR h 374 (fO h m n) := Ra 374 _ (.inr ⟨by decide, by decide⟩)
  have r302 : fR ha 302 m = fR h 302 m := Ra 302 m (.inl nm)
  obtain ⟨hb, p1, p2, p3⟩ := row_loop (B := fR h 374 (fO h m n)) (h := ha) (S := C_10_push_56s G m (fO h m n)) (fun j => aI h (fR h 302 m) j) (fun g => by
    unfold C_10_push_56s
    rw [if_pos (by show (4 : Int) ≤ 4; omega)]) (fun i g hi Y => by
    unfold C_10_push_56s
    simp only
    have k1 : ∀ a, kd g a = kd h a := fun a => (Y.2 a).1.trans (ka a)
    have n1 : ∀ a, an g a = an h a := fun a => (Y.2 a).2.2.2.1.trans (na a)
    have R1 : fR g 302 m = fR h 302 m := ((Y.2 m).2.2.1 302).trans r302
    have R2 : fR g 374 (fO h m n) = fR h 374 (fO h m n) := ((Y.2 _).2.2.1 374).trans r374
    rw [if_neg (by omega), gd_pos ⟨by rw [k1]; exact g3, by rw [k1]; exact I.1.1, by rw [R1, k1]; exact rA.2.1, by omega, by rw [R1, n1, rA.2.2]; omega, by rw [R2, k1]; exact g4.2.1, by rw [R2, n1, g4.2.2]; omega⟩, w32_s (by omega) (by omega), R1, R2, show ((i : Int)).toNat = i by omega, (Y.2 _).2.2.2.2.1 i (fun z => g5 z.symm), Aa]
    rfl)
  have Wb : WSt m [272, 276] h hb := WSt_pF Wa p2 (.inr (.inr (.inr (.inr ⟨n, h3, rfl⟩))))
  have Fb : ∀ f a, fI hb f a = fI ha f a := fun f a => (p2.2 a).2.1 f
  have Rb : ∀ f a, fR hb f a = fR ha f a := fun f a => (p2.2 a).2.2.1 f
  have b272 : fI hb 272 m = (n : Int) := by rw [Fb, Fa _ _ nm]; exact hf
  have b276 : fI hb 276 m = (mx : Int) := by rw [Fb, Fa _ _ nm]; exact hm
  have w1 : w32 ((n : Int) + 1) = ((n + 1 : Nat) : Int) := (w32_s (by omega) (by omega)).trans (by omega)
  obtain ⟨h', eh⟩ : ∃ h', h' = sI (sI hb 272 m ((n + 1 : Nat) : Int)) 276 m ((max mx (n + 1) : Nat) : Int) := ⟨_, rfl⟩
  have Wh : WSt m [272, 276] h h' := by
    rw [eh]
    exact WSt_sI (WSt_sI Wb (by decide)) (by decide)
  have Fh : ∀ f a, a ≠ m → fI h' f a = fI hb f a := fun f a w => by rw [eh, fI_na w, fI_na w]
  have Rh : ∀ f a, fR h' f a = fR hb f a := fun f a => by rw [eh]; rfl
  have Ah : ∀ a k, aI h' a k = aI hb a k := fun a k => by rw [eh]; rfl
  refine ⟨h', ?_, Wh, ⟨by rw [eh, fI_ne (by decide), fI_eq], by rw [eh, fI_eq]⟩, fun f => ?_, ⟨?_, ?_, ?_, ?_, fun j hj => ?_⟩, fun i hi ne => ⟨?_, ?_⟩, fun j => ?_⟩
  · unfold C_10_push
    rw [gd_pos I.1.1, hf, if_pos (by omega), show ((n : Int)).toNat = n by omega]
    show gd (kd h m = 11 ∧ kd h (fR h 270 m) = 60 ∧ 0 ≤ (n : Int) ∧ (n : Int) < (an h (fR h 270 m) : Int) ∧ kd h (fO h m n) = 12) ((om_loop (C_10_push_56s G m (fO h m n)) (0, sI (sI (sR (sR h 354 (fO h m n) wk) 358 (fO h m n) (fR h 290 m)) 360 (fO h m n) lv) 364 (fO h m n) (fI h 296 m))).bind _) = _
    rw [gd_pos ⟨I.1.1, k60.2.1, by omega, by rw [k60.2.2]; omega, g3⟩, ← ea, p1, Option.bind_some, gd_pos ((p2.2 m).1.trans ((ka m).trans I.1.1)), b272, b276, w1, eh]
    congr 3
    by_cases q : mx < n + 1
    · rw [if_pos (by omega), show max mx (n + 1) = n + 1 by omega]
    · rw [if_neg (by omega), show max mx (n + 1) = mx by omega]
  · rw [Rh, Rb, Ra f m (.inl nm)]
  · rw [Rh, Rb, ea]
    show fR (sR (sR h 354 (fO h m n) wk) 358 (fO h m n) (fR h 290 m)) 354 (fO h m n) = wk
    rw [fR_ne (by decide), fR_eq]
  · rw [Rh, Rb, ea]
    exact fR_eq
  · rw [Fh _ _ (fun z => nm z.symm), Fb, ea, fI_ne (by decide), fI_eq]
  · rw [Fh _ _ (fun z => nm z.symm), Fb, ea, fI_eq]
  · rw [Ah, p3 j hj]
  · obtain ⟨⟨q1, q2, q3⟩, _⟩ := MC_f I hi
    have n1 := (MC_fne I hi h3 ne).1
    have n2 : fO h m i ≠ m := fun z => by have := I.1.1; rw [← z] at this; omega
    refine ⟨(Wh.1.2.1 _).1, fun f => by rw [Fh _ _ n2, Fb, Fa _ _ n1], fun f => by rw [Rh, Rb, Ra _ _ (.inl n1)], (Wh.1.2.1 _).2.1, fun k => ?_, fun k => Wh.1.2.2.2 _ k (fun z => by rw [z, I.2.2.2.2.2.1.2.1] at q3; omega), (Wh.1.2.1 _).2.2⟩
    rw [Ah, (p2.2 _).2.2.2.2.1 k (fun z => by have := g4.2.1; rw [← z] at this; omega), Aa]
  · obtain ⟨_, ⟨q1, q2, q3⟩, _⟩ := MC_f I hi
    have n1 := (MC_fne I hi h3 ne).2
    have n2 : fR h 374 (fO h m i) ≠ m := fun z => by have := I.1.1; rw [← z] at this; omega
    have n3 : fR h 374 (fO h m i) ≠ fO h m n := fun z => by rw [z] at q2; omega
    refine ⟨(Wh.1.2.1 _).1, fun f => by rw [Fh _ _ n2, Fb, Fa _ _ n3], fun f => by rw [Rh, Rb, Ra _ _ (.inl n3)], (Wh.1.2.1 _).2.1, fun k => by rw [Ah, (p2.2 _).2.2.2.2.1 k n1, Aa], fun k => Wh.1.2.2.2 _ k (fun z => by rw [z, I.2.2.2.2.2.1.2.1] at q2; omega), (Wh.1.2.1 _).2.2⟩
  · rw [Ah, (p2.2 _).2.2.2.2.1 j (fun z => g5 z.symm), Aa]
theorem c_pushF {wk : Nat} {lv : Int} (I : MC G h m) (hf : fI h 272 m = 300) : C_10_push G m wk lv h = some (0, sI h 280 m 3) := by
  unfold C_10_push
  rw [gd_pos I.1.1, hf, if_neg (fun z => z rfl), gd_pos I.1.1]
set_option maxHeartbeats 1000000 in
/-- A FRAME GOES -/
theorem c_back (I : MC G h m) (h3 : n < 300) : ∃ h', C_10_back G m (fO h m n) h = some h' ∧ WSt m [296] h h' ∧ fI h' 296 m = fI h 364 (fO h m n) ∧ (∀ f, fR h' f m = fR h f m) ∧ (∀ j, j < 4 → aI h' (fR h 302 m) j = aI h (fR h 374 (fO h m n)) j) ∧ ∀ i, i < 300 → eqA (fO h m i) h h' ∧ eqA (fR h 374 (fO h m i)) h h' := by
  obtain ⟨⟨g1, g2, g3⟩, g4, g5, g6⟩ := MC_f I h3
  have rA := I.2.2.2.1.1
  have W0 : WSt m [296] h (sI h 296 m (fI h 364 (fO h m n))) := WSt_sI WSt_refl (by decide)
  obtain ⟨hb, p1, p2, p3⟩ := row_loop (B := fR h 302 m) (h := sI h 296 m (fI h 364 (fO h m n))) (S := C_10_back_10s G m (fO h m n)) (fun j => aI h (fR h 374 (fO h m n)) j) (fun g => by
    unfold C_10_back_10s
    rw [if_pos (by show (4 : Int) ≤ 4; omega)]) (fun i g hi Y => by
    unfold C_10_back_10s
    simp only
    have k1 : ∀ a, kd g a = kd h a := fun a => (Y.2 a).1
    have n1 : ∀ a, an g a = an h a := fun a => (Y.2 a).2.2.2.1
    have R1 : fR g 302 m = fR h 302 m := (Y.2 m).2.2.1 302
    have R2 : fR g 374 (fO h m n) = fR h 374 (fO h m n) := (Y.2 _).2.2.1 374
    rw [if_neg (by omega), gd_pos ⟨by rw [k1]; exact I.1.1, by rw [k1]; exact g3, by rw [R2, k1]; exact g4.2.1, by omega, by rw [R2, n1, g4.2.2]; omega, by rw [R1, k1]; exact rA.2.1, by rw [R1, n1, rA.2.2]; omega⟩, w32_s (by omega) (by omega), R1, R2, show ((i : Int)).toNat = i by omega, (Y.2 _).2.2.2.2.1 i g5]
    rfl)
  have Wb : WSt m [296] h hb := WSt_pF W0 p2 (.inr (.inr (.inl rfl)))
  refine ⟨hb, ?_, Wb, ?_, fun f => (p2.2 m).2.2.1 f, p3, fun i hi => ?_⟩
  · unfold C_10_back
    rw [gd_pos ⟨g3, I.1.1⟩, p1, Option.bind_some]
  · rw [(p2.2 m).2.1 296]
    exact fI_eq
  · obtain ⟨⟨q1, q2, q3⟩, ⟨r1, r2, r3⟩, q5, _⟩ := MC_f I hi
    have n2 : fO h m i ≠ m := fun z => by have := I.1.1; rw [← z] at this; omega
    have n3 : fR h 374 (fO h m i) ≠ m := fun z => by have := I.1.1; rw [← z] at this; omega
    have n4 : fO h m i ≠ fR h 302 m := fun z => by have := rA.2.1; rw [← z] at this; omega
    obtain ⟨a1, a2, a3, a4, a5, a6, a7, a8⟩ := p2.2 (fO h m i)
    obtain ⟨b1, b2, b3, b4, b5, b6, b7, b8⟩ := p2.2 (fR h 374 (fO h m i))
    exact ⟨⟨a1, fun f => (a2 f).trans (fI_na n2), a3, a4, fun k => a5 k n4, a6, a7, a8⟩, ⟨b1, fun f => (b2 f).trans (fI_na n3), b3, b4, fun k => b5 k q5, b6, b7, b8⟩⟩
end LPU
