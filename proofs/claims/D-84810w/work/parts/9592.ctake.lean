set_option maxRecDepth 100000
/-! A TEXT IS TAKEN, A PROGRAM IS CLEARED, TOKENS ARE MADE: in the component -/
/-- only the text's bytes and how many are on the tape -/
def tkF (m0 B : Nat) (h h' : om_H) : Prop := (hz h' = hz h ∧ hu h' = hu h) ∧ (∀ a, kd h' a = kd h a) ∧ (∀ f a, ¬ (f = 8 ∧ a = m0) → fI h' f a = fI h f a) ∧ (∀ f a, fR h' f a = fR h f a) ∧ (∀ a, an h' a = an h a) ∧ (∀ a k, a ≠ B → aI h' a k = aI h a k) ∧ (∀ a k, aR h' a k = aR h a k) ∧ (∀ a, ll h' a = ll h a) ∧ ∀ a, lc h' a = lc h a
theorem tkF_refl (m0 B : Nat) (h : om_H) : tkF m0 B h h := ⟨⟨rfl, rfl⟩, fun _ => rfl, fun _ _ _ => rfl, fun _ _ => rfl, fun _ => rfl, fun _ _ _ => rfl, fun _ _ => rfl, fun _ => rfl, fun _ => rfl⟩
theorem tkF_trans {m0 B : Nat} {h h1 h2 : om_H} (X : tkF m0 B h h1) (Y : tkF m0 B h1 h2) : tkF m0 B h h2 := ⟨⟨Y.1.1.trans X.1.1, Y.1.2.trans X.1.2⟩, fun a => (Y.2.1 a).trans (X.2.1 a), fun f a n => (Y.2.2.1 f a n).trans (X.2.2.1 f a n), fun f a => (Y.2.2.2.1 f a).trans (X.2.2.2.1 f a), fun a => (Y.2.2.2.2.1 a).trans (X.2.2.2.2.1 a), fun a k n => (Y.2.2.2.2.2.1 a k n).trans (X.2.2.2.2.2.1 a k n), fun a k => (Y.2.2.2.2.2.2.1 a k).trans (X.2.2.2.2.2.2.1 a k), fun a => (Y.2.2.2.2.2.2.2.1 a).trans (X.2.2.2.2.2.2.2.1 a), fun a => (Y.2.2.2.2.2.2.2.2 a).trans (X.2.2.2.2.2.2.2.2 a)⟩
theorem tkF_pI {m0 B k : Nat} {x : Int} {h : om_H} : tkF m0 B h (pI h B k x) := ⟨⟨rfl, rfl⟩, fun _ => rfl, fun _ _ _ => rfl, fun _ _ => rfl, fun _ => rfl, fun a i n => by rw [aI_pI, if_neg (fun z => n z.1)], fun _ _ => rfl, fun _ => rfl, fun _ => rfl⟩
theorem c_takeL {G : om_G} {m0 B T : Nat} {S : List Int} (hS : S.length ≤ 2000) (hb : ∀ x ∈ S, -128 ≤ x ∧ x ≤ 127) (nBT : B ≠ T) : ∀ (d k : Nat) (h : om_H), k + d = S.length → kd h m0 = 1 → (fR h 6 m0 = T ∧ kd h T = 50 ∧ an h T = 2000) → (kd h B = 50 ∧ an h B = 2000) → (∀ (i : Nat) (x : Int), S[i]? = some x → aI h T i = x) → (∀ (i : Nat) (x : Int), i < k → S[i]? = some x → aI h B i = x) → ∃ h', om_loop (C_0_take_2s G m0 B (S.length : Int)) ((k : Int), h) = some h' ∧ tkF m0 B h h' ∧ ∀ (i : Nat) (x : Int), S[i]? = some x → aI h' B i = x
  | 0, k, h, e, _, _, _, _, H => by
    refine ⟨h, om_loop_out ?_, tkF_refl _ _ _, fun i x ex => H i x (by have := (List.getElem?_eq_some_iff.mp ex).1; omega) ex⟩
    unfold C_0_take_2s
    simp only
    rw [if_pos (by omega)]
  | d + 1, k, h, e, k1, ⟨t1, t2, t3⟩, ⟨b1, b2⟩, hT, H => by
    have hk : k < S.length := by omega
    have ek : S[k]? = some S[k] := List.getElem?_eq_getElem hk
    have bk := hb S[k] (List.getElem_mem hk)
    have st : C_0_take_2s G m0 B (S.length : Int) ((k : Int), h) = some (.inl (((k + 1 : Nat) : Int), pI h B k S[k])) := by
      unfold C_0_take_2s
      simp only
      rw [if_neg (by omega), t1, gd_pos ⟨k1, t2, by omega, by omega, b1, by omega⟩, show ((k : Int)).toNat = k by omega, hT k _ ek, b8_id bk.1 bk.2, w32_s (by omega) (by omega)]
      rfl
    obtain ⟨h', a1, a2, a3⟩ := c_takeL (G := G) hS hb nBT d (k + 1) (pI h B k S[k]) (by omega) k1 ⟨t1, t2, t3⟩ ⟨b1, b2⟩ (fun i x ex => by rw [aI_pI, if_neg (fun z => nBT z.1.symm)]; exact hT i x ex) (fun i x hi ex => by
      rw [aI_pI]
      by_cases c : i = k
      · rw [if_pos ⟨rfl, c⟩]
        rw [c, ek] at ex
        exact Option.some.inj ex
      · rw [if_neg (fun z => c z.2)]
        exact H i x (by omega) ex)
    exact ⟨h', by rw [om_loop_in st]; exact a1, tkF_trans tkF_pI a2, a3⟩
/-- THE TAPE IS TAKEN -/
theorem c_take {G : om_G} {m0 B T : Nat} {S : List Int} {h : om_H} (hS : S.length ≤ 2000) (hb : ∀ x ∈ S, -128 ≤ x ∧ x ≤ 127) (nBT : B ≠ T) (k1 : kd h m0 = 1) (t : fR h 6 m0 = T ∧ kd h T = 50 ∧ an h T = 2000) (b : kd h B = 50 ∧ an h B = 2000) (hT : ∀ (i : Nat) (x : Int), S[i]? = some x → aI h T i = x) : ∃ h', C_0_take G m0 B (S.length : Int) h = some h' ∧ tkF m0 B h h' ∧ fI h' 8 m0 = 0 ∧ txC h' B S := by
  obtain ⟨h1, a1, a2, a3⟩ := c_takeL (G := G) hS hb nBT S.length 0 h (by omega) k1 t b hT (fun i x hi _ => absurd hi (Nat.not_lt_zero _))
  have a1' : om_loop (C_0_take_2s G m0 B (S.length : Int)) (0, h) = some h1 := a1
  refine ⟨sI h1 8 m0 0, ?_, tkF_trans a2 ⟨⟨rfl, rfl⟩, fun _ => rfl, fun f a n => by rw [fI_sI, if_neg n], fun _ _ => rfl, fun _ => rfl, fun _ _ _ => rfl, fun _ _ => rfl, fun _ => rfl, fun _ => rfl⟩, by rw [fI_sI, if_pos ⟨rfl, rfl⟩], ⟨?_, ?_, hS, a3, hb⟩⟩
  · unfold C_0_take
    rw [a1', Option.bind_some, gd_pos (by rw [a2.2.1]; exact k1)]
  · show kd h1 B = 50
    rw [a2.2.1]; exact b.1
  · show an h1 B = 2000
    rw [a2.2.2.2.2.1]; exact b.2
/-- only an array of things is written -/
def arF (X : Nat) (h h' : om_H) : Prop := (hz h' = hz h ∧ hu h' = hu h) ∧ (∀ a, kd h' a = kd h a) ∧ (∀ f a, fI h' f a = fI h f a) ∧ (∀ f a, fR h' f a = fR h f a) ∧ (∀ a, an h' a = an h a) ∧ (∀ a k, aI h' a k = aI h a k) ∧ (∀ a k, a ≠ X → aR h' a k = aR h a k) ∧ (∀ a, ll h' a = ll h a) ∧ ∀ a, lc h' a = lc h a
theorem c_clearL {G : om_G} {tb X : Nat} : ∀ (d k : Nat) (h : om_H), k + d = 1024 → kd h tb = 3 → (fR h 134 tb = X ∧ kd h X = 56 ∧ an h X = 1024) → (∀ i, i < k → aR h X i = 0) → ∃ h', om_loop (C_2_clear_22s G tb) ((k : Int), h) = some h' ∧ arF X h h' ∧ ∀ i, i < 1024 → aR h' X i = 0
  | 0, k, h, e, k3, ⟨t1, t2, t3⟩, H => by
    refine ⟨h, om_loop_out ?_, ⟨⟨rfl, rfl⟩, fun _ => rfl, fun _ _ => rfl, fun _ _ => rfl, fun _ => rfl, fun _ _ => rfl, fun _ _ _ => rfl, fun _ => rfl, fun _ => rfl⟩, fun i hi => H i (by omega)⟩
    unfold C_2_clear_22s
    simp only
    rw [t1, gd_pos ⟨k3, t2⟩, t3, if_pos (by omega)]
  | d + 1, k, h, e, k3, ⟨t1, t2, t3⟩, H => by
    have st : C_2_clear_22s G tb ((k : Int), h) = some (.inl (((k + 1 : Nat) : Int), pR h X k 0)) := by
      unfold C_2_clear_22s
      simp only
      rw [t1, gd_pos ⟨k3, t2⟩, t3, if_neg (by omega), gd_pos ⟨k3, t2, by omega, by omega⟩, show ((k : Int)).toNat = k by omega, w32_s (by omega) (by omega)]
      rfl
    obtain ⟨h', a1, a2, a3⟩ := c_clearL (G := G) (tb := tb) (X := X) d (k + 1) (pR h X k 0) (by omega) k3 ⟨t1, t2, t3⟩ (fun i hi => by
      rw [aR_pR]
      by_cases c : i = k
      · rw [if_pos ⟨rfl, c⟩]
      · rw [if_neg (fun z => c z.2)]
        exact H i (by omega))
    refine ⟨h', by rw [om_loop_in st]; exact a1, ?_, a3⟩
    obtain ⟨⟨y1, y2⟩, y3, y4, y5, y6, y7, y8, y9, y10⟩ := a2
    exact ⟨⟨y1, y2⟩, y3, y4, y5, y6, y7, fun a i n => by rw [y8 a i n, aR_pR, if_neg (fun z => n z.1)], y9, y10⟩
/-- lists are emptied -/
def sLs (h : om_H) : List Nat → om_H
  | [] => h
  | L :: l => sLs (sL h L []) l
theorem sLs_at : ∀ (l : List Nat) (h : om_H), (hz (sLs h l) = hz h ∧ hu (sLs h l) = hu h) ∧ (∀ a, kd (sLs h l) a = kd h a) ∧ (∀ f a, fI (sLs h l) f a = fI h f a) ∧ (∀ f a, fR (sLs h l) f a = fR h f a) ∧ (∀ a, an (sLs h l) a = an h a) ∧ (∀ a k, aI (sLs h l) a k = aI h a k) ∧ (∀ a k, aR (sLs h l) a k = aR h a k) ∧ (∀ a, ll (sLs h l) a = if a ∈ l then [] else ll h a) ∧ ∀ a, lc (sLs h l) a = lc h a
  | [], h => ⟨⟨rfl, rfl⟩, fun _ => rfl, fun _ _ => rfl, fun _ _ => rfl, fun _ => rfl, fun _ _ => rfl, fun _ _ => rfl, fun a => by rw [if_neg List.not_mem_nil]; rfl, fun _ => rfl⟩
  | L :: l, h => by
    obtain ⟨y1, y2, y3, y4, y5, y6, y7, y8, y9⟩ := sLs_at l (sL h L [])
    refine ⟨y1, y2, y3, y4, y5, y6, y7, fun a => ?_, y9⟩
    show ll (sLs (sL h L []) l) a = _
    rw [y8 a, ll_sL]
    by_cases c : a ∈ l
    · rw [if_pos c, if_pos (List.mem_cons_of_mem _ c)]
    · rw [if_neg c]
      by_cases c2 : a = L
      · rw [if_pos c2, if_pos (by rw [c2]; exact List.mem_cons_self)]
      · rw [if_neg c2, if_neg (fun z => (List.mem_cons.mp z).elim c2 c)]
/-- a table, a program: what may be written when it is cleared -/
def clF2 (pr tb : Nat) (h h' : om_H) : Prop := (hz h' = hz h ∧ hu h' = hu h) ∧ (∀ a, kd h' a = kd h a) ∧ (∀ f a, ¬ (a = tb ∧ (f = 124 ∨ f = 128 ∨ f = 140)) → fI h' f a = fI h f a) ∧ (∀ f a, ¬ (f = 118 ∧ a = tb) → fR h' f a = fR h f a) ∧ (∀ a, an h' a = an h a) ∧ (∀ a k, aI h' a k = aI h a k) ∧ (∀ a k, a ≠ fR h 134 tb → aR h' a k = aR h a k) ∧ (∀ a, (∀ f ∈ PFs, a ≠ fR h f pr) → ll h' a = ll h a) ∧ ∀ a, lc h' a = lc h a
/-- A TABLE IS CLEARED -/
theorem c_clearT {G : om_G} {tb l1 : Nat} {h : om_H} (k3 : kd h tb = 3) (k56 : kd h (fR h 134 tb) = 56 ∧ an h (fR h 134 tb) = 1024) : ∃ h', C_2_clear G tb l1 h = some h' ∧ ((hz h' = hz h ∧ hu h' = hu h) ∧ (∀ a, kd h' a = kd h a) ∧ (∀ f a, ¬ (a = tb ∧ (f = 124 ∨ f = 128 ∨ f = 140)) → fI h' f a = fI h f a) ∧ (∀ f a, ¬ (f = 118 ∧ a = tb) → fR h' f a = fR h f a) ∧ (∀ a, an h' a = an h a) ∧ (∀ a k, aI h' a k = aI h a k) ∧ (∀ a k, a ≠ fR h 134 tb → aR h' a k = aR h a k) ∧ (∀ a, ll h' a = ll h a) ∧ ∀ a, lc h' a = lc h a) ∧ fR h' 118 tb = l1 ∧ (fI h' 124 tb = 0 ∧ fI h' 128 tb = 0 ∧ fI h' 140 tb = 0) ∧ ∀ i, i < 1024 → aR h' (fR h 134 tb) i = 0 := by
  obtain ⟨hs, ehs⟩ : ∃ hs, hs = sI (sI (sI (sR h 118 tb l1) 124 tb 0) 140 tb 0) 128 tb 0 := ⟨_, rfl⟩
  have r134 : fR hs 134 tb = fR h 134 tb := by rw [ehs, fR_sI, fR_sI, fR_sI, fR_sR, if_neg (fun z => absurd z.1 (by decide))]
  obtain ⟨h', a1, ⟨b1, b2, b3, b4, b5, b6, b7, b8, b9⟩, a3⟩ := c_clearL (G := G) (tb := tb) (X := fR h 134 tb) 1024 0 hs (by omega) (by rw [ehs]; exact k3) ⟨r134, by rw [ehs]; exact k56.1, by rw [ehs]; exact k56.2⟩ (fun i hi => absurd hi (Nat.not_lt_zero _))
  have iS : ∀ f a, fI hs f a = if f = 128 ∧ a = tb then 0 else if f = 140 ∧ a = tb then 0 else if f = 124 ∧ a = tb then 0 else fI h f a := fun f a => by rw [ehs, fI_sI, fI_sI, fI_sI, fI_sR]
  have rS : ∀ f a, fR hs f a = if f = 118 ∧ a = tb then l1 else fR h f a := fun f a => by rw [ehs, fR_sI, fR_sI, fR_sI, fR_sR]
  refine ⟨h', ?_, ⟨⟨by rw [b1.1, ehs]; rfl, by rw [b1.2, ehs]; rfl⟩, fun a => by rw [b2, ehs]; rfl, fun f a n => ?_, fun f a n => by rw [b4, rS, if_neg n], fun a => by rw [b5, ehs]; rfl, fun a k => by rw [b6, ehs]; rfl, fun a k n => by rw [b7 a k n, ehs]; rfl, fun a => by rw [b8, ehs]; rfl, fun a => by rw [b9, ehs]; rfl⟩, by rw [b4, rS, if_pos ⟨rfl, rfl⟩], ⟨?_, ?_, ?_⟩, a3⟩
  · unfold C_2_clear
    have a1' : om_loop (C_2_clear_22s G tb) (0, sI (sI (sI (sR h 118 tb l1) 124 tb 0) 140 tb 0) 128 tb 0) = some h' := by rw [← ehs]; exact a1
    rw [gd_pos k3, a1', Option.bind_some]
  · rw [b3, iS, if_neg (fun z => n ⟨z.2, .inr (.inl z.1)⟩), if_neg (fun z => n ⟨z.2, .inr (.inr z.1)⟩), if_neg (fun z => n ⟨z.2, .inl z.1⟩)]
  · rw [b3, iS, if_neg (fun z => absurd z.1 (by decide)), if_neg (fun z => absurd z.1 (by decide)), if_pos ⟨rfl, rfl⟩]
  · rw [b3, iS, if_pos ⟨rfl, rfl⟩]
  · rw [b3, iS, if_neg (fun z => absurd z.1 (by decide)), if_pos ⟨rfl, rfl⟩]
/-- A PROGRAM IS CLEARED -/
theorem c_clearP {G : om_G} {pr tb : Nat} {h : om_H} (kp : kd h pr = 2) (e78 : fR h 78 pr = tb) (k3 : kd h tb = 3) (k56 : kd h (fR h 134 tb) = 56 ∧ an h (fR h 134 tb) = 1024) (kl : ∀ f ∈ PFs, kd h (fR h f pr) = 42) : ∃ h', C_1_clear G pr h = some h' ∧ clF2 pr tb h h' ∧ (fR h' 118 tb = 0 ∧ fI h' 124 tb = 0 ∧ fI h' 128 tb = 0 ∧ fI h' 140 tb = 0) ∧ (∀ i, i < 1024 → aR h' (fR h 134 tb) i = 0) ∧ ∀ f ∈ PFs, ll h' (fR h f pr) = [] := by
  obtain ⟨h2, a1, ⟨b1, b2, b3, b4, b5, b6, b7, b8, b9⟩, a3, ⟨a4, a5, a6⟩, a7⟩ := c_clearT (G := G) (l1 := 0) k3 k56
  have np : ∀ f, f ∈ PFs → fR h2 f pr = fR h f pr := fun f hf => b4 f pr (fun z => absurd hf (by rw [z.1]; decide))
  have kp2 : kd h2 pr = 2 := by rw [b2]; exact kp
  have kl2 : ∀ f ∈ PFs, kd h2 (fR h2 f pr) = 42 := fun f hf => by rw [b2, np f hf]; exact kl f hf
  obtain ⟨Ls, eLs⟩ : ∃ Ls, Ls = [fR h2 82 pr, fR h2 86 pr, fR h2 90 pr, fR h2 94 pr, fR h2 98 pr, fR h2 102 pr, fR h2 106 pr, fR h2 110 pr] := ⟨_, rfl⟩
  have mem : ∀ f ∈ PFs, fR h f pr ∈ Ls := fun f hf => by
    rw [← np f hf, eLs]
    have hf' : f = 82 ∨ f = 86 ∨ f = 90 ∨ f = 94 ∨ f = 98 ∨ f = 102 ∨ f = 106 ∨ f = 110 := by simpa using hf
    rcases hf' with w | w | w | w | w | w | w | w <;> (rw [w]; simp)
  have mem2 : ∀ a ∈ Ls, ∃ f ∈ PFs, a = fR h f pr := fun a ha => by
    rw [eLs] at ha
    simp only [List.mem_cons, List.not_mem_nil, or_false] at ha
    rcases ha with w | w | w | w | w | w | w | w
    · exact ⟨82, by decide, by rw [w, np 82 (by decide)]⟩
    · exact ⟨86, by decide, by rw [w, np 86 (by decide)]⟩
    · exact ⟨90, by decide, by rw [w, np 90 (by decide)]⟩
    · exact ⟨94, by decide, by rw [w, np 94 (by decide)]⟩
    · exact ⟨98, by decide, by rw [w, np 98 (by decide)]⟩
    · exact ⟨102, by decide, by rw [w, np 102 (by decide)]⟩
    · exact ⟨106, by decide, by rw [w, np 106 (by decide)]⟩
    · exact ⟨110, by decide, by rw [w, np 110 (by decide)]⟩
  obtain ⟨y1, y2, y3, y4, y5, y6, y7, y8, y9⟩ := sLs_at Ls h2
  refine ⟨sLs h2 Ls, ?_, ⟨⟨y1.1.trans b1.1, y1.2.trans b1.2⟩, fun a => (y2 a).trans (b2 a), fun f a n => (y3 f a).trans (b3 f a n), fun f a n => (y4 f a).trans (b4 f a n), fun a => (y5 a).trans (b5 a), fun a k => (y6 a k).trans (b6 a k), fun a k n => (y7 a k).trans (b7 a k n), fun a n => ?_, fun a => (y9 a).trans (b9 a)⟩, ⟨(y4 118 tb).trans a3, (y3 124 tb).trans a4, (y3 128 tb).trans a5, (y3 140 tb).trans a6⟩, fun i hi => (y7 _ i).trans (a7 i hi), fun f hf => by rw [y8, if_pos (mem f hf)]⟩
  · have key : ∀ (p : om_H) (f : Nat) (K : om_H → Option om_H), kd p pr = 2 → kd p (fR p f pr) = 42 → gd (kd p pr = 2 ∧ kd p (fR p f pr) = 42) ((P_J2_clear G (fR p f pr) p).bind K) = K (sL p (fR p f pr) []) := fun p f K z1 z2 => by
      unfold P_J2_clear
      rw [gd_pos ⟨z1, z2⟩, gd_pos z2, Option.bind_some]
    obtain ⟨q0, w0⟩ : ∃ q, q = sL h2 (fR h2 82 pr) [] := ⟨_, rfl⟩
    have u0 : (∀ a, kd q0 a = kd h2 a) ∧ ∀ f a, fR q0 f a = fR h2 f a := by rw [w0]; exact ⟨fun _ => rfl, fun _ _ => rfl⟩
    obtain ⟨q1, w1⟩ : ∃ q, q = sL q0 (fR q0 86 pr) [] := ⟨_, rfl⟩
    have u1 : (∀ a, kd q1 a = kd h2 a) ∧ ∀ f a, fR q1 f a = fR h2 f a := by rw [w1]; exact ⟨fun a => u0.1 a, fun f a => u0.2 f a⟩
    obtain ⟨q2, w2⟩ : ∃ q, q = sL q1 (fR q1 90 pr) [] := ⟨_, rfl⟩
    have u2 : (∀ a, kd q2 a = kd h2 a) ∧ ∀ f a, fR q2 f a = fR h2 f a := by rw [w2]; exact ⟨fun a => u1.1 a, fun f a => u1.2 f a⟩
    obtain ⟨q3, w3⟩ : ∃ q, q = sL q2 (fR q2 94 pr) [] := ⟨_, rfl⟩
    have u3 : (∀ a, kd q3 a = kd h2 a) ∧ ∀ f a, fR q3 f a = fR h2 f a := by rw [w3]; exact ⟨fun a => u2.1 a, fun f a => u2.2 f a⟩
    obtain ⟨q4, w4⟩ : ∃ q, q = sL q3 (fR q3 98 pr) [] := ⟨_, rfl⟩
    have u4 : (∀ a, kd q4 a = kd h2 a) ∧ ∀ f a, fR q4 f a = fR h2 f a := by rw [w4]; exact ⟨fun a => u3.1 a, fun f a => u3.2 f a⟩
    obtain ⟨q5, w5⟩ : ∃ q, q = sL q4 (fR q4 102 pr) [] := ⟨_, rfl⟩
    have u5 : (∀ a, kd q5 a = kd h2 a) ∧ ∀ f a, fR q5 f a = fR h2 f a := by rw [w5]; exact ⟨fun a => u4.1 a, fun f a => u4.2 f a⟩
    obtain ⟨q6, w6⟩ : ∃ q, q = sL q5 (fR q5 106 pr) [] := ⟨_, rfl⟩
    have u6 : (∀ a, kd q6 a = kd h2 a) ∧ ∀ f a, fR q6 f a = fR h2 f a := by rw [w6]; exact ⟨fun a => u5.1 a, fun f a => u5.2 f a⟩
    unfold C_1_clear
    rw [gd_pos ⟨kp, by rw [e78]; exact k3⟩, e78, a1, Option.bind_some]
    rw [key h2 82 _ kp2 (kl2 82 (by decide)), ← w0]
    rw [key q0 86 _ (by rw [u0.1]; exact kp2) (by rw [u0.2, u0.1]; exact kl2 86 (by decide)), ← w1]
    rw [key q1 90 _ (by rw [u1.1]; exact kp2) (by rw [u1.2, u1.1]; exact kl2 90 (by decide)), ← w2]
    rw [key q2 94 _ (by rw [u2.1]; exact kp2) (by rw [u2.2, u2.1]; exact kl2 94 (by decide)), ← w3]
    rw [key q3 98 _ (by rw [u3.1]; exact kp2) (by rw [u3.2, u3.1]; exact kl2 98 (by decide)), ← w4]
    rw [key q4 102 _ (by rw [u4.1]; exact kp2) (by rw [u4.2, u4.1]; exact kl2 102 (by decide)), ← w5]
    rw [key q5 106 _ (by rw [u5.1]; exact kp2) (by rw [u5.2, u5.1]; exact kl2 106 (by decide)), ← w6]
    rw [key q6 110 _ (by rw [u6.1]; exact kp2) (by rw [u6.2, u6.1]; exact kl2 110 (by decide)), eLs, w6, w5, w4, w3, w2, w1, w0]
    rfl
  · rw [y8, if_neg (fun z => by
      obtain ⟨f, hf, e⟩ := mem2 a z
      exact n f hf e)]
    exact b8 a
/-- NEW TOKENS -/
theorem c_tokens {G : om_G} {A : Nat} {S : List Int} {h : om_H} (T : txC h A S) (hA : A < hz h) (h00 : 0 < hz h) : ∃ h', C_14_init G (hz h) A (S.length : Int) (nO h 15 8) = some h' ∧ (kd h' (hz h) = 15 ∧ Cst G h' (hz h) S 0 0 ∧ fR h' 1122 (hz h) = A) ∧ (hz h' = hz h + 1 ∧ hu h' = hu h + 8) ∧ ∀ a, a < hz h → eqA a h h' := by
  obtain ⟨h1, e1⟩ : ∃ h1, h1 = sI (sR (nO h 15 8) 1122 (hz h) A) 1124 (hz h) (S.length : Int) := ⟨_, rfl⟩
  have k15 : kd h1 (hz h) = 15 := by rw [e1]; show kd (nO h 15 8) (hz h) = 15; rw [kd_nO, if_pos rfl]
  have r1122 : fR h1 1122 (hz h) = A := by rw [e1, fR_sI, fR_sR, if_pos ⟨rfl, rfl⟩]
  have i1124 : fI h1 1124 (hz h) = (S.length : Int) := by rw [e1, fI_sI, if_pos ⟨rfl, rfl⟩]
  have i1128 : fI h1 1128 (hz h) = ((0 : Nat) : Int) := by rw [e1, fI_sI, if_neg (fun z => absurd z.1 (by decide)), fI_sR, fI_nO, if_pos rfl]; rfl
  have i1148 : fI h1 1148 (hz h) = 0 := by rw [e1, fI_sI, if_neg (fun z => absurd z.1 (by decide)), fI_sR, fI_nO, if_pos rfl]
  have old : ∀ a, a < hz h → eqA a h h1 := fun a ha => by
    have na : a ≠ hz h := by omega
    rw [e1]
    refine ⟨?_, fun f => ?_, fun f => ?_, rfl, fun _ => rfl, fun _ => rfl, rfl, rfl⟩
    · show kd (nO h 15 8) a = kd h a
      rw [kd_nO, if_neg na]
    · rw [fI_sI, if_neg (fun z => na z.2), fI_sR, fI_nO, if_neg na]
    · rw [fR_sI, fR_sR, if_neg (fun z => na z.2), fR_nO, if_neg na]
  have T1 : txC h1 A S := by
    obtain ⟨t1, t2, t3, t4, t5⟩ := T
    have e := old A hA
    exact ⟨by rw [e.1]; exact t1, by rw [e.2.2.2.1]; exact t2, t3, fun i x ex => by rw [e.2.2.2.2.1]; exact t4 i x ex, t5⟩
  obtain ⟨h', a1, a2, a3⟩ := c_adv (G := G) (t := hz h) (S := S) ⟨k15, by rw [r1122]; exact T1, i1124⟩ i1128 (Nat.zero_le _)
  obtain ⟨o1, o2, o3, o4, o5, o6, o7, o8, o9, o10, o11, o12, o13⟩ := a3
  have z1 : hz h1 = hz h + 1 := by rw [e1]; rfl
  have u1 : hu h1 = hu h + 8 := by rw [e1]; rfl
  refine ⟨h', ?_, ⟨by rw [o1]; exact k15, ⟨a2, by rw [o11]; exact i1148, by omega, by rw [o13, r1122, o9]; omega⟩, by rw [o13]; exact r1122⟩, ⟨by rw [o9]; exact z1, by rw [o10]; exact u1⟩, fun a ha => ?_⟩
  · unfold C_14_init
    rw [gd_pos (by rw [kd_nO, if_pos rfl]), ← e1, a1, Option.bind_some]
  · have na : a ≠ hz h := by omega
    exact eqA_trans (old a ha) ⟨by rw [o1], fun f => o2 f a na, fun f => o3 f a na, by rw [o4], fun k => by rw [o5], fun k => by rw [o6], by rw [o7], by rw [o8]⟩
