set_option maxRecDepth 100000
/-! THE COMPONENT'S MACHINE: what stands for dictionaries, things, environments -/
/-- a cell by its number -/
def cO (h : om_H) (m k : Nat) : Nat := ((ll h (fR h 262 m))[k]?).getD 0
/-- an entry of a cell's row -/
def cRw (h : om_H) (m k j : Nat) : Int := aI h (fR h 1718 (cO h m k)) j
/-- a dictionary of a class for a closed type, by its cell -/
noncomputable def dcC (G : om_G) (io : Nat → Nat) (ins : List INs) (h : om_H) (m : Nat) : Ty → Nat → Int → Prop
  | .leaf, _, _ => False
  | .inner k0 w _ l r, c, x => k0 = 1 ∧ ∃ (k i : Nat) (d : INs), x = (k : Int) ∧ (k : Int) < fI h 264 m ∧ iOf ins c w = some i ∧ ins[i]? = some d ∧ fR h 1694 (cO h m k) = om_cA G 18 ∧ fR h 1714 (cO h m k) = io i ∧ ∀ (j : Nat) (p : Nat × Nat), j < 4 → d.2.2.2.1[j]? = some p → (p.2 = 0 → dcC G io ins h m l p.1 (cRw h m k j)) ∧ (p.2 ≠ 0 → dcC G io ins h m r p.1 (cRw h m k j))
/-- the row of an owner; A its array -/
def rC (G : om_G) (io : Nat → Nat) (ins : List INs) (h : om_H) (m : Nat) (gv : List GVs) (θ : Nat → Ty) (A : Nat) : Prop := ∀ (j : Nat) (g : GVs), j < 4 → gv[j]? = some g → g.1 < 100 → dcC G io ins h m (θ g.2.1) g.1 (aI h A j)
/-- things (true) and environments (false); cd: an ex of an owner by its object, how far in, how many names are bound -/
noncomputable def vC (G : om_G) (io : Nat → Nat) (M : MPg) (cd : Nat → Et → Nat → Nat → Nat → Prop) (h : om_H) (m : Nat) : Vt → Bool → Int → Prop
  | .leaf, true, _ => False
  | .leaf, false, x => x = -1
  | .inner t a _ l r, true, x => (t = 1 ∧ x = 4294967296 + a.1 % 4294967296) ∨ (t = 2 ∧ x = 8589934592 + a.1) ∨ (t = 3 ∧ x = 12884901888 + a.1) ∨ ∃ k : Nat, (k : Int) < fI h 264 m ∧ x = 17179869184 + (k : Int) ∧ ((t = 4 ∧ fR h 1694 (cO h m k) = om_cA G 15 ∧ vC G io M cd h m l true (fI h 1697 (cO h m k)) ∧ vC G io M cd h m r true (fI h 1701 (cO h m k))) ∨ (t = 5 ∧ fR h 1694 (cO h m k) = om_cA G 16 ∧ vC G io M cd h m l true (fI h 1697 (cO h m k)) ∧ vC G io M cd h m r true (fI h 1701 (cO h m k))) ∨ (t = 6 ∧ fR h 1694 (cO h m k) = om_cA G 17 ∧ fI h 1697 (cO h m k) = a.1 ∧ vC G io M cd h m l true (fI h 1701 (cO h m k))) ∨ (t = 7 ∧ fR h 1694 (cO h m k) = om_cA G 14 ∧ cd a.2.1.1 a.2.2 (fR h 1706 (cO h m k)) 0 (xls l).length ∧ vC G io M cd h m l false (fI h 1708 (cO h m k)) ∧ rC G io M.2.2.2 h m (gvW M a.2.1.1) a.2.1.2 (fR h 1718 (cO h m k))))
  | .inner t _ _ l r, false, x => t = 8 ∧ ∃ k : Nat, x = (k : Int) ∧ (k : Int) < fI h 264 m ∧ fI h 1708 (cO h m k) < (k : Int) ∧ vC G io M cd h m r false (fI h 1708 (cO h m k)) ∧ vC G io M cd h m l true (fI h 1697 (cO h m k))
/-- more cells, those that were are the same -/
def mGc (m : Nat) (h h' : om_H) : Prop := fI h 264 m ≤ fI h' 264 m ∧ ∀ k : Nat, (k : Int) < fI h 264 m → (fR h' 1694 (cO h' m k) = fR h 1694 (cO h m k) ∧ fR h' 1706 (cO h' m k) = fR h 1706 (cO h m k) ∧ fR h' 1714 (cO h' m k) = fR h 1714 (cO h m k)) ∧ (fI h' 1697 (cO h' m k) = fI h 1697 (cO h m k) ∧ fI h' 1701 (cO h' m k) = fI h 1701 (cO h m k) ∧ fI h' 1708 (cO h' m k) = fI h 1708 (cO h m k)) ∧ ∀ j, j < 4 → cRw h' m k j = cRw h m k j
section LCR
variable {G : om_G} {io : Nat → Nat} {ins : List INs} {M : MPg} {cd : Nat → Et → Nat → Nat → Nat → Prop} {h h1 h2 : om_H} {m : Nat}
theorem mGc_refl : mGc m h h := ⟨Int.le_refl _, fun _ _ => ⟨⟨rfl, rfl, rfl⟩, ⟨rfl, rfl, rfl⟩, fun _ _ => rfl⟩⟩
theorem mGc_trans (A : mGc m h h1) (B : mGc m h1 h2) : mGc m h h2 := by
  refine ⟨Int.le_trans A.1 B.1, fun k hk => ?_⟩
  obtain ⟨⟨a1, a2, a3⟩, ⟨a4, a5, a6⟩, a7⟩ := A.2 k hk
  obtain ⟨⟨b1, b2, b3⟩, ⟨b4, b5, b6⟩, b7⟩ := B.2 k (by have := A.1; omega)
  exact ⟨⟨b1.trans a1, b2.trans a2, b3.trans a3⟩, ⟨b4.trans a4, b5.trans a5, b6.trans a6⟩, fun j hj => (b7 j hj).trans (a7 j hj)⟩
theorem dcC_gr (A : mGc m h h1) : ∀ {T : Ty} {c : Nat} {x : Int}, dcC G io ins h m T c x → dcC G io ins h1 m T c x
  | .leaf, _, _, h => h
  | .inner _ _ _ _ _, _, _, ⟨k0, k, i, d, e1, e2, e3, e4, e5, e6, e7⟩ => by
    obtain ⟨⟨a1, a2, a3⟩, _, a7⟩ := A.2 k e2
    refine ⟨k0, k, i, d, e1, by have := A.1; omega, e3, e4, a1.trans e5, a3.trans e6, fun j p hj e => ?_⟩
    rw [a7 j hj]
    exact ⟨fun z => dcC_gr A ((e7 j p hj e).1 z), fun z => dcC_gr A ((e7 j p hj e).2 z)⟩
theorem rC_gr (A : mGc m h h1) {gv : List GVs} {θ : Nat → Ty} {a b : Nat} (hr : ∀ j, j < 4 → aI h1 b j = aI h a j) (H : rC G io ins h m gv θ a) : rC G io ins h1 m gv θ b := fun j g hj e c => by
  rw [hr j hj]
  exact dcC_gr A (H j g hj e c)
theorem vC_gr (A : mGc m h h1) : ∀ {v : Vt} {b : Bool} {x : Int}, vC G io M cd h m v b x → vC G io M cd h1 m v b x
  | .leaf, true, _, h => h
  | .leaf, false, _, h => h
  | .inner t a u l r, true, x, H => by
    rcases H with H | H | H | ⟨k, hk, ex, H⟩
    · exact .inl H
    · exact .inr (.inl H)
    · exact .inr (.inr (.inl H))
    · obtain ⟨⟨a1, a2, a3⟩, ⟨a4, a5, a6⟩, a7⟩ := A.2 k hk
      refine .inr (.inr (.inr ⟨k, by have := A.1; omega, ex, ?_⟩))
      rw [a1, a2, a4, a5, a6]
      rcases H with ⟨t4, e1, v1, v2⟩ | ⟨t5, e1, v1, v2⟩ | ⟨t6, e1, v1, v2⟩ | ⟨t7, e1, v1, v2, v3⟩
      · exact .inl ⟨t4, e1, vC_gr A v1, vC_gr A v2⟩
      · exact .inr (.inl ⟨t5, e1, vC_gr A v1, vC_gr A v2⟩)
      · exact .inr (.inr (.inl ⟨t6, e1, v1, vC_gr A v2⟩))
      · exact .inr (.inr (.inr ⟨t7, e1, v1, vC_gr A v2, rC_gr A a7 v3⟩))
  | .inner t a u l r, false, x, ⟨t8, k, ex, hk, hs, v1, v2⟩ => by
    obtain ⟨_, ⟨a4, a5, a6⟩, _⟩ := A.2 k hk
    refine ⟨t8, k, ex, by have := A.1; omega, ?_, ?_, ?_⟩
    · rw [a6]; exact hs
    · rw [a6]; exact vC_gr A v1
    · rw [a4]; exact vC_gr A v2
end LCR
/-- a row's array -/
def rwO (h : om_H) (A : Nat) : Prop := A < hz h ∧ kd h A = 51 ∧ an h A = 4
/-- the cells -/
def mcL (G : om_G) (h : om_H) (m : Nat) : Prop := (okV G h (fR h 262 m) ∧ (ll h (fR h 262 m)).length ≤ 4000 ∧ (ll h (fR h 262 m)).Nodup) ∧ ∀ c ∈ ll h (fR h 262 m), (c ≠ 0 ∧ c < hz h ∧ kd h c = 40) ∧ rwO h (fR h 1718 c) ∧ (∀ c' ∈ ll h (fR h 262 m), fR h 1718 c' = fR h 1718 c → c' = c) ∧ fR h 1718 c ≠ fR h 302 m ∧ fR h 1718 c ≠ fR h 306 m
/-- the frames -/
def mcF (h : om_H) (m : Nat) : Prop := (fR h 270 m < hz h ∧ kd h (fR h 270 m) = 60 ∧ an h (fR h 270 m) = 300) ∧ ∀ i, i < 300 → (aR h (fR h 270 m) i ≠ 0 ∧ aR h (fR h 270 m) i < hz h ∧ kd h (aR h (fR h 270 m) i) = 12) ∧ rwO h (fR h 374 (aR h (fR h 270 m) i)) ∧ (∀ j, j < 300 → aR h (fR h 270 m) j = aR h (fR h 270 m) i ∨ fR h 374 (aR h (fR h 270 m) j) = fR h 374 (aR h (fR h 270 m) i) → j = i) ∧ fR h 374 (aR h (fR h 270 m) i) ≠ fR h 302 m ∧ fR h 374 (aR h (fR h 270 m) i) ≠ fR h 306 m ∧ ∀ c ∈ ll h (fR h 262 m), fR h 1718 c ≠ fR h 374 (aR h (fR h 270 m) i)
/-- the machine's own arrays -/
def mcA (h : om_H) (m : Nat) : Prop := (rwO h (fR h 302 m) ∧ rwO h (fR h 306 m) ∧ fR h 302 m ≠ fR h 306 m) ∧ (fR h 314 m < hz h ∧ kd h (fR h 314 m) = 50 ∧ an h (fR h 314 m) = 400) ∧ (fR h 322 m < hz h ∧ kd h (fR h 322 m) = 57 ∧ an h (fR h 322 m) = 48200) ∧ (∀ f ∈ [326, 330, 334], fR h f m < hz h ∧ kd h (fR h f m) = 51 ∧ an h (fR h f m) = 48200) ∧ (fR h 326 m ≠ fR h 330 m ∧ fR h 326 m ≠ fR h 334 m ∧ fR h 330 m ≠ fR h 334 m) ∧ fR h 346 m < hz h ∧ kd h (fR h 346 m) = 52 ∧ an h (fR h 346 m) = 1300
/-- the machine as it is made -/
def MC (G : om_G) (h : om_H) (m : Nat) : Prop := (kd h m = 11 ∧ m < hz h) ∧ mcL G h m ∧ mcF h m ∧ mcA h m
/-- the skeleton stays -/
def skE (m : Nat) (h h' : om_H) : Prop := (hz h' = hz h ∧ hu h' = hu h) ∧ (∀ a, kd h' a = kd h a ∧ an h' a = an h a ∧ ll h' a = ll h a ∧ lc h' a = lc h a) ∧ (∀ f a, f ∉ [290, 354, 358, 1694, 1706, 1714] → fR h' f a = fR h f a) ∧ ∀ a k, a ≠ fR h 322 m → aR h' a k = aR h a k
section LSK
variable {G : om_G} {h h1 h2 : om_H} {m : Nat}
theorem skE_refl : skE m h h := ⟨⟨rfl, rfl⟩, fun _ => ⟨rfl, rfl, rfl, rfl⟩, fun _ _ _ => rfl, fun _ _ _ => rfl⟩
theorem skE_trans (A : skE m h h1) (B : skE m h1 h2) : skE m h h2 := ⟨⟨B.1.1.trans A.1.1, B.1.2.trans A.1.2⟩, fun a => by
  obtain ⟨a1, a2, a3, a4⟩ := A.2.1 a
  obtain ⟨b1, b2, b3, b4⟩ := B.2.1 a
  exact ⟨b1.trans a1, b2.trans a2, b3.trans a3, b4.trans a4⟩, fun f a hf => (B.2.2.1 f a hf).trans (A.2.2.1 f a hf), fun a k ha => (B.2.2.2 a k (by rw [A.2.2.1 322 m (by decide)]; exact ha)).trans (A.2.2.2 a k ha)⟩
theorem skE_sI (A : skE m h h1) {f a : Nat} {x : Int} : skE m h (sI h1 f a x) := skE_trans A ⟨⟨rfl, rfl⟩, fun _ => ⟨rfl, rfl, rfl, rfl⟩, fun _ _ _ => rfl, fun _ _ _ => rfl⟩
theorem skE_pI (A : skE m h h1) {a i : Nat} {x : Int} : skE m h (pI h1 a i x) := skE_trans A ⟨⟨rfl, rfl⟩, fun _ => ⟨rfl, rfl, rfl, rfl⟩, fun _ _ _ => rfl, fun _ _ _ => rfl⟩
theorem skE_sR (A : skE m h h1) {f a x : Nat} (hf : f ∈ [290, 354, 358, 1694, 1706, 1714]) : skE m h (sR h1 f a x) := skE_trans A ⟨⟨rfl, rfl⟩, fun _ => ⟨rfl, rfl, rfl, rfl⟩, fun g b hg => by rw [fR_sR, if_neg (fun z => hg (by rw [z.1]; exact hf))], fun _ _ _ => rfl⟩
theorem skE_pR (A : skE m h h1) {a i x : Nat} (ha : a = fR h1 322 m) : skE m h (pR h1 a i x) := skE_trans A ⟨⟨rfl, rfl⟩, fun _ => ⟨rfl, rfl, rfl, rfl⟩, fun _ _ _ => rfl, fun b k hb => by rw [aR_pR, if_neg (fun z => hb (z.1.trans ha))]⟩
theorem rwO_sk (A : skE m h h1) {a : Nat} (H : rwO h a) : rwO h1 a := by
  obtain ⟨a1, a2, _, _⟩ := A.2.1 a
  exact ⟨by rw [A.1.1]; exact H.1, a1.trans H.2.1, a2.trans H.2.2⟩
set_option maxHeartbeats 1000000 in
theorem MC_sk (A : skE m h h1) (H : MC G h m) : MC G h1 m := by
  obtain ⟨⟨m1, m2⟩, ⟨⟨⟨l1, l2, l3, l4, l5⟩, l6, l7⟩, l8⟩, ⟨⟨f1, f2, f3⟩, f4⟩, ⟨a1, a2, a3⟩, ⟨a4, a5, a6⟩, ⟨a7, a8, a9⟩, b1, b2, b3, b4, b5⟩ := H
  have z := A.1.1
  have k : ∀ a, kd h1 a = kd h a := fun a => (A.2.1 a).1
  have n : ∀ a, an h1 a = an h a := fun a => (A.2.1 a).2.1
  have L : ∀ a, ll h1 a = ll h a := fun a => (A.2.1 a).2.2.1
  have C : ∀ a, lc h1 a = lc h a := fun a => (A.2.1 a).2.2.2
  have R : ∀ f ∈ [262, 270, 302, 306, 314, 322, 326, 330, 334, 346, 374, 1718], ∀ a, fR h1 f a = fR h f a := fun f hf a => A.2.2.1 f a (fun w => by
    simp only [List.mem_cons, List.not_mem_nil, or_false] at hf w
    omega)
  have r262 := R 262 (by decide) m
  have r270 := R 270 (by decide) m
  have r302 := R 302 (by decide) m
  have r306 := R 306 (by decide) m
  have r314 := R 314 (by decide) m
  have r322 := R 322 (by decide) m
  have r326 := R 326 (by decide) m
  have r330 := R 330 (by decide) m
  have r334 := R 334 (by decide) m
  have r346 := R 346 (by decide) m
  have r374 := R 374 (by decide)
  have r718 := R 1718 (by decide)
  have ne : fR h 270 m ≠ fR h 322 m := fun w => by rw [w, a8] at f2; omega
  have q : ∀ i, aR h1 (fR h 270 m) i = aR h (fR h 270 m) i := fun i => A.2.2.2 _ i ne
  refine ⟨⟨by rw [k]; exact m1, by omega⟩, ⟨?_, ?_⟩, ⟨?_, ?_⟩, ?_, ?_, ?_, ?_, ?_, ?_⟩
  · rw [r262, L]
    refine ⟨⟨by omega, by rw [k]; exact l2, by rw [L, C]; exact l3, by rw [L, C]; exact l4, fun y hy => ?_⟩, l6, l7⟩
    rw [L] at hy
    exact objY_mono (by omega) (fun a _ => k a) (l5 y hy)
  · rw [r262, L, r302, r306]
    intro c hc
    obtain ⟨⟨g1, g2, g3⟩, g4, g5, g6, g7⟩ := l8 c hc
    refine ⟨⟨g1, by omega, by rw [k]; exact g3⟩, by rw [r718]; exact rwO_sk A g4, fun c' hc' e => ?_, by rw [r718]; exact g6, by rw [r718]; exact g7⟩
    rw [r718, r718] at e
    exact g5 c' hc' e
  · rw [r270]
    exact ⟨by omega, by rw [k]; exact f2, by rw [n]; exact f3⟩
  · rw [r262, L, r302, r306, r270]
    intro i hi
    obtain ⟨⟨g1, g2, g3⟩, g4, g5, g6, g7, g8⟩ := f4 i hi
    rw [q i, r374]
    refine ⟨⟨g1, by omega, by rw [k]; exact g3⟩, rwO_sk A g4, fun j hj e => ?_, g6, g7, fun c hc => ?_⟩
    · rw [q j, r374] at e
      exact g5 j hj e
    · rw [r718]; exact g8 c hc
  · rw [r302, r306]
    exact ⟨rwO_sk A a1, rwO_sk A a2, a3⟩
  · rw [r314, k, n]
    exact ⟨by omega, a5, a6⟩
  · rw [r322, k, n]
    exact ⟨by omega, a8, a9⟩
  · intro f hf
    have e : fR h1 f m = fR h f m := R f (by simp only [List.mem_cons, List.not_mem_nil, or_false] at hf ⊢; omega) m
    obtain ⟨g1, g2, g3⟩ := b1 f hf
    rw [e, k, n]
    exact ⟨by omega, g2, g3⟩
  · rw [r326, r330, r334]
    exact b2
  · rw [r346, k, n]
    exact ⟨by omega, b4, b5⟩
theorem nd_idx {l : List Nat} {i j a : Nat} (nd : l.Nodup) (e1 : l[i]? = some a) (e2 : l[j]? = some a) : i = j := (List.getElem?_inj (List.getElem?_eq_some_iff.mp e1).1 nd).mp (e1.trans e2.symm)
/-- a cell that is there -/
theorem MC_at (H : MC G h m) {k : Nat} (hk : k < (ll h (fR h 262 m)).length) : (ll h (fR h 262 m))[k]? = some (cO h m k) ∧ cO h m k ∈ ll h (fR h 262 m) ∧ (cO h m k ≠ 0 ∧ cO h m k < hz h ∧ kd h (cO h m k) = 40) ∧ rwO h (fR h 1718 (cO h m k)) := by
  have e : (ll h (fR h 262 m))[k]? = some ((ll h (fR h 262 m))[k]) := List.getElem?_eq_getElem hk
  have ec : cO h m k = (ll h (fR h 262 m))[k] := by
    unfold cO
    rw [e]
    rfl
  rw [← ec] at e
  have hm := List.mem_of_getElem? e
  obtain ⟨g1, g2, _⟩ := H.2.1.2 _ hm
  exact ⟨e, hm, g1, g2⟩
/-- two cells -/
theorem MC_ne (H : MC G h m) {k j : Nat} (hk : k < (ll h (fR h 262 m)).length) (hj : j < (ll h (fR h 262 m)).length) (ne : k ≠ j) : cO h m k ≠ cO h m j ∧ fR h 1718 (cO h m k) ≠ fR h 1718 (cO h m j) := by
  obtain ⟨e1, m1, _⟩ := MC_at H hk
  obtain ⟨e2, m2, _⟩ := MC_at H hj
  have n1 : cO h m k ≠ cO h m j := fun z => by
    rw [← z] at e2
    have nd := H.2.1.1.2.2
    exact ne (nd_idx nd e1 e2)
  exact ⟨n1, fun z => n1 ((H.2.1.2 _ m2).2.2.1 _ m1 z)⟩
theorem MC_get (H : MC G h m) {k : Nat} (hk : k < (ll h (fR h 262 m)).length) : P_J2_get G (fR h 262 m) (k : Int) h = some (cO h m k) := by
  unfold P_J2_get
  rw [gd_pos ⟨H.2.1.1.1.2.1, by omega⟩, show ((k : Int)).toNat = k by omega]
  exact (MC_at H hk).1
end LSK
