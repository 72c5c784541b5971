set_option maxRecDepth 100000
/-! THE COMPONENT'S MACHINE: frames -/
/-- a frame by its number -/
def fO (h : om_H) (m i : Nat) : Nat := aR h (fR h 270 m) i
/-- what belongs to frames and rows -/
def fOw (h : om_H) (m a : Nat) : Prop := a = m ∨ kd h a = 12 ∨ a = fR h 302 m ∨ a = fR h 306 m ∨ ∃ i, i < 300 ∧ a = fR h 374 (fO h m i)
/-- a step that makes no cells (fs: the machine's numbers that are written) -/
def WSt (m : Nat) (fs : List Nat) (h h' : om_H) : Prop := skE m h h' ∧ hT (fOw h m) h h' ∧ (∀ f, f ∉ fs → fI h' f m = fI h f m) ∧ ∀ f, f ≠ 290 → fR h' f m = fR h f m
/-- why a frame waits -/
def wtK (G : om_G) (t : Nat) : Nat := om_cA G (if t = 12 then 19 else if t = 112 then 20 else if t = 15 then 21 else if t = 16 then 22 else if t = 17 then 23 else if t = 18 then 24 else 25)
/-- frames -/
def fCm (G : om_G) (io : Nat → Nat) (M : MPg) (cd : Nat → Et → Nat → Nat → Nat → Prop) (h : om_H) (m : Nat) : List Fr → Prop
  | [] => True
  | f :: fs => (fR h 354 (fO h m fs.length) = wtK G f.1 ∧ (∃ lv : Nat, fI h 360 (fO h m fs.length) = (lv : Int) ∧ cd f.2.2.2.1.1 f.2.1 (fR h 358 (fO h m fs.length)) lv (xls f.2.2.1).length ∧ (f.1 = 15 ∨ f.1 = 16 ∨ f.1 = 17 → lv = 0)) ∧ vC G io M cd h m f.2.2.1 false (fI h 364 (fO h m fs.length)) ∧ rC G io M.2.2.2 h m (gvW M f.2.2.2.1.1) f.2.2.2.1.2 (fR h 374 (fO h m fs.length)) ∧ (100 ≤ f.1 → vC G io M cd h m f.2.2.2.2 true (fI h 369 (fO h m fs.length)))) ∧ fCm G io M cd h m fs
section LFR
variable {G : om_G} {io : Nat → Nat} {ins : List INs} {M : MPg} {cd : Nat → Et → Nat → Nat → Nat → Prop} {h h1 h2 : om_H} {m nu nu1 nu2 kk A B n : Nat} {fs : List Nat}
theorem fO_sk (I : MC G h m) (S : skE m h h1) {i : Nat} : fO h1 m i = fO h m i := by
  unfold fO
  rw [S.2.2.1 270 m (by decide)]
  exact S.2.2.2 _ i (fun z => by have := I.2.2.1.1.2.1; rw [z, I.2.2.2.2.2.1.2.1] at this; omega)
theorem WSt_refl : WSt m fs h h := ⟨skE_refl, hT_refl _ _, fun _ _ => rfl, fun _ _ => rfl⟩
theorem WSt_trans (I : MC G h m) (X : WSt m fs h h1) (Y : WSt m fs h1 h2) : WSt m fs h h2 := by
  obtain ⟨a1, a2, a3, a4⟩ := X
  obtain ⟨b1, b2, b3, b4⟩ := Y
  refine ⟨skE_trans a1 b1, hT_trans a2 b2 (fun a ha w => ?_), fun f hf => (b3 f hf).trans (a3 f hf), fun f hf => (b4 f hf).trans (a4 f hf)⟩
  rcases w with w | w | w | w | ⟨i, hi, w⟩
  · exact .inl w
  · exact .inr (.inl (by rw [← a2.2.2.1 a ha]; exact w))
  · exact .inr (.inr (.inl (w.trans (a4 302 (by decide)))))
  · exact .inr (.inr (.inr (.inl (w.trans (a4 306 (by decide))))))
  · exact .inr (.inr (.inr (.inr ⟨i, hi, by rw [w, fO_sk I a1]; exact a1.2.2.1 374 _ (by decide)⟩)))
theorem WSt_le (X : WSt m fs h h1) {fs' : List Nat} (hf : ∀ f ∈ fs, f ∈ fs') : WSt m fs' h h1 := ⟨X.1, X.2.1, fun f h1 => X.2.2.1 f (fun z => h1 (hf f z)), X.2.2.2⟩
theorem WSt_sI (X : WSt m fs h h1) {f : Nat} {x : Int} (hf : f ∈ fs) : WSt m fs h (sI h1 f m x) := by
  obtain ⟨a1, a2, a3, a4⟩ := X
  exact ⟨skE_sI a1, hT_trans a2 (D' := fun y => y = m) ⟨Nat.le_refl _, Nat.le_refl _, fun _ _ => rfl, fun y _ ny => ⟨rfl, fun g => fI_na ny, fun _ => rfl, rfl, fun _ => rfl, fun _ => rfl, rfl, rfl⟩⟩ (fun y _ w => .inl w), fun g hg => (fI_ne (fun z => hg (by rw [z]; exact hf))).trans (a3 g hg), a4⟩
theorem WSt_sR (X : WSt m fs h h1) {x : Nat} : WSt m fs h (sR h1 290 m x) := by
  obtain ⟨a1, a2, a3, a4⟩ := X
  exact ⟨skE_sR a1 (by decide), hT_trans a2 (D' := fun y => y = m) ⟨Nat.le_refl _, Nat.le_refl _, fun _ _ => rfl, fun y _ ny => ⟨rfl, fun _ => rfl, fun g => fR_na ny, rfl, fun _ => rfl, fun _ => rfl, rfl, rfl⟩⟩ (fun y _ w => .inl w), a3, fun g hg => (fR_ne hg).trans (a4 g hg)⟩
theorem WSt_fI (I : MC G h m) (X : WSt m fs h h1) {f F : Nat} {x : Int} (hk : kd h F = 12) : WSt m fs h (sI h1 f F x) := by
  obtain ⟨a1, a2, a3, a4⟩ := X
  have nm : m ≠ F := fun z => by have := I.1.1; rw [z] at this; omega
  exact ⟨skE_sI a1, hT_trans a2 (D' := fun y => y = F) ⟨Nat.le_refl _, Nat.le_refl _, fun _ _ => rfl, fun y _ ny => ⟨rfl, fun g => fI_na ny, fun _ => rfl, rfl, fun _ => rfl, fun _ => rfl, rfl, rfl⟩⟩ (fun y _ w => .inr (.inl (by rw [w]; exact hk))), fun g hg => (fI_na nm).trans (a3 g hg), a4⟩
theorem WSt_fR (I : MC G h m) (X : WSt m fs h h1) {f F x : Nat} (hf : f = 354 ∨ f = 358) (hk : kd h F = 12) : WSt m fs h (sR h1 f F x) := by
  obtain ⟨a1, a2, a3, a4⟩ := X
  have nm : m ≠ F := fun z => by have := I.1.1; rw [z] at this; omega
  exact ⟨skE_sR a1 (by rcases hf with z | z <;> rw [z] <;> decide), hT_trans a2 (D' := fun y => y = F) ⟨Nat.le_refl _, Nat.le_refl _, fun _ _ => rfl, fun y _ ny => ⟨rfl, fun _ => rfl, fun g => fR_na ny, rfl, fun _ => rfl, fun _ => rfl, rfl, rfl⟩⟩ (fun y _ w => .inr (.inl (by rw [w]; exact hk))), a3, fun g hg => (fR_na nm).trans (a4 g hg)⟩
theorem WSt_pF (X : WSt m fs h h1) (Y : pF B h1 h2) (hB : fOw h m B) : WSt m fs h h2 := by
  obtain ⟨a1, a2, a3, a4⟩ := X
  exact ⟨skE_trans a1 (pF_sk Y), hT_trans a2 (pF_hT Y) (fun y _ w => by rw [w]; exact hB), fun g hg => ((Y.2 m).2.1 g).trans (a3 g hg), fun g hg => ((Y.2 m).2.2.1 g).trans (a4 g hg)⟩
/-- what is no frame's stays -/
theorem WSt_out (X : WSt m fs h h1) {a : Nat} (ha : a < hz h) (n : ¬ fOw h m a) : eqA a h h1 := X.2.1.2.2.2 a ha n
theorem MC_cf (I : MC G h m) {c : Nat} (hc : c ∈ ll h (fR h 262 m)) : ¬ fOw h m c ∧ ¬ fOw h m (fR h 1718 c) := by
  obtain ⟨⟨q1, q2, q3⟩, ⟨r1, r2, r3⟩, _, q6, q7⟩ := I.2.1.2 c hc
  have k := I.1.1
  refine ⟨fun w => ?_, fun w => ?_⟩
  · rcases w with w | w | w | w | ⟨i, hi, w⟩
    · rw [w] at q3; omega
    · omega
    · rw [w, I.2.2.2.1.1.2.1] at q3; omega
    · rw [w, I.2.2.2.1.2.1.2.1] at q3; omega
    · have := (I.2.2.1.2 i hi).2.1.2.1
      unfold fO at w
      rw [w] at q3; omega
  · rcases w with w | w | w | w | ⟨i, hi, w⟩
    · rw [w] at r2; omega
    · omega
    · exact q6 w
    · exact q7 w
    · exact (I.2.2.1.2 i hi).2.2.2.2.2 c hc w
/-- cells stay -/
theorem WSt_gr (I : MC G h m) (hn : cNu h m nu) (X : WSt m fs h h1) (h264 : 264 ∉ fs) : mGc m h h1 := by
  have e262 := X.2.2.2 262 (by decide)
  have L := (X.1.2.1 (fR h 262 m)).2.2.1
  refine ⟨by rw [X.2.2.1 264 h264]; exact Int.le_refl _, fun k hk => ?_⟩
  have kn : k < (ll h (fR h 262 m)).length := by have := hn.1; have := hn.2.1; omega
  obtain ⟨_, g2, ⟨_, g4, _⟩, g6⟩ := MC_at I kn
  have E := WSt_out X g4 (MC_cf I g2).1
  have E2 := WSt_out X g6.1 (MC_cf I g2).2
  have cOe : cO h1 m k = cO h m k := cO_eq e262 L
  unfold cRw
  rw [cOe, E.2.2.1, E.2.2.1, E.2.2.1, E.2.1, E.2.1, E.2.1]
  exact ⟨⟨rfl, rfl, rfl⟩, ⟨rfl, rfl, rfl⟩, fun j _ => by rw [E.2.2.1]; exact E2.2.2.2.2.1 j⟩
theorem WSt_nu (hn : cNu h m nu) (X : WSt m fs h h1) (h264 : 264 ∉ fs) : cNu h1 m nu := ⟨(X.2.2.1 264 h264).trans hn.1, by rw [X.2.2.2 262 (by decide), (X.1.2.1 _).2.2.1]; exact hn.2.1, hn.2.2⟩
/-- frames stay -/
theorem fCm_keep (g : mGc m h h1) : ∀ {ls : List Fr}, (∀ i, i < ls.length → fO h1 m i = fO h m i ∧ (∀ f, fI h1 f (fO h m i) = fI h f (fO h m i)) ∧ (∀ f, fR h1 f (fO h m i) = fR h f (fO h m i)) ∧ ∀ j, aI h1 (fR h 374 (fO h m i)) j = aI h (fR h 374 (fO h m i)) j) → fCm G io M cd h m ls → fCm G io M cd h1 m ls
  | [], _, _ => trivial
  | f :: ls, k, ⟨⟨q1, ⟨lv, q2, q3⟩, q4, q5, q6⟩, q7⟩ => by
    obtain ⟨k1, k2, k3, k4⟩ := k ls.length (by rw [List.length_cons]; omega)
    refine ⟨?_, fCm_keep g (fun i hi => k i (by rw [List.length_cons]; omega)) q7⟩
    rw [k1, k3, k3, k3, k2, k2, k2]
    exact ⟨q1, ⟨lv, q2, q3⟩, vC_gr g q4, rC_gr g (fun j _ => k4 j) q5, fun z => vC_gr g (q6 z)⟩
theorem MC_fc (I : MC G h m) {i : Nat} (hi : i < 300) : ¬ cOw h m (fO h m i) ∧ ¬ cOw h m (fR h 374 (fO h m i)) ∧ fO h m i < hz h ∧ fR h 374 (fO h m i) < hz h := by
  obtain ⟨⟨q1, q2, q3⟩, ⟨r1, r2, r3⟩, q5, q6, q7, q8⟩ := I.2.2.1.2 i hi
  have k := I.1.1
  refine ⟨fun w => ?_, fun w => ?_, q2, r1⟩
  · have q3' : kd h (fO h m i) = 12 := q3
    rcases w with w | w | w | ⟨c, hc, w⟩
    · rw [w] at q3'; omega
    · rw [w, I.2.1.1.1.2.1] at q3'; omega
    · omega
    · rw [w, (I.2.1.2 c hc).2.1.2.1] at q3'; omega
  · have r2' : kd h (fR h 374 (fO h m i)) = 51 := r2
    rcases w with w | w | w | ⟨c, hc, w⟩
    · rw [w] at r2'; omega
    · rw [w, I.2.1.1.1.2.1] at r2'; omega
    · omega
    · exact q8 c hc w.symm
/-- frames stay while cells are made -/
theorem fCm_CSt (I : MC G h m) (X : CSt G m nu nu1 fs h h1) {ls : List Fr} (hl : ls.length ≤ 300) (H : fCm G io M cd h m ls) : fCm G io M cd h1 m ls := by
  have e270 : fR h1 270 m = fR h 270 m := X.2.2.2.2.1.2 270
  obtain ⟨a1, a2, a3⟩ := I.2.2.1.1
  have E0 : eqA (fR h 270 m) h h1 := X.2.2.2.1.2.2.2 _ a1 (fun w => by
    rcases w with w | w | w | ⟨c, hc, w⟩
    · rw [w, I.1.1] at a2; omega
    · rw [w, I.2.1.1.1.2.1] at a2; omega
    · omega
    · rw [w, (I.2.1.2 c hc).2.1.2.1] at a2; omega)
  refine fCm_keep X.2.2.1 (fun i hi => ?_) H
  obtain ⟨q1, q2, q3, q4⟩ := MC_fc I (i := i) (by omega)
  have E1 := X.2.2.2.1.2.2.2 _ q3 q1
  have E2 := X.2.2.2.1.2.2.2 _ q4 q2
  refine ⟨?_, E1.2.1, E1.2.2.1, E2.2.2.2.2.1⟩
  unfold fO
  rw [e270]
  exact E0.2.2.2.2.2.1 i
/-- the row stays while cells are made -/
theorem row_CSt (I : MC G h m) (X : CSt G m nu nu1 fs h h1) : ∀ j, aI h1 (fR h 302 m) j = aI h (fR h 302 m) j := by
  have q := I.2.2.2.1.1
  refine (X.2.2.2.1.2.2.2 (fR h 302 m) q.1 (fun z => ?_)).2.2.2.2.1
  rcases z with z | z | z | ⟨c', hc', z⟩
  · have := q.2.1; rw [z, I.1.1] at this; omega
  · have := q.2.1; rw [z, I.2.1.1.1.2.1] at this; omega
  · have := q.2.1; omega
  · exact (I.2.1.2 c' hc').2.2.2.1 z.symm
end LFR
