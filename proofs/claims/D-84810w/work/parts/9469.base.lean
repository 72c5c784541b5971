set_option maxRecDepth 100000
/-! BETWEEN FINDERS: all scopes at once -/
/-- entries of all scopes' rows -/
def rwZ (h : om_H) (ss : List (Nat × List GVs)) : Nat := (ss.map (fun s => rwS h s.1)).sum
/-- scopes' givens and their rows are apart -/
def rwA (h : om_H) (ss : List (Nat × List GVs)) : Prop := ss.Nodup ∧ ∀ s ∈ ss, ∀ s' ∈ ss, ∀ x ∈ ll h (fR h 166 s.1), ∀ x' ∈ ll h (fR h 166 s'.1), (x = x' → s = s') ∧ (fR h 1358 x ≠ 0 → fR h 1358 x = fR h 1358 x' → x = x')
/-- what there is between finders -/
def BQ (G : om_G) (h : om_H) (N : List (List Int)) (cl : Nat → Nat) (tb : Nat) (us fs : List Nat) (rest : List (Nat × List Nat)) (Sl Gx : Nat → Prop) (io : Nat → Nat) (ab : List (Option Nat)) (ins : List INs) (ss : List (Nat × List GVs)) (Dk : Nat → Prop) (ds : List Nat) (dm tot : Nat) : Prop := TB G h N cl tb us fs rest ∧ (fR h 122 tb ≠ 0 ∧ ¬ Sl (fR h 122 tb) ∧ (∀ a, Sl a → a < hz h ∧ kd h a = 42) ∧ ∀ c, cl c < hz h) ∧ PGC h N cl (UU us rest) Sl io ab ins ∧ fI h 128 tb = (tot : Int) ∧ PoolC G h tb Sl Dk ds dm ∧ (∀ s ∈ ss, GVC h N cl (UU us rest) Sl s.1 s.2 ∧ RwC h cl ab s.1 s.2 Dk ds ∧ ∀ x ∈ ll h (fR h 166 s.1), Gx x) ∧ rwA h ss
/-- rows of other givens stay -/
def rwB (Gx : Nat → Prop) (h h' : om_H) : Prop := (∀ x, x < hz h → kd h x = 22 → ¬ Gx x → fR h' 1358 x = fR h 1358 x) ∧ (∀ x, Gx x → x < hz h → kd h x = 22 → fR h' 1358 x = fR h 1358 x ∨ hz h ≤ fR h' 1358 x) ∧ ∀ a, a < hz h → kd h a = 57 → (∀ x, Gx x → (x < hz h ∧ kd h x = 22) ∧ fR h 1358 x ≠ a) → eqA a h h'
/-- what else stays (W: insts, lines, exs that may be written) -/
def frB (tb : Nat) (ss : List (Nat × List GVs)) (W : Nat → Prop) (h : om_H) (fs : List Nat) (Dk : Nat → Prop) (h' : om_H) : Prop := ∀ a, a < hz h → (kd h a = 3 → a ≠ tb) → (kd h a = 9 → ∀ s ∈ ss, fR h 210 a ≠ s.1) → (kd h a = 34 → a ∉ fs) → (kd h a = 56 → a ≠ fR h 134 tb) → (kd h a = 36 → ¬ Dk a) → (kd h a = 21 ∨ dyK (kd h a) → ¬ W a) → kd h a ≠ 22 ∧ kd h a ≠ 42 ∧ kd h a ≠ 57 → eqA a h h'
/-- a step between finders, with its room -/
def KB (N : List (List Int)) (cl : Nat → Nat) (tb : Nat) (rest : List (Nat × List Nat)) (ss : List (Nat × List GVs)) (Sl Gx W : Nat → Prop) (h : om_H) (us fs : List Nat) (Dk : Nat → Prop) (ds : List Nat) (dm : Nat) (h' : om_H) (us' fs' : List Nat) (Dk' : Nat → Prop) (ds' : List Nat) (dm' q z u : Nat) : Prop := hS Sl h h' ∧ (∀ a, Dlv h Dk ds dm a → a < hz h ∧ eqA a h h') ∧ dkG h Dk ds dm Dk' ds' dm' ∧ (∃ d, us' = us ++ d ∧ d.length ≤ q) ∧ ((∀ y ∈ fs', y ∈ fs ∨ hz h ≤ y) ∧ frB tb ss W h fs Dk h' ∧ rwB Gx h h' ∧ ∀ a, a < hz h → Sl a → eqA a h h') ∧ tl us' fs' ≤ tl us fs + q ∧ ((∀ f, f ≠ 124 → f ≠ 128 → f ≠ 140 → fI h' f tb = fI h f tb) ∧ ∀ f, fR h' f tb = fR h f tb) ∧ (∀ T a, tyC h N cl (UU us rest) T a → tyC h' N cl (UU us' rest) T a) ∧ ((us' ++ fs').length ≤ max (us ++ fs).length us'.length ∧ (us ++ fs).length ≤ (us' ++ fs').length ∧ ds'.length ≤ max ds.length dm') ∧ hz h' + 2 * (us ++ fs).length + 2 * ds.length + 2 * nlN h ds + 10 * rwZ h ss ≤ hz h + 2 * (us' ++ fs').length + 2 * ds'.length + 2 * nlN h' ds' + 10 * rwZ h' ss + z ∧ hu h' + 4 * lc h (fR h 122 tb) + 4 * lc h (fR h 138 tb) + 10 * (us ++ fs).length + 8 * ds.length + 10 * nlN h ds + 100 * rwZ h ss ≤ hu h + 4 * lc h' (fR h 122 tb) + 4 * lc h' (fR h 138 tb) + 10 * (us' ++ fs').length + 8 * ds'.length + 10 * nlN h' ds' + 100 * rwZ h' ss + u
theorem sum_monoA {α : Type} {f f' : α → Nat} : ∀ {l : List α}, (∀ x ∈ l, f x ≤ f' x) → (l.map f).sum ≤ (l.map f').sum
  | [], _ => Nat.le_refl _
  | x :: l, m => by
    rw [List.map_cons, List.map_cons, List.sum_cons, List.sum_cons]
    have a := m x (by simp)
    have b := sum_monoA (l := l) (fun y hy => m y (by simp [hy]))
    omega
theorem sum_one {α : Type} {f f' : α → Nat} {x : α} : ∀ {l : List α}, l.Nodup → (∀ y ∈ l, y ≠ x → f y ≤ f' y) → x ∈ l → (l.map f).sum + f' x ≤ (l.map f').sum + f x
  | [], _, _, hx => absurd hx List.not_mem_nil
  | y :: l, nd, m, hx => by
    rw [List.map_cons, List.map_cons, List.sum_cons, List.sum_cons]
    obtain ⟨n1, n2⟩ := List.nodup_cons.mp nd
    by_cases e : x = y
    · have b : (l.map f).sum ≤ (l.map f').sum := sum_monoA (fun z hz => m z (List.mem_cons_of_mem _ hz) (fun w => n1 (by rw [← e, ← w]; exact hz)))
      rw [e]
      omega
    · have hx' := (List.mem_cons.mp hx).resolve_left e
      have c := sum_one (l := l) n2 (fun z hz n => m z (List.mem_cons_of_mem _ hz) n) hx'
      have a := m y (by simp) (fun w => e w.symm)
      omega
section LBQ
variable {G : om_G} {N : List (List Int)} {cl : Nat → Nat} {tb l0 : Nat} {rest : List (Nat × List Nat)} {ss : List (Nat × List GVs)} {s : Nat × List GVs} {Sl Gx W W' : Nat → Prop} {io : Nat → Nat} {ab : List (Option Nat)} {ins : List INs} {gv : List GVs} {h h1 h2 : om_H} {us fs us1 fs1 us2 fs2 : List Nat} {Dk Dk1 Dk2 : Nat → Prop} {ds ds1 ds2 : List Nat} {dm dm1 dm2 q z u q' z' u' tot tot1 : Nat}
theorem rwB_trans (hl : hz h ≤ hz h1) (kk : ∀ a, a < hz h → kd h1 a = kd h a) (A : rwB Gx h h1) (B : rwB Gx h1 h2) : rwB Gx h h2 := by
  refine ⟨fun x hx k n => (B.1 x (by omega) (by rw [kk x hx]; exact k) n).trans (A.1 x hx k n), fun x g hx k => ?_, fun a ha k w => eqA_trans (A.2.2 a ha k w) (B.2.2 a (by omega) (by rw [kk a ha]; exact k) (fun x g => ?_))⟩
  · rcases B.2.1 x g (by omega) (by rw [kk x hx]; exact k) with e | e
    · rw [e]; exact A.2.1 x g hx k
    · exact .inr (by omega)
  · obtain ⟨⟨w1, w2⟩, w3⟩ := w x g
    refine ⟨⟨by omega, by rw [kk x w1]; exact w2⟩, ?_⟩
    rcases A.2.1 x g w1 w2 with e | e
    · rw [e]; exact w3
    · omega
theorem rwB_eq (e : ∀ y, y < hz h → kd h y = 22 ∨ kd h y = 57 → eqA y h h1) : rwB Gx h h1 := ⟨fun x hx k _ => (e x hx (.inl k)).2.2.1 1358, fun x _ hx k => .inl ((e x hx (.inl k)).2.2.1 1358), fun a ha k _ => e a ha (.inr k)⟩
theorem frB_trans (hl : hz h ≤ hz h1) (kk : ∀ a, a < hz h → kd h1 a = kd h a) (f1 : ∀ y ∈ fs1, y ∈ fs ∨ hz h ≤ y) (d1 : ∀ y, Dk1 y → Dk y ∨ hz h ≤ y) (e : fR h1 134 tb = fR h 134 tb) (A : frB tb ss W h fs Dk h1) (B : frB tb ss W h1 fs1 Dk1 h2) : frB tb ss W h fs Dk h2 := fun a ha c3 c9 c34 c56 c36 cW ck => by
  have k := kk a ha
  have e1 := A a ha c3 c9 c34 c56 c36 cW ck
  refine eqA_trans e1 (B a (by omega) (fun w => c3 (by rw [← k]; exact w)) (fun w s hs => by rw [e1.2.2.1]; exact c9 (by rw [← k]; exact w) s hs) (fun w m => ?_) (fun w => ?_) (fun w m => ?_) (fun w => cW (by rw [← k]; exact w)) (by rw [k]; exact ck))
  · rcases f1 a m with v | v
    · exact c34 (by rw [← k]; exact w) v
    · omega
  · rw [e]; exact c56 (by rw [← k]; exact w)
  · rcases d1 a m with v | v
    · exact c36 (by rw [← k]; exact w) v
    · omega
theorem KB_trans (A : KB N cl tb rest ss Sl Gx W h us fs Dk ds dm h1 us1 fs1 Dk1 ds1 dm1 q z u) (B : KB N cl tb rest ss Sl Gx W h1 us1 fs1 Dk1 ds1 dm1 h2 us2 fs2 Dk2 ds2 dm2 q' z' u') : KB N cl tb rest ss Sl Gx W h us fs Dk ds dm h2 us2 fs2 Dk2 ds2 dm2 (q + q') (z + z') (u + u') := by
  obtain ⟨a1, a0, ad, ⟨d, a2, a2'⟩, ⟨a3, a3', a3b, a3c⟩, a4, a5, a7, ⟨p1, p2, p5⟩, p3, p4⟩ := A
  obtain ⟨b1, b0, bd, ⟨e, b2, b2'⟩, ⟨b3, b3', b3b, b3c⟩, b4, b5, b7, ⟨q1, q2, q5⟩, q3, q4⟩ := B
  have hz' := a1.1
  have dm' := bd.2.2.1
  refine ⟨hS_trans a1 b1, fun a L => ⟨(a0 a L).1, eqA_trans (a0 a L).2 (b0 a (Dlv_next ad a0 L)).2⟩, dkG_trans hz' ad bd, ⟨d ++ e, by rw [b2, a2, List.append_assoc], by rw [List.length_append]; omega⟩, ⟨fun y hy => ?_, frB_trans hz' a1.2.1 a3 ad.2.1 (a5.2 134) a3' b3', rwB_trans hz' a1.2.1 a3b b3b, fun a ha w => eqA_trans (a3c a ha w) (b3c a (Nat.lt_of_lt_of_le ha hz') w)⟩, by omega, ⟨fun f hf hf' hf2 => (b5.1 f hf hf' hf2).trans (a5.1 f hf hf' hf2), fun f => (b5.2 f).trans (a5.2 f)⟩, fun T a c => b7 T a (a7 T a c), ⟨?_, by omega, by omega⟩, by omega, ?_⟩
  · rcases b3 y hy with w | w
    · exact a3 y w
    · exact .inr (by omega)
  · have l2 : us1.length ≤ us2.length := by rw [b2, List.length_append]; omega
    omega
  · have e2 := a5.2 122
    have e3 := a5.2 138
    rw [e2, e3] at q4
    omega
theorem KB_le (A : KB N cl tb rest ss Sl Gx W h us fs Dk ds dm h1 us1 fs1 Dk1 ds1 dm1 q z u) (m : ∀ a, a < hz h → W a → W' a) (h3 : q ≤ q') (h4 : z ≤ z') (h5 : u ≤ u') : KB N cl tb rest ss Sl Gx W' h us fs Dk ds dm h1 us1 fs1 Dk1 ds1 dm1 q' z' u' := by
  obtain ⟨a1, a0, ad, ⟨d, a2, a2'⟩, ⟨a3, a3', a3b, a3c⟩, a4, a5, a7, p1, p3, p4⟩ := A
  exact ⟨a1, a0, ad, ⟨d, a2, by omega⟩, ⟨a3, fun a ha c3 c9 c34 c56 c36 cW ck => a3' a ha c3 c9 c34 c56 c36 (fun w v => cW w (m a ha v)) ck, a3b, a3c⟩, by omega, a5, a7, p1, by omega, by omega⟩
theorem KB_refl (P : PoolC G h tb Sl Dk ds dm) : KB N cl tb rest ss Sl Gx W h us fs Dk ds dm h us fs Dk ds dm 0 0 0 := ⟨hS_refl, fun a L => ⟨(Dlv_kd P L).elim (fun w => w.1) (fun w => w.1), eqA_refl _ _⟩, dkG_refl, ⟨[], by simp, by simp⟩, ⟨fun y hy => .inl hy, fun _ _ _ _ _ _ _ _ _ => eqA_refl _ _, rwB_eq (fun _ _ _ => eqA_refl _ _), fun _ _ _ => eqA_refl _ _⟩, by omega, ⟨fun _ _ _ _ => rfl, fun _ => rfl⟩, fun _ _ c => c, ⟨by omega, by omega, by omega⟩, by omega, by omega⟩
/-- dictionaries in use stay -/
theorem DcX_KB (P : PoolC G h tb Sl Dk ds dm) (K : KB N cl tb rest ss Sl Gx W h us fs Dk ds dm h1 us1 fs1 Dk1 ds1 dm1 q z u) {D : Dc} {l : List Nat} {lo : Nat} (hlo : lo ≤ ds.length) (H : DcX h N cl (UU us rest) (Dl3 Dk ds lo dm) io ab gv D l) : DcX h1 N cl (UU us1 rest) (Dl3 Dk1 ds1 lo dm1) io ab gv D l := by
  refine DcX_keep (fun d L => (K.2.1 d (Dl3_v L)).2) (fun d L => ⟨fun n => ?_, fun n => ?_⟩) K.1.2.1 K.1.1 (fun d L => Dl3_next P K.2.2.1 hlo L) K.2.2.2.2.2.2.2.1 H
  · exact (K.2.1 _ ⟨d, L.1, L.2.2, .inr ⟨n, .inl rfl⟩⟩).2.2.2.2.2.2.2.1
  · exact (K.2.1 _ ⟨d, L.1, L.2.2, .inr ⟨n, .inr rfl⟩⟩).2.2.2.2.2.2.2.1
/-- rows of the scopes, when the givens' rows are as they were -/
theorem rwA_keep (A : rwA h ss) (el : ∀ t ∈ ss, fR h1 166 t.1 = fR h 166 t.1 ∧ ll h1 (fR h 166 t.1) = ll h (fR h 166 t.1)) (ex : ∀ t ∈ ss, ∀ x ∈ ll h (fR h 166 t.1), fR h1 1358 x = fR h 1358 x) : rwA h1 ss := by
  refine ⟨A.1, fun t ht t' ht' x hx x' hx' => ?_⟩
  rw [(el t ht).1, (el t ht).2] at hx
  rw [(el t' ht').1, (el t' ht').2] at hx'
  rw [ex t ht x hx, ex t' ht' x' hx']
  exact A.2 t ht t' ht' x hx x' hx'
end LBQ
