set_option maxRecDepth 100000
/-! GIVENS' ROWS OF DICTIONARIES, in a step -/
/-- each given's row is its own; what lies in it are dictionaries, none of the pool -/
def RwC (h : om_H) (cl : Nat → Nat) (ab : List (Option Nat)) (sc : Nat) (gv : List GVs) (Dk : Nat → Prop) (ds : List Nat) : Prop := (ll h (fR h 166 sc)).Nodup ∧ (∀ x x', x ∈ ll h (fR h 166 sc) → x' ∈ ll h (fR h 166 sc) → fR h 1358 x ≠ 0 → fR h 1358 x = fR h 1358 x' → x = x') ∧ (∀ x ∈ ll h (fR h 166 sc), fR h 1358 x = 0 ∨ (fR h 1358 x < hz h ∧ kd h (fR h 1358 x) = 57)) ∧ ∀ (i x : Nat) (g : GVs), (ll h (fR h 166 sc))[i]? = some x → gv[i]? = some g → g.1 < 100 → gvH h cl ab g.1 i x ∧ ∀ s, fR h 1358 x ≠ 0 → s < 8 → aR h (fR h 1358 x) s ≠ 0 → Dk (aR h (fR h 1358 x) s) ∧ aR h (fR h 1358 x) s ∉ ds
/-- lines, exs, judges, reasons -/
def dyK (k : Nat) : Prop := k = 23 ∨ (24 ≤ k ∧ k ≤ 32) ∨ k = 37 ∨ k = 38
/-- other givens' rows are left -/
def rwK (Gx : Nat → Prop) (h h' : om_H) : Prop := (∀ x, x < hz h → kd h x = 22 → ¬ Gx x → fR h' 1358 x = fR h 1358 x) ∧ (∀ x, Gx x → x < hz h → kd h x = 22 → fR h' 1358 x = fR h 1358 x ∨ hz h ≤ fR h' 1358 x) ∧ (∀ a, a < hz h → kd h a = 57 → (∀ x, Gx x → (x < hz h ∧ kd h x = 22) ∧ fR h 1358 x ≠ a) → eqA a h h') ∧ ∀ a, a < hz h → kd h a = 21 → eqA a h h'
theorem rwK_eq {Gx : Nat → Prop} {h h' : om_H} (e : ∀ y, y < hz h → kd h y = 22 ∨ kd h y = 57 ∨ kd h y = 21 → eqA y h h') : rwK Gx h h' := ⟨fun x hx k _ => (e x hx (.inl k)).2.2.1 1358, fun x _ hx k => .inl ((e x hx (.inl k)).2.2.1 1358), fun a ha k _ => e a ha (.inr (.inl k)), fun a ha k => e a ha (.inr (.inr k))⟩
theorem rwK_trans {Gx : Nat → Prop} {h h1 h2 : om_H} (hl : hz h ≤ hz h1) (kk : ∀ a, a < hz h → kd h1 a = kd h a) (A : rwK Gx h h1) (B : rwK Gx h1 h2) : rwK Gx h h2 := by
  refine ⟨fun x hx k n => (B.1 x (by omega) (by rw [kk x hx]; exact k) n).trans (A.1 x hx k n), fun x g hx k => ?_, fun a ha k w => eqA_trans (A.2.2.1 a ha k w) (B.2.2.1 a (by omega) (by rw [kk a ha]; exact k) (fun x g => ?_)), fun a ha k => eqA_trans (A.2.2.2 a ha k) (B.2.2.2 a (by omega) (by rw [kk a ha]; exact k))⟩
  · rcases B.2.1 x g (by omega) (by rw [kk x hx]; exact k) with e | e
    · rw [e]; exact A.2.1 x g hx k
    · exact .inr (by omega)
  · obtain ⟨⟨w1, w2⟩, w3⟩ := w x g
    refine ⟨⟨by omega, by rw [kk x w1]; exact w2⟩, ?_⟩
    rcases A.2.1 x g w1 w2 with e | e
    · rw [e]; exact w3
    · omega
/-- other givens' rows are left, and all exs -/
def kR (Sl Gx : Nat → Prop) (h h' : om_H) : Prop := rwK Gx h h' ∧ ∀ a, a < hz h → (dyK (kd h a) ∨ Sl a) → eqA a h h'
/-- dictionaries in use, none of the first ones of the pool -/
def Dl3 (Dk : Nat → Prop) (ds : List Nat) (lo dm a : Nat) : Prop := Dk a ∧ a ∉ ds.take lo ∧ a ∉ ds.drop dm
/-- lists that the pool's dictionaries have; entries of givens' rows -/
def nlN (h : om_H) (ds : List Nat) : Nat := ds.countP (fun d => decide (fR h 1630 d ≠ 0)) + ds.countP (fun d => decide (fR h 1634 d ≠ 0))
def rwN (h : om_H) (x : Nat) : Nat := if fR h 1358 x = 0 then 0 else (List.range 8).countP (fun s => decide (aR h (fR h 1358 x) s ≠ 0))
def rwS (h : om_H) (sc : Nat) : Nat := ((ll h (fR h 166 sc)).map (rwN h)).sum
/-- a step, with the room that the pool and the rows take -/
def KH (N : List (List Int)) (cl : Nat → Nat) (tb l0 sc : Nat) (rest : List (Nat × List Nat)) (Sl Gx : Nat → Prop) (h : om_H) (us fs : List Nat) (Dk : Nat → Prop) (ds : List Nat) (dm : Nat) (h' : om_H) (us' fs' : List Nat) (Dk' : Nat → Prop) (ds' : List Nat) (dm' q z u : Nat) : Prop := (∃ z1 u1, KG N cl tb l0 rest Sl h us fs Dk ds dm h' us' fs' Dk' ds' dm' q z1 u1 ∧ z1 + 2 * ds.length + 2 * nlN h ds + 10 * rwS h sc ≤ 2 * ds'.length + 2 * nlN h' ds' + 10 * rwS h' sc + z ∧ u1 + 8 * ds.length + 10 * nlN h ds + 100 * rwS h sc ≤ 8 * ds'.length + 10 * nlN h' ds' + 100 * rwS h' sc + u) ∧ kR Sl Gx h h' ∧ ds'.length ≤ max ds.length dm'
section LRW
variable {G : om_G} {N : List (List Int)} {cl : Nat → Nat} {tb l0 sc : Nat} {rest : List (Nat × List Nat)} {Sl Gx U : Nat → Prop} {io : Nat → Nat} {ab : List (Option Nat)} {ins : List INs} {gv : List GVs} {h h1 h2 : om_H} {us fs us1 fs1 us2 fs2 : List Nat} {Dk Dk1 Dk2 : Nat → Prop} {ds ds1 ds2 : List Nat} {dm dm1 dm2 q z u q' z' u' g1 j A y : Nat}
theorem KH_trans (A : KH N cl tb l0 sc rest Sl Gx h us fs Dk ds dm h1 us1 fs1 Dk1 ds1 dm1 q z u) (B : KH N cl tb l0 sc rest Sl Gx h1 us1 fs1 Dk1 ds1 dm1 h2 us2 fs2 Dk2 ds2 dm2 q' z' u') : KH N cl tb l0 sc rest Sl Gx h us fs Dk ds dm h2 us2 fs2 Dk2 ds2 dm2 (q + q') (z + z') (u + u') := by
  obtain ⟨⟨z1, u1, a1, a2, a3⟩, a4, a5⟩ := A
  obtain ⟨⟨z2, u2, b1, b2, b3⟩, b4, b5⟩ := B
  have d := b1.2.2.1.2.2.1
  exact ⟨⟨z1 + z2, u1 + u2, KG_trans a1 b1, by omega, by omega⟩, ⟨rwK_trans a1.1.1 a1.1.2.1 a4.1 b4.1, fun a ha k => eqA_trans (a4.2 a ha k) (b4.2 a (Nat.lt_of_lt_of_le ha a1.1.1) (by rw [a1.1.2.1 a ha]; exact k))⟩, by omega⟩
theorem KH_le (A : KH N cl tb l0 sc rest Sl Gx h us fs Dk ds dm h1 us1 fs1 Dk1 ds1 dm1 q z u) (h3 : q ≤ q') (h4 : z ≤ z') (h5 : u ≤ u') : KH N cl tb l0 sc rest Sl Gx h us fs Dk ds dm h1 us1 fs1 Dk1 ds1 dm1 q' z' u' := by
  obtain ⟨⟨z1, u1, a1, a2, a3⟩, a4, a5⟩ := A
  exact ⟨⟨z1, u1, KG_le a1 h3 (Nat.le_refl _) (Nat.le_refl _), by omega, by omega⟩, a4, a5⟩
theorem nl_mono {e : List Nat} (m : ∀ d ∈ ds, (fR h 1630 d ≠ 0 → fR h1 1630 d ≠ 0) ∧ (fR h 1634 d ≠ 0 → fR h1 1634 d ≠ 0)) : nlN h ds ≤ nlN h1 (ds ++ e) := by
  unfold nlN
  rw [List.countP_append, List.countP_append]
  have a := List.countP_mono_left (p := fun d => decide (fR h 1630 d ≠ 0)) (q := fun d => decide (fR h1 1630 d ≠ 0)) (l := ds) (fun d hd w => by simpa using (m d hd).1 (by simpa using w))
  have b := List.countP_mono_left (p := fun d => decide (fR h 1634 d ≠ 0)) (q := fun d => decide (fR h1 1634 d ≠ 0)) (l := ds) (fun d hd w => by simpa using (m d hd).2 (by simpa using w))
  omega
theorem cp_more {p q : Nat → Bool} {d : Nat} : ∀ {l : List Nat}, (∀ x ∈ l, p x = true → q x = true) → d ∈ l → p d = false → q d = true → l.countP p + 1 ≤ l.countP q
  | [], _, hx, _, _ => absurd hx List.not_mem_nil
  | y :: l, m, hx, e1, e2 => by
    rw [List.countP_cons, List.countP_cons]
    have mono : l.countP p ≤ l.countP q := List.countP_mono_left (fun x hx => m x (by simp [hx]))
    by_cases w : y = d
    · rw [w, if_neg (by rw [e1]; decide), if_pos e2]
      omega
    · have i := cp_more (l := l) (fun x hx => m x (by simp [hx])) ((List.mem_cons.mp hx).resolve_left (fun z => w z.symm)) e1 e2
      by_cases w2 : p y = true
      · rw [if_pos w2, if_pos (m y (by simp) w2)]
        omega
      · rw [if_neg w2]
        omega
theorem sum_mono {f f' : Nat → Nat} : ∀ {l : List Nat}, (∀ x ∈ l, f x ≤ f' x) → (l.map f).sum ≤ (l.map f').sum
  | [], _ => Nat.le_refl _
  | x :: l, m => by
    rw [List.map_cons, List.map_cons, List.sum_cons, List.sum_cons]
    have a := m x (by simp)
    have b := sum_mono (l := l) (fun y hy => m y (by simp [hy]))
    omega
theorem sum_more {f f' : Nat → Nat} {x : Nat} : ∀ {l : List Nat}, (∀ y ∈ l, f y ≤ f' y) → x ∈ l → f x + 1 ≤ f' x → (l.map f).sum + 1 ≤ (l.map f').sum
  | [], _, hx, _ => absurd hx List.not_mem_nil
  | y :: l, m, hx, e => by
    rw [List.map_cons, List.map_cons, List.sum_cons, List.sum_cons]
    have a := m y (by simp)
    have b := sum_mono (l := l) (fun y hy => m y (by simp [hy]))
    rcases List.mem_cons.mp hx with q | q
    · rw [← q] at a ⊢; omega
    · have c := sum_more (l := l) (fun y hy => m y (by simp [hy])) q e
      omega
theorem Dlv_kd (P : PoolC G h tb Sl Dk ds dm) {a : Nat} (L : Dlv h Dk ds dm a) : a < hz h ∧ (kd h a = 36 ∨ kd h a = 42) ∧ a ≠ fR h 122 tb ∨ a < hz h ∧ kd h a = 36 := by
  obtain ⟨d, d1, d2, d3⟩ := L
  obtain ⟨⟨y0, y1, y2⟩, y3, y4⟩ := P.2.2.2.2.2.1 d d1
  rcases d3 with e | ⟨e0, e | e⟩
  · rw [e]; exact .inr ⟨y1, y2⟩
  · rw [e] at e0 ⊢
    have w := y3.resolve_left e0
    exact .inl ⟨w.1.1, .inr w.1.2, w.2.2.2.2⟩
  · rw [e] at e0 ⊢
    have w := y4.resolve_left e0
    exact .inl ⟨w.1.1, .inr w.1.2, w.2.2.2.2⟩
theorem Dlv_n (E : ∀ a, Dlv h Dk ds dm a → a < hz h ∧ eqA a h h1) {a : Nat} (h2 : Dk a) (h3 : a ∉ ds) : a < hz h ∧ eqA a h h1 := E a ⟨a, h2, fun m => h3 (List.mem_of_mem_drop m), .inl rfl⟩
theorem Dl3_v {lo a : Nat} (L : Dl3 Dk ds lo dm a) : Dlv h Dk ds dm a := ⟨a, L.1, L.2.2, .inl rfl⟩
theorem Dl3_lo {lo lo' a : Nat} (hl : lo' ≤ lo) (L : Dl3 Dk ds lo dm a) : Dl3 Dk ds lo' dm a := ⟨L.1, fun m => L.2.1 ((List.take_subset_take_left ds hl) m), L.2.2⟩
theorem Dl3_next (P : PoolC G h tb Sl Dk ds dm) (A : dkG h Dk ds dm Dk1 ds1 dm1) {lo a : Nat} (hlo : lo ≤ ds.length) (L : Dl3 Dk ds lo dm a) : Dl3 Dk1 ds1 lo dm1 a := by
  obtain ⟨a1, a2, a3, e, a4, a5⟩ := A
  have lt := (P.2.2.2.2.2.1 a L.1).1.2.1
  refine ⟨a1 a L.1, fun m => ?_, fun m => ?_⟩
  · rw [a4, List.take_append_of_le_length hlo] at m
    exact L.2.1 m
  · rw [a4, List.drop_append] at m
    rcases List.mem_append.mp m with m | m
    · refine L.2.2 ?_
      rw [show dm1 = dm + (dm1 - dm) by omega, ← List.drop_drop] at m
      exact List.mem_of_mem_drop m
    · have := a5 a (List.mem_of_mem_drop m)
      omega
/-- dictionaries in use stay -/
theorem DcX_KG (P : PoolC G h tb Sl Dk ds dm) (K : KG N cl tb l0 rest Sl h us fs Dk ds dm h1 us1 fs1 Dk1 ds1 dm1 q z u) {D : Dc} {l : List Nat} {lo : Nat} (hlo : lo ≤ ds.length) (H : DcX h N cl (UU us rest) (Dl3 Dk ds lo dm) io ab gv D l) : DcX h1 N cl (UU us1 rest) (Dl3 Dk1 ds1 lo dm1) io ab gv D l := by
  refine DcX_keep (fun d L => (K.2.1 d (Dl3_v L)).2) (fun d L => ⟨fun n => ?_, fun n => ?_⟩) K.1.2.1 K.1.1 (fun d L => Dl3_next P K.2.2.1 hlo L) K.2.2.2.2.2.2.2.2.1 H
  · exact (K.2.1 _ ⟨d, L.1, L.2.2, .inr ⟨n, .inl rfl⟩⟩).2.2.2.2.2.2.2.1
  · exact (K.2.1 _ ⟨d, L.1, L.2.2, .inr ⟨n, .inr rfl⟩⟩).2.2.2.2.2.2.2.1
theorem gAr_keep (H : gAr h cl ab g1 j A) (hl : hz h ≤ hz h1) (eA : eqA A h h1) (eo : ∀ s, s < 8 → aR h A s ≠ 0 → eqA (aR h A s) h h1) : gAr h1 cl ab g1 j A := by
  obtain ⟨⟨a1, a2, a3, a4⟩, b⟩ := H
  refine ⟨⟨a1, by omega, by rw [eA.1]; exact a3, by rw [eA.2.2.2.1]; exact a4⟩, fun s hs => ?_⟩
  rw [eA.2.2.2.2.2.1]
  rcases b s hs with c | ⟨⟨c1, c2, c3⟩, c4, ⟨k, c7, c8⟩, c9⟩
  · exact .inl c
  · have e := eo s hs c1
    refine .inr ⟨⟨c1, by omega, by rw [e.1]; exact c3⟩, ?_, ⟨k, c7, by rw [e.2.2.1]; exact c8⟩, ?_⟩
    · rw [e.2.2.1, e.2.2.1, e.2.2.1, e.2.2.1, e.2.2.1]; exact c4
    · rw [e.2.1, e.2.2.1, eA.2.2.2.2.2.1]; exact c9
theorem gvO_keep {i : Nat} (P : PoolC G h tb Sl Dk ds dm) (H : gvH h cl ab g1 i y ∧ ∀ s, fR h 1358 y ≠ 0 → s < 8 → aR h (fR h 1358 y) s ≠ 0 → Dk (aR h (fR h 1358 y) s) ∧ aR h (fR h 1358 y) s ∉ ds) (hl : hz h ≤ hz h1) (e1 : fR h1 1358 y = fR h 1358 y) (eR : fR h 1358 y ≠ 0 → eqA (fR h 1358 y) h h1) (E : ∀ a, Dk a → a ∉ ds → a < hz h ∧ eqA a h h1) (D : dkG h Dk ds dm Dk1 ds1 dm1) : gvH h1 cl ab g1 i y ∧ ∀ s, fR h1 1358 y ≠ 0 → s < 8 → aR h1 (fR h1 1358 y) s ≠ 0 → Dk1 (aR h1 (fR h1 1358 y) s) ∧ aR h1 (fR h1 1358 y) s ∉ ds1 := by
  obtain ⟨H, O⟩ := H
  unfold gvH at H ⊢
  rw [e1]
  by_cases n : fR h 1358 y = 0
  · exact ⟨.inl n, fun s hs => absurd n hs⟩
  · have g := H.resolve_left n
    have eA := eR n
    refine ⟨.inr (gAr_keep g hl eA (fun s hs n0 => (E _ (O s n hs n0).1 (O s n hs n0).2).2)), fun s _ hs n0 => ?_⟩
    rw [eA.2.2.2.2.2.1] at n0 ⊢
    obtain ⟨o1, o2⟩ := O s n hs n0
    have lt := (P.2.2.2.2.2.1 _ o1).1.2.1
    obtain ⟨a1, a2, a3, e, a4, a5⟩ := D
    refine ⟨a1 _ o1, fun m => ?_⟩
    rw [a4] at m
    rcases List.mem_append.mp m with m | m
    · exact o2 m
    · have := a5 _ m; omega
theorem GVC_ll (V : GVC h N cl U Sl sc gv) (X : hS Sl h h1) : fR h1 166 sc = fR h 166 sc ∧ ll h1 (fR h 166 sc) = ll h (fR h 166 sc) := by
  obtain ⟨⟨v1, v2⟩, ⟨v3, v4, v5⟩, _⟩ := V
  exact ⟨(X.2.2.1 sc v1 (by rw [v2]; decide)).2 166 (by decide), X.2.2.2.2 _ v4 v3⟩
/-- rows stay in a step that leaves the givens -/
theorem RwC_keep (P : PoolC G h tb Sl Dk ds dm) (V : GVC h N cl U Sl sc gv) (R : RwC h cl ab sc gv Dk ds) (X : hS Sl h h1) (E : ∀ a, Dk a → a ∉ ds → a < hz h ∧ eqA a h h1) (D : dkG h Dk ds dm Dk1 ds1 dm1) (ex : ∀ x ∈ ll h (fR h 166 sc), fR h1 1358 x = fR h 1358 x ∧ (fR h 1358 x ≠ 0 → eqA (fR h 1358 x) h h1)) : RwC h1 cl ab sc gv Dk1 ds1 ∧ rwS h sc ≤ rwS h1 sc := by
  obtain ⟨es, el⟩ := GVC_ll V X
  unfold RwC rwS
  rw [es, el]
  refine ⟨⟨R.1, fun x x' hx hx' n e => R.2.1 x x' hx hx' (by rw [← (ex x hx).1]; exact n) (by rw [← (ex x hx).1, ← (ex x' hx').1]; exact e), fun x hx => ?_, fun i x g e1 e2 e3 => ?_⟩, sum_mono (fun x hx => ?_)⟩
  · rw [(ex x hx).1]
    exact (R.2.2.1 x hx).imp id (fun w => ⟨Nat.lt_of_lt_of_le w.1 X.1, by rw [X.2.1 _ w.1]; exact w.2⟩)
  · have hx := List.mem_of_getElem? e1
    exact gvO_keep P (R.2.2.2 i x g e1 e2 e3) X.1 (ex x hx).1 (ex x hx).2 E D
  · unfold rwN
    rw [(ex x hx).1]
    by_cases n : fR h 1358 x = 0
    · rw [if_pos n, if_pos n]; exact Nat.le_refl _
    · rw [if_neg n, if_neg n]
      have e := ((ex x hx).2 n).2.2.2.2.2.1
      exact List.countP_mono_left (fun s _ w => by rw [e]; exact w)
/-- the pool, with dictionaries that have no lists -/
theorem PoolC_more (P : PoolC G h tb Sl Dk ds dm) (hm : ∀ y, Dk y → Dk1 y) (hn : ∀ y, Dk1 y → Dk y ∨ ((y ≠ 0 ∧ y < hz h ∧ kd h y = 36) ∧ fR h 1630 y = 0 ∧ fR h 1634 y = 0)) : PoolC G h tb Sl Dk1 ds dm := by
  obtain ⟨p1, p4, p5, p8, p9, p10, p11⟩ := P
  have z0 : ∀ d f, (f = 1630 ∨ f = 1634) → Dk1 d → fR h f d ≠ 0 → Dk d := fun d f o hd n => by
    rcases hn d hd with w | ⟨_, w1, w2⟩
    · exact w
    · rcases o with o | o
      · rw [o] at n; exact absurd w1 n
      · rw [o] at n; exact absurd w2 n
  refine ⟨p1, p4, p5, p8, fun d hd => hm d (p9 d hd), fun d hd => ?_, fun d d' f f' h3 h4 o1 o2 n1 e3 => ?_⟩
  · rcases hn d hd with w | ⟨w0, w1, w2⟩
    · exact p10 d w
    · exact ⟨w0, .inl w1, .inl w2⟩
  · exact p11 d d' f f' (z0 d f o1 h3 n1) (z0 d' f' o2 h4 (by rw [← e3]; exact n1)) o1 o2 n1 e3
end LRW
