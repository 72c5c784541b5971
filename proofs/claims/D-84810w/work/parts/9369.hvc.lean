set_option maxRecDepth 100000
/-! A FINDER WITH ITS DICTIONARIES: the context, and its steps -/
def HvC (G : om_G) (h : om_H) (N : List (List Int)) (cl : Nat → Nat) (tb l0 sc : Nat) (us fs : List Nat) (rest : List (Nat × List Nat)) (Sl Gx : Nat → Prop) (io : Nat → Nat) (ab : List (Option Nat)) (ins : List INs) (gv : List GVs) (Dk : Nat → Prop) (ds : List Nat) (dm : Nat) (s : WS) : Prop := FnC G h N cl tb l0 sc us fs rest Sl io ab ins gv 2 0 s ∧ PoolC G h tb Sl Dk ds dm ∧ RwC h cl ab sc gv Dk ds ∧ ∀ x ∈ ll h (fR h 166 sc), Gx x
section LHV
variable {G : om_G} {h h' : om_H} {N : List (List Int)} {cl : Nat → Nat} {tb l0 sc : Nat} {us fs us' fs' : List Nat} {rest : List (Nat × List Nat)} {Sl Gx : Nat → Prop} {io : Nat → Nat} {ab : List (Option Nat)} {ins : List INs} {gv : List GVs} {Dk Dk' : Nat → Prop} {ds ds' : List Nat} {dm dm' c bg bg' : Nat} {s s' : WS} {q z u : Nat}
theorem FnC_nextG (F : FnC G h N cl tb l0 sc us fs rest Sl io ab ins gv c bg s) (X : hS Sl h h') (kp : ∀ T a, tyC h N cl (UU us rest) T a → tyC h' N cl (UU us' rest) T a) (T' : TB G h' N cl tb us' fs' rest) (eI : fI h' 227 l0 = fI h 227 l0) (eR : ∀ f, fR h' f l0 = fR h f l0) (e122 : fR h' 122 tb = fR h 122 tb) (e1 : fI h' 220 l0 = (bg' : Int)) (e2 : c = 2 → fI h' 216 l0 = (s'.1 : Int) ∧ fI h' 128 tb = (s'.2.1 : Int)) : FnC G h' N cl tb l0 sc us' fs' rest Sl io ab ins gv c bg' s' := by
  obtain ⟨T, ⟨⟨f1, f2, f3⟩, f4⟩, ⟨g1, g2, g3, hcl⟩, P, V, _, k1, k2⟩ := F
  refine ⟨T', ⟨⟨by rw [X.2.1 _ f2]; exact f1, Nat.lt_of_lt_of_le f2 X.1, by rw [eR]; exact f3⟩, by rw [eR]; exact f4⟩, ⟨by rw [e122]; exact g1, by rw [e122]; exact g2, fun a ha => ⟨Nat.lt_of_lt_of_le (g3 a ha).1 X.1, by rw [X.2.1 _ (g3 a ha).1]; exact (g3 a ha).2⟩, fun c => Nat.lt_of_lt_of_le (hcl c) X.1⟩, PGC_hS X kp P (fun c hc => ?_), GVC_hS X kp V, e1, fun z => ⟨by rw [eI]; exact (k1 z).1, e2 z⟩, fun z => by rw [eI]; exact k2 z⟩
  obtain ⟨a1, a2, a3, a4⟩ := hc
  have k18 : kd h (cl c) = 18 := by rw [← X.2.1 _ (hcl c)]; exact a3
  exact ⟨a1, hcl c, k18, by rw [← (X.2.2.1 _ (hcl c) (by rw [k18]; decide)).1 1200 (by decide)]; exact a4⟩
theorem KF_kd (T : TB G h N cl tb us fs rest) (k9 : kd h l0 = 9) (K : KF N cl tb l0 rest h us fs h' us' fs' q z u) {y : Nat} (hy : y < hz h) (n : kd h y ≠ 3 ∧ kd h y ≠ 42 ∧ kd h y ≠ 56 ∧ kd h y ≠ 34 ∧ kd h y ≠ 9) : eqA y h h' := K.1.2.2.2 y hy (fun w => by
  rcases w with w | w
  · have := DT_kd T w; omega
  · rw [w] at n; omega)
theorem KF_Sl (T : TB G h N cl tb us fs rest) (k9 : kd h l0 = 9) (K : KF N cl tb l0 rest h us fs h' us' fs' q z u) {y : Nat} (hy : y < hz h) (k42 : kd h y = 42) (n : y ≠ fR h 122 tb) : eqA y h h' := K.1.2.2.2 y hy (fun w => by
  rcases w with w | w
  · rcases w with w | w | w | w
    · rw [w, (TB_3 T).1] at k42; omega
    · exact n w
    · have k2 := T.1.2.1.2.1.2.1
      rw [w, k2] at k42; omega
    · have := (T.2.1.2.2.2.2 _ (List.mem_append_right _ w)).1
      omega
  · rw [w, k9] at k42; omega)
theorem GVC_22 {U : Nat → Prop} (V : GVC h N cl U Sl sc gv) {y : Nat} (hy : y ∈ ll h (fR h 166 sc)) : y < hz h ∧ kd h y = 22 := by
  obtain ⟨i, il, ei⟩ := List.mem_iff_getElem.mp hy
  have ei' : (ll h (fR h 166 sc))[i]? = some y := by rw [List.getElem?_eq_getElem il, ei]
  have lg : i < gv.length := by rw [← V.2.2.1.1]; exact il
  exact (V.2.2.2 i y gv[i] ei' (List.getElem?_eq_getElem lg)).1
/-- types are worked out -/
theorem HvC_KF (H : HvC G h N cl tb l0 sc us fs rest Sl Gx io ab ins gv Dk ds dm s) (K : KF N cl tb l0 rest h us fs h' us' fs' q z u) (T' : TB G h' N cl tb us' fs' rest) : KH N cl tb l0 sc rest Sl Gx h us fs Dk ds dm h' us' fs' Dk ds dm q z u ∧ (fI h' 220 l0 = 0 → fI h' 216 l0 = (s'.1 : Int) → fI h' 128 tb = (s'.2.1 : Int) → HvC G h' N cl tb l0 sc us' fs' rest Sl Gx io ab ins gv Dk ds dm s') := by
  obtain ⟨F, P, R, Hg⟩ := H
  obtain ⟨T, ⟨⟨f1, f2, f3⟩, f4⟩, ⟨g1, g2, g3, hcl⟩, PG, V, _, k1, k2⟩ := id F
  have KG1 := KG_KF T f1 P g2 (fun a ha => (g3 a ha).2) K
  have e22 : ∀ y, y < hz h → kd h y = 22 ∨ kd h y = 57 ∨ kd h y = 21 → eqA y h h' := fun y hy k => KF_kd T f1 K hy (by omega)
  obtain ⟨R', rs⟩ := RwC_keep P V R KG1.1 (fun _ => Dlv_n KG1.2.1) KG1.2.2.1 (fun x hx => ⟨(e22 x (GVC_22 V hx).1 (.inl (GVC_22 V hx).2)).2.2.1 1358, fun n => by
    have w := (R.2.2.1 x hx).resolve_left n
    exact KF_kd T f1 K w.1 (by omega)⟩)
  have nlm : nlN h ds ≤ nlN h' ds := by
    have := nl_mono (h := h) (h1 := h') (ds := ds) (e := []) (fun d hd => by
      have w := (P.2.2.2.2.2.1 d (P.2.2.2.2.1 d hd)).1
      have e := KF_kd T f1 K w.2.1 (by omega)
      rw [e.2.2.1, e.2.2.1]; exact ⟨id, id⟩)
    rw [List.append_nil] at this; exact this
  refine ⟨⟨⟨z, u, KG1, by omega, by omega⟩, ⟨rwK_eq e22, fun y hy k => k.elim (fun k => KF_kd T f1 K hy (by unfold dyK at k; omega)) (fun k => KF_Sl T f1 K hy (g3 y k).2 (fun e => g2 (e ▸ k)))⟩, by omega⟩, fun e1 e2 e3 => ⟨FnC_next F K T' (by rw [e1]; rfl) (fun _ => ⟨e2, e3⟩), PoolC_KF T f1 K P, R', fun x hx => ?_⟩⟩
  obtain ⟨es, el⟩ := GVC_ll V KG1.1
  rw [es, el] at hx
  exact Hg x hx
theorem nodup_drop {l : List Nat} {i a : Nat} (nd : l.Nodup) (e : l[i]? = some a) : a ∉ l.drop (i + 1) := fun m => by
  obtain ⟨k, kl, ek⟩ := List.mem_iff_getElem.mp m
  have ek' : (l.drop (i + 1))[k]? = some a := by rw [List.getElem?_eq_getElem kl, ek]
  rw [List.getElem?_drop] at ek'
  have il := (List.getElem?_eq_some_iff.mp e).1
  have : i = _ := (List.getElem?_inj il nd).mp (e.trans ek'.symm)
  omega
theorem nodup_take {l : List Nat} {i a : Nat} (nd : l.Nodup) (e : l[i]? = some a) : a ∉ l.take i := fun m => by
  obtain ⟨k, kl, ek⟩ := List.mem_iff_getElem.mp m
  have ek' : (l.take i)[k]? = some a := by rw [List.getElem?_eq_getElem kl, ek]
  have ki : k < i := by rw [List.length_take] at kl; omega
  rw [List.getElem?_take_of_lt ki] at ek'
  have il := (List.getElem?_eq_some_iff.mp e).1
  have : i = _ := (List.getElem?_inj il nd).mp (e.trans ek'.symm)
  omega
/-- one is taken out of the pool -/
theorem HvC_pl (nd : ndN N) (H : HvC G h N cl tb l0 sc us fs rest Sl Gx io ab ins gv Dk ds dm s) (hl : ds.length < 50000) (o : Nat) : ∃ d h' ds' Dk', C_2_dictionary G tb o h = some (d, h') ∧ HvC G h' N cl tb l0 sc us fs rest Sl Gx io ab ins gv Dk' ds' (dm + 1) s ∧ KH N cl tb l0 sc rest Sl Gx h us fs Dk ds dm h' us fs Dk' ds' (dm + 1) 0 0 0 ∧ (Dl3 Dk' ds' dm (dm + 1) d ∧ ds'[dm]? = some d ∧ d ≠ 0 ∧ d < hz h' ∧ kd h' d = 36) ∧ (fR h' 1614 d = o ∧ fI h' 1616 d = -1 ∧ fR h' 1622 d = 0 ∧ fR h' 1626 d = 0 ∧ fR h' 1638 d = 0 ∧ fR h' 1642 d = 0) ∧ (∀ L, L ≠ 0 → L = fR h' 1630 d ∨ L = fR h' 1634 d → ll h' L = []) ∧ ¬ Dlv h Dk ds dm d := by
  obtain ⟨F, P, R, Hg⟩ := H
  obtain ⟨T, ⟨⟨f1, f2, f3⟩, f4⟩, ⟨g1, g2, g3, hcl⟩, PG, V, k0, k1, k2⟩ := id F
  obtain ⟨d, h', ds', Dk', a1, T', P', ⟨b1, b2, b3, b4⟩, a4, X, a6, ⟨a7, a8⟩, a9, a10, a11⟩ := c_dictC (c := o) nd T P (fun a ha => (g3 a ha).1) hl
  have t3 := (TB_3 T).1
  have k42 := P.1.1.2.1
  have mem : ∀ y, y ∈ ds.drop dm → Dk y := fun y hy => P.2.2.2.2.1 y (List.mem_of_mem_drop hy)
  have kD : ∀ y, DPl h tb ds dm y → (kd h y = 3 ∨ kd h y = 36 ∨ kd h y = 42) := fun y w => by
    rcases w with w | w | w | ⟨d', m, n, w⟩
    · rw [w]; exact .inl t3
    · rw [w]; exact .inr (.inr k42)
    · exact .inr (.inl (P.2.2.2.2.2.1 y (mem y w)).1.2.2)
    · obtain ⟨_, w3, w4⟩ := P.2.2.2.2.2.1 d' (mem d' m)
      rcases w with w | w
      · have l := w3.resolve_left (by rw [← w]; exact n)
        rw [w]; exact .inr (.inr l.1.2)
      · have l := w4.resolve_left (by rw [← w]; exact n)
        rw [w]; exact .inr (.inr l.1.2)
  have nSl : ∀ y, DPl h tb ds dm y → ¬ Sl y := fun y w hs => by
    have ky := (g3 y hs).2
    rcases w with w | w | w | ⟨d', m, n, w⟩
    · rw [w, t3] at ky; omega
    · rw [w] at hs; exact P.1.2.1 hs
    · have := (P.2.2.2.2.2.1 y (mem y w)).1.2.2; omega
    · obtain ⟨_, w3, w4⟩ := P.2.2.2.2.2.1 d' (mem d' m)
      rcases w with w | w
      · have l := w3.resolve_left (by rw [← w]; exact n)
        rw [w] at hs; exact l.2.2.1 hs
      · have l := w4.resolve_left (by rw [← w]; exact n)
        rw [w] at hs; exact l.2.2.1 hs
  have ne : ∀ y, y < hz h → kd h y = 22 ∨ kd h y = 57 ∨ kd h y = 9 ∨ kd h y = 21 → eqA y h h' := fun y hy k => X.2.2.2 y hy (fun w => by have := kD y w; omega)
  have lc0 : ∃ uu, hu h' + 4 * lc h (fR h 138 tb) ≤ hu h + uu + 4 * lc h' (fR h 138 tb) ∧ uu + 8 * ds.length ≤ 8 * ds'.length := by
    refine ⟨8 * ds'.length - 8 * ds.length, ?_, ?_⟩
    · rcases b1 with e | ⟨_, e⟩
      · rw [e] at a8 ⊢; omega
      · rw [e, List.length_append, List.length_singleton] at a8 ⊢; omega
    · rcases b1 with e | ⟨_, e⟩
      · rw [e]; omega
      · rw [e, List.length_append, List.length_singleton]; omega
  obtain ⟨uu, uu1, uu2⟩ := lc0
  have lz : ds.length ≤ ds'.length ∧ ds'.length ≤ max ds.length (dm + 1) := by
    rcases b1 with e | ⟨e0, e⟩
    · rw [e]; omega
    · rw [e, List.length_append, List.length_singleton]; omega
  have KG1 := KG_pl (z := 2 * ds'.length - 2 * ds.length) (u := uu) T ⟨f1, f2⟩ P (fun a ha => (g3 a ha).2) X a6 a4 ⟨by omega, uu1⟩ b1 b2 b3
  obtain ⟨R', rs⟩ := RwC_keep P V R KG1.1 (fun _ => Dlv_n KG1.2.1) KG1.2.2.1 (fun x hx => ⟨(ne x (GVC_22 V hx).1 (.inl (GVC_22 V hx).2)).2.2.1 1358, fun n => by
    have w := (R.2.2.1 x hx).resolve_left n
    exact ne _ w.1 (.inr (.inl w.2))⟩)
  have nlm : nlN h ds ≤ nlN h' ds' := by
    have m : ∀ d ∈ ds, (fR h 1630 d ≠ 0 → fR h' 1630 d ≠ 0) ∧ (fR h 1634 d ≠ 0 → fR h' 1634 d ≠ 0) := fun y hy => by
      have w := (P.2.2.2.2.2.1 y (P.2.2.2.2.1 y hy)).1
      have e := a11 y w.2.1 w.2.2
      rw [e.1, e.2]; exact ⟨id, id⟩
    rcases b1 with e | ⟨e0, e⟩
    · have := nl_mono (e := []) m
      rw [List.append_nil] at this
      rw [e]; exact this
    · rw [e]; exact nl_mono m
  have e9 := ne l0 f2 (.inr (.inr (.inl f1)))
  have dm1 : d ∈ ds' := List.mem_of_getElem? b4
  have dD := P'.2.2.2.2.1 d dm1
  have dk := (P'.2.2.2.2.2.1 d dD).1
  refine ⟨d, h', ds', Dk', a1, ⟨FnC_nextG F KG1.1 a4 T' (e9.2.1 227) e9.2.2.1 (a6.2 122) (by rw [e9.2.1]; exact k0) (fun z => ⟨by rw [e9.2.1]; exact (k1 z).2.1, by rw [a6.1 128 (by decide)]; exact (k1 z).2.2⟩), P', R', fun x hx => ?_⟩, ⟨⟨_, uu, KG1, by omega, by omega⟩, ⟨rwK_eq (fun y hy k => ne y hy (by omega)), fun y hy k => k.elim (fun k => X.2.2.2 y hy (fun w => by have := kD y w; unfold dyK at k; omega)) (fun k => X.2.2.2 y hy (fun w => nSl y w k))⟩, lz.2⟩, ⟨⟨dD, nodup_take P'.2.2.2.1 b4, nodup_drop P'.2.2.2.1 b4⟩, b4, dk⟩, a9, a10, fun L => ?_⟩
  · obtain ⟨es, el⟩ := GVC_ll V KG1.1
    rw [es, el] at hx
    exact Hg x hx
  · -- what was live is not taken
    rcases b1 with e | ⟨e0, e⟩
    · rw [e] at b4
      have dmem : d ∈ ds.drop dm := by
        refine List.mem_of_getElem? (i := 0) ?_
        rw [List.getElem?_drop]
        exact b4
      obtain ⟨y, y1, y2, y3⟩ := L
      obtain ⟨⟨w0, w1, w2⟩, w3, w4⟩ := P.2.2.2.2.2.1 y y1
      have kd36 := (P.2.2.2.2.2.1 d (mem d dmem)).1.2.2
      rcases y3 with y3 | ⟨n, y3 | y3⟩
      · rw [← y3] at y2; exact y2 dmem
      · have l := (w3.resolve_left (by rw [← y3]; exact n)).1.2
        rw [← y3, kd36] at l; omega
      · have l := (w4.resolve_left (by rw [← y3]; exact n)).1.2
        rw [← y3, kd36] at l; omega
    · rw [e, List.getElem?_append_right (by omega), show dm - ds.length = 0 by omega] at b4
      have ed : hz h = d := Option.some.inj b4
      rcases Dlv_kd P L with w | w
      · have := w.1; omega
      · have := w.1; omega
end LHV
