set_option maxRecDepth 100000
/-! THE DICTIONARY OF A GIVEN, as a step -/
section LGS
variable {G : om_G} {N : List (List Int)} {cl : Nat → Nat} {tb l0 sc : Nat} {rest : List (Nat × List Nat)} {Sl Gx : Nat → Prop} {io : Nat → Nat} {ab : List (Option Nat)} {ins : List INs} {gv : List GVs} {h : om_H} {us fs : List Nat} {Dk : Nat → Prop} {ds : List Nat} {dm j x : Nat} {g : GVs}
theorem c_gStep (nd : ndN N) (T : TB G h N cl tb us fs rest) (k9 : kd h l0 = 9 ∧ l0 < hz h) (P : PoolC G h tb Sl Dk ds dm) (hl : ∀ a, Sl a → kd h a = 42) (PG : PGC h N cl (UU us rest) Sl io ab ins) (V : GVC h N cl (UU us rest) Sl sc gv) (R : RwC h cl ab sc gv Dk ds) (h8 : ab.length ≤ 8) {c m : Nat} (e1 : (ll h (fR h 166 sc))[j]? = some x) (e2 : gv[j]? = some g) (e3 : g.1 < 100) (em : stpA ab 9 g.1 c = some m) (gx : Gx x) : ∃ a h' Dk', C_21_dictionary G x (j : Int) (m : Int) h = some (a, h') ∧ TB G h' N cl tb us fs rest ∧ PoolC G h' tb Sl Dk' ds dm ∧ RwC h' cl ab sc gv Dk' ds ∧ KH N cl tb l0 sc rest Sl Gx h us fs Dk ds dm h' us fs Dk' ds dm 0 0 0 ∧ (a ≠ 0 ∧ a < hz h' ∧ kd h' a = 36) ∧ gcX h' cl ab (fun y => Dk' y ∧ y ∉ ds) g.1 j m a ∧ (fR h' 1638 a = 0 ∧ fR h' 1626 a = 0 ∧ fR h' 1614 a = cl c) ∧ fI h' 220 l0 = fI h 220 l0 ∧ fI h' 216 l0 = fI h 216 l0 ∧ fI h' 128 tb = fI h 128 tb := by
  obtain ⟨t1, t2, t3⟩ := TB_3 T
  obtain ⟨x0, _, xc⟩ := V.2.2.2 j x g e1 e2
  obtain ⟨x1, x2⟩ := x0
  have xg : fR h 1350 x = cl g.1 ∧ clO h cl g.1 := by
    rcases xc with w | w
    · omega
    · exact w.2.2
  obtain ⟨RH, RO⟩ := R.2.2.2 j x g e1 e2 e3
  obtain ⟨a, h', d1, X, ⟨f1, f2⟩, ⟨A1, A2⟩, d2, d3, d4, ⟨z1, z2⟩, d5⟩ := c_gDict (G := G) PG h8 xg.2 em ⟨x2, x1, xg.1⟩ RH
  have k122 := T.2.1.1.2.1
  have kD : ∀ y, (y = x ∨ (kd h y = 57 ∧ y = fR h 1358 x)) → kd h y = 22 ∨ kd h y = 57 := fun y w => by
    rcases w with w | w
    · rw [w]; exact .inl x2
    · exact .inr w.1
  have pk : ∀ y, (y = x ∨ (kd h y = 57 ∧ y = fR h 1358 x)) → y < hz h → kd h y ≠ 3 ∧ kd h y ≠ 34 ∧ kd h y ≠ 56 ∧ y ≠ fR h 122 tb := fun y w _ => by
    have := kD y w
    exact ⟨by omega, by omega, by omega, fun e => by rw [← e] at k122; omega⟩
  have dk : dOK (fun y => y = x ∨ (kd h y = 57 ∧ y = fR h 1358 x)) h h' := fun y w => by
    have := kD y w
    exact ⟨by omega, by omega, fun e => by omega⟩
  have T' : TB G h' N cl tb us fs rest := TB_hT T nd X pk dk
  have C := CS_write (N := N) (cl := cl) (z := 10) (u := 100) T X pk dk z1 z2
  have ne : ∀ y, y < hz h → kd h y ≠ 22 → kd h y ≠ 57 → eqA y h h' := fun y hy n1 n2 => X.2.2.2 y hy (fun w => by have := kD y w; omega)
  have S : hS Sl h h' := by
    refine ⟨X.1, X.2.2.1, fun y hy hk => ?_, fun y hy hk => ?_, fun y hy hs => ?_⟩
    · by_cases q : y = x
      · rw [q]
        exact ⟨fun f _ => f1 f, fun f hf => f2 f (fun e => by rw [e] at hf; revert hf; decide)⟩
      · have e := X.2.2.2 y hy (fun w => by
          rcases w with w | w
          · exact q w
          · rw [w.1] at hk; revert hk; decide)
        exact ⟨fun f _ => e.2.1 f, fun f _ => e.2.2.1 f⟩
    · have hk' : kd h y = 50 ∨ kd h y = 58 ∨ kd h y = 59 ∨ kd h y = 21 := hk.imp id And.right
      have e := ne y hy (by omega) (by omega)
      exact ⟨⟨e.2.2.2.1, e.2.2.2.2.1, e.2.2.2.2.2.1⟩, e.2.2.1 1330⟩
    · have k := hl y hs
      exact (ne y hy (by omega) (by omega)).2.2.2.2.2.2.1
  have E : ∀ b, Dlv h Dk ds dm b → b < hz h ∧ eqA b h h' := fun b L => by
    rcases Dlv_kd P L with w | w
    · exact ⟨w.1, ne b w.1 (by omega) (by omega)⟩
    · exact ⟨w.1, ne b w.1 (by omega) (by omega)⟩
  obtain ⟨Dk', eDk⟩ : ∃ D' : Nat → Prop, D' = fun y => Dk y ∨ (hz h ≤ y ∧ y ≠ 0 ∧ ∃ s, s < 8 ∧ y = aR h' (fR h' 1358 x) s) := ⟨_, rfl⟩
  have dg : dkG h Dk ds dm Dk' ds dm := by
    refine ⟨fun y w => by rw [eDk]; exact .inl w, fun y w => ?_, Nat.le_refl _, [], by rw [List.append_nil], fun _ w => absurd w List.not_mem_nil⟩
    rw [eDk] at w
    rcases w with w | w
    · exact .inl w
    · exact .inr w.1
  have et := ne tb t3 (by omega) (by omega)
  have P' : PoolC G h' tb Sl Dk' ds dm := by
    refine PoolC_more (PoolC_hT P X (fun y w _ => ?_) (et.2.1 140) et.2.2.1) dg.1 (fun y w => ?_)
    · have := kD y w
      exact ⟨by omega, fun e => by omega⟩
    · rw [eDk] at w
      rcases w with w | ⟨w1, w2, s, w3, w4⟩
      · exact .inl w
      · have o := (A1.2 s w3).resolve_left (by rw [← w4]; exact w2)
        rw [← w4] at o
        exact .inr ⟨o.1, o.2.1.2.2.2.1, o.2.1.2.2.2.2⟩
  obtain ⟨es, el⟩ := GVC_ll V S
  have hne : ∀ y ∈ ll h (fR h 166 sc), y ≠ x → y < hz h ∧ fR h' 1358 y = fR h 1358 y ∧ (fR h 1358 y ≠ 0 → eqA (fR h 1358 y) h h') := fun y hy q => by
    obtain ⟨i, il, ei⟩ := List.mem_iff_getElem.mp hy
    have ei' : (ll h (fR h 166 sc))[i]? = some y := by rw [List.getElem?_eq_getElem il, ei]
    have lg : i < gv.length := by rw [← V.2.2.1.1]; exact il
    obtain ⟨⟨y1, y2⟩, _⟩ := V.2.2.2 i y gv[i] ei' (List.getElem?_eq_getElem lg)
    refine ⟨y1, (X.2.2.2 y y1 (fun w => ?_)).2.2.1 1358, fun n => X.2.2.2 _ ((R.2.2.1 y hy).resolve_left n).1 (fun w => ?_)⟩
    · rcases w with w | w
      · exact q w
      · rw [w.1] at y2; omega
    · rcases w with w | w
      · have k := ((R.2.2.1 y hy).resolve_left n).2
        rw [w, x2] at k; omega
      · exact q (R.2.1 y x hy (List.mem_of_getElem? e1) n w.2)
  have hx := List.mem_of_getElem? e1
  have ob : ∀ s, s < 8 → aR h' (fR h' 1358 x) s ≠ 0 → Dk' (aR h' (fR h' 1358 x) s) ∧ aR h' (fR h' 1358 x) s ∉ ds := fun s hs n0 => by
    have new : hz h ≤ aR h' (fR h' 1358 x) s → Dk' (aR h' (fR h' 1358 x) s) ∧ aR h' (fR h' 1358 x) s ∉ ds := fun w => by
      refine ⟨by rw [eDk]; exact .inr ⟨w, n0, s, hs, rfl⟩, fun m => ?_⟩
      have := (P.2.2.2.2.2.1 _ (P.2.2.2.2.1 _ m)).1.2.1
      omega
    rcases d5 with ⟨w1, w2, _⟩ | ⟨_, w2⟩
    · have nr : fR h 1358 x ≠ 0 := by rw [← w1]; exact A1.1.1
      rcases w2 s with w3 | w3
      · rw [w1, w3] at n0 ⊢
        obtain ⟨o1, o2⟩ := RO s nr hs n0
        exact ⟨dg.1 _ o1, o2⟩
      · exact new (by rw [w1]; exact w3.2)
    · rcases w2 s with w3 | w3
      · exact absurd w3 n0
      · exact new w3
  have R' : RwC h' cl ab sc gv Dk' ds := by
    unfold RwC
    rw [es, el]
    refine ⟨R.1, fun y y' hy hy' n e => ?_, fun y hy => ?_, fun i y g' i1 i2 i3 => ?_⟩
    · by_cases q : y = x
      · by_cases q' : y' = x
        · rw [q, q']
        · rw [q, (hne y' hy' q').2.1] at e
          rw [q] at n
          rcases A2 with w | w
          · rw [w] at e n
            rw [q]; exact R.2.1 x y' hx hy' n e
          · have := R.2.2.1 y' hy'; omega
      · rw [(hne y hy q).2.1] at n e
        by_cases q' : y' = x
        · rw [q'] at e
          rcases A2 with w | w
          · rw [w] at e
            rw [q']; exact R.2.1 y x hy hx n e
          · have := R.2.2.1 y hy; omega
        · rw [(hne y' hy' q').2.1] at e
          exact R.2.1 y y' hy hy' n e
    · by_cases q : y = x
      · rw [q]; exact .inr ⟨A1.1.2.1, A1.1.2.2.1⟩
      · rw [(hne y hy q).2.1]
        exact (R.2.2.1 y hy).imp id (fun w => ⟨Nat.lt_of_lt_of_le w.1 X.1, by rw [X.2.2.1 _ w.1]; exact w.2⟩)
    · by_cases q : y = x
      · have ij : i = j := by
          have il := (List.getElem?_eq_some_iff.mp i1).1
          have jl := (List.getElem?_eq_some_iff.mp e1).1
          exact (List.getElem?_inj (j := j) il R.1).mp (by rw [i1, e1, q])
        rw [ij, e2] at i2
        have eg : g = g' := Option.some.inj i2
        rw [q, ij, ← eg]
        exact ⟨.inr A1, fun s _ hs n0 => ob s hs n0⟩
      · have hy := List.mem_of_getElem? i1
        exact gvO_keep P (R.2.2.2 i y g' i1 i2 i3) X.1 (hne y hy q).2.1 (hne y hy q).2.2 (fun _ => Dlv_n E) dg
  have m8 : m < 8 := by
    have mle := stpA_le PG xg.2 em
    obtain ⟨⟨oo, oo1, _⟩, _⟩ := PG.1 g.1 xg.2
    have kl := (List.getElem?_eq_some_iff.mp oo1).1
    omega
  have na : aR h' (fR h' 1358 x) m ≠ 0 := by rw [d2]; exact d3.1.1
  obtain ⟨q1, q2⟩ := gAr_gcX (Lv := fun y => Dk' y ∧ y ∉ ds) A1 (fun s hs n0 => ob s hs n0) m8 na
  rw [d2] at q1 q2
  have e0 := ne l0 k9.2 (by omega) (by omega)
  have k138 := P.1.1.2.1
  have e138 := ne _ P.1.1.1 (by omega) (by omega)
  have e122 := ne _ T.2.1.1.1 (by omega) (by omega)
  obtain ⟨k, d6, d7⟩ := d3.2.2.1
  have ek : c = k := Option.some.inj (d4.symm.trans d6)
  have nlm : nlN h ds ≤ nlN h' ds := by
    have := nl_mono (h := h) (h1 := h') (ds := ds) (e := []) (fun d hd => by
      have w := (P.2.2.2.2.2.1 d (P.2.2.2.2.1 d hd)).1
      have e := ne d w.2.1 (by omega) (by omega)
      rw [e.2.2.1, e.2.2.1]; exact ⟨id, id⟩)
    rw [List.append_nil] at this; exact this
  have rle : ∀ y ∈ ll h (fR h 166 sc), rwN h y ≤ rwN h' y := fun y hy => by
    unfold rwN
    by_cases n : fR h 1358 y = 0
    · rw [if_pos n]; exact Nat.zero_le _
    · rw [if_neg n]
      by_cases q : y = x
      · rw [q] at n ⊢
        rw [if_neg A1.1.1]
        rcases d5 with ⟨w1, w2, _⟩ | ⟨w1, _⟩
        · rw [w1]
          refine List.countP_mono_left (fun s _ w => ?_)
          have w' : aR h (fR h 1358 x) s ≠ 0 := by simpa using w
          rcases w2 s with e | e
          · rw [e]; exact w
          · exact absurd e.1 w'
        · exact absurd w1 n
      · have e := hne y hy q
        rw [e.2.1, if_neg n]
        have ee := (e.2.2 n).2.2.2.2.2.1
        exact List.countP_mono_left (fun s _ w => by rw [ee]; exact w)
  have rs : rwS h' sc = ((ll h (fR h 166 sc)).map (rwN h')).sum := by unfold rwS; rw [es, el]
  have acc : (h' = h) ∨ rwS h sc + 1 ≤ rwS h' sc := by
    have pos : ∀ p : Nat → Bool, p m = true → 0 < (List.range 8).countP p := fun p hp => List.countP_pos_iff.mpr ⟨m, List.mem_range.mpr m8, hp⟩
    have lt : (fR h 1358 x = 0 ∨ aR h (fR h 1358 x) m = 0) → rwS h sc + 1 ≤ rwS h' sc := fun o => by
      rw [rs]
      refine sum_more rle hx ?_
      unfold rwN
      rw [if_neg A1.1.1]
      by_cases n : fR h 1358 x = 0
      · rw [if_pos n]
        exact pos _ (by simpa using na)
      · rw [if_neg n]
        have o' := o.resolve_left n
        rcases d5 with ⟨w1, w2, _⟩ | ⟨w1, _⟩
        · rw [w1] at na ⊢
          refine cp_more (fun s _ w => ?_) (List.mem_range.mpr m8) (by simpa using o') (by simpa using na)
          have w' : aR h (fR h 1358 x) s ≠ 0 := by simpa using w
          rcases w2 s with e | e
          · rw [e]; exact w
          · exact absurd e.1 w'
        · exact absurd w1 n
    rcases d5 with ⟨w1, w2, w3⟩ | ⟨w1, _⟩
    · by_cases n : aR h (fR h 1358 x) m = 0
      · exact .inr (lt (.inr n))
      · exact .inl (w3 n)
    · exact .inr (lt (.inl w1))
  have rsm : rwS h sc ≤ rwS h' sc := by rw [rs]; exact sum_mono rle
  obtain ⟨zz, uu, zb, ub, z3, u3⟩ : ∃ zz uu, zz + 10 * rwS h sc ≤ 10 * rwS h' sc ∧ uu + 100 * rwS h sc ≤ 100 * rwS h' sc ∧ hz h' ≤ hz h + zz ∧ hu h' ≤ hu h + uu := by
    rcases acc with w | w
    · exact ⟨0, 0, by omega, by omega, by rw [w]; omega, by rw [w]; omega⟩
    · exact ⟨10, 100, by omega, by omega, z1, z2⟩
  refine ⟨a, h', Dk', d1, T', P', R', ⟨⟨zz, uu, ⟨S, E, dg, ⟨[], by simp, by simp⟩, ⟨fun y hy => .inl hy, fun a ha _ _ _ _ _ ck => ne a ha (by omega) (by omega)⟩, by omega, ⟨fun f _ _ _ => et.2.1 f, et.2.2.1⟩, ⟨fun f _ _ => e0.2.1 f, e0.2.2.1⟩, C.2.2.2.2.2.1, by omega, by omega, by omega, by rw [e138.2.2.2.2.2.2.2, e122.2.2.2.2.2.2.2]; omega⟩, by omega, by omega⟩, ⟨⟨fun y hy ky n => ?_, fun y _ hy ky => ?_, fun a ha ka n => X.2.2.2 a ha (fun w => ?_), fun a ha ka => ne a ha (by omega) (by omega)⟩, fun y hy k => k.elim (fun k => ne y hy (by unfold dyK at k; omega) (by unfold dyK at k; omega)) (fun k => ne y hy (by rw [hl y k]; decide) (by rw [hl y k]; decide))⟩, by omega⟩, d3.1, q1, ⟨q2, d3.2.1.1, by rw [ek]; exact d7⟩, e0.2.1 220, e0.2.1 216, et.2.1 128⟩
  · exact (X.2.2.2 y hy (fun w => by
      rcases w with w | w
      · rw [w] at n; exact n gx
      · omega)).2.2.1 1358
  · by_cases q : y = x
    · rw [q]; exact A2
    · exact .inl ((X.2.2.2 y hy (fun w => by
        rcases w with w | w
        · exact q w
        · omega)).2.2.1 1358)
  · rcases w with w | w
    · rw [w] at ka; omega
    · exact (n x gx).2 w.2.symm
end LGS
