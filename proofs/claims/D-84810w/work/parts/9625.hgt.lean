set_option maxRecDepth 100000
/-! THE ONE ABOVE AN INST's, by parts; how high dictionaries are -/
/-- how high a dictionary is -/
def hgt (ins : List INs) : Ty → Nat → Nat
  | .leaf, _ => 0
  | .inner _ w _ l r, c => 1 + ((iOf ins c w).bind fun i => ins[i]?).elim 0 (fun d => (d.2.2.2.1.map (fun p => if p.2 = 0 then hgt ins l p.1 else hgt ins r p.1)).foldl max 0)
section LHG
variable {ab : List (Option Nat)} {ins : List INs} {gv : List GVs}
theorem wk_nf {c f bg : Nat} {s : WS} {T : Ty} (h : thB T = false) (z : tszW T ≤ 60) : wk c ins gv (f + 1) false bg s T = some (some (T, s)) := by
  unfold wk
  rw [if_neg (by rw [h]; decide)]
  unfold fitO
  rw [if_pos z]
theorem hgt_in {w i c : Nat} {u : Unit} {k : Nat} {l r : Ty} {d : INs} (e1 : iOf ins c w = some i) (e2 : ins[i]? = some d) : hgt ins (.inner k w u l r) c = 1 + (d.2.2.2.1.map (fun p => if p.2 = 0 then hgt ins l p.1 else hgt ins r p.1)).foldl max 0 := by
  show 1 + ((iOf ins c w).bind fun i => ins[i]?).elim 0 _ = _
  rw [e1, Option.bind_some, e2]
  rfl
theorem hgt_lt {w i c : Nat} {u : Unit} {k : Nat} {l r : Ty} {d : INs} (e1 : iOf ins c w = some i) (e2 : ins[i]? = some d) {p : Nat × Nat} (hp : p ∈ d.2.2.2.1) : (if p.2 = 0 then hgt ins l p.1 else hgt ins r p.1) < hgt ins (.inner k w u l r) c := by
  rw [hgt_in e1 e2]
  have := (foldl_max (d.2.2.2.1.map (fun p => if p.2 = 0 then hgt ins l p.1 else hgt ins r p.1)) 0).2 _ (List.mem_map.mpr ⟨p, hp, rfl⟩)
  omega
theorem foldl_le : ∀ (l : List Nat) (a b : Nat), a ≤ b → (∀ x ∈ l, x ≤ b) → l.foldl max a ≤ b
  | [], _, _, h, _ => h
  | y :: l, a, b, h, g => foldl_le l (max a y) b (by have := g y List.mem_cons_self; omega) (fun x hx => g x (List.mem_cons_of_mem _ hx))
/-- THE ONE ABOVE, by parts -/
theorem avD_cs (P : PgO ab ins) {i c' : Nat} {d : INs} {D : Dc} (ed : ins[i]? = some d) (ha : ab[d.1]? = some (some c')) (eD : avD ab ins i = some D) : ∃ (i' : Nat) (d' : INs) (cs : Dc), iOf ins c' d.2.1 = some i' ∧ ins[i']? = some d' ∧ (d'.1 = c' ∧ d'.2.1 = d.2.1) ∧ D = .inner 1 (i', c', hdI d, hdI d) () cs .leaf ∧ dcL (dcT ab ins (gvI d) 69) (hdI d) d'.2.2.2.1 = some cs ∧ ∀ p ∈ d'.2.2.2.1, ∃ (j n : Nat) (cd : Nat × Nat) (w : Nat), (if p.2 = 0 then tL (hdI d) else tR' (hdI d)) = tNm w ∧ d.2.2.1[p.2]? = some w ∧ gCl ab (gvI d) p.1 w = some j ∧ d.2.2.2.1[j]? = some cd ∧ cd.2 = p.2 ∧ stpA ab 9 cd.1 p.1 = some n ∧ dcT ab ins (gvI d) 69 p.1 (if p.2 = 0 then tL (hdI d) else tR' (hdI d)) = some (.inner 0 (j, n, tNm w, tNm w) () .leaf .leaf) := by
  have dm := List.mem_of_getElem? ed
  have eT : dcT ab ins (gvI d) 70 c' (hdI d) = some D := by
    unfold avD at eD
    rw [ed, Option.bind_some, ha, Option.bind_some, Option.bind_some] at eD
    exact eD
  have hn : ∀ (ns : List Nat) (j : Nat), thB (hdN ns j) = false ∧ tszW (hdN ns j) ≤ 1 ∧ 0 ≤ tszW (hdN ns j) := fun ns j => by
    unfold hdN
    cases ns[j]? with
    | none => exact ⟨rfl, by decide, by decide⟩
    | some w =>
      refine ⟨rfl, ?_⟩
      have e : tszW (tnd 0 w .leaf .leaf) = 1 := rfl
      rw [e]
      decide
  have th : thB (hdI d) = false := by
    show ((1 : Nat) == 2 || thB (hdN d.2.2.1 0) || thB (hdN d.2.2.1 1)) = false
    rw [(hn _ _).1, (hn _ _).1]; rfl
  have tz : tszW (hdI d) ≤ 60 := by
    show w32 (w32 (1 + tszW (hdN d.2.2.1 0)) + tszW (hdN d.2.2.1 1)) ≤ 60
    have a1 := hn d.2.2.1 0
    have a2 := hn d.2.2.1 1
    rw [w32_s (x := 1 + tszW (hdN d.2.2.1 0)) (by omega) (by omega), w32_s (by omega) (by omega)]
    omega
  obtain ⟨v, s1, hv, h | h⟩ := dcT_cs (f := 69) eT
  · rw [wk_nf (f := 129) th tz] at hv
    obtain ⟨w, x, l, t, j, n, g, ev, _⟩ := h
    have e1 : hdI d = v := (Prod.mk.inj (Option.some.inj (Option.some.inj hv))).1
    rw [← e1] at ev
    cases ev
  · rw [wk_nf (f := 129) th tz] at hv
    have e1 : hdI d = v := (Prod.mk.inj (Option.some.inj (Option.some.inj hv))).1
    rw [← e1] at h
    obtain ⟨w, x, l, t, i', d', cs, ev, ei, ed', ⟨q1, q2⟩, ec, eD'⟩ := h
    injection ev with z1 z2 z3 z4 z5
    rw [← z2] at ei q2
    have dm' := List.mem_of_getElem? ed'
    refine ⟨i', d', cs, ei, ed', ⟨q1, q2⟩, eD', ec, fun p hp => ?_⟩
    have pl : p.2 < d.2.2.1.length := by
      have := ((P.2.2.2.1 d' dm').2.2 p hp).1
      rw [P.2.2.2.2.1 d' dm', q2, ← P.2.2.2.2.1 d dm] at this
      exact this
    have p2 : p.2 < 2 := by have := (P.1 d dm).1.1; omega
    have ew : d.2.2.1[p.2]? = some (d.2.2.1[p.2]) := List.getElem?_eq_getElem pl
    generalize d.2.2.1[p.2] = w' at ew
    have eh : (if p.2 = 0 then tL (hdI d) else tR' (hdI d)) = tNm w' := by
      by_cases q : p.2 = 0
      · rw [if_pos q]
        show hdN d.2.2.1 0 = _
        have e0 : d.2.2.1[0]? = some w' := by rw [q] at ew; exact ew
        unfold hdN
        rw [e0]
      · rw [if_neg q]
        show hdN d.2.2.1 1 = _
        have e0 : d.2.2.1[1]? = some w' := by
          have q1 : p.2 = 1 := by omega
          rw [q1] at ew
          exact ew
        unfold hdN
        rw [e0]
    obtain ⟨Dp, hD⟩ := dcL_mem ec p hp
    have hD' := hD
    rw [eh] at hD
    obtain ⟨v2, s2, hv2, h2 | h2⟩ := dcT_cs (f := 68) hD
    · rw [wk_nf (f := 129) rfl (by show w32 (w32 (1 + 0) + 0) ≤ 60; decide)] at hv2
      have e2 : tNm w' = v2 := (Prod.mk.inj (Option.some.inj (Option.some.inj hv2))).1
      rw [← e2] at h2
      obtain ⟨w2, x2, l2, t2, j, n, g, ev2, ej, eg, ⟨g1, g2⟩, en, eDp⟩ := h2
      injection ev2 with y1 y2 y3 y4 y5
      rw [← y2] at ej g2
      have eg' : (d.2.2.2.1.map (fun c => (c.1, d.2.2.1.getD c.2 0, (.leaf : Ty))))[j]? = some g := eg
      rw [List.getElem?_map] at eg'
      obtain ⟨cd, c1, c2⟩ := Option.map_eq_some_iff.mp eg'
      have cm := List.mem_of_getElem? c1
      have ci := ((P.2.2.2.1 d dm).2.2 cd cm).1
      have en' : stpA ab 9 cd.1 p.1 = some n := by rw [← c2] at en; exact en
      have e3 : d.2.2.1.getD cd.2 0 = w' := by rw [← c2] at g2; exact g2
      refine ⟨j, n, cd, w', eh, ew, ej, c1, ?_, en', by rw [hD', eDp]⟩
      have e4 : d.2.2.1[cd.2]? = some w' := by
        rw [List.getD_eq_getElem?_getD, List.getElem?_eq_getElem ci] at e3
        rw [List.getElem?_eq_getElem ci, ← e3]; rfl
      exact (List.getElem?_inj ci (P.1 d dm).1.2).mp (e4.trans ew.symm)
    · rw [wk_nf (f := 129) rfl (by show w32 (w32 (1 + 0) + 0) ≤ 60; decide)] at hv2
      have e2 : tNm w' = v2 := (Prod.mk.inj (Option.some.inj (Option.some.inj hv2))).1
      rw [← e2] at h2
      obtain ⟨w2, x2, l2, t2, i2, d2, cs2, ev2, _⟩ := h2
      cases ev2
/-- classes above one another are had, and no higher -/
theorem stp_had {τ : Ty} (hup : ∀ c c', cHd ins τ c → ab[c]? = some (some c') → cHd ins τ c' ∧ hgt ins τ c' ≤ hgt ins τ c) : ∀ (f k a n : Nat), stpA ab f k a = some n → cHd ins τ k → cHd ins τ a ∧ hgt ins τ a ≤ hgt ins τ k
  | 0, _, _, _, e, _ => by cases e
  | f + 1, k, a, n, e, h => by
    unfold stpA at e
    by_cases q : k = a
    · rw [← q]; exact ⟨h, Nat.le_refl _⟩
    · rw [if_neg q] at e
      cases q2 : ab[k]? with
      | none => rw [q2] at e; cases e
      | some o =>
        cases o with
        | none => rw [q2] at e; cases e
        | some k' =>
          rw [q2] at e
          obtain ⟨m, em, _⟩ := Option.map_eq_some_iff.mp e
          obtain ⟨h1, h2⟩ := hup k k' h q2
          obtain ⟨h3, h4⟩ := stp_had hup f k' a m em h1
          exact ⟨h3, Nat.le_trans h4 h2⟩
/-- THE ONE ABOVE IS NO HIGHER -/
theorem hgt_up (P : PgO ab ins) : ∀ {τ : Ty}, wfT τ → ∀ c c', cHd ins τ c → ab[c]? = some (some c') → cHd ins τ c' ∧ hgt ins τ c' ≤ hgt ins τ c
  | .leaf, _, _, _, h, _ => h.elim
  | .inner k w u l r, hw, c, c', h, ha => by
    refine ⟨up_1 P hw c c' h ha, ?_⟩
    obtain ⟨k1, i, d, i1, i2, hc⟩ := h
    obtain ⟨d0, d1, d2⟩ := ixF_some i1
    have ed : d0 = d := Option.some.inj (d1.symm.trans i2)
    rw [ed] at d2
    have d2' : d.1 = c ∧ d.2.1 = w := by simpa using d2
    have dm := List.mem_of_getElem? i2
    obtain ⟨D, hD⟩ := P.2.2.2.2.2.2 d dm c' (by rw [d2'.1]; exact ha)
    have eD : avD ab ins i = some D := by
      unfold avD
      rw [i2, Option.bind_some, d2'.1, ha, Option.bind_some, Option.bind_some]
      exact hD
    obtain ⟨i', d', cs, e1, e2, _, _, _, e6⟩ := avD_cs P i2 (by rw [d2'.1]; exact ha) eD
    rw [d2'.2] at e1
    rw [hgt_in (k := k) (u := u) (l := l) (r := r) e1 e2]
    have key : (d'.2.2.2.1.map (fun p => if p.2 = 0 then hgt ins l p.1 else hgt ins r p.1)).foldl max 0 ≤ hgt ins (.inner k w u l r) c - 1 := by
      refine foldl_le _ _ _ (Nat.zero_le _) (fun x hx => ?_)
      obtain ⟨p, hp, ex⟩ := List.mem_map.mp hx
      obtain ⟨j, n, cd, w', _, _, _, c1, c2, c3, _⟩ := e6 p hp
      have cm := List.mem_of_getElem? c1
      have lt := hgt_lt (k := k) (u := u) (l := l) (r := r) i1 i2 cm
      rw [c2] at lt
      rw [← ex]
      show (if p.2 = 0 then hgt ins l p.1 else hgt ins r p.1) ≤ _
      by_cases q : p.2 = 0
      · rw [if_pos q] at lt ⊢
        have := (stp_had (fun a a' => hgt_up P hw.2.1 a a') 9 cd.1 p.1 n c3 ((hc cd cm).1 (by omega))).2
        omega
      · rw [if_neg q] at lt ⊢
        have := (stp_had (fun a a' => hgt_up P hw.2.2 a a') 9 cd.1 p.1 n c3 ((hc cd cm).2 (by omega))).2
        omega
    have pos : 1 ≤ hgt ins (.inner k w u l r) c := by rw [hgt_in (k := k) (u := u) (l := l) (r := r) i1 i2]; omega
    omega
theorem stp_le : ∀ (f k a n : Nat), stpA ab f k a = some n → n < f
  | 0, _, _, _, e => by cases e
  | f + 1, k, a, n, e => by
    unfold stpA at e
    split at e
    · rw [← Option.some.inj e]; omega
    · cases q2 : ab[k]? with
      | none => rw [q2] at e; cases e
      | some o =>
        cases o with
        | none => rw [q2] at e; cases e
        | some k' =>
          rw [q2] at e
          obtain ⟨m, em, e2⟩ := Option.map_eq_some_iff.mp e
          have := stp_le f k' a m em
          omega
end LHG
