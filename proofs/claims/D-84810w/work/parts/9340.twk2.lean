set_option maxRecDepth 100000
/-! THE TWIN works out a type: going on, and all of it -/
section LTX
variable {c : Nat} {ab : List (Option Nat)} {ins : List INs} {gv : List GVs} {B : Nat}
theorem hdP_wf {d : INs} {k w : Nat} {u : Unit} {l r : Ty} (hl : d.2.2.1.length = pN w) (k1 : k = 1) (h : wfT (.inner k w u l r)) : wfS (hdP d (.inner k w u l r)) := by
  have sh := h.1
  unfold shT at sh
  have sh' : w ≤ 3 ∧ (l = .leaf ↔ w < 2) ∧ (r = .leaf ↔ w ≠ 3) := by
    rcases sh with s | s | s | s
    · omega
    · exact s.2
    · omega
    · omega
  unfold pN at hl
  unfold hdP
  show wfS (d.2.2.1.zip [l, r])
  rcases e : d.2.2.1 with _ | ⟨x, _ | ⟨y, _ | ⟨z, ns⟩⟩⟩
  · exact fun p hp => absurd hp List.not_mem_nil
  · rw [e] at hl
    intro p hp
    have hp' : p = (x, l) := by simpa using hp
    rw [hp']
    refine ⟨h.2.1, fun z => ?_⟩
    have := sh'.2.1.mp z
    rw [if_neg (by omega)] at hl
    simp at hl
  · rw [e] at hl
    have w3 : w = 3 := by
      split at hl
      · simp at hl; omega
      · simp at hl
    intro p hp
    have hp' : p = (x, l) ∨ p = (y, r) := by simpa using hp
    rcases hp' with hp | hp
    · rw [hp]
      exact ⟨h.2.1, fun z => by have := sh'.2.1.mp z; omega⟩
    · rw [hp]
      exact ⟨h.2.2, fun z => sh'.2.2.mp z w3⟩
  · rw [e] at hl
    simp only [List.length_cons] at hl
    split at hl <;> omega
theorem hdP_ok {d : INs} {k w : Nat} {u : Unit} {l r : Ty} (h : okF ins (.inner k w u l r)) : ∀ p ∈ hdP d (.inner k w u l r), okF ins p.2 := fun p hp => by
  have := List.of_mem_zip (show (p.1, p.2) ∈ d.2.2.1.zip [l, r] from hp)
  have hp' : p.2 = l ∨ p.2 = r := by simpa using this.2
  rcases hp' with e | e <;> rw [e]
  · exact h.2.1
  · exact h.2.2
/-- WHAT A FAMILY GOES TO -/
theorem t_goesTo {σ : tS} {n : Nat} (hI : insF ins B) (hG : gvF' ins gv) (S : TyS σ n) (P : PGT σ n ab ins) (V : GVT σ n gv) {f : Nat} {u : Unit} {p r' : Ty} {o : Int} {b : Nat} (c0 : tyT σ n p o) (wp : wfT p) (ok : okF ins (.inner 2 f u p r')) (eb : gby ins gv (.inner 2 f u p r') = some b) (hn : n + B ≤ 126000) : ∃ t' τ n', T_goesTo (b : Int) o σ = some (t', τ) ∧ fr [532, 836] OFA σ τ ∧ TyS τ n' ∧ tx σ n τ n' ∧ tyT τ n' (gto ins gv b p) t' ∧ gto ins gv b p ≠ .leaf ∧ okF ins (gto ins gv b p) ∧ n' ≤ n + tsz (gto ins gv b p) ∧ n' ≤ n + B ∧ ((∃ t0, tyT σ n (gto ins gv b p) t0) → n' = n ∧ ∀ f ∈ TYA, ∀ i, ga τ f i = ga σ f i) := by
  rcases p with ⟨k', w, u', l, r⟩ | _
  · have eb' : (if k' = 1 then iOf ins f w else if k' = 0 then (gFm gv f w).map (fun g => 100 + g) else none) = some b := eb
    by_cases k1 : k' = 1
    · rw [if_pos k1] at eb'
      obtain ⟨d, i1, i2⟩ := ixF_some eb'
      have lt := (List.getElem?_eq_some_iff.mp i1).1
      have i2' : d.1 = f ∧ d.2.1 = w := by simpa using i2
      have l20 := P.2.2.1
      obtain ⟨_, ⟨_, c2⟩, ⟨_, c3, _⟩, _, c5⟩ := P.2.2.2 b d i1
      obtain ⟨j1, j2, j3, j4⟩ := hI d (List.mem_of_getElem? i1)
      obtain ⟨τ0, h1, h2, h3⟩ := t_putHead P i1 (p := .inner k' w u' l r) (fun z => by cases z) c0 (by have := S.1.2.1; exact this)
      have S0 : TyS τ0 n := TyS_same (h2.1 532 (by decide)) (fun g hg i => h2.2 g (fun z => by simp only [List.mem_cons, List.not_mem_nil, or_false] at z hg; omega) i) S
      have X0 : tx σ n τ0 n := tx_same (fun g hg i => h2.2 g (fun z => by simp only [List.mem_cons, List.not_mem_nil, or_false] at z hg; omega) i)
      have c5' : tyT τ0 n d.2.2.2.2 (ga τ0 722 b) := by rw [h2.2 722 (by decide)]; exact tyT_mono X0 c5
      have hθ := hdP_wf (d := d) (by rw [c3, i2'.2]) k1 wp
      obtain ⟨t', τ, n', g1, g2, g3, g4, g5, g6, g7, g8, _⟩ := t_put hθ (f := 60) S0 h3 c5' j3 (by omega)
      have eg : gto ins gv b (.inner k' w u' l r) = sbT (hdP d (.inner k' w u' l r)) d.2.2.2.2 := by
        unfold gto
        rw [if_pos (by omega), i1]
        rfl
      rw [eg]
      have nl : d.2.2.2.2 ≠ .leaf := (ok.1 rfl).2 d (List.mem_of_getElem? i1) i2'.1
      refine ⟨t', τ, n', ?_, fr_trans (fr_wide h2 (by decide) (by decide)) (fr_wide g4 (by decide) (by decide)), g2, tx_trans X0 g3, g5, fun z => nl ((sbT_leaf hθ).mp z), okF_sb (hdP_ok ok.2.1) j1, g6, by omega, fun ⟨t0, z⟩ => ?_⟩
      · unfold T_goesTo
        rw [if_pos (by omega), h1, Option.bind_some, if_pos (by omega), show ((b : Int)).toNat = b by omega]
        have g1' : T_put (ga τ0 722 b) τ0 = some (t', τ) := g1
        rw [g1']
        rfl
      · obtain ⟨z1, z2⟩ := g8 ⟨t0, tyT_mono X0 z⟩
        rw [z1]
        exact ⟨z2, fun g hg i => h2.2 g (fun z => by simp only [List.mem_cons, List.not_mem_nil, or_false] at z hg; omega) i⟩
    · rw [if_neg k1] at eb'
      by_cases k0 : k' = 0
      · rw [if_pos k0] at eb'
        cases q : gFm gv f w with
        | none => rw [q] at eb'; cases eb'
        | some g =>
          rw [q] at eb'
          have e1 : 100 + g = b := Option.some.inj eb'
          obtain ⟨y, y1, y2⟩ := ixF_some q
          have y2' : y.1 = 100 + f ∧ y.2.1 = w := by simpa using y2
          have lt := (List.getElem?_eq_some_iff.mp y1).1
          have l4 := V.2.1
          have v := (V.2.2 g y y1).2.2.1
          obtain ⟨j1, j2, _, _⟩ := hG y (List.mem_of_getElem? y1) (by omega)
          have eg : gto ins gv b (.inner k' w u' l r) = y.2.2 := by
            unfold gto
            rw [if_neg (by omega), show b - 100 = g by omega, y1]
            rfl
          rw [eg]
          refine ⟨ga σ 806 g, σ, n, ?_, fr_refl _ _ _, S, tx_refl _ _, v, j1, j2, by omega, by omega, fun _ => ⟨rfl, fun _ _ _ => rfl⟩⟩
          unfold T_goesTo
          rw [if_neg (by omega), show w32 ((b : Int) - 100) = (g : Int) by rw [w32_s (by omega) (by omega)]; omega, if_pos (by omega), show ((g : Int)).toNat = g by omega]
      · rw [if_neg k0] at eb'; cases eb'
  · cases eb
/-- behind what is too much -/
theorem t_over {fu : Nat} {l1 : Int} {σ : tS} {n : Nat} {T : Ty} {t : Int} (S : TyS σ n) (hT : T ≠ .leaf) (c0 : tyT σ n T t) (h : gs σ 823 = 1) : om_loop (T_out_52s (T_outD (fu + 1)) l1) (t, 1, σ) = some (.inl (t, σ)) := by
  rcases T with ⟨k, w, u, l, r⟩ | _
  rotate_left
  · exact absurd rfl hT
  obtain ⟨m, c1, c2, c3, c4, c5, c6⟩ := id c0
  have n126 := S.1.2.1
  have gm : 0 ≤ t ∧ t < 126000 := by omega
  have tm : t.toNat = m := by omega
  have id1 : us σ 823 1 = σ := by
    refine tS_ext (fun f => ?_) (fun _ _ => rfl)
    rw [gs_us]
    split
    · rename_i e; rw [e, h]
    · rfl
  have w0 : ∀ {X : Ty} {x : Int}, tyT σ n X x → ∃ y, T_outD (fu + 1) x σ = some (y, σ) := fun {X x} cx => by
    have ex : ∃ y, T_within x σ = some (y, σ) := by
      by_cases hX : X = .leaf
      · rw [hX] at cx
        refine ⟨x, ?_⟩
        unfold T_within
        rw [if_pos (show x = -1 from cx)]
      · have := t_within S hX cx
        split at this
        · exact ⟨x, this⟩
        · rw [id1] at this; exact ⟨x, this⟩
    obtain ⟨y, hy⟩ := ex
    refine ⟨y, ?_⟩
    show T_outB (T_outD fu) x σ = _
    unfold T_outB T_out_16
    rw [h, if_pos (by decide), hy]
    rfl
  have po : T_partsOut (T_outD (fu + 1)) t σ = some (t, σ) := by
    have e24 : ∀ x, T_partsOut_24 (T_outD (fu + 1)) t x σ = some (t, σ) := fun x => by
      unfold T_partsOut_24 T_partsOut_56
      rw [h, if_pos (by decide), if_neg (by decide)]
    unfold T_partsOut
    rw [if_pos gm]
    split
    · rw [tm]
      obtain ⟨y, hy⟩ := w0 c5
      rw [hy, Option.bind_some]
      exact e24 y
    · exact e24 (-1)
  have e74 : T_out_74 (T_outD (fu + 1)) l1 t σ = some (.inr (.inl (t, σ))) := by
    unfold T_out_74 T_out_112 T_out_125 T_out_134
    rw [h, if_pos (by decide), if_pos rfl, if_pos rfl, if_neg (by decide)]
  refine om_loop_out ?_
  unfold T_out_52s
  simp only
  rw [if_neg (by decide), if_pos gm]
  split
  · exact e74
  · rw [po, Option.bind_some]
    exact e74
/-- whether a family goes -/
theorem t_74 {σ : tS} {n : Nat} (S : TyS σ n) (P : PGT σ n ab ins) (V : GVT σ n gv) (h : gs σ 823 = 0) {r : Int → tS → Option (Int × tS)} {l1 t : Int} {v : Ty} (hv : v ≠ .leaf) (ok : okF ins v) (c0 : tyT σ n v t) : T_out_74 r l1 t σ = T_out_112 r l1 t (oI (gby ins gv v)) σ := by
  have wf := tyT_wf S c0
  rcases v with ⟨k, w, u, l, rr⟩ | _
  rotate_left
  · exact absurd rfl hv
  obtain ⟨m, c1, c2, c3, c4, c5, c6⟩ := id c0
  have n126 := S.1.2.1
  have gm : 0 ≤ t ∧ t < 126000 := by omega
  have tm : t.toNat = m := by omega
  unfold T_out_74
  rw [h, if_neg (fun z => z rfl), if_pos gm, tm, c3]
  by_cases k2 : k = 2
  · subst k2
    have hl : l ≠ .leaf := by
      have := wf.1
      unfold shT at this
      rcases this with s | s | s | s
      · omega
      · omega
      · exact s.2.1
      · omega
    rw [if_neg (by decide), if_pos gm, c4, t_goesBy (u := u) (r := rr) P V (ok.1 rfl).1 hl n126 c5, Option.bind_some]
  · rw [if_pos (by omega)]
    have : gby ins gv (.inner k w u l rr) = none := by
      rcases l with ⟨k', w', u', l', r'⟩ | _
      · show (if k = 2 then _ else none) = _
        rw [if_neg k2]
      · rfl
    rw [this]
    rfl
end LTX
