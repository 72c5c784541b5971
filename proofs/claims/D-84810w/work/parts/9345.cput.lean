set_option maxRecDepth 100000
/-! THE COMPONENT puts things for names -/
/-- what is to be put -/
def PutC (h : om_H) (N : List (List Int)) (cl : Nat → Nat) (U : Nat → Prop) (Ln l3 l4 : Nat) (θ : List (Nat × Ty)) : Prop := WNs h N Ln (θ.map Prod.fst) ∧ ((l4 ≠ 0 ∧ ∃ p : Ty, p ≠ .leaf ∧ tyC h N cl U p l4 ∧ ∀ (k : Nat) (q : Nat × Ty), θ[k]? = some q → (k = 0 ∧ q.2 = tL p) ∨ (k = 1 ∧ q.2 = tR' p)) ∨ (l4 = 0 ∧ (l3 < hz h ∧ kd h l3 = 42) ∧ ∀ (k : Nat) (q : Nat × Ty), θ[k]? = some q → ∃ y, (ll h l3)[k]? = some y ∧ tyC h N cl U q.2 y))
section LCP
variable {G : om_G} {Sl : Nat → Prop} {N : List (List Int)} {cl : Nat → Nat} {tb l0 Ln l3 l4 : Nat} {rest : List (Nat × List Nat)} {θ : List (Nat × Ty)}
theorem PutC_next {h h' : om_H} {us fs us' fs' : List Nat} {q : Nat} (T : TB G h N cl tb us fs rest) (C : CS (fun _ => False) N cl tb rest h us fs h' us' fs' q 0 0) (n1 : Ln ≠ fR h 122 tb) (n3 : l3 ≠ fR h 122 tb) (P : PutC h N cl (UU us rest) Ln l3 l4 θ) : PutC h' N cl (UU us' rest) Ln l3 l4 θ := by
  have X : hS (fun a => (a = Ln ∨ a = l3) ∧ kd h a = 42) h h' := hS_CS T C (fun z => z.1.elim (fun e => n1 e.symm) (fun e => n3 e.symm)) (fun a z => z.2)
  obtain ⟨p1, p2⟩ := P
  refine ⟨WNs_hS X ⟨.inl rfl, p1.1.2⟩ p1, ?_⟩
  rcases p2 with ⟨a1, p, a2, a3, a4⟩ | ⟨a1, ⟨a2, a2'⟩, a3⟩
  · exact .inl ⟨a1, p, a2, C.2.2.2.2.2.1 p l4 a3, a4⟩
  · refine .inr ⟨a1, ⟨Nat.lt_of_lt_of_le a2 X.1, by rw [X.2.1 l3 a2]; exact a2'⟩, fun k q e => ?_⟩
    obtain ⟨y, y1, y2⟩ := a3 k q e
    exact ⟨y, by rw [X.2.2.2.2 l3 a2 ⟨.inr rfl, a2'⟩]; exact y1, C.2.2.2.2.2.1 _ y y2⟩
theorem tyC_34 {h : om_H} {U : Nat → Prop} {T : Ty} {x : Nat} (c : tyC h N cl U T x) (hT : T ≠ .leaf) : kd h x = 34 ∧ x ≠ 0 ∧ x < hz h ∧ U x := by
  rcases T with ⟨k, w, u, l, r⟩ | _
  · exact ⟨c.2.1, c.1.2.1, c.1.2.2, c.1.1⟩
  · exact absurd rfl hT
/-- THINGS ARE PUT -/
theorem c_put0 (nd : ndN N) (hθ : wfS θ) : ∀ {T : Ty} {f : Nat} {h : om_H} {us fs : List Nat} {x : Nat}, TB G h N cl tb us fs rest → (kd h l0 = 9 ∧ l0 < hz h ∧ fR h 214 l0 = tb) → (Ln ≠ fR h 122 tb ∧ l3 ≠ fR h 122 tb) → PutC h N cl (UU us rest) Ln l3 l4 θ → tyC h N cl (UU us rest) T x → T ≠ .leaf → wfT T → tdp T ≤ f → tl us fs + nnT T ≤ 149000 → ∃ (x' : Nat) (h' : om_H) (us' fs' : List Nat), C_8_put0D G f l0 x Ln l3 l4 h = some (x', h') ∧ TB G h' N cl tb us' fs' rest ∧ CS (fun _ => False) N cl tb rest h us fs h' us' fs' (nnT T) 0 0 ∧ tyC h' N cl (UU us' rest) (sbT θ T) x' ∧ ((∃ y, tyC h N cl (UU us rest) (sbT θ T) y) → h' = h ∧ us' = us ∧ fs' = fs)
  | .leaf, _, _, _, _, _, _, _, _, _, _, hT, _, _, _ => absurd rfl hT
  | .inner k w u l r, 0, _, _, _, _, _, _, _, _, _, _, _, hf, _ => by
    have hf' : 1 + max (tdp l) (tdp r) ≤ 0 := hf
    omega
  | .inner k w u l r, f + 1, h, us, fs, x, T, F, nl, P, c, hT, wf, hf, hn => by
    have hf' : 1 + max (tdp l) (tdp r) ≤ f + 1 := hf
    obtain ⟨c0, c1, c2, c3, c4, c5, c6⟩ := id c
    show ∃ (x' : Nat) (h' : om_H) (us' fs' : List Nat), C_8_put0B G (C_8_put0D G f) l0 x Ln l3 l4 h = some (x', h') ∧ _
    unfold C_8_put0B
    rw [gd_pos c1, c2]
    by_cases k0 : k = 0
    · rw [if_neg (by omega)]
      have eT : sbT θ (.inner k w u l r) = (lkT θ w).getD (.inner k w u l r) := by
        show (if k = 0 then _ else _) = _
        rw [if_pos k0]
      rw [eT]
      obtain ⟨⟨pw1, pw2⟩, pl, pm, pn⟩ := P.1
      -- the type's word
      have wx : wN h N w (fR h 1574 x) := by
        rcases c3 with ⟨d1, d2, d3, d4, d5, L, d6, d7⟩ | d | d | d
        · exact ⟨d5, L, d6, d7⟩
        · omega
        · omega
        · omega
      have sz : P_J2_size G Ln h = some (((θ.map Prod.fst).length : Nat) : Int) := by
        unfold P_J2_size
        rw [gd_pos pw2, pl]
      have get : ∀ (i v : Nat), (θ.map Prod.fst)[i]? = some v → ∃ a, P_J2_get G Ln (i : Int) h = some a ∧ wN h N v a := fun i v e => by
        have il := (List.getElem?_eq_some_iff.mp e).1
        have ea : (ll h Ln)[i]? = some (ll h Ln)[i] := List.getElem?_eq_getElem (by omega)
        refine ⟨_, ?_, pn i _ v ea e⟩
        unfold P_J2_get
        rw [gd_pos ⟨pw2, by omega⟩, show ((i : Int)).toNat = i by omega, ea]
      have stp : ∀ (i v : Nat), (θ.map Prod.fst)[i]? = some v → C_8_put0_10s G (C_8_put0D G f) x Ln l3 l4 h (i : Int) = if v = w then some (.inr (.inl (i : Int))) else some (.inl (w32 ((i : Int) + 1))) := fun i v e => by
        have il := (List.getElem?_eq_some_iff.mp e).1
        obtain ⟨a, a1, a2⟩ := get i v e
        have k17 : kd h a = 17 := by obtain ⟨_, L, _, b⟩ := a2; exact b.1
        unfold C_8_put0_10s
        rw [gd_pos pw2, sz, Option.bind_some, if_neg (by omega), gd_pos pw2, a1, Option.bind_some, gd_pos ⟨.inr k17, c1, k17⟩, c_isN nd a2 wx, Option.bind_some]
        by_cases q : v = w
        · rw [if_pos q, if_pos q, if_neg (by decide)]
        · rw [if_neg q, if_neg q, if_pos rfl]
      have key := lp_find (β := Unit) (step := C_8_put0_10s G (C_8_put0D G f) x Ln l3 l4 h) (p := fun v => v == w) (l0 := θ.map Prod.fst) pm (fun i v e hp => by rw [stp i v e, if_pos (by simpa using hp)]) (fun i v e hp => by rw [stp i v e, if_neg (by simpa using hp)]) (by
        unfold C_8_put0_10s
        rw [gd_pos pw2, sz, Option.bind_some, if_pos (Int.le_refl _)]) (θ.map Prod.fst) 0 rfl (Nat.zero_le _)
      have k0' : om_loop (C_8_put0_10s G (C_8_put0D G f) x Ln l3 l4 h) 0 = _ := key
      rw [k0', lk_ix]
      cases qx : ixF (fun v => v == w) (θ.map Prod.fst) with
      | none =>
        refine ⟨x, h, us, fs, rfl, T, CS_refl, c, fun _ => ⟨rfl, rfl, rfl⟩⟩
      | some j =>
        have jl := ixF_lt qx
        rw [List.length_map] at jl
        have ej : θ[j]? = some θ[j] := List.getElem?_eq_getElem jl
        show ∃ (x' : Nat) (h' : om_H) (us' fs' : List Nat), (if l4 ≠ 0 then gd (kd h l4 = 34) ((C_34_part G l4 ((0 + j : Nat) : Int) h).bind fun p4 => some (p4, h)) else gd (kd h l3 = 42) ((P_J2_get G l3 ((0 + j : Nat) : Int) h).bind fun p5 => gd (p5 = 0 ∨ kd h p5 = 34) (some (p5, h)))) = some (x', h') ∧ _
        have hv : ((Option.some j).bind (fun j => (θ[j]?).map Prod.snd)).getD (.inner k w u l r) = θ[j].2 := by
          show ((θ[j]?).map Prod.snd).getD _ = _
          rw [ej]; rfl
        rw [hv, Nat.zero_add]
        have hnl : θ[j].2 ≠ .leaf := (hθ _ (List.mem_of_getElem? ej)).2
        rcases P.2 with ⟨a1, p, a2, a3, a4⟩ | ⟨a1, ⟨a2, a2'⟩, a3⟩
        · rw [if_pos a1]
          obtain ⟨k34, _⟩ := tyC_34 a3 a2
          rw [gd_pos k34]
          rcases p with ⟨kp, wp, up, lp, rp⟩ | _
          rotate_left
          · exact absurd rfl a2
          rcases a4 j _ ej with ⟨z1, z2⟩ | ⟨z1, z2⟩
          · have e4 : C_34_part G l4 (j : Int) h = some (fR h 1582 l4) := by
              unfold C_34_part
              rw [if_neg (by omega), gd_pos k34]
            rw [e4]
            exact ⟨_, h, us, fs, rfl, T, CS_refl, by rw [z2]; exact a3.2.2.2.2.1, fun _ => ⟨rfl, rfl, rfl⟩⟩
          · have e4 : C_34_part G l4 (j : Int) h = some (fR h 1586 l4) := by
              unfold C_34_part
              rw [if_pos (by omega), gd_pos k34]
            rw [e4]
            exact ⟨_, h, us, fs, rfl, T, CS_refl, by rw [z2]; exact a3.2.2.2.2.2.1, fun _ => ⟨rfl, rfl, rfl⟩⟩
        · rw [if_neg (fun z => z a1), gd_pos a2']
          obtain ⟨y, y1, y2⟩ := a3 j _ ej
          have e5 : P_J2_get G l3 (j : Int) h = some y := by
            unfold P_J2_get
            rw [gd_pos ⟨a2', by omega⟩, show ((j : Int)).toNat = j by omega, y1]
          rw [e5, Option.bind_some, gd_pos (.inr (tyC_34 y2 hnl).1)]
          exact ⟨y, h, us, fs, rfl, T, CS_refl, y2, fun _ => ⟨rfl, rfl, rfl⟩⟩
    · rw [if_pos (by omega), gd_pos c1]
      have eT : sbT θ (.inner k w u l r) = .inner k w u (sbT θ l) (sbT θ r) := by
        show (if k = 0 then _ else _) = _
        rw [if_neg k0]
      rw [eT]
      have en : nnT (.inner k w u l r) = 1 + nnT l + nnT r := by
        show (if k = 0 then _ else _) = _
        rw [if_neg k0]
      rw [en] at hn ⊢
      by_cases hl : l = .leaf
      · have hr : r = .leaf := by
          have := wf.1
          unfold shT at this
          rcases this with s | s | s | s
          · exact s.2.2
          · have := s.2.2.1.mp hl
            exact s.2.2.2.mpr (by omega)
          · exact absurd hl s.2.1
          · exact absurd hl s.2.2.1
        subst hl hr
        rw [if_neg (fun z => z (show fR h 1582 x = 0 from c4))]
        exact ⟨x, h, us, fs, rfl, T, CS_refl, c, fun _ => ⟨rfl, rfl, rfl⟩⟩
      · have la : fR h 1582 x ≠ 0 := fun z => hl ((tyC_0 c4).mp z)
        rw [if_pos la, gd_pos ⟨c1, F.1⟩]
        obtain ⟨x1, h1, us1, fs1, a1, a2, a3, a4, a5⟩ := c_put0 nd hθ (f := f) T F nl P c4 hl wf.2.1 (by omega) (by omega)
        rw [a1, Option.bind_some]
        simp only
        have cx1 := a3.2.2.2.2.2.1 _ _ c
        obtain ⟨b0, b1, b2, b3, b4, b5, b6⟩ := id cx1
        have ex : eqA x h h1 := a3.1.2.2.2 x c0.2.2 (fun z => z.elim (fun z => DT_U T x c0.1 z) id)
        have nF : ¬ (DT h tb fs l0 ∨ False) := fun z => z.elim (fun z => by have := DT_kd T z; have := F.1; omega) id
        have ef : eqA l0 h h1 := a3.1.2.2.2 l0 F.2.1 nF
        have F1 : kd h1 l0 = 9 ∧ l0 < hz h1 ∧ fR h1 214 l0 = tb := ⟨by rw [ef.1]; exact F.1, Nat.lt_of_lt_of_le F.2.1 a3.1.1, by rw [ef.2.2.1]; exact F.2.2⟩
        have e122 := a3.2.2.2.2.1.2 122
        have P1 := PutC_next T a3 nl.1 nl.2 P
        have l1 := a3.2.2.2.1
        rw [gd_pos b1]
        -- the end
        have fin : ∀ (x2 : Nat) (h2 : om_H) (us2 fs2 : List Nat), TB G h2 N cl tb us2 fs2 rest → CS (fun _ => False) N cl tb rest h1 us1 fs1 h2 us2 fs2 (nnT r) 0 0 → tyC h2 N cl (UU us2 rest) (sbT θ r) x2 → ((∃ y, tyC h1 N cl (UU us1 rest) (sbT θ r) y) → h2 = h1 ∧ us2 = us1 ∧ fs2 = fs1) → ∃ (x' : Nat) (h' : om_H) (us' fs' : List Nat), C_8_put0_117 G (C_8_put0D G f) l0 x x1 x2 h2 = some (x', h') ∧ TB G h' N cl tb us' fs' rest ∧ CS (fun _ => False) N cl tb rest h us fs h' us' fs' (1 + nnT l + nnT r) 0 0 ∧ tyC h' N cl (UU us' rest) (.inner k w u (sbT θ l) (sbT θ r)) x' ∧ ((∃ y, tyC h N cl (UU us rest) (.inner k w u (sbT θ l) (sbT θ r)) y) → h' = h ∧ us' = us ∧ fs' = fs) := fun x2 h2 us2 fs2 g2 g3 g4 g5 => by
          have C12 := CS_trans a3 g3 (fun _ _ z => z)
          have cx2 := C12.2.2.2.2.2.1 _ _ c
          obtain ⟨d0, d1, d2, d3, d4, d5, d6⟩ := id cx2
          have lC2 := g3.2.2.2.2.2.1 _ _ a4
          have l2 := C12.2.2.2.1
          have ef2 : eqA l0 h1 h2 := g3.1.2.2.2 l0 F1.2.1 (fun z => z.elim (fun z => by have := DT_kd a2 z; have := F1.1; omega) id)
          have F2 : kd h2 l0 = 9 ∧ fR h2 214 l0 = tb := ⟨by rw [ef2.1]; exact F1.1, by rw [ef2.2.2.1]; exact F1.2.2⟩
          have t3 := (TB_3 g2).1
          have back : (∃ y, tyC h N cl (UU us rest) (.inner k w u (sbT θ l) (sbT θ r)) y) → h2 = h ∧ us2 = us ∧ fs2 = fs := fun ⟨y, hy⟩ => by
            obtain ⟨z1, z2, z3⟩ := a5 ⟨_, hy.2.2.2.2.1⟩
            obtain ⟨z4, z5, z6⟩ := g5 ⟨_, by rw [z1, z2]; exact hy.2.2.2.2.2.1⟩
            exact ⟨z4.trans z1, z5.trans z2, z6.trans z3⟩
          have new : ∃ (x' : Nat) (h' : om_H) (us' fs' : List Nat), C_8_put0_141 G (C_8_put0D G f) l0 x x1 x2 h2 = some (x', h') ∧ TB G h' N cl tb us' fs' rest ∧ CS (fun _ => False) N cl tb rest h us fs h' us' fs' (1 + nnT l + nnT r) 0 0 ∧ tyC h' N cl (UU us' rest) (.inner k w u (sbT θ l) (sbT θ r)) x' ∧ ((∃ y, tyC h N cl (UU us rest) (.inner k w u (sbT θ l) (sbT θ r)) y) → h' = h ∧ us' = us ∧ fs' = fs) := by
            obtain ⟨x', h', us', fs', j1, j2, j3, j4, j5⟩ := c_getS g2 nd d3 lC2 g4 (by omega)
            refine ⟨x', h', us', fs', ?_, j2, CS_le (CS_trans C12 j3 (fun _ _ z => z)) (by omega) (by omega) (by omega), j4, fun hy => ?_⟩
            · unfold C_8_put0_141 C_2_like
              rw [F2.2, gd_pos ⟨F2.1, t3⟩, gd_pos ⟨d1, t3⟩, d2, j1]
              rfl
            · obtain ⟨z1, z2, z3⟩ := back hy
              obtain ⟨y, hy'⟩ := hy
              obtain ⟨z4, z5, z6⟩ := j5 ⟨y, by rw [z1, z2]; exact hy'⟩
              exact ⟨z4.trans z1, z5.trans z2, z6.trans z3⟩
          unfold C_8_put0_117
          rw [gd_pos d1]
          by_cases q1 : x1 = fR h2 1582 x
          · rw [if_neg (fun z => z q1), gd_pos d1]
            by_cases q2 : x2 = fR h2 1586 x
            · rw [if_neg (fun z => z q2)]
              have e1 : sbT θ l = l := tyC_fun nd lC2 (by rw [q1]; exact d4)
              have e2 : sbT θ r = r := tyC_fun nd g4 (by rw [q2]; exact d5)
              exact ⟨x, h2, us2, fs2, rfl, g2, CS_le C12 (by omega) (by omega) (by omega), by rw [e1, e2]; exact cx2, back⟩
            · rw [if_pos q2]; exact new
          · rw [if_pos q1]; exact new
        by_cases hr : r = .leaf
        · have r0 : fR h1 1586 x = 0 := (tyC_0 b5).mpr hr
          rw [r0, if_neg (fun z => z rfl)]
          subst hr
          exact fin 0 h1 us1 fs1 a2 CS_refl rfl (fun _ => ⟨rfl, rfl, rfl⟩)
        · have ra : fR h1 1586 x ≠ 0 := fun z => hr ((tyC_0 b5).mp z)
          rw [if_pos ra, gd_pos ⟨b1, F1.1⟩]
          obtain ⟨x2, h2, us2, fs2, g1, g2, g3, g4, g5⟩ := c_put0 nd hθ (f := f) a2 F1 (by rw [e122]; exact nl) P1 b5 hr wf.2.2 (by omega) (by omega)
          rw [g1, Option.bind_some]
          exact fin x2 h2 us2 fs2 g2 g3 g4 g5
end LCP
