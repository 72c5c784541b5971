set_option maxRecDepth 100000
/-! THE COMPONENT: asked, put -/
/-- what is counted in an asking is counted in all -/
theorem hd_cnt {ab : List (Option Nat)} {ins : List INs} {gv : List GVs} : ∀ {f : Nat} {s s' : WS} {c : Nat} {T : Ty} {b : Bool}, hd ab ins gv f s c T = some (some (b, s')) → s'.2.1 + s.1 = s.2.1 + s'.1
  | 0, _, _, _, _, _, e => by cases e
  | f + 1, s, s', c, T, b, e => by
    unfold hd at e
    cases q1 : wk 2 ins gv 130 false 0 s T with
    | none => rw [q1] at e; cases e
    | some a =>
    rw [q1, Option.bind_some] at e
    cases a with
    | none => cases e
    | some p =>
    obtain ⟨u, s1⟩ := p
    obtain ⟨D, d, x1, _⟩ := wk_st q1
    have w1 : s1.2.1 + s.1 = s.2.1 + s1.1 := by rw [x1.1]; show s.2.1 + d + s.1 = s.2.1 + (s.1 + d); omega
    have lst : ∀ (u : Ty) (l : List (Nat × Nat)) (s s' : WS) (b : Bool), hdL (hd ab ins gv f) u l s = some (some (b, s')) → s'.2.1 + s.1 = s.2.1 + s'.1 := fun u l => by
      induction l with
      | nil =>
        intro s s' b e
        injection Option.some.inj (Option.some.inj e) with e1 e2
        rw [← e2]
      | cons p l ih =>
        intro s s' b e
        unfold hdL at e
        cases q2 : hd ab ins gv f s p.1 (if p.2 = 0 then tL u else tR' u) with
        | none => rw [q2] at e; cases e
        | some a =>
        rw [q2, Option.bind_some] at e
        cases a with
        | none => cases e
        | some pb =>
        obtain ⟨b1, s2⟩ := pb
        have h1 := hd_cnt q2
        simp only at e
        by_cases hb : b1 = true
        · rw [if_pos hb] at e
          have h2 := ih s2 s' b e
          omega
        · rw [if_neg hb] at e
          injection Option.some.inj (Option.some.inj e) with e1 e2
          rw [← e2]; exact h1
    have fin : ∀ b0 : Bool, (some (some (b0, s1)) : Option (Option (Bool × WS))) = some (some (b, s')) → s'.2.1 + s.1 = s.2.1 + s'.1 := fun b0 e => by
      injection Option.some.inj (Option.some.inj e) with e1 e2
      rw [← e2]; exact w1
    cases u with
    | leaf => exact fin _ e
    | inner k w x l t =>
      simp only at e
      by_cases k0 : k = 0
      · rw [if_pos k0] at e; exact fin _ e
      · rw [if_neg k0] at e
        by_cases k1 : k = 1
        · rw [if_pos k1] at e
          cases qi : iOf ins c w with
          | none => rw [qi] at e; exact fin _ e
          | some i =>
            rw [qi] at e
            simp only at e
            split at e
            · cases e
            · cases qd : ins[i]? with
              | none => rw [qd] at e; cases e
              | some dd =>
                rw [qd] at e
                have h3 := lst _ _ _ _ _ e
                have h3' : s'.2.1 + (s1.1 + 1) = s1.2.1 + 1 + s'.1 := h3
                omega
        · rw [if_neg k1] at e; exact fin _ e
theorem one_cnt {ins : List INs} {gv : List GVs} {s s' : WS} {T U : Ty} {b : Bool} (e : oneP ins gv s T U = some (some (b, s'))) : s'.2.1 + s.1 = s.2.1 + s'.1 := by
  unfold oneP at e
  split at e
  · injection Option.some.inj (Option.some.inj e) with e1 e2
    rw [← e2]
  · cases q1 : wk 2 ins gv 130 false 0 s T with
    | none => rw [q1] at e; cases e
    | some a =>
    rw [q1, Option.bind_some] at e
    cases a with
    | none => cases e
    | some p =>
    obtain ⟨u, s1⟩ := p
    obtain ⟨D, d, x1, _⟩ := wk_st q1
    simp only at e
    cases q2 : wk 2 ins gv 130 false 0 s1 U with
    | none => rw [q2] at e; cases e
    | some a =>
    rw [q2, Option.bind_some] at e
    cases a with
    | none => cases e
    | some p =>
    obtain ⟨v, s2⟩ := p
    obtain ⟨D2, d2, x2, _⟩ := wk_st q2
    injection Option.some.inj (Option.some.inj e) with e1 e2
    rw [← e2, x2.1, x1.1]
    show s.2.1 + d + d2 + s.1 = s.2.1 + (s.1 + d + d2)
    omega
/-- a finder between askings, with its dictionaries -/
def HvQ (G : om_G) (h : om_H) (N : List (List Int)) (cl : Nat → Nat) (tb l0 sc : Nat) (us fs : List Nat) (rest : List (Nat × List Nat)) (Sl Gx : Nat → Prop) (io : Nat → Nat) (ab : List (Option Nat)) (ins : List INs) (gv : List GVs) (Dk : Nat → Prop) (ds : List Nat) (dm tot : Nat) : Prop := FnQ G h N cl tb l0 sc us fs rest Sl io ab ins gv tot ∧ PoolC G h tb Sl Dk ds dm ∧ RwC h cl ab sc gv Dk ds ∧ ∀ x ∈ ll h (fR h 166 sc), Gx x
section LCA
variable {G : om_G} {N : List (List Int)} {cl : Nat → Nat} {tb l0 sc : Nat} {rest : List (Nat × List Nat)} {Sl Gx : Nat → Prop} {io : Nat → Nat} {ab : List (Option Nat)} {ins : List INs} {gv : List GVs} {B tot : Nat} {h h' : om_H} {us fs us' fs' : List Nat} {Dk : Nat → Prop} {ds : List Nat} {dm q z u : Nat}
theorem HvQ_C {s : WS} (H : HvC G h N cl tb l0 sc us fs rest Sl Gx io ab ins gv Dk ds dm s) : HvQ G h N cl tb l0 sc us fs rest Sl Gx io ab ins gv Dk ds dm s.2.1 := ⟨FnQ_C H.1, H.2⟩
/-- a step that is none of dictionaries -/
theorem HvQ_KF (H : HvQ G h N cl tb l0 sc us fs rest Sl Gx io ab ins gv Dk ds dm tot) (K : KF N cl tb l0 rest h us fs h' us' fs' q z u) (T' : TB G h' N cl tb us' fs' rest) : KH N cl tb l0 sc rest Sl Gx h us fs Dk ds dm h' us' fs' Dk ds dm q z u ∧ PoolC G h' tb Sl Dk ds dm ∧ ∀ tot', FnQ G h' N cl tb l0 sc us' fs' rest Sl io ab ins gv tot' → HvQ G h' N cl tb l0 sc us' fs' rest Sl Gx io ab ins gv Dk ds dm tot' := by
  obtain ⟨F, P, R, Hg⟩ := H
  obtain ⟨T, ⟨⟨f1, f2, f3⟩, f4⟩, ⟨g1, g2, g3, hcl⟩, PG, V, _⟩ := id F
  have KG1 := KG_KF T f1 P g2 (fun a ha => (g3 a ha).2) K
  have e22 : ∀ y, y < hz h → kd h y = 22 ∨ kd h y = 57 ∨ kd h y = 21 → eqA y h h' := fun y hy k => KF_kd T f1 K hy (by omega)
  obtain ⟨R', rs⟩ := RwC_keep P V R KG1.1 (fun _ => Dlv_n KG1.2.1) KG1.2.2.1 (fun x hx => ⟨(e22 x (GVC_22 V hx).1 (.inl (GVC_22 V hx).2)).2.2.1 1358, fun n => by
    have w := (R.2.2.1 x hx).resolve_left n
    exact KF_kd T f1 K w.1 (by omega)⟩)
  have nlm : nlN h ds ≤ nlN h' ds := by
    have := nl_mono (h := h) (h1 := h') (ds := ds) (e := []) (fun d hd => by
      have w := (P.2.2.2.2.2.1 d (P.2.2.2.2.1 d hd)).1
      have e := KF_kd T f1 K w.2.1 (by omega)
      rw [e.2.2.1, e.2.2.1]; exact ⟨id, id⟩)
    rw [List.append_nil] at this; exact this
  refine ⟨⟨⟨z, u, KG1, by omega, by omega⟩, ⟨rwK_eq e22, fun y hy k => k.elim (fun k => KF_kd T f1 K hy (by unfold dyK at k; omega)) (fun k => KF_Sl T f1 K hy (g3 y k).2 (fun e => g2 (e ▸ k)))⟩, by omega⟩, PoolC_KF T f1 K P, fun tot' F' => ⟨F', PoolC_KF T f1 K P, R', fun x hx => ?_⟩⟩
  obtain ⟨es, el⟩ := GVC_ll V KG1.1
  rw [es, el] at hx
  exact Hg x hx
/-- a finder's own step that only makes types -/
theorem FnQ_next (F : FnQ G h N cl tb l0 sc us fs rest Sl io ab ins gv tot) (K : KF N cl tb l0 rest h us fs h' us' fs' q z u) (T' : TB G h' N cl tb us' fs' rest) {tot' : Nat} (e : fI h' 128 tb = (tot' : Int)) : FnQ G h' N cl tb l0 sc us' fs' rest Sl io ab ins gv tot' := by
  obtain ⟨T, ⟨⟨f1, f2, f3⟩, f4⟩, ⟨g1, g2, g3, hcl⟩, P, V, k1, k2⟩ := F
  have X : hS Sl h h' := hS_KF T f1 K g2 (fun a ha => (g3 a ha).2)
  have eR := K.2.2.2.2.2.1.2
  have eI := K.2.2.2.2.2.1.1
  have e122 := K.2.2.2.2.1.2 122
  refine ⟨T', ⟨⟨by rw [X.2.1 _ f2]; exact f1, Nat.lt_of_lt_of_le f2 X.1, by rw [eR]; exact f3⟩, by rw [eR]; exact f4⟩, ⟨by rw [e122]; exact g1, by rw [e122]; exact g2, fun a ha => ⟨Nat.lt_of_lt_of_le (g3 a ha).1 X.1, by rw [X.2.1 _ (g3 a ha).1]; exact (g3 a ha).2⟩, fun c => Nat.lt_of_lt_of_le (hcl c) X.1⟩, PGC_hS X K.2.2.2.2.2.2.1 P (fun c hc => ?_), GVC_hS X K.2.2.2.2.2.2.1 V, by rw [eI 227 (by decide) (by decide)]; exact k1, e⟩
  obtain ⟨a1, a2, a3, a4⟩ := hc
  have k18 : kd h (cl c) = 18 := by rw [← X.2.1 _ (hcl c)]; exact a3
  exact ⟨a1, hcl c, k18, by rw [← (X.2.2.1 _ (hcl c) (by rw [k18]; decide)).1 1200 (by decide)]; exact a4⟩
/-- A CLASS FOR A TYPE, asked -/
theorem c_asked (nd : ndN N) (h8 : ab.length ≤ 8) (hC : insK ins) (hI20 : ins.length ≤ 20) (hN : ∀ d ∈ ins, d.2.2.1.length = pN d.2.1) (hB : B ≤ 2700) (hI : insF ins B) (hG : gvF' ins gv) (hGN : gvN gv) {c x : Nat} {T : Ty} {ts : List Ty} {zz : Option (Bool × WS)} (pl : Int) (e : hd ab ins gv 70 (0, tot, ts) c T = some zz) (H : HvQ G h N cl tb l0 sc us fs rest Sl Gx io ab ins gv Dk ds dm tot) (hc : clO h cl c) (cx : tyC h N cl (UU us rest) T x) (hT : T ≠ .leaf) (wf : wfT T) (ok : okF ins T) (hz : tsz T ≤ 1000000) (h300 : tot ≤ 300) (R1 : tl us fs + 81 * 60 + B ≤ 149000) (R2 : ds.length ≤ 49000) (R3 : dm + 301 ≤ 49000) : ∃ (v : Nat ⊕ Nat) (h' : om_H) (us' fs' : List Nat) (Dk' : Nat → Prop) (ds' : List Nat) (dm' : Nat), C_8_asked G l0 (cl c) x pl h = some (v, h') ∧ (zz = none → ∃ a, v = .inl a ∧ HdF G N cl tb l0 sc rest Sl Gx h us fs Dk ds dm pl a h' us' fs' Dk' ds' dm' (81 * 60 + B) 301) ∧ ∀ b s', zz = some (b, s') → (HvQ G h' N cl tb l0 sc us' fs' rest Sl Gx io ab ins gv Dk' ds' dm' s'.2.1 ∧ (tot ≤ s'.2.1 ∧ s'.2.1 ≤ 300) ∧ KH N cl tb l0 sc rest Sl Gx h us fs Dk ds dm h' us' fs' Dk' ds' dm' (80 * (s'.2.1 - tot)) 0 0 ∧ dm' ≤ dm + 5 * (s'.2.1 - tot) + 1 ∧ ∃ D, s'.2.2 = ts ++ D ∧ ∀ X ∈ D, ∃ y, tyC h' N cl (UU us' rest) X y) ∧ (b = false → v = .inr 0) ∧ (b = true → ∃ D x', dcT ab ins gv 70 c T = some D ∧ v = .inr x' ∧ DcX h' N cl (UU us' rest) (Dl3 Dk' ds' dm dm') io ab gv D [x']) := by
  obtain ⟨F, P, R, Hg⟩ := id H
  obtain ⟨h1, b1, K1, F1⟩ := c_begin8 F ts
  obtain ⟨KH1, P1, HQ⟩ := HvQ_KF H K1 F1.1
  have H1 : HvC G h1 N cl tb l0 sc us fs rest Sl Gx io ab ins gv Dk ds dm (0, tot, ts) := ⟨F1, (HQ tot (FnQ_C F1)).2⟩
  obtain ⟨z1, u1, KG1, _⟩ := KH1.1
  obtain ⟨v, h2, us2, fs2, Dk2, ds2, dm2, r1, r2, r3⟩ := c_had (G := G) (cl := cl) (tb := tb) (l0 := l0) (sc := sc) (rest := rest) (Sl := Sl) (Gx := Gx) (io := io) nd h8 hC hI20 hN hB hI hG hGN 70 (0, tot, ts) c T zz h1 us fs Dk ds dm x pl e H1 (clO_hS KG1.1 hc) (K1.2.2.2.2.2.2.1 _ _ cx) hT wf ok hz (Nat.zero_le _) h300 R1 R2 R3
  have r1' : C_8_had G l0 (cl c) x pl h1 = some (v, h2) := r1
  have k9 := FnC_kd F1
  refine ⟨v, h2, us2, fs2, Dk2, ds2, dm2, ?_, fun q => ?_, fun b s' q => ?_⟩
  · unfold C_8_asked
    rw [gd_pos F.2.1.1.1, b1, Option.bind_some, gd_pos k9.1, r1']
    cases v <;> rfl
  · obtain ⟨a, ea, t1, t2, t3, t4, t5⟩ := r2 q
    exact ⟨a, ea, t1, t2, t3, KH_le (KH_trans KH1 t4) (by show 0 + (81 * (60 - 0) + B) ≤ _; omega) (Nat.le_refl _) (Nat.le_refl _), t5⟩
  · obtain ⟨⟨t1, t2, t3, t4, t5⟩, t6, t7⟩ := r3 b s' q
    rw [q] at e
    have sd : s'.2.1 + 0 = tot + s'.1 := hd_cnt e
    have e1 : s'.2.1 - tot = s'.1 - 0 := by omega
    refine ⟨⟨HvQ_C t1, ⟨by omega, t2.2.2⟩, ?_, ?_, t5⟩, t6, t7⟩
    · rw [e1]; exact KH_le (KH_trans KH1 t3) (by show 0 + 80 * (s'.1 - 0) ≤ _; omega) (Nat.le_refl _) (Nat.le_refl _)
    · rw [e1]; exact t4
/-- THINGS PUT, and not too big -/
theorem c_put8 (nd : ndN N) {θ : List (Nat × Ty)} (hθ : wfS θ) {Ln l3 x : Nat} {T : Ty} (pl : Int) (F : FnQ G h N cl tb l0 sc us fs rest Sl io ab ins gv tot) (nl : Ln ≠ fR h 122 tb ∧ l3 ≠ fR h 122 tb) (P : PutC h N cl (UU us rest) Ln l3 0 θ) (cx : tyC h N cl (UU us rest) T x) (hT : T ≠ .leaf) (wf : wfT T) (hd : tdp T ≤ 70) (R : tl us fs + nnT T ≤ 149000) : ∃ (v : Nat ⊕ Nat) (h' : om_H) (us' fs' : List Nat), C_8_put G l0 x Ln l3 pl h = some (v, h') ∧ (tszW (sbT θ T) ≤ 60 → ∃ y, v = .inr y ∧ tyC h' N cl (UU us' rest) (sbT θ T) y ∧ FnQ G h' N cl tb l0 sc us' fs' rest Sl io ab ins gv tot ∧ KF N cl tb l0 rest h us fs h' us' fs' (nnT T) 0 0 ∧ ((∃ y, tyC h N cl (UU us rest) (sbT θ T) y) → KF N cl tb l0 rest h us fs h' us' fs' 0 0 0)) ∧ (¬ tszW (sbT θ T) ≤ 60 → ∃ a, v = .inl a ∧ TB G h' N cl tb us' fs' rest ∧ flt h' a 7 pl ∧ KF N cl tb l0 rest h us fs h' us' fs' (nnT T) 1 8) := by
  obtain ⟨T0, ⟨⟨f1, f2, f3⟩, f4⟩, _⟩ := id F
  obtain ⟨x', h1, us1, fs1, a1, a2, a3, a4, a5⟩ := c_put0 (l0 := l0) nd hθ (f := 70) T0 ⟨f1, f2, f3⟩ nl P cx hT wf hd R
  have a1' : C_8_put0 G l0 x Ln l3 0 h = some (x', h1) := a1
  have K1 := KF_CS (l0 := l0) T0 ⟨f1, f2⟩ a3
  have e128 : fI h1 128 tb = (tot : Int) := by rw [a3.2.2.2.2.1.1 128 (by decide)]; exact F.2.2.2.2.2.2
  have F1 := FnQ_next F K1 a2 e128
  have hs : sbT θ T ≠ .leaf := fun w => hT ((sbT_leaf hθ).mp w)
  obtain ⟨c1, c2⟩ := c_fit (G := G) nd a2 ⟨F1.2.1.1.1, F1.2.1.1.2.1⟩ a4 hs pl
  unfold C_8_put
  rw [gd_pos f1, a1', Option.bind_some]
  by_cases s60 : tszW (sbT θ T) ≤ 60
  · simp only
    rw [c1 s60]
    exact ⟨.inr x', h1, us1, fs1, rfl, fun _ => ⟨x', rfl, a4, F1, K1, fun w => by obtain ⟨w1, w2, w3⟩ := a5 w; rw [w1, w2, w3]; exact KF_refl⟩, fun z => absurd s60 z⟩
  · obtain ⟨a, h2, d1, d2, d3, d4⟩ := c2 s60
    simp only
    rw [d1]
    exact ⟨.inl a, h2, us1, fs1, rfl, fun z => absurd z s60, fun _ => ⟨a, rfl, d3, d2, KF_le (KF_trans K1 d4) (Nat.le_refl _) (by omega) (by omega)⟩⟩
end LCA
