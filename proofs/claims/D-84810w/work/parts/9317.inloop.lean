set_option maxRecDepth 100000
/-! RESOLVE: all insts -/
/-- insts that are known -/
def inT (G : om_G) (A : Nat) (S : List Int) (b : Nat) (N : List (List Int)) (cs : List Nat) (K : KT) (rest : List (Nat × List Nat)) (fo : List Nat) (F : FT) (mo : List (List Nat)) (Ms : List FT) (hr h : om_H) (ul : List Nat) (τ : tS) (n Z : Nat) : List dcl → List PD → List (Nat × Nat × Nat × Nat) → Nat → PS → Prop
  | q :: qs, p :: ps, r :: rs, d, s => (p.1 = 6 → s.2.2.2.2.2 < 20 → ∃ (j1 jc jn c0 c1 : Nat) (ns : List Nat), (FI Prod.fst (tokw S jc) K = some c0 ∧ ga τ 694 s.2.2.2.2.2 = (c0 : Int)) ∧ (cnI (tokw S jn) = some c1 ∧ ga τ 698 s.2.2.2.2.2 = (c1 : Int)) ∧ chain τ (ga τ 602 d) ns ∧ (∃ y0 y1, wrow A S hr y0 y1 j1 (ll hr (fR hr 162 (fR hr 1286 q.2.1))) ∧ ((List.range' j1 (ll hr (fR hr 162 (fR hr 1286 q.2.1))).length).map (tokw S)).Nodup) ∧ InK G A S b N cs K rest fo F mo Ms h ul τ n q.2.1 s.2.2.2.2.2 d Z r.1 r.2.1 r.2.2.1 r.2.2.2 jc jn ((List.range' j1 (ll hr (fR hr 162 (fR hr 1286 q.2.1))).length).map (tokw S)) (ll hr (fR hr 166 (fR hr 1286 q.2.1))) (ll hr (fR hr 1326 q.2.1)) ns) ∧ inT G A S b N cs K rest fo F mo Ms hr h ul τ n Z qs ps rs (d + 1) (pst S s p)
  | _, _, _, _, _ => True
section LIL
variable {G : om_G} {A : Nat} {S : List Int} {b m : Nat} {N : List (List Int)} {cs : List Nat} {K : KT} {pr Ln : Nat} {Ls : List (List Int)} {sc : List Nat} {tb : Nat} {rest : List (Nat × List Nat)} {fo : List Nat} {F : FT} {mo : List (List Nat)} {Ms : List FT}
variable {h h' h2 hr : om_H} {ul fl ul' fl' : List Nat} {σ τ υ σr : tS} {n n' q z u lo hi alo ahi a0 amid a c w k : Nat} {B B2 : List Int} {X : Int} {L : List Int} {s : PS} {p : PD}
/-- what lies in an inst's range -/
theorem insR_gv {f d j0 : Nat} {nb : Int} (W : insR G A S b hr σr lo hi a0 amid f d j0 nb) : (a0 ≤ f ∧ f < amid) ∧ (∀ x ∈ ll hr (fR hr 166 (fR hr 1286 f)), (a0 ≤ x ∧ x < amid) ∧ (a0 ≤ fR hr 1338 x ∧ fR hr 1338 x < amid) ∧ (a0 ≤ fR hr 1342 x ∧ fR hr 1342 x < amid)) ∧ (fR hr 1310 f ≠ 0 → a0 ≤ fR hr 1298 f ∧ fR hr 1298 f < amid) ∧ ∀ x ∈ ll hr (fR hr 1326 f), a0 ≤ x ∧ x < amid := by
  obtain ⟨so, Lsa, Lg, Lh, Ll, cn, con, fam, fw, j1, jc, jn, m1, m2, g0, g1, g2, am, first, xs, os, ws, lsA, ns, dv, dv', b1, b2, b3, b4, b5, b6, b7, b8, b9, r⟩ := W
  obtain ⟨⟨o1, o2, o3, o4, o5, o6, o7, o8, o9, o10⟩, _⟩ := b2
  obtain ⟨⟨s1, s2, s3⟩, _, ⟨s4, s5⟩, s6, s7, s8⟩ := b1
  have gi := grows_in s6
  have li := lrows_in b7.2.2.1
  refine ⟨by omega, fun x hx => ?_, fun z => ?_, fun x hx => ?_⟩
  · rw [o4, s3, s5] at hx
    have := gi.2.2.2.1 x hx
    have := grows_wd s6 x hx
    omega
  · rw [o8] at z
    rw [o7]
    rcases b6 with e | ⟨jf, kk, p, x1, x2, w1, w2, w3, w4⟩
    · exact absurd e.2.1 z
    · omega
  · rw [o10, b7.2.1] at hx
    have := li.2.2.2.1 x hx
    omega
theorem InK_keep {f ii d z1 z2 jc jn : Nat} {gv lsA ns : List Nat} (H : InK G A S b N cs K rest fo F mo Ms h ul τ n f ii d z1 lo hi a0 amid jc jn Ls gv lsA ns) (hz2 : z2 ≤ z1) (E : ∀ y, a0 ≤ y → y < amid → eqA y h h') (rf : a0 ≤ f ∧ f < amid) (hg : ∀ x ∈ gv, (a0 ≤ x ∧ x < amid) ∧ (a0 ≤ fR h 1338 x ∧ fR h 1338 x < amid) ∧ (a0 ≤ fR h 1342 x ∧ fR h 1342 x < amid)) (hfa : fR h 1310 f ≠ 0 → a0 ≤ fR h 1298 f ∧ fR h 1298 f < amid) (hl : ∀ x ∈ lsA, a0 ≤ x ∧ x < amid) (L1 : nall lo hi τ υ) (n5 : ∀ o, ga υ 546 o = ga τ 546 o) (n14 : ga υ 614 d = ga τ 614 d) (nb : bp υ = 2147483647 → bp τ = 2147483647) (ty : ∀ T y, tyC h N (clF cs) (UU ul rest) T y → tyC h' N (clF cs) (UU ul' rest) T y) (X : tx τ n υ n') (zz : hz h ≤ hz h') (kl : ∀ y, z2 ≤ y → y < hz h → kd h y = 42 → kd h' y = 42 ∧ ll h' y = ll h y) (t1 : ∀ g ∈ [702, 710, 722], ga υ g ii = ga τ g ii) (t2 : ∀ i, i < 2 → ga υ 706 (2 * ii + i) = ga τ 706 (2 * ii + i)) (t3 : ∀ g ∈ [714, 718], ∀ i, i < 4 → ga υ g (4 * ii + i) = ga τ g (4 * ii + i)) : InK G A S b N cs K rest fo F mo Ms h' ul' υ n' f ii d z2 lo hi a0 amid jc jn Ls gv lsA ns := by
  obtain ⟨sc, c0, c1, ⟨g1, g1'⟩, ⟨g2, g2', g2''⟩, g3, ⟨g4, g4'⟩, ⟨g5, g5', g5''⟩, ⟨g6, g6'⟩, g7, g8⟩ := H
  have ef := E f rf.1 rf.2
  refine ⟨sc, c0, c1, ⟨g1, by rw [ef.2.2.1]; exact g1'⟩, ⟨g2, g2', by rw [ef.2.1]; exact g2''⟩, g3, ⟨by rw [t1 702 (by simp)]; exact g4, fun i w hi e => by rw [t2 i hi]; exact g4' i w hi e⟩, ⟨by rw [t1 710 (by simp)]; exact g5, g5', fun i x e => ?_⟩, ⟨fun z => ?_, fun z => ?_⟩, by rw [ef.2.2.1]; exact ty _ _ g7, fun i x e => ?_⟩
  · have il := (List.getElem?_eq_some_iff.mp e).1
    obtain ⟨y1, y2, y3⟩ := hg x (List.mem_of_getElem? e)
    refine CdK_keep (g5'' i x e) (E x y1.1 y1.2) (fun w hw => ?_) (fun g hg' => t3 g hg' i (by omega))
    have hw2 : w = fR h 1338 x ∨ w = fR h 1342 x := by simpa using hw
    rcases hw2 with e' | e'
    · rw [e']; exact E _ y2.1 y2.2
    · rw [e']; exact E _ y3.1 y3.2
  · rw [ef.2.2.1] at z
    rw [t1 722 (by simp)]
    exact g6 z
  · rw [ef.2.2.1] at z
    obtain ⟨⟨jf, w1, w2⟩, T, T1, T2, T3, p, m1, m2, x1, x2, T4, ⟨T5, T6, T7, T8⟩, T9, T10⟩ := g6' z
    have fr' := hfa z
    refine ⟨⟨jf, by rw [ef.2.2.1]; exact wd_eqA (E _ fr'.1 fr'.2) w1, w2⟩, T, T1, by rw [ef.2.2.1]; exact ty T _ T2, by rw [t1 722 (by simp)]; exact tyT_mono X T3, p, m1, m2, x1, x2, by rw [n14]; exact T4, ⟨T5, T6, T7, T8⟩, by rw [ef.2.2.1]; exact WR_keep T9 (fun y y1 y2 => by have e := E y (by omega) (by omega); exact ⟨e.1, e.2.1, e.2.2.1, e.2.2.2.2.2.2.1, e.2.2.2.2.2.2.2⟩) (nall_nk L1 T5 T6), RdT_imp (fun w q e => q (nb e)) (RdT_eq (fun g hg' i i1 i2 => L1 g (by simp only [List.mem_cons, List.not_mem_nil, or_false] at hg' ⊢; omega) i (by omega) (by omega)) T10)⟩
  · obtain ⟨lo', hi', al, ah, p, z0, o, ⟨w1, w2, w3, w4, w5, w5'⟩, w6, w7, w8⟩ := g8 i x e
    have xr := hl x (List.mem_of_getElem? e)
    refine ⟨lo', hi', al, ah, p, z0, o, ⟨w1, w2, w3, w4, by omega, w5'⟩, w6, by rw [n5]; exact w7, ?_⟩
    rw [(E x xr.1 xr.2).2.2.1]
    exact XS_eq w8 (fun y y1 y2 => E y (by omega) (by omega)) (fun g hg' i i1 i2 => L1 g hg' i (by omega) (by omega)) ty X zz (fun y y1 => kl y (by omega))
theorem st_174 {f : Nat} {li : List Nat} (kp : kd h pr = 2) (kl : kd h (fR h 86 pr) = 42) (el : ll h (fR h 86 pr) = li) (ec : li[k]? = some f) (kf : kd h f = 21) (hl : li.length ≤ 1300) : C_1_resolve_174s G pr ((k : Int), h) = (C_1_resolveInstance G pr f (k : Int) h).bind fun p3 => some (.inl (((k + 1 : Nat) : Int), p3)) := by
  have il := (List.getElem?_eq_some_iff.mp ec).1
  have ew : w32 ((k : Int) + 1) = ((k + 1 : Nat) : Int) := by rw [w32_s (by omega) (by omega)]; rfl
  have eg : P_J2_get G (fR h 86 pr) (k : Int) h = some f := by
    unfold P_J2_get
    rw [gd_pos ⟨kl, by omega⟩, el, show ((k : Int)).toNat = k by omega, ec]
  have es : P_J2_size G (fR h 86 pr) h = some ((li.length : Nat) : Int) := by unfold P_J2_size; rw [gd_pos kl, el]
  unfold C_1_resolve_174s
  simp only
  rw [gd_pos ⟨kp, kl⟩, es, Option.bind_some, if_neg (by omega), gd_pos ⟨kp, kl⟩, eg, Option.bind_some, gd_pos ⟨.inr kf, kp⟩, ew]
theorem en_174 {li : List Nat} (kp : kd h pr = 2) (kl : kd h (fR h 86 pr) = 42) (el : ll h (fR h 86 pr) = li) (ec : li.length = k) : C_1_resolve_174s G pr ((k : Int), h) = some (.inr h) := by
  have es : P_J2_size G (fR h 86 pr) h = some ((li.length : Nat) : Int) := by unfold P_J2_size; rw [gd_pos kl, el]
  unfold C_1_resolve_174s
  simp only
  rw [gd_pos ⟨kp, kl⟩, es, Option.bind_some, if_pos (by omega)]
end LIL
