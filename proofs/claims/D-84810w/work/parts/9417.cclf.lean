set_option maxRecDepth 100000
/-! THE COMPONENT's judge: reasons; a class for a name; what a name stands for -/
/-- functions and methods -/
def JCE (N : List (List Int)) (cl : Nat → Nat) (fo mo : Nat → Nat) (E : JE) (h : om_H) (U Sl : Nat → Prop) : Prop := (∀ (i : Nat) (f : List Nat × List GVs × Ty), E.1[i]? = some f → (fo i ≠ 0 ∧ fo i < hz h ∧ kd h (fo i) = 33) ∧ (Sl (fR h 162 (fR h 1542 (fo i))) ∧ WNs h N (fR h 162 (fR h 1542 (fo i))) f.1) ∧ GVC h N cl U Sl (fR h 1542 (fo i)) f.2.1 ∧ tyC h N cl U f.2.2 (fR h 1550 (fo i))) ∧ ∀ (i : Nat) (m : Nat × Nat × Ty), E.2.1[i]? = some (some m) → (mo i ≠ 0 ∧ mo i < hz h ∧ kd h (mo i) = 19) ∧ (fR h 1250 (mo i) = cl m.1 ∧ clO h cl m.1) ∧ (Sl (fR h 1234 (cl m.1)) ∧ WNs h N (fR h 1234 (cl m.1)) [m.2.1]) ∧ tyC h N cl U m.2.2 (fR h 1262 (mo i))
section LCF
variable {G : om_G} {N : List (List Int)} {cl : Nat → Nat} {tb l0 sc jg Lb : Nat} {rest : List (Nat × List Nat)} {Sl Gx U U' : Nat → Prop} {io fo mo : Nat → Nat} {E : JE} {B lo : Nat} {Γ : List Ty} {tot q z u alo ahi : Nat} {h : om_H} {us fs : List Nat} {Dk : Nat → Prop} {ds : List Nat} {dm : Nat} {h1 : om_H} {us1 fs1 : List Nat} {Dk1 : Nat → Prop} {ds1 : List Nat} {dm1 : Nat}
theorem JCE_keep {g' : Prop} (X : hSg g' Sl h h1) (kp : ∀ T a, tyC h N cl U T a → tyC h1 N cl U' T a) (H : JCE N cl fo mo E h U Sl) : JCE N cl fo mo E h1 U' Sl := by
  refine ⟨fun i f e => ?_, fun i m e => ?_⟩
  · obtain ⟨⟨a1, a2, a3⟩, ⟨a4, a5⟩, a6, a7⟩ := H.1 i f e
    have s := X.2.2.1 _ a2 (by rw [a3]; decide)
    have s5 := X.2.2.1 _ a6.1.1 (by rw [a6.1.2]; decide)
    rw [s.2 1542 (by decide), s.2 1550 (by decide), s5.2 162 (by decide)]
    exact ⟨⟨a1, Nat.lt_of_lt_of_le a2 X.1, by rw [X.2.1 _ a2]; exact a3⟩, ⟨a4, WNs_hS X a4 a5⟩, GVC_hS X kp a6, kp _ _ a7⟩
  · obtain ⟨⟨a1, a2, a3⟩, ⟨a4, a5⟩, ⟨a6, a7⟩, a8⟩ := H.2 i m e
    have s := X.2.2.1 _ a2 (by rw [a3]; decide)
    have s5 := X.2.2.1 _ a5.2.1 (by rw [a5.2.2.1]; decide)
    rw [s.2 1250 (by decide), s.2 1262 (by decide), s5.2 1234 (by decide)]
    exact ⟨⟨a1, Nat.lt_of_lt_of_le a2 X.1, by rw [X.2.1 _ a2]; exact a3⟩, ⟨a4, clO_hS X a5⟩, ⟨a6, WNs_hS X a6 a7⟩, kp _ _ a8⟩
theorem PutC_keep {Ln Lt : Nat} {θ : List (Nat × Ty)} (X : hS Sl h h1) (kp : ∀ T a, tyC h N cl U T a → tyC h1 N cl U' T a) (s1 : Sl Ln) (s2 : Sl Lt) (P : PutC h N cl U Ln Lt 0 θ) : PutC h1 N cl U' Ln Lt 0 θ := by
  obtain ⟨p1, p2⟩ := P
  refine ⟨WNs_hS X s1 p1, .inr ⟨rfl, ?_⟩⟩
  rcases p2 with p2 | ⟨_, ⟨p3, p4⟩, p5⟩
  · exact absurd rfl p2.1
  · refine ⟨⟨Nat.lt_of_lt_of_le p3 X.1, by rw [X.2.1 _ p3]; exact p4⟩, fun k q e => ?_⟩
    obtain ⟨y, y1, y2⟩ := p5 k q e
    exact ⟨y, by rw [X.2.2.2.2 _ p3 s2]; exact y1, kp _ _ y2⟩
/-- what a name stands for -/
theorem c_typeFor (nd : ndN N) {θ : List (Nat × Ty)} {sc' Lt w wo : Nat} (P : PutC h N cl U (fR h 162 sc') Lt 0 θ) (k5 : kd h sc' = 5) (A : wN h N w wo) {T : Ty} (e : lkT θ w = some T) (hT : T ≠ .leaf) : ∃ y, C_0_typeFor G sc' Lt wo h = some y ∧ tyC h N cl U T y := by
  obtain ⟨⟨⟨pw1, pw2⟩, pl, pm, pn⟩, p2⟩ := P
  have sz : P_J2_size G (fR h 162 sc') h = some (((θ.map Prod.fst).length : Nat) : Int) := by
    unfold P_J2_size
    rw [gd_pos pw2, pl]
  have get : ∀ (i v : Nat), (θ.map Prod.fst)[i]? = some v → ∃ a, P_J2_get G (fR h 162 sc') (i : Int) h = some a ∧ wN h N v a := fun i v e => by
    have il := (List.getElem?_eq_some_iff.mp e).1
    have ea : (ll h (fR h 162 sc'))[i]? = some (ll h (fR h 162 sc'))[i] := List.getElem?_eq_getElem (by omega)
    refine ⟨_, ?_, pn i _ v ea e⟩
    unfold P_J2_get
    rw [gd_pos ⟨pw2, by omega⟩, show ((i : Int)).toNat = i by omega, ea]
  have stp : ∀ (i v : Nat), (θ.map Prod.fst)[i]? = some v → C_0_typeFor_2s G sc' Lt wo h (i : Int) = if v = w then some (.inr (.inl (i : Int))) else some (.inl (w32 ((i : Int) + 1))) := fun i v e => by
    have il := (List.getElem?_eq_some_iff.mp e).1
    obtain ⟨a, a1, a2⟩ := get i v e
    have k17 : kd h a = 17 := by obtain ⟨_, L, _, b⟩ := a2; exact b.1
    unfold C_0_typeFor_2s
    rw [gd_pos ⟨k5, pw2⟩, sz, Option.bind_some, if_neg (by omega), gd_pos ⟨k5, pw2⟩, a1, Option.bind_some, gd_pos ⟨.inr k17, k17⟩, c_isN nd a2 A, Option.bind_some]
    by_cases q : v = w
    · rw [if_pos q, if_pos q, if_neg (by decide)]
    · rw [if_neg q, if_neg q, if_pos rfl]
  have key := lp_find (β := Unit) (step := C_0_typeFor_2s G sc' Lt wo h) (p := fun v => v == w) (l0 := θ.map Prod.fst) pm (fun i v e hp => by rw [stp i v e, if_pos (by simpa using hp)]) (fun i v e hp => by rw [stp i v e, if_neg (by simpa using hp)]) (by
    unfold C_0_typeFor_2s
    rw [gd_pos ⟨k5, pw2⟩, sz, Option.bind_some, if_pos (Int.le_refl _)]) (θ.map Prod.fst) 0 rfl (Nat.zero_le _)
  have k0' : om_loop (C_0_typeFor_2s G sc' Lt wo h) 0 = _ := key
  unfold C_0_typeFor
  rw [lk_ix] at e
  rw [k0']
  cases qx : ixF (fun v => v == w) (θ.map Prod.fst) with
  | none => rw [qx] at e; cases e
  | some j =>
    rw [qx, Option.bind_some] at e
    obtain ⟨p, ep, e2⟩ := Option.map_eq_some_iff.mp e
    rcases p2 with p2 | ⟨_, ⟨p3, p4⟩, p5⟩
    · exact absurd rfl p2.1
    · obtain ⟨y, y1, y2⟩ := p5 j p ep
      rw [e2] at y2
      refine ⟨y, ?_, y2⟩
      have g : P_J2_get G Lt (j : Int) h = some y := by
        unfold P_J2_get
        rw [gd_pos ⟨p4, by omega⟩, show ((j : Int)).toNat = j by omega, y1]
      show (gd (kd h Lt = 42) ((P_J2_get G Lt (((0 + j : Nat)) : Int) h).bind fun p2 => gd (p2 = 0 ∨ kd h p2 = 34) (some p2)) : Option Nat) = _
      rw [gd_pos p4, show ((0 + j : Nat) : Int) = (j : Int) by omega, g, Option.bind_some, gd_pos (.inr (tyC_34 y2 hT).1)]
/-- a reason is made -/
theorem JQ_evid (nd : ndN N) (H : JQ G N cl tb l0 sc rest Gx io E jg Lb h us fs Dk ds dm Sl Γ tot) (d x y : Nat) : ∃ h1, C_38_init G (hz h) d x y (nO h 38 3) = some h1 ∧ kd (nO h 38 3) (hz h) = 38 ∧ JQ G N cl tb l0 sc rest Gx io E jg Lb h1 us fs Dk ds dm Sl Γ tot ∧ KJ N cl tb l0 sc rest Gx Lb Sl alo ahi h us fs Dk ds dm h1 us fs Dk ds dm 0 1 3 ∧ (hz h1 = hz h + 1 ∧ kd h1 (hz h) = 38 ∧ fR h1 1658 (hz h) = d ∧ fR h1 1662 (hz h) = x ∧ fR h1 1666 (hz h) = y) ∧ ∀ a, a < hz h → eqA a h h1 := by
  have k2 : kd (nO h 38 3) (hz h) = 38 := by rw [kd_nO, if_pos rfl]
  have all : ∀ a, a < hz h → eqA a h (sR (sR (sR (nO h 38 3) 1658 (hz h) d) 1662 (hz h) x) 1666 (hz h) y) := fun a ha => by
    refine ⟨?_, fun f => ?_, fun f => ?_, rfl, fun i => rfl, fun i => rfl, rfl, rfl⟩
    · show kd (nO h 38 3) a = _
      rw [kd_nO, if_neg (by omega)]
    · show fI (nO h 38 3) f a = _
      rw [fI_nO, if_neg (by omega)]
    · rw [fR_na (by omega), fR_na (by omega), fR_na (by omega), fR_nO, if_neg (by omega)]
  have X : hT (fun _ => False) h (sR (sR (sR (nO h 38 3) 1658 (hz h) d) 1662 (hz h) x) 1666 (hz h) y) := ⟨by show hz h ≤ hz h + 1; omega, by show hu h ≤ hu h + 3; omega, fun a ha => (all a ha).1, fun a ha _ => all a ha⟩
  obtain ⟨w1, w2⟩ := JQ_w (z := 1) (u := 3) (alo := alo) (ahi := ahi) nd H X (fun _ w => w.elim) (fun _ w => w.elim) id id (fun _ w => w.elim) ⟨by show hz h + 1 ≤ _; omega, by show hu h + 3 ≤ _; omega⟩
  refine ⟨_, ?_, k2, w1, w2, ⟨rfl, k2, ?_, ?_, fR_eq⟩, all⟩
  · unfold C_38_init
    rw [gd_pos k2]
  · rw [fR_ne (by decide), fR_ne (by decide), fR_eq]
  · rw [fR_ne (by decide), fR_eq]
theorem noW_eq {Lr : Nat} (H : JQ G N cl tb l0 sc rest Gx io E jg Lb h us fs Dk ds dm Sl Γ tot) (all : ∀ a, a < hz h → eqA a h h1) (W : noW h tb Sl Dk Lr) : noW h1 tb Sl Dk Lr := by
  have et := all tb (TB_3 H.1.1.1).2.2
  refine ⟨W.1, W.2.1, by rw [et.2.2.1]; exact W.2.2.1, by rw [et.2.2.1]; exact W.2.2.2.1, fun d hd => ?_⟩
  have ed := all d (H.1.2.1.2.2.2.2.2.1 d hd).1.2.1
  rw [ed.2.2.1, ed.2.2.1]
  exact W.2.2.2.2 d hd
/-- A CLASS FOR A NAME -/
theorem c_classFor (nd : ndN N) (J : JOk E B) (J2 : JOk2 E) {pl c x : Nat} {T : Ty} {s : JS} {zz : (Nat × Nat) ⊕ (Dc × JS)} (e : jcl E pl c T s = some zz) (H : JQ G N cl tb l0 sc rest Gx io E jg Lb h us fs Dk ds dm Sl Γ s.1) (hc : clO h cl c) (cx : tyC h N cl (UU us rest) T x) (ok : tyOk E.2.2.2.1 T) (hzT : tsz T ≤ 1000000) (R : RmJ us fs ds dm s.1 0 1) (hlo : lo ≤ dm) {Lr : Nat} (hr : Lr < hz h ∧ kd h Lr = 42 ∧ (Lr = Lb ∨ noW h tb Sl Dk Lr)) : ∃ (v : Nat ⊕ Nat) (h' : om_H) (us' fs' : List Nat) (Dk' : Nat → Prop) (ds' : List Nat) (dm' : Nat), C_37_classFor G jg (cl c) x (pl : Int) h = some (v, h') ∧ (∀ k p, zz = .inl (k, p) → ∃ a, v = .inl a ∧ JF G N cl tb l0 sc rest Gx Lb Sl alo ahi h us fs Dk ds dm h' us' fs' Dk' ds' dm' 0 0 0 1 s.1 k p a) ∧ ∀ D s', zz = .inr (D, s') → ∃ y, v = .inr y ∧ JQ G N cl tb l0 sc rest Gx io E jg Lb h' us' fs' Dk' ds' dm' Sl Γ s'.1 ∧ (s.1 ≤ s'.1 ∧ s'.1 ≤ 300) ∧ KRm N cl tb l0 sc rest Gx Lb Sl alo ahi h us fs Dk ds dm h' us' fs' Dk' ds' dm' 0 1 3 1 (s'.1 - s.1) ∧ (∃ D, s'.2 = s.2 ++ D ∧ ∀ X ∈ D, ∃ y, tyC h' N cl (UU us' rest) X y) ∧ noW h' tb Sl Dk' Lr ∧ eqA Lr h h' ∧ (hz h ≤ y ∧ evC N cl rest io E lo h' us' Dk' ds' dm' D y) := by
  obtain ⟨hz1, ez, _⟩ := hd_ends (ab := E.2.2.1) (ins := E.2.2.2.1) (gv := E.2.2.2.2) 70 (0, s.1, s.2) c T (Nat.zero_le _) (by show 61 - 0 ≤ 70; omega)
  unfold jcl ja at e
  rw [ez, Option.bind_some] at e
  obtain ⟨v, h', us', fs', Dk', ds', dm', a1, a2, a3⟩ := c_askJ (alo := alo) (ahi := ahi) (pl := pl) nd J J2 ez H hc cx ok hzT R hr
  unfold C_37_classFor
  rw [gd_pos ⟨H.2.1.1.1, by rw [H.2.1.2.1]; exact H.1.1.2.1.1.1⟩, H.2.1.2.1, a1]
  cases hz1 with
  | none =>
    have e' : zz = .inl (7, pl) := (Option.some.inj e).symm
    obtain ⟨a, ea, t⟩ := a2 rfl
    subst ea
    refine ⟨.inl a, h', us', fs', Dk', ds', dm', rfl, fun k p w => ?_, fun D s' w => by rw [e'] at w; cases w⟩
    rw [e'] at w
    injection Sum.inl.inj w with w1 w2
    rw [← w1, ← w2]
    exact ⟨a, rfl, t⟩
  | some pb =>
    obtain ⟨b, s'⟩ := pb
    obtain ⟨⟨t1, t2, t3, t4, t5, t6⟩, t7, t8⟩ := a3 b s' rfl
    simp only at e
    cases b with
    | false =>
      rw [if_neg (by decide)] at e
      have e' : zz = .inl (5, pl) := (Option.some.inj e).symm
      have ev := t7 rfl
      subst ev
      obtain ⟨h2, f1, f2, f3, f4⟩ := JQ_fault (alo := alo) (ahi := ahi) nd t1 t2.2 5 pl
      rw [xc_v, if_neg (fun w => w rfl), gd_pos f2]
      have f1' : C_15_init G (hz h') 5 (pl : Int) (nO h' 16 8) = some h2 := f1
      rw [f1', Option.bind_some, gd_pos f3]
      refine ⟨_, h2, us', fs', Dk', ds', dm', rfl, fun k p w => ?_, fun D s' w => by rw [e'] at w; cases w⟩
      rw [e'] at w
      injection Sum.inl.inj w with w1 w2
      rw [← w1, ← w2]
      exact ⟨_, rfl, JF_le (JF_trans t3 t2 f4) (by omega) (by omega) (by omega) (by omega)⟩
    | true =>
      rw [if_pos rfl] at e
      obtain ⟨D, x', d1, d2, d3⟩ := t8 rfl
      subst d2
      rw [d1] at e
      have e' : zz = .inr (D, s'.2.1, s'.2.2) := (Option.some.inj e).symm
      have nx : x' ≠ 0 := by
        cases D with
        | leaf => exact absurd d3 (by intro w; cases w)
        | inner t a u cs nx =>
          obtain ⟨x1, l', g1, _, g3, _⟩ := d3
          injection g1 with g1 _
          rw [g1]
          by_cases t0 : t = 0
          · rw [if_pos t0] at g3
            obtain ⟨g, _, g4⟩ := g3
            cases q : a.2.1 with
            | zero => rw [q] at g4; exact g4.2.1.1
            | succ m => rw [q] at g4; exact g4.2.1.1
          · rw [if_neg t0] at g3
            exact g3.2.1.1
      obtain ⟨h2, f1, f2, f3, f4, ⟨f5, f6, f7, f8, f9⟩, f10⟩ := JQ_evid (alo := alo) (ahi := ahi) nd t1 x' 0 0
      rw [xc_v, if_pos nx, gd_pos f2, f1, Option.bind_some]
      refine ⟨_, h2, us', fs', Dk', ds', dm', rfl, fun k p w => (by rw [e'] at w; cases w), fun D2 s2 w => ?_⟩
      rw [e'] at w
      injection Sum.inr.inj w with w1 w2
      rw [← w1, ← w2]
      have K2 : KRm N cl tb l0 sc rest Gx Lb Sl alo ahi h' us' fs' Dk' ds' dm' h2 us' fs' Dk' ds' dm' 0 1 3 0 0 := KR_KJ f4 (Nat.zero_le _)
      have hh := (KJ_hS t3.1).1
      have lL : Lr < hz h' := by have := hr.1; omega
      have pl1 := t1.1.2.1.2.2.1.2.1
      have pl0 := H.1.2.1.2.2.1.2.1
      obtain ⟨d4, _⟩ := KJ_n t3.1
      have dsl : ds.length ≤ ds'.length := by
        obtain ⟨⟨_, _, kg, _⟩, _⟩ := t3.1
        obtain ⟨e, e1, _⟩ := kg.2.2.1.2.2.2
        rw [e1, List.length_append]; omega
      refine ⟨_, rfl, f3, t2, KR_le (KR_trans t3 K2) (by omega) (by omega) (by omega) (by omega) (by show s'.2.1 - s.1 + 0 ≤ _; omega), ?_, noW_eq t1 f10 t5, eqA_trans t6 (f10 Lr lL), hh, ⟨by omega, f6⟩, .inl ⟨x', nx, f7, f8, f9, ?_, dcT_nT2 d1⟩⟩
      · obtain ⟨D3, g1, g2⟩ := t4
        exact ⟨D3, g1, fun X hX => by obtain ⟨y, hy⟩ := g2 X hX; exact ⟨y, KJ_ty f4 _ _ hy⟩⟩
      · obtain ⟨⟨_, _, kg, _⟩, _⟩ := f4
        have d5 := DcX_KG (lo := dm) t1.1.2.1 kg (by omega) d3
        have key : ∀ a, Dl3 Dk' ds' dm dm' a → Dl3 Dk' ds' lo dm' a := fun a L => Dl3_lo hlo L
        exact DcX_keep (fun _ _ => eqA_refl _ _) (fun _ _ => ⟨fun _ => rfl, fun _ => rfl⟩) (fun _ _ => rfl) (Nat.le_refl _) key (fun _ _ c => c) d5
/-- one more reason of a name -/
theorem JQ_because (nd : ndN N) (H : JQ G N cl tb l0 sc rest Gx io E jg Lb h us fs Dk ds dm Sl Γ tot) {n ev : Nat} {evs : List Nat} (hn : n < hz h ∧ kd h n = 28) (rs : rsN h tb Sl Dk n evs) (nb : Lb ≠ fR h 1482 n) (he : ev < hz h ∧ kd h ev = 38) (len : evs.length < 4) : ∃ h1, C_28_because G n ev h = some h1 ∧ JQ G N cl tb l0 sc rest Gx io E jg Lb h1 us fs Dk ds dm Sl Γ tot ∧ KJ N cl tb l0 sc rest Gx Lb Sl n (n + 1) h us fs Dk ds dm h1 us fs Dk ds dm 0 2 7 ∧ rsN h1 tb Sl Dk n (evs ++ [ev]) ∧ Lb ≠ fR h1 1482 n ∧ (∀ f, f ≠ 1482 → fR h1 f n = fR h f n) ∧ ∀ f, fI h1 f n = fI h f n := by
  obtain ⟨h1, a1, a2, a3, a4, a5, a6, a7, a8, a9, a10⟩ := c_because nd H.1 hn rs he len
  have r3 := a3.2.2.2.2.2.2.2.2.2
  have k42 : fR h 1482 n ≠ 0 → rsL h tb Sl Dk (fR h 1482 n) evs := fun w => by
    rcases rs with v | v
    · exact absurd v.2 w
    · exact v.2
  have T := H.1.1.1
  have k122 := T.2.1.1
  have k138 := H.1.2.1.1.1
  have nD : ∀ L, L < hz h → kd h L = 42 → (fR h 1482 n ≠ 0 → L ≠ fR h 1482 n) → eqA L h h1 := fun L l k o => a5.2.2.2 L l (fun w => by
    rcases w with w | w
    · rw [w, hn.2] at k; omega
    · exact o (by rw [← w.2]; exact w.1) w.2)
  have e122 := nD _ k122.1 k122.2.1 (fun w e => (k42 w).2.2.2.2.1 e.symm)
  have e138 := nD _ k138.1 k138.2.1 (fun w e => (k42 w).2.2.2.2.2.1 e.symm)
  have m1 := e122.2.2.2.2.2.2.2
  have m2 := e138.2.2.2.2.2.2.2
  obtain ⟨_, _, r5, r6⟩ := r3
  obtain ⟨w1, w2⟩ := JQ_w (z := 2) (u := 7) (alo := n) (ahi := n + 1) nd H a5 (fun y w _ => by
    rcases w with w | w
    · rw [w]
      exact .inl ⟨by rw [hn.2]; unfold dyK; omega, fun f _ => a7 f, fun f hf => a6 f (fun e => by rw [e] at hf; exact absurd hf (by decide))⟩
    · have v := k42 (by rw [← w.2]; exact w.1)
      rw [w.2]
      exact .inr ⟨v.1.2.2, v.2.2.2⟩) (fun y w => by
    rcases w with w | w
    · rw [w]; exact hn.1
    · rw [w.2]; exact (k42 (by rw [← w.2]; exact w.1)).1.2.1) (fun w => by
    have k := H.2.1.1.1
    rcases w with w | w
    · rw [w, hn.2] at k; omega
    · have := (k42 (by rw [← w.2]; exact w.1)).1.2.2
      rw [← w.2] at this; omega) (fun w => by
    rcases w with w | w
    · have := H.2.2.1.1.2.1
      rw [w, hn.2] at this; omega
    · exact nb w.2) (fun y w => by
    rcases w with w | w
    · exact .inr (by omega)
    · have := (k42 (by rw [← w.2]; exact w.1)).1.2.2
      rw [← w.2] at this; exact .inl this) ⟨by omega, by rw [m1, m2] at r6; omega⟩
  refine ⟨h1, a1, w1, w2, a4, fun e => ?_, a6, a7⟩
  rcases a10 with w | w
  · exact nb (e.trans w)
  · have := H.2.2.1.1.1
    omega
end LCF
