set_option maxRecDepth 100000
/-! THE COMPONENT's classes, insts and givens; looking for them -/
/-- a class's object -/
def clO (h : om_H) (cl : Nat → Nat) (c : Nat) : Prop := cl c ≠ 0 ∧ cl c < hz h ∧ kd h (cl c) = 18 ∧ fI h 1200 (cl c) = (c : Int)
/-- an inst's object -/
def InC (h : om_H) (N : List (List Int)) (cl : Nat → Nat) (U Sl : Nat → Prop) (d : INs) (i a : Nat) : Prop := (a ≠ 0 ∧ a < hz h ∧ kd h a = 21 ∧ fI h 1280 a = (i : Int) ∧ fR h 1302 a = cl d.1) ∧ (fR h 1286 a < hz h ∧ kd h (fR h 1286 a) = 5) ∧ (Sl (fR h 162 (fR h 1286 a)) ∧ WNs h N (fR h 162 (fR h 1286 a)) d.2.2.1) ∧ (d.2.2.2.2 ≠ .leaf → tyC h N cl U d.2.2.2.2 (fR h 1314 a)) ∧ (Sl (fR h 166 (fR h 1286 a)) ∧ fR h 166 (fR h 1286 a) < hz h ∧ kd h (fR h 166 (fR h 1286 a)) = 42) ∧ (ll h (fR h 166 (fR h 1286 a))).length = d.2.2.2.1.length ∧ ∀ (j g : Nat) (c : Nat × Nat), (ll h (fR h 166 (fR h 1286 a)))[j]? = some g → d.2.2.2.1[j]? = some c → (g < hz h ∧ kd h g = 22 ∧ fR h 1346 g = 0) ∧ (fR h 1350 g = cl c.1 ∧ clO h cl c.1) ∧ ∃ w, d.2.2.1[c.2]? = some w ∧ wN h N w (fR h 1342 g)
/-- classes and insts -/
def PGC (h : om_H) (N : List (List Int)) (cl : Nat → Nat) (U Sl : Nat → Prop) (io : Nat → Nat) (ab : List (Option Nat)) (ins : List INs) : Prop := (∀ c, clO h cl c → (∃ o, ab[c]? = some o ∧ fR h 1226 (cl c) = o.elim 0 cl ∧ ∀ a ∈ o, a < c ∧ clO h cl a) ∧ (fR h 1238 (cl c) < hz h ∧ kd h (fR h 1238 (cl c)) = 58 ∧ an h (fR h 1238 (cl c)) = 4) ∧ ∀ k, k < 4 → aR h (fR h 1238 (cl c)) k = (iOf ins c k).elim 0 io) ∧ ins.length ≤ 20 ∧ ∀ (i : Nat) (d : INs), ins[i]? = some d → d.2.2.1.length = pN d.2.1 ∧ InC h N cl U Sl d i (io i)
/-- what is given here -/
def GVC (h : om_H) (N : List (List Int)) (cl : Nat → Nat) (U Sl : Nat → Prop) (sc : Nat) (gv : List GVs) : Prop := (sc < hz h ∧ kd h sc = 5) ∧ (Sl (fR h 166 sc) ∧ fR h 166 sc < hz h ∧ kd h (fR h 166 sc) = 42) ∧ ((ll h (fR h 166 sc)).length = gv.length ∧ gv.length ≤ 4) ∧ ∀ (i x : Nat) (g : GVs), (ll h (fR h 166 sc))[i]? = some x → gv[i]? = some g → (x < hz h ∧ kd h x = 22) ∧ wN h N g.2.1 (fR h 1342 x) ∧ ((100 ≤ g.1 ∧ fR h 1346 x ≠ 0 ∧ fR h 1350 x = cl (g.1 - 100) ∧ clO h cl (g.1 - 100) ∧ tyC h N cl U g.2.2 (fR h 1354 x)) ∨ (g.1 < 100 ∧ fR h 1346 x = 0 ∧ fR h 1350 x = cl g.1 ∧ clO h cl g.1))
/-- equality givens have no family in them -/
def gvN (gv : List GVs) : Prop := ∀ g ∈ gv, 100 ≤ g.1 → thB g.2.2 = false
/-- what a finder has, while types are worked out -/
def FnC (G : om_G) (h : om_H) (N : List (List Int)) (cl : Nat → Nat) (tb l0 sc : Nat) (us fs : List Nat) (rest : List (Nat × List Nat)) (Sl : Nat → Prop) (io : Nat → Nat) (ab : List (Option Nat)) (ins : List INs) (gv : List GVs) (c bg : Nat) (s : WS) : Prop := TB G h N cl tb us fs rest ∧ ((kd h l0 = 9 ∧ l0 < hz h ∧ fR h 214 l0 = tb) ∧ fR h 210 l0 = sc) ∧ (fR h 122 tb ≠ 0 ∧ ¬ Sl (fR h 122 tb) ∧ (∀ a, Sl a → a < hz h ∧ kd h a = 42) ∧ ∀ c, cl c < hz h) ∧ PGC h N cl (UU us rest) Sl io ab ins ∧ GVC h N cl (UU us rest) Sl sc gv ∧ fI h 220 l0 = (bg : Int) ∧ (c = 2 → fI h 227 l0 ≠ 0 ∧ fI h 216 l0 = (s.1 : Int) ∧ fI h 128 tb = (s.2.1 : Int)) ∧ (c = 0 → fI h 227 l0 = 0)
section LCE
variable {G : om_G} {g' : Prop} {h h' : om_H} {N : List (List Int)} {cl : Nat → Nat} {tb l0 sc : Nat} {us fs us' fs' : List Nat} {rest : List (Nat × List Nat)} {Sl U U' : Nat → Prop} {io : Nat → Nat} {ab : List (Option Nat)} {ins : List INs} {gv : List GVs} {c bg bg' : Nat} {s s' : WS} {q z u : Nat}
theorem clO_hS (X : hSg g' Sl h h') {c : Nat} (H : clO h cl c) : clO h' cl c := by
  obtain ⟨a1, a2, a3, a4⟩ := H
  exact ⟨a1, Nat.lt_of_lt_of_le a2 X.1, by rw [X.2.1 _ a2]; exact a3, by rw [(X.2.2.1 _ a2 (by rw [a3]; decide)).1 1200 (by decide)]; exact a4⟩
theorem InC_hS (X : hSg g' Sl h h') (kp : ∀ T a, tyC h N cl U T a → tyC h' N cl U' T a) {d : INs} {i a : Nat} (H : InC h N cl U Sl d i a) : InC h' N cl U' Sl d i a := by
  obtain ⟨⟨a1, a2, a3, a4, a5⟩, ⟨b1, b2⟩, ⟨c1, c2⟩, d1, ⟨e1, e2, e3⟩, f1, f2⟩ := H
  have sa := X.2.2.1 a a2 (by rw [a3]; decide)
  have es : fR h' 1286 a = fR h 1286 a := sa.2 1286 (by decide)
  have ss := X.2.2.1 _ b1 (by rw [b2]; decide)
  have en : fR h' 162 (fR h 1286 a) = fR h 162 (fR h 1286 a) := ss.2 162 (by decide)
  have eg : fR h' 166 (fR h 1286 a) = fR h 166 (fR h 1286 a) := ss.2 166 (by decide)
  have el := X.2.2.2.2 _ e2 e1
  unfold InC
  rw [es, en, eg, el]
  refine ⟨⟨a1, Nat.lt_of_lt_of_le a2 X.1, by rw [X.2.1 _ a2]; exact a3, by rw [sa.1 1280 (by decide)]; exact a4, by rw [sa.2 1302 (by decide)]; exact a5⟩, ⟨Nat.lt_of_lt_of_le b1 X.1, by rw [X.2.1 _ b1]; exact b2⟩, ⟨c1, WNs_hS X c1 c2⟩, fun z => by rw [sa.2 1314 (by decide)]; exact kp _ _ (d1 z), ⟨e1, Nat.lt_of_lt_of_le e2 X.1, by rw [X.2.1 _ e2]; exact e3⟩, f1, fun j g c h1 h2 => ?_⟩
  obtain ⟨⟨g1, g2, g3⟩, ⟨g4, g5⟩, w, g6, g7⟩ := f2 j g c h1 h2
  have sg := X.2.2.1 g g1 (by rw [g2]; decide)
  exact ⟨⟨Nat.lt_of_lt_of_le g1 X.1, by rw [X.2.1 _ g1]; exact g2, by rw [sg.2 1346 (by decide)]; exact g3⟩, ⟨by rw [sg.2 1350 (by decide)]; exact g4, clO_hS X g5⟩, w, g6, by rw [sg.2 1342 (by decide)]; exact wN_hS X g7⟩
theorem PGC_hS (X : hS Sl h h') (kp : ∀ T a, tyC h N cl U T a → tyC h' N cl U' T a) (H : PGC h N cl U Sl io ab ins) (hk : ∀ c, clO h' cl c → clO h cl c) : PGC h' N cl U' Sl io ab ins := by
  obtain ⟨p1, p2, p3⟩ := H
  refine ⟨fun c hc => ?_, p2, fun i d e => ⟨(p3 i d e).1, InC_hS X kp (p3 i d e).2⟩⟩
  have hc0 := hk c hc
  obtain ⟨⟨o, a1, a2, a3⟩, ⟨b1, b2, b3⟩, d1⟩ := p1 c hc0
  have sc := X.2.2.1 _ hc0.2.1 (by rw [hc0.2.2.1]; decide)
  have e1 := sc.2 1238 (by decide)
  have ea := (X.2.2.2.1 _ b1 (.inr ⟨trivial, .inl b2⟩)).1
  rw [e1]
  exact ⟨⟨o, a1, by rw [sc.2 1226 (by decide)]; exact a2, fun a ha => ⟨(a3 a ha).1, clO_hS X (a3 a ha).2⟩⟩, ⟨Nat.lt_of_lt_of_le b1 X.1, by rw [X.2.1 _ b1]; exact b2, by rw [ea.1]; exact b3⟩, fun k hk => by rw [ea.2.2]; exact d1 k hk⟩
theorem GVC_hS (X : hSg g' Sl h h') (kp : ∀ T a, tyC h N cl U T a → tyC h' N cl U' T a) (H : GVC h N cl U Sl sc gv) : GVC h' N cl U' Sl sc gv := by
  obtain ⟨⟨a1, a2⟩, ⟨b1, b2, b3⟩, c1, d1⟩ := H
  have ss := X.2.2.1 _ a1 (by rw [a2]; decide)
  have eg := ss.2 166 (by decide)
  have el := X.2.2.2.2 _ b2 b1
  unfold GVC
  rw [eg, el]
  refine ⟨⟨Nat.lt_of_lt_of_le a1 X.1, by rw [X.2.1 _ a1]; exact a2⟩, ⟨b1, Nat.lt_of_lt_of_le b2 X.1, by rw [X.2.1 _ b2]; exact b3⟩, c1, fun i x g h1 h2 => ?_⟩
  obtain ⟨⟨e1, e2⟩, e3, e4⟩ := d1 i x g h1 h2
  have sg := X.2.2.1 x e1 (by rw [e2]; decide)
  rw [sg.2 1342 (by decide), sg.2 1346 (by decide), sg.2 1350 (by decide), sg.2 1354 (by decide)]
  refine ⟨⟨Nat.lt_of_lt_of_le e1 X.1, by rw [X.2.1 _ e1]; exact e2⟩, wN_hS X e3, ?_⟩
  rcases e4 with ⟨f1, f2, f3, f4, f5⟩ | ⟨f1, f2, f3, f4⟩
  · exact .inl ⟨f1, f2, f3, clO_hS X f4, kp _ _ f5⟩
  · exact .inr ⟨f1, f2, f3, clO_hS X f4⟩
theorem FnC_next (F : FnC G h N cl tb l0 sc us fs rest Sl io ab ins gv c bg s) (K : KF N cl tb l0 rest h us fs h' us' fs' q z u) (T' : TB G h' N cl tb us' fs' rest) (e1 : fI h' 220 l0 = (bg' : Int)) (e2 : c = 2 → fI h' 216 l0 = (s'.1 : Int) ∧ fI h' 128 tb = (s'.2.1 : Int)) : FnC G h' N cl tb l0 sc us' fs' rest Sl io ab ins gv c bg' s' := by
  obtain ⟨T, ⟨⟨f1, f2, f3⟩, f4⟩, ⟨g1, g2, g3, hcl⟩, P, V, _, k1, k2⟩ := F
  have X : hS Sl h h' := hS_KF T f1 K g2 (fun a ha => (g3 a ha).2)
  have eR := K.2.2.2.2.2.1.2
  have eI := K.2.2.2.2.2.1.1
  have e122 := K.2.2.2.2.1.2 122
  refine ⟨T', ⟨⟨by rw [X.2.1 _ f2]; exact f1, Nat.lt_of_lt_of_le f2 X.1, by rw [eR]; exact f3⟩, by rw [eR]; exact f4⟩, ⟨by rw [e122]; exact g1, by rw [e122]; exact g2, fun a ha => ⟨Nat.lt_of_lt_of_le (g3 a ha).1 X.1, by rw [X.2.1 _ (g3 a ha).1]; exact (g3 a ha).2⟩, fun c => Nat.lt_of_lt_of_le (hcl c) X.1⟩, PGC_hS X K.2.2.2.2.2.2.1 P (fun c hc => ?_), GVC_hS X K.2.2.2.2.2.2.1 V, e1, fun z => ⟨by rw [eI 227 (by decide) (by decide)]; exact (k1 z).1, e2 z⟩, fun z => by rw [eI 227 (by decide) (by decide)]; exact k2 z⟩
  obtain ⟨a1, a2, a3, a4⟩ := hc
  have k18 : kd h (cl c) = 18 := by rw [← X.2.1 _ (hcl c)]; exact a3
  exact ⟨a1, hcl c, k18, by rw [← (X.2.2.1 _ (hcl c) (by rw [k18]; decide)).1 1200 (by decide)]; exact a4⟩
/-- the given for a family of a name -/
theorem c_equalFor (nd : ndN N) (F : FnC G h N cl tb l0 sc us fs rest Sl io ab ins gv c bg s) {f w a : Nat} (hf : clO h cl f) (W : wN h N w a) : C_8_equalFor G l0 (cl f) a h = some (oI (gFm gv f w)) := by
  obtain ⟨T, ⟨⟨f1, f2, f3⟩, f4⟩, _, P, ⟨⟨v1, v2⟩, ⟨v3, v4, v5⟩, ⟨v6, v7⟩, v8⟩, _⟩ := F
  have g3 : kd h l0 = 9 ∧ kd h (fR h 210 l0) = 5 ∧ kd h (fR h 166 (fR h 210 l0)) = 42 := by rw [f4]; exact ⟨f1, v2, v5⟩
  have sz : P_J2_size G (fR h 166 sc) h = some ((gv.length : Nat) : Int) := by
    unfold P_J2_size
    rw [gd_pos v5, v6]
  have stp : ∀ (i : Nat) (g : GVs), gv[i]? = some g → C_8_equalFor_2s G l0 (cl f) a h (i : Int) = if g.1 = 100 + f ∧ g.2.1 = w then some (.inr (.inl (i : Int))) else some (.inl (w32 ((i : Int) + 1))) := fun i g e => by
    have il := (List.getElem?_eq_some_iff.mp e).1
    have ea : (ll h (fR h 166 sc))[i]? = some (ll h (fR h 166 sc))[i] := List.getElem?_eq_getElem (by omega)
    obtain ⟨⟨x1, x2⟩, x3, x4⟩ := v8 i _ g ea e
    generalize (ll h (fR h 166 sc))[i] = x at *
    have get : P_J2_get G (fR h 166 sc) (i : Int) h = some x := by
      unfold P_J2_get
      rw [gd_pos ⟨v5, by omega⟩, show ((i : Int)).toNat = i by omega, ea]
    have k17 : kd h (fR h 1342 x) = 17 := by obtain ⟨_, L, _, b⟩ := x3; exact b.1
    unfold C_8_equalFor_2s
    rw [gd_pos g3, f4, sz, Option.bind_some, if_neg (by omega), gd_pos (by rw [f4] at g3; exact g3), get, Option.bind_some, gd_pos ⟨.inr x2, x2⟩]
    have eq : C_21_isEqual G x h = some (if 100 ≤ g.1 then 1 else 0) := by
      unfold C_21_isEqual C_21_isEqual_12
      rw [gd_pos x2]
      rcases x4 with ⟨y1, y2, _⟩ | ⟨y1, y2, _⟩
      · rw [if_neg y2, if_pos y1, gd_pos (.inr rfl)]
      · rw [if_pos y2, if_neg (by omega), gd_pos (.inl rfl)]
    rw [eq, Option.bind_some]
    rcases x4 with ⟨y1, y2, y3, y4, y5⟩ | ⟨y1, y2, y3, y4⟩
    · rw [if_pos y1, if_neg (by decide), gd_pos x2, y3]
      have ce : cl (g.1 - 100) = cl f ↔ g.1 = 100 + f := ⟨fun z => by
        have h1 := y4.2.2.2
        have h2 := hf.2.2.2
        rw [z] at h1
        omega, fun z => by rw [z]; congr 1; omega⟩
      by_cases q : g.1 = 100 + f
      · rw [if_neg (fun y => y (ce.mpr q)), gd_pos ⟨x2, k17⟩, c_isN nd x3 W, Option.bind_some]
        by_cases q2 : g.2.1 = w
        · rw [if_pos q2, if_neg (by decide), if_pos ⟨q, q2⟩]
        · rw [if_neg q2, if_pos rfl, if_neg (fun y => q2 y.2)]
      · rw [if_pos (fun y => q (ce.mp y)), if_neg (fun y => q y.1)]
    · rw [if_neg (show ¬ 100 ≤ g.1 by omega), if_pos rfl, if_neg (fun y => absurd y.1 (by omega))]
  have key := lp_find (β := Unit) (step := C_8_equalFor_2s G l0 (cl f) a h) (p := fun g : GVs => g.1 == 100 + f && g.2.1 == w) (l0 := gv) (by omega) (fun i x e hp => by
      have hp' : x.1 = 100 + f ∧ x.2.1 = w := by simpa using hp
      rw [stp i x e, if_pos hp']) (fun i x e hp => by
      have hp' : ¬ (x.1 = 100 + f ∧ x.2.1 = w) := by simpa using hp
      rw [stp i x e, if_neg hp']) (by
      unfold C_8_equalFor_2s
      rw [gd_pos g3, f4, sz, Option.bind_some, if_pos (Int.le_refl _)]) gv 0 rfl (by omega)
  unfold C_8_equalFor
  have k0 : om_loop (C_8_equalFor_2s G l0 (cl f) a h) 0 = _ := key
  rw [k0]
  show (some (match gFm gv f w with | some j => Sum.inl ((0 + j : Nat) : Int) | none => Sum.inr ())).bind _ = _
  cases gFm gv f w with
  | none => rfl
  | some j =>
    show some (((0 + j : Nat) : Int)) = some ((j : Nat) : Int)
    rw [Nat.zero_add]
/-- counting -/
theorem c_counted (nd : ndN N) (F : FnC G h N cl tb l0 sc us fs rest Sl io ab ins gv c bg s) (hc : c = 0 ∨ c = 2) (b1 : s.1 ≤ 60) (b2 : s.2.1 ≤ 300) (pl : Int) : ((c = 2 ∧ (60 < s.1 + 1 ∨ 300 < s.2.1 + 1)) → ∃ a h', C_8_counted G l0 pl h = some (.inl a, h') ∧ flt h' a 7 pl ∧ TB G h' N cl tb us fs rest ∧ KF N cl tb l0 rest h us fs h' us fs 0 1 8) ∧ (¬ (c = 2 ∧ (60 < s.1 + 1 ∨ 300 < s.2.1 + 1)) → ∃ h', C_8_counted G l0 pl h = some (.inr (), h') ∧ TB G h' N cl tb us fs rest ∧ KF N cl tb l0 rest h us fs h' us fs 0 0 0 ∧ fI h' 220 l0 = (bg : Int) ∧ (c = 2 → fI h' 216 l0 = ((s.1 + 1 : Nat) : Int) ∧ fI h' 128 tb = ((s.2.1 + 1 : Nat) : Int))) := by
  obtain ⟨T, ⟨⟨f1, f2, f3⟩, f4⟩, _, P, V, g1, g2, g3⟩ := F
  have t3 := (TB_3 T).1
  rcases hc with hc | hc
  · refine ⟨fun z => by omega, fun _ => ⟨h, ?_, T, KF_refl, g1, fun z => by omega⟩⟩
    unfold C_8_counted
    rw [gd_pos f1, g3 hc, if_neg (fun z => z rfl)]
  · obtain ⟨k1, k2, k3⟩ := g2 hc
    have e1 : w32 (fI h 216 l0 + 1) = ((s.1 + 1 : Nat) : Int) := by rw [k2, w32_s (by omega) (by omega)]; rfl
    have e2 : w32 (fI h 128 tb + 1) = ((s.2.1 + 1 : Nat) : Int) := by rw [k3, w32_s (by omega) (by omega)]; rfl
    generalize eh : sI (sI h 216 l0 ((s.1 + 1 : Nat) : Int)) 128 tb ((s.2.1 + 1 : Nat) : Int) = h1
    have T1 : TB G h1 N cl tb us fs rest := by rw [← eh]; exact TB_sI (by decide) (TB_sI (by decide) T)
    have K1 : KF N cl tb l0 rest h us fs h1 us fs 0 0 0 := by
      rw [← eh]
      exact KF_trans (KF_sI f1 t3 (.inl rfl)) (KF_128 (h := sI h 216 l0 _) f1 t3)
    have kd1 : kd h1 l0 = 9 ∧ l0 < hz h1 := by rw [← eh]; exact ⟨f1, f2⟩
    have r1 : fR h1 214 l0 = tb := by rw [← eh]; exact f3
    have kt : kd h1 tb = 3 := by rw [← eh]; exact t3
    have i128 : fI h1 128 tb = ((s.2.1 + 1 : Nat) : Int) := by rw [← eh]; exact fI_eq
    have nt : l0 ≠ tb := fun z => by rw [← z, f1] at t3; omega
    have i216 : fI h1 216 l0 = ((s.1 + 1 : Nat) : Int) := by rw [← eh, fI_na nt, fI_eq]
    have i220 : fI h1 220 l0 = (bg : Int) := by rw [← eh, fI_na nt, fI_ne (by decide)]; exact g1
    have un : C_8_counted G l0 pl h = if 60 < ((s.1 + 1 : Nat) : Int) then C_8_counted_53 G pl h1 else if ((s.2.1 + 1 : Nat) : Int) ≤ 300 then some (.inr (), h1) else C_8_counted_53 G pl h1 := by
      unfold C_8_counted
      rw [gd_pos f1, if_pos k1, f3, gd_pos ⟨f1, t3⟩, e1, e2, eh]
      unfold C_8_counted_40
      rw [r1, gd_pos ⟨kd1.1, kt⟩, i128]
    obtain ⟨h2, m1, m2, m3, m4, m5, m6, m7⟩ := c_fault T1 nd kd1 7 pl
    have flt53 : C_8_counted_53 G pl h1 = some (.inl (hz h1), h2) := by
      unfold C_8_counted_53
      rw [gd_pos m2, m1, Option.bind_some, gd_pos m3]
    refine ⟨fun z => ⟨hz h1, h2, ?_, m4, m5, KF_le (KF_trans K1 m6) (by omega) (by omega) (by omega)⟩, fun z => ⟨h1, ?_, T1, K1, i220, fun _ => ⟨i216, i128⟩⟩⟩
    · rw [un, flt53]
      by_cases q : 60 < s.1 + 1
      · rw [if_pos (by omega)]
      · rw [if_neg (by omega), if_neg (by omega)]
    · have : ¬ (60 < s.1 + 1 ∨ 300 < s.2.1 + 1) := fun y => z ⟨hc, y⟩
      rw [un, if_neg (by omega), if_pos (by omega)]
/-- whether a type is too big -/
theorem c_fit (nd : ndN N) (T : TB G h N cl tb us fs rest) (k9 : kd h l0 = 9 ∧ l0 < hz h) {X : Ty} {x : Nat} (cx : tyC h N cl (UU us rest) X x) (hX : X ≠ .leaf) (pl : Int) : (tszW X ≤ 60 → C_8_fit G x pl h = some (.inr x, h)) ∧ (¬ tszW X ≤ 60 → ∃ a h', C_8_fit G x pl h = some (.inl a, h') ∧ flt h' a 7 pl ∧ TB G h' N cl tb us fs rest ∧ KF N cl tb l0 rest h us fs h' us fs 0 1 8) := by
  rcases X with ⟨k, w, u, l, r⟩ | _
  rotate_left
  · exact absurd rfl hX
  have k34 := cx.2.1
  have sz : fI h 1564 x = tszW (.inner k w u l r) := cx.2.2.2.2.2.2.1
  unfold C_8_fit
  rw [gd_pos k34, sz]
  refine ⟨fun z => by rw [if_pos z], fun z => ?_⟩
  obtain ⟨h2, m1, m2, m3, m4, m5, m6, m7⟩ := c_fault T nd k9 7 pl
  refine ⟨hz h, h2, ?_, m4, m5, m6⟩
  rw [if_neg z, gd_pos m2, m1, Option.bind_some, gd_pos m3]
end LCE
