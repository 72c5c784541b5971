set_option maxRecDepth 100000
/-! WHAT STANDS, in the component: CLS and FNS -/
section LST
variable {G : om_G} {A pr : Nat} {S : List Int} {h h' hr : om_H} {c k w : Nat} {L : List Int} {p : PD} {nb : Int} {Lf LT : Nat → List Nat} {s : PS} {q : dcl} {qs : List dcl} {ps : List PD} {Tg Tn : List (List Int)} {a0 amid alo ahi : Nat}
theorem snoc_get {α : Type} {P : List α} {x y : α} {i : Nat} (e : (P ++ [x])[i]? = some y) : P[i]? = some y ∨ (i = P.length ∧ y = x) := by
  by_cases c : i < P.length
  · rw [List.getElem?_append_left c] at e; exact .inl e
  · rw [List.getElem?_append_right (by omega)] at e
    have : i - P.length = 0 := by
      have := (List.getElem?_eq_some_iff.mp e).1
      simp at this; omega
    rw [this] at e
    exact .inr ⟨by omega, (Option.some.inj e).symm⟩
theorem CLw_of {f g : Nat} {o : Option (List Int)} (fl : fI h f c ≠ 0 ↔ o ≠ none) (hw : ∀ L, o = some L → fR h g c < hz h ∧ fR h 1186 (fR h g c) < hz h ∧ wb h (fR h g c) L) : CLw h c f g o := by
  cases o with
  | none =>
    show fI h f c = 0
    exact Decidable.byContradiction (fun z => (fl.mp z) rfl)
  | some L => exact ⟨fl.mpr (by simp), hw L rfl⟩
theorem kE1 (e : (kEn S s p).1 = some L) : L = tokw S (p.2.1 + 1) := by
  unfold kEn clsK at e
  split at e
  · split at e
    · exact (Option.some.inj e).symm
    · cases e
  · cases e
theorem kE2 (e : (kEn S s p).2 = some L) : ∃ f ∈ p.2.2.2.1, L = tokw S f := by
  unfold kEn clsK at e
  split at e
  · split at e
    · cases z : p.2.2.2.1 with
      | none => rw [z] at e; cases e
      | some f =>
        rw [z] at e
        refine ⟨f, rfl, ?_⟩
        have e' : (if nwG S (s.2.2.2.1 ++ [tokw S (p.2.1 + 1)]) f then some (tokw S f) else none) = some L := e
        split at e'
        · exact (Option.some.inj e').symm
        · cases e'
    · cases e
  · cases e
theorem fE1 (e : fE S s p = some L) : L = tokw S p.2.1 := by
  unfold fE at e
  split at e
  · exact (Option.some.inj e).symm
  · cases e
theorem mthF_get {st : Prop} [Decidable st] : ∀ {js : List Nat} {tn : List (List Int)} {k i : Nat} {L : List Int}, (mthF S st tn k js)[i]? = some (some L) → ∃ j, js[i]? = some j ∧ L = tokw S j
  | [], _, _, i, L, e => by cases e
  | j :: js, tn, k, 0, L, e => by
    have e' : some (if st ∧ btI (tokw S j) = none ∧ tokw S j ∉ tn ∧ k < 4 then some (tokw S j) else none) = some (some L) := e
    have e2 := Option.some.inj e'
    split at e2
    · exact ⟨j, rfl, (Option.some.inj e2).symm⟩
    · cases e2
  | j :: js, tn, k, i + 1, L, e => mthF_get (js := js) (tn := tn ++ [tokw S j]) (k := k + 1) (i := i) e
theorem mC_get : ∀ {k : Nat} {xs js : List Nat} {i x j : Nat}, mC A S h a0 amid c k xs js → xs[i]? = some x → js[i]? = some j → (a0 ≤ x ∧ x < amid) ∧ kd h x = 19 ∧ wR A S h a0 amid (fR h 1242 x) j
  | _, x :: xs, j :: js, 0, y, i, m, e1, e2 => by
    have a : x = y := Option.some.inj e1
    have b : j = i := Option.some.inj e2
    rw [← a, ← b]
    exact ⟨m.1.1, m.1.2.1, m.1.2.2.1⟩
  | _, x :: xs, j :: js, i + 1, y, l, m, e1, e2 => mC_get m.2 e1 e2
  | _, [], [], _, _, _, _, e1, _ => by cases e1
  | _, [], _ :: _, _, _, _, m, _, _ => m.elim
  | _, _ :: _, [], _, _, _, m, _, _ => m.elim
theorem flM_get : ∀ {xs : List Nat} {F : FT} {i x : Nat} {o : Option (List Int)}, flM h xs F → xs[i]? = some x → F[i]? = some o → (fI h 1259 x ≠ 0 ↔ o ≠ none)
  | x :: xs, o :: F, 0, y, u, H, e1, e2 => by
    have a : x = y := Option.some.inj e1
    have b : o = u := Option.some.inj e2
    rw [← a, ← b]
    exact H.1
  | x :: xs, o :: F, i + 1, y, u, H, e1, e2 => flM_get H.2 e1 e2
  | [], [], _, _, _, _, e1, _ => by cases e1
  | [], _ :: _, _, _, _, H, _, _ => H.elim
  | _ :: _, [], _, _, _, H, _, _ => H.elim
/-- what stands, of the declarations so far -/
def PrS (h : om_H) (Lf : Nat → List Nat) (s : PS) : Prop := (∀ (i c : Nat) (k : Option (List Int) × Option (List Int)), (Lf 82)[i]? = some c → s.1[i]? = some k → (c ≠ 0 ∧ c < hz h ∧ kd h c = 18 ∧ fI h 1200 c = (i : Int)) ∧ CLw h c 1219 1206 k.1 ∧ CLw h c 1223 1214 k.2) ∧ (∀ (i o : Nat) (k : Option (List Int)), (Lf 90)[i]? = some o → s.2.1[i]? = some k → (o ≠ 0 ∧ o < hz h ∧ kd h o = 33) ∧ CLw h o 1539 1530 k) ∧ ∀ (i c : Nat) (Fm : FT), (Lf 82)[i]? = some c → s.2.2.1[i]? = some Fm → SLs h (fR h 1230 c) 19 1259 1242 (ll h (fR h 1230 c)) Fm
theorem wR_CL {a0 amid w j : Nat} (B : CBs A S hr pr LT Tg Tn) (F : hF FD hr h) (hh : amid ≤ hz hr) (W : wR A S hr a0 amid w j) : w < hz h ∧ fR h 1186 w < hz h ∧ wb h w (tokw S j) := by
  obtain ⟨w1, w2, w3⟩ := wR_WL B.1.1 B.1.2 hh W
  exact ⟨by rw [F.1.1]; exact w1, by rw [(F.2 w).2.2.1, F.1.1]; exact w2, hF_wb F FD_w w3⟩
theorem PrS_fold (B : CBs A S hr pr LT Tg Tn) (F : hF FD hr h) (hh : ahi ≤ hz hr) : ∀ (qs : List dcl) (ps : List PD) (Lf : Nat → List Nat) (alo : Nat) (s : PS), 0 < alo → prC A S hr qs ps Lf alo ahi → LSt hr Lf s → (∀ f, LT f = prgL hr qs Lf f) → flG S h qs ps s → flN S hr h qs ps s → PrS h Lf s → PrS h LT (ps.foldl (pst S) s)
  | [], [], Lf, alo, s, _, _, _, eL, _, _, H => by
    have e : LT = Lf := funext eL
    rw [e]
    exact H
  | q :: qs, p :: ps, Lf, alo, s, h0, ⟨a0, amid, r1, r2, D, P⟩, L, eL, fg, fn, H => by
    have am := prC_le P
    have L' := LS_step B.1.1 B.1.2 (by omega) r2 D L
    refine PrS_fold B F hh qs ps (dclLf hr Lf q) amid (pst S s p) (by have := dcl_in D; omega) P L' eL fg.2 fn.2 ?_
    obtain ⟨H1, H2, H3⟩ := H
    rcases D with ⟨p5, C⟩ | ⟨p6, C⟩ | ⟨p2, C⟩
    · obtain ⟨T2, t2⟩ := prgL_pre (h := hr) 110 qs (dclLf hr Lf q)
      have e110 : LT 110 = dclLf hr Lf q 110 ++ T2 := (eL 110).trans t2
      have e : dclLf hr Lf q = clsLf Lf hr q.2.1 := by unfold dclLf; rw [if_pos (by omega)]
      rw [e] at e110
      have ml : (ll hr (fR hr 1230 q.2.1)).length ≤ 1300 := by
        have x := (B.2.2.1 110 (by simp)).2.2.2
        rw [e110] at x
        have y : (Lf 110 ++ ll hr (fR hr 1230 q.2.1) ++ T2).length ≤ 1300 := x
        simp only [List.length_append] at y
        omega
      obtain ⟨c1, c2, c3, c4, c5, c6, c7, c8, c9⟩ := C
      rw [e, pst_5 p5]
      have e06 : ∀ f, fR h f q.2.1 = fR hr f q.2.1 := (F.2 _).2.2.1
      refine ⟨fun i c k ec ek => ?_, fun i o k ec ek => H2 i o k ec ek, fun i c Fm ec ek => ?_⟩
      · have ec : (Lf 82 ++ [q.2.1])[i]? = some c := ec
        have ek : (s.1 ++ [kEn S s p])[i]? = some k := ek
        rcases snoc_get ec with x | ⟨x, y⟩
        · rcases snoc_get ek with u | ⟨u, v⟩
          · exact H1 i c k x u
          · have := (List.getElem?_eq_some_iff.mp x).1
            have := L.2.2.1.1
            omega
        · rcases snoc_get ek with u | ⟨u, v⟩
          · have := (List.getElem?_eq_some_iff.mp u).1
            have := L.2.2.1.1
            omega
          · rw [y, v]
            refine ⟨⟨by omega, by rw [F.1.1]; omega, by rw [(F.2 _).1]; exact c2.1, by rw [(F.2 _).2.1 1200 (by decide), c2.2.2, x]⟩, CLw_of (fg.1 p5).1 (fun M eM => ?_), CLw_of (fg.1 p5).2 (fun M eM => ?_)⟩
            · rw [kE1 eM, e06]; exact wR_CL B F (by omega) c3
            · obtain ⟨f, f1, f2⟩ := kE2 eM
              rw [f2, e06]
              rcases c5 with ⟨z, _⟩ | ⟨g, z, z1, z2⟩
              · rw [z] at f1; cases f1
              · rw [z] at f1
                rw [show f = g from (Option.some.inj f1).symm]
                exact wR_CL B F (by omega) z2
      · have ec : (Lf 82 ++ [q.2.1])[i]? = some c := ec
        have ek : (s.2.2.1 ++ [mE S s p])[i]? = some Fm := ek
        rcases snoc_get ec with x | ⟨x, y⟩
        · rcases snoc_get ek with u | ⟨u, v⟩
          · exact H3 i c Fm x u
          · have := (List.getElem?_eq_some_iff.mp x).1
            have := L.2.2.1.2.1
            omega
        · rcases snoc_get ek with u | ⟨u, v⟩
          · have := (List.getElem?_eq_some_iff.mp u).1
            have := L.2.2.1.2.1
            omega
          · have fm := fn.1.1 p5
            have mc := c6.2.2
            have lm := mC_len mc
            rw [y, v, e06, (F.2 _).2.2.2.2.2.2.1]
            refine ⟨by rw [F.1.1]; omega, by rw [(F.2 _).1]; exact c6.2.1, (F.2 _).2.2.2.2.2.2.1, by rw [mE_eq, mthF_len]; exact lm, ml, fun i o k eo ek => ?_⟩
            have il : i < p.2.2.2.2.length := by have := (List.getElem?_eq_some_iff.mp eo).1; omega
            obtain ⟨g1, g2, g3⟩ := mC_get mc eo (List.getElem?_eq_getElem il)
            refine ⟨⟨by omega, by rw [F.1.1]; omega, by rw [(F.2 _).1]; exact g2⟩, CLw_of (flM_get fm eo ek) (fun M eM => ?_)⟩
            rw [eM, mE_eq] at ek
            obtain ⟨j, j1, j2⟩ := mthF_get ek
            rw [List.getElem?_eq_getElem il] at j1
            rw [j2, (F.2 _).2.2.1, ← Option.some.inj j1]
            exact wR_CL B F (by omega) g3
    · have e : dclLf hr Lf q = updL Lf 86 q.2.1 := by unfold dclLf; rw [if_neg (by omega), if_pos (by omega)]
      rw [e, pst_6 p6]
      exact ⟨fun i c k ec ek => H1 i c k ec ek, fun i o k ec ek => H2 i o k ec ek, fun i c Fm ec ek => H3 i c Fm ec ek⟩
    · have e : dclLf hr Lf q = funLf Lf hr q.2.1 := by unfold dclLf; rw [if_neg (by omega), if_neg (by omega)]
      rw [e, pst_2 p2]
      refine ⟨fun i c k ec ek => H1 i c k ec ek, fun i o k ec ek => ?_, fun i c Fm ec ek => H3 i c Fm ec ek⟩
      have ec : (Lf 90 ++ [q.2.1])[i]? = some o := ec
      have ek : (s.2.1 ++ [fE S s p])[i]? = some k := ek
      rcases snoc_get ec with x | ⟨x, y⟩
      · rcases snoc_get ek with u | ⟨u, v⟩
        · exact H2 i o k x u
        · have := (List.getElem?_eq_some_iff.mp x).1
          have := L.2.2.1.2.2.1
          omega
      · rcases snoc_get ek with u | ⟨u, v⟩
        · have := (List.getElem?_eq_some_iff.mp u).1
          have := L.2.2.1.2.2.1
          omega
        · rw [y, v]
          have di : a0 ≤ q.2.1 ∧ q.2.1 < amid := C.1
          refine ⟨⟨by omega, by rw [F.1.1]; omega, by rw [(F.2 _).1]; exact C.2.1.1⟩, CLw_of (fn.1.2 p2) (fun M eM => ?_)⟩
          rw [fE1 eM, (F.2 _).2.2.1]
          exact wR_CL B F (by omega) C.2.2
  | [], _ :: _, _, _, _, _, P, _, _, _, _, _ => P.elim
  | _ :: _, [], _, _, _, _, P, _, _, _, _, _ => P.elim
theorem LS_nil : LSt h (fun _ => []) ([], [], [], [], [], 0) := ⟨trivial, trivial, ⟨rfl, rfl, rfl, rfl⟩, rfl, rfl, rfl⟩
theorem LS_fold (X : txC h A S) (hA : A < hz h) (hh : ahi ≤ hz h) : ∀ (qs : List dcl) (ps : List PD) (Lf : Nat → List Nat) (alo : Nat) (s : PS), prC A S h qs ps Lf alo ahi → LSt h Lf s → LSt h (prgL h qs Lf) (ps.foldl (pst S) s)
  | [], [], _, _, _, _, L => L
  | q :: qs, p :: ps, Lf, alo, s, ⟨a0, amid, r1, r2, D, P⟩, L => LS_fold X hA hh qs ps (dclLf h Lf q) amid (pst S s p) P (LS_step X hA (by have := prC_le P; omega) r2 D L)
  | [], _ :: _, _, _, _, P, _ => P.elim
  | _ :: _, [], _, _, _, P, _ => P.elim
/-- WHAT STANDS, in the component -/
theorem c_stands {ps : List PD} (B : CBs A S hr pr (prgL hr qs (fun _ => [])) (pss S ps).2.2.2.1 (pss S ps).2.2.2.2.1) (hh : ahi ≤ hz hr) (ha : 0 < alo) (P : prC A S hr qs ps (fun _ => []) alo ahi) (F : hF FD hr h) (f0 : ∀ a, alo ≤ a → fI h 1223 a = fI hr 1223 a) :
    ∃ h', C_1_stands G pr h = some h' ∧ hF (GD ++ ND) h h' ∧ ((∀ f a, kd hr a ≠ 18 → kd hr a ≠ 19 → kd hr a ≠ 33 → fI h' f a = fI h f a) ∧ ∀ f a, a < alo → fI h' f a = fI h f a) ∧ CLS h' pr (prgL hr qs (fun _ => []) 82) (pss S ps).1 ∧ FNS h' pr (prgL hr qs (fun _ => []) 82) (prgL hr qs (fun _ => []) 90) (pss S ps).2.1 ((prgL hr qs (fun _ => []) 82).map (fun c => ll hr (fR hr 1230 c))) (pss S ps).2.2.1 := by
  obtain ⟨h1, g1, g2, g3, g5, g4⟩ := g_loop (G := G) B hh qs ps (fun _ => []) alo ([], [], [], [], [], 0) h P LS_nil (fun _ => rfl) rfl F f0
  have F1 := hF_trans F (hF_mono (D' := FD) g2 (by decide))
  obtain ⟨h2, i1, i2, i3, i5, i4⟩ := n_loop (G := G) B hh qs ps (fun _ => []) alo ([], [], [], [], [], 0) h1 ha P LS_nil (fun _ => rfl) rfl F1 g4
  have F2 := hF_trans F1 (hF_mono (D' := FD) i2 (by decide))
  have fg := flG_keep (fun a => ⟨(i2.2 a).2.1 1219 (by decide), (i2.2 a).2.1 1223 (by decide)⟩) g4
  have R := PrS_fold B F2 hh qs ps (fun _ => []) alo ([], [], [], [], [], 0) ha P LS_nil (fun _ => rfl) fg i4 ⟨fun i c k ec => (by cases ec), fun i c k ec => (by cases ec), fun i c k ec => (by cases ec)⟩
  have LL := LS_fold B.1.1 B.1.2 hh qs ps (fun _ => []) alo ([], [], [], [], [], 0) P LS_nil
  have e : ps.foldl (pst S) ([], [], [], [], [], 0) = pss S ps := rfl
  rw [e] at R LL
  have b82 := B.2.2.1 82 (by simp)
  have b90 := B.2.2.1 90 (by simp)
  obtain ⟨R1, R2, R3⟩ := R
  have kp := CB_kd B F2 (f := 82) (by simp)
  have k9 := CB_kd B F2 (f := 90) (by simp)
  refine ⟨h2, ?_, hF_trans (hF_mono g2 (by decide)) (hF_mono i2 (by decide)), ⟨fun f a e1 e2 e3 => (i5 f a e2 e3).trans (g5 f a e1), fun f a ha' => (i3 f a ha').trans (g3 f a ha')⟩, ⟨⟨kp.1, by rw [F2.1.1]; exact B.2.1.2⟩, ⟨by rw [(F2.2 pr).2.2.1, F2.1.1]; exact b82.1, kp.2, by rw [(F2.2 pr).2.2.1, (F2.2 _).2.2.2.2.2.2.1]; exact b82.2.2.1⟩, LL.2.2.1.1, b82.2.2.2, R1⟩, ⟨by rw [(F2.2 pr).2.2.1, F2.1.1]; exact b90.1, k9.2, by rw [(F2.2 pr).2.2.1, (F2.2 _).2.2.2.2.2.2.1]; exact b90.2.2.1, LL.2.2.1.2.2.1, b90.2.2.2, R2⟩, by rw [List.length_map], LL.2.2.1.2.1, fun i c ms Fm ec em ef => ?_⟩
  · unfold C_1_stands
    have e0 : ((((fun _ => [] : Nat → List Nat) 94).length : Nat) : Int) = 0 := rfl
    have e1 : ((((fun _ => [] : Nat → List Nat) 98).length : Nat) : Int) = 0 := rfl
    rw [e0] at g1
    rw [e1] at i1
    rw [g1, Option.bind_some, i1, Option.bind_some]
  · rw [List.getElem?_map, ec] at em
    have em : ll hr (fR hr 1230 c) = ms := Option.some.inj em
    have := R3 i c Fm ec ef
    rw [(F2.2 c).2.2.1, (F2.2 _).2.2.2.2.2.2.1, em] at this
    rw [(F2.2 c).2.2.1]
    exact this
end LST
