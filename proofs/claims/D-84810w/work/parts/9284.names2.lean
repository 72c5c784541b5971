set_option maxRecDepth 100000
/-! WHAT STANDS, in the component: names of methods and functions -/
def flM (h : om_H) : List Nat → FT → Prop
  | x :: xs, o :: F => (fI h 1259 x ≠ 0 ↔ o ≠ none) ∧ flM h xs F
  | [], [] => True
  | _, _ => False
def flN (S : List Int) (hr h : om_H) : List dcl → List PD → PS → Prop
  | q :: qs, p :: ps, s => ((p.1 = 5 → flM h (ll hr (fR hr 1230 q.2.1)) (mE S s p)) ∧ (p.1 = 2 → (fI h 1539 q.2.1 ≠ 0 ↔ fE S s p ≠ none))) ∧ flN S hr h qs ps (pst S s p)
  | _, _, _ => True
section LNB
variable {G : om_G} {A pr : Nat} {S : List Int} {h h' hr : om_H} {c k w : Nat} {L : List Int} {p : PD} {nb : Int} {Lf LT : Nat → List Nat} {s : PS} {q : dcl} {qs : List dcl} {ps : List PD} {Tg Tn : List (List Int)} {a0 amid alo ahi : Nat}
theorem mthF_congr {st st' : Prop} [Decidable st] [Decidable st'] (h : st ↔ st') : ∀ {js : List Nat} {tn : List (List Int)} {k : Nat}, mthF S st tn k js = mthF S st' tn k js
  | [], _, _ => rfl
  | j :: js, tn, k => by
    show (if st ∧ _ then _ else none) :: mthF S st _ _ js = (if st' ∧ _ then _ else none) :: mthF S st' _ _ js
    rw [mthF_congr h]
    congr 1
    by_cases q : btI (tokw S j) = none ∧ tokw S j ∉ tn ∧ k < 4
    · by_cases z : st
      · rw [if_pos ⟨z, q⟩, if_pos ⟨h.mp z, q⟩]
      · rw [if_neg (fun y => z y.1), if_neg (fun y => z (h.mpr y.1))]
    · rw [if_neg (fun y => q y.2), if_neg (fun y => q y.2)]
theorem mthF_none {st : Prop} [Decidable st] (h : ¬ st) : ∀ {js : List Nat} {tn : List (List Int)} {k : Nat}, mthF S st tn k js = js.map (fun _ => none)
  | [], _, _ => rfl
  | j :: js, tn, k => by
    show (if st ∧ _ then _ else none) :: mthF S st _ _ js = none :: js.map _
    rw [mthF_none h, if_neg (fun y => h y.1)]
theorem kE_iff : (kEn S s p).1 ≠ none ↔ (nwG S s.2.2.2.1 (p.2.1 + 1) ∧ s.1.length < 8) := by
  unfold kEn clsK
  by_cases a : s.1.length < 8
  · rw [if_pos a]
    by_cases b : nwG S s.2.2.2.1 (p.2.1 + 1)
    · rw [if_pos b]; exact ⟨fun _ => ⟨b, a⟩, fun _ => by simp⟩
    · rw [if_neg b]; exact ⟨fun z => absurd rfl z, fun z => absurd z.1 b⟩
  · rw [if_neg a]; exact ⟨fun z => absurd rfl z, fun z => absurd z.2 a⟩
theorem mE_eq : mE S s p = mthF S ((kEn S s p).1 ≠ none) s.2.2.2.2.1 0 p.2.2.2.2 := by
  unfold mE
  by_cases a : s.1.length < 8
  · rw [if_pos a]
    exact mthF_congr ⟨fun z => kE_iff.mpr ⟨z, a⟩, fun z => (kE_iff.mp z).1⟩
  · rw [if_neg a, mthF_none (fun z => a (kE_iff.mp z).2)]
theorem mC_ge : ∀ {k : Nat} {xs js : List Nat}, mC A S h a0 amid c k xs js → ∀ y ∈ xs, (k : Int) ≤ fI h 1252 y ∧ a0 ≤ y ∧ y < amid
  | _, [], [], _, y, hy => absurd hy List.not_mem_nil
  | k, x :: xs, j :: js, m, y, hy => by
    rcases List.mem_cons.mp hy with e | hy
    · rw [e]; exact ⟨by rw [m.1.2.2.2.2]; omega, m.1.1⟩
    · have := mC_ge m.2 y hy
      exact ⟨by omega, this.2⟩
  | _, [], _ :: _, m, _, _ => m.elim
  | _, _ :: _, [], m, _, _ => m.elim
theorem mC_kd : ∀ {k : Nat} {xs js : List Nat}, mC A S h a0 amid c k xs js → ∀ y ∈ xs, kd h y = 19
  | _, [], [], _, y, hy => absurd hy List.not_mem_nil
  | k, x :: xs, j :: js, m, y, hy => by
    rcases List.mem_cons.mp hy with e | hy
    · rw [e]; exact m.1.2.1
    · exact mC_kd m.2 y hy
  | _, [], _ :: _, m, _, _ => m.elim
  | _, _ :: _, [], m, _, _ => m.elim
theorem flM_keep : ∀ {xs : List Nat} {F : FT}, flM h xs F → (∀ x ∈ xs, fI h' 1259 x = fI h 1259 x) → flM h' xs F
  | [], [], _, _ => trivial
  | x :: xs, o :: F, H, e => ⟨by rw [e x List.mem_cons_self]; exact H.1, flM_keep H.2 (fun y hy => e y (List.mem_cons_of_mem _ hy))⟩
  | [], _ :: _, H, _ => H.elim
  | _ :: _, [], H, _ => H.elim
theorem flG_keep (e : ∀ a, fI h' 1219 a = fI h 1219 a ∧ fI h' 1223 a = fI h 1223 a) : ∀ {qs : List dcl} {ps : List PD} {s : PS}, flG S h qs ps s → flG S h' qs ps s
  | [], [], _, _ => trivial
  | q :: qs, p :: ps, s, H => ⟨fun z => ⟨by rw [(e _).1]; exact (H.1 z).1, by rw [(e _).2]; exact (H.1 z).2⟩, flG_keep e H.2⟩
  | [], _ :: _, _, _ => trivial
  | _ :: _, [], _, _ => trivial
theorem n_meths (B : CBs A S hr pr LT Tg Tn) {st : Prop} [Decidable st] (kc : kd hr c = 18) (ha : 0 < a0) : ∀ (xs js : List Nat) (k i : Nat) (tn : List (List Int)) (h : om_H) (P Q T1 T2 : List Nat) (T3 : List (List Int)), mC A S hr a0 amid c k xs js → hF FD hr h → (fI h 1219 c ≠ 0 ↔ st) → LT 98 = P ++ (xs.map (fun x => fR hr 1242 x) ++ T1) → LT 110 = Q ++ (xs ++ T2) → P.length = i → Q.length = i → Tn = tn ++ (js.map (tokw S) ++ T3) → tn.length = i →
    ∃ h', om_loop (C_1_stands_127s G pr) ((i : Int), h) = om_loop (C_1_stands_127s G pr) (((i + xs.length : Nat) : Int), h') ∧ hF ND h h' ∧ (∀ f a, a ∉ xs → fI h' f a = fI h f a) ∧ flM h' xs (mthF S st tn k js)
  | [], [], _, i, _, h, _, _, _, _, _, _, _, _, _, _, _, _, _, _ => ⟨h, rfl, hF_refl, fun _ _ _ => rfl, trivial⟩
  | x :: xs, j :: js, k, i, tn, h, P, Q, T1, T2, T3, ⟨m, ms⟩, F, fl, e98, e110, p1, p2, eT, p3 => by
    obtain ⟨m1, m2, m3, m4, m5⟩ := m
    have x98 : (LT 98)[i]? = some (fR hr 1242 x) := by rw [e98, ← p1]; exact at_len
    have x110 : (LT 110)[i]? = some x := by rw [e110, ← p2]; exact at_len
    have xT : Tn[i]? = some (tokw S j) := by rw [eT, ← p3]; exact at_len
    have xt : Tn.take i = tn := by rw [eT, ← p3]; exact take_pre
    have st1 := n_step (G := G) B F x98 xT
    rw [n_171m B F x110 (by omega) m2 (by rw [m4]; exact kc), m4, m5, xt] at st1
    have F1 : hF ND h (sI h 1259 x (if (if btI (tokw S j) = none ∧ tokw S j ∉ tn then (1 : Int) else 0) ≠ 0 ∧ fI h 1219 c ≠ 0 ∧ (k : Int) < 4 then 1 else 0)) := hF_sI (by decide)
    have v1 : fI (sI h 1259 x (if (if btI (tokw S j) = none ∧ tokw S j ∉ tn then (1 : Int) else 0) ≠ 0 ∧ fI h 1219 c ≠ 0 ∧ (k : Int) < 4 then 1 else 0)) 1259 x ≠ 0 ↔ (st ∧ btI (tokw S j) = none ∧ tokw S j ∉ tn ∧ k < 4) := by
      rw [fI_eq, if10, if10, fl]
      exact ⟨fun z => ⟨z.2.1, z.1.1, z.1.2, by have := z.2.2; omega⟩, fun z => ⟨⟨z.2.1, z.2.2.1⟩, z.1, by have := z.2.2.2; omega⟩⟩
    have w1 : ∀ f a, a ≠ x → fI (sI h 1259 x (if (if btI (tokw S j) = none ∧ tokw S j ∉ tn then (1 : Int) else 0) ≠ 0 ∧ fI h 1219 c ≠ 0 ∧ (k : Int) < 4 then 1 else 0)) f a = fI h f a := fun f a na => fI_na na
    generalize sI h 1259 x (if (if btI (tokw S j) = none ∧ tokw S j ∉ tn then (1 : Int) else 0) ≠ 0 ∧ fI h 1219 c ≠ 0 ∧ (k : Int) < 4 then 1 else 0) = h1 at st1 F1 v1 w1
    obtain ⟨h2, i1, i2, i3, i4⟩ := n_meths (st := st) B kc ha xs js (k + 1) (i + 1) (tn ++ [tokw S j]) h1 (P ++ [fR hr 1242 x]) (Q ++ [x]) T1 T2 T3 ms (hF_trans F (hF_mono F1 (by decide))) (by rw [(F1.2 c).2.1 1219 (by decide)]; exact fl) (by rw [e98, List.append_assoc]; rfl) (by rw [e110, List.append_assoc]; rfl) (by rw [List.length_append, p1]; rfl) (by rw [List.length_append, p2]; rfl) (by rw [eT, List.append_assoc]; rfl) (by rw [List.length_append, p3]; rfl)
    refine ⟨h2, ?_, hF_trans F1 i2, fun f a na => ?_, ?_, i4⟩
    · rw [om_loop_in st1, i1, List.length_cons, show i + 1 + xs.length = i + (xs.length + 1) by omega]
    · rw [i3 f a (fun z => na (List.mem_cons_of_mem _ z)), w1 f a (fun z => na (by rw [z]; exact List.mem_cons_self))]
    · have nx : x ∉ xs := fun z => by have := (mC_ge ms x z).1; rw [m5] at this; omega
      rw [i3 1259 x nx, v1]
      by_cases z : st ∧ btI (tokw S j) = none ∧ tokw S j ∉ tn ∧ k < 4
      · rw [if_pos z]; exact ⟨fun _ => by simp, fun _ => z⟩
      · rw [if_neg z]; exact ⟨fun y => absurd y z, fun y => absurd rfl y⟩
  | [], _ :: _, _, _, _, _, _, _, _, _, _, m, _, _, _, _, _, _, _, _ => m.elim
  | _ :: _, [], _, _, _, _, _, _, _, _, _, m, _, _, _, _, _, _, _, _ => m.elim
theorem n_loop (B : CBs A S hr pr LT Tg Tn) (hh : ahi ≤ hz hr) : ∀ (qs : List dcl) (ps : List PD) (Lf : Nat → List Nat) (alo : Nat) (s : PS) (h : om_H), 0 < alo → prC A S hr qs ps Lf alo ahi → LSt hr Lf s → (∀ f, LT f = prgL hr qs Lf f) → Tn = (ps.foldl (pst S) s).2.2.2.2.1 → hF FD hr h → flG S h qs ps s →
    ∃ h', om_loop (C_1_stands_127s G pr) ((((Lf 98).length : Nat) : Int), h) = some h' ∧ hF ND h h' ∧ (∀ f a, a < alo → fI h' f a = fI h f a) ∧ (∀ f a, kd hr a ≠ 19 → kd hr a ≠ 33 → fI h' f a = fI h f a) ∧ flN S hr h' qs ps s
  | [], [], Lf, alo, s, h, _, P, _, eL, eT, F, _ => by
    refine ⟨h, om_loop_out ?_, hF_refl, fun _ _ _ => rfl, fun _ _ _ _ => rfl, trivial⟩
    have e : LT 98 = Lf 98 := eL 98
    unfold C_1_stands_127s
    simp only
    rw [gd_pos (CB_kd B F (by simp)), CB_size B F (by simp), Option.bind_some, if_pos (by rw [e]; exact Int.le_refl _)]
  | q :: qs, p :: ps, Lf, alo, s, h, h0, ⟨a0, amid, r1, r2, D, P⟩, L, eL, eT, F, fl => by
    have am := prC_le P
    have L' := LS_step B.1.1 B.1.2 (by omega) r2 D L
    have di := dcl_in D
    obtain ⟨T1, t1⟩ := prgL_pre (h := hr) 98 qs (dclLf hr Lf q)
    obtain ⟨T2, t2⟩ := prgL_pre (h := hr) 110 qs (dclLf hr Lf q)
    obtain ⟨T4, t4⟩ := prgL_pre (h := hr) 106 qs (dclLf hr Lf q)
    obtain ⟨U3, T3, u3, t3⟩ := pss_pre (S := S) ps (pst S s p)
    have eT' : Tn = (ps.foldl (pst S) (pst S s p)).2.2.2.2.1 := eT
    have e98 : LT 98 = dclLf hr Lf q 98 ++ T1 := (eL 98).trans t1
    have e110 : LT 110 = dclLf hr Lf q 110 ++ T2 := (eL 110).trans t2
    have e106 : LT 106 = dclLf hr Lf q 106 ++ T4 := (eL 106).trans t4
    have lw := WL_len L.2.1
    rcases D with ⟨p5, C⟩ | ⟨p6, C⟩ | ⟨p2, C⟩
    · have e : dclLf hr Lf q = clsLf Lf hr q.2.1 := by unfold dclLf; rw [if_pos (by omega)]
      rw [e] at e98 e110
      have t5 : (pst S s p).2.2.2.2.1 = s.2.2.2.2.1 ++ p.2.2.2.2.map (tokw S) := by rw [pst_5 p5]
      rw [t5] at t3
      have mc := C.2.2.2.2.2.1.2.2
      obtain ⟨h1, g1, g2, g3, g4⟩ := n_meths (G := G) (st := (kEn S s p).1 ≠ none) B C.2.1.1 (by omega) _ _ 0 (Lf 98).length s.2.2.2.2.1 h (Lf 98) (Lf 110) T1 T2 T3 mc F (fl.1 p5).1 (by rw [e98]; exact List.append_assoc _ _ _) (by rw [e110]; exact List.append_assoc _ _ _) rfl L.2.2.2.2.2 (by rw [eT', t3]; exact List.append_assoc _ _ _) lw.symm
      have ge := mC_ge mc
      obtain ⟨h2, i1, i2, i3, i5, i4⟩ := n_loop B hh qs ps (dclLf hr Lf q) amid (pst S s p) h1 (by omega) P L' (fun f => eL f) eT (hF_trans F (hF_mono g2 (by decide))) (flG_keep (fun a => ⟨(g2.2 a).2.1 1219 (by decide), (g2.2 a).2.1 1223 (by decide)⟩) fl.2)
      refine ⟨h2, ?_, hF_trans g2 i2, fun f a ha => by rw [i3 f a (by omega), g3 f a (fun z => by have := ge a z; omega)], fun f a ha hb => by rw [i5 f a ha hb, g3 f a (fun z => ha (mC_kd mc a z))], ⟨fun _ => ?_, fun z => by omega⟩, i4⟩
      · rw [g1, ← i1, e]
        show om_loop _ (((_ : Nat) : Int), h1) = om_loop _ ((((Lf 98 ++ (ll hr (fR hr 1230 q.2.1)).map _).length : Nat) : Int), h1)
        rw [List.length_append, List.length_map]
      · rw [mE_eq]
        exact flM_keep g4 (fun x hx => i3 1259 x (ge x hx).2.2)
    · have e : dclLf hr Lf q 98 = Lf 98 := by unfold dclLf; rw [if_neg (by omega), if_pos (by omega)]; rfl
      obtain ⟨h2, i1, i2, i3, i5, i4⟩ := n_loop B hh qs ps (dclLf hr Lf q) amid (pst S s p) h (by omega) P L' (fun f => eL f) eT F fl.2
      rw [e] at i1
      exact ⟨h2, i1, i2, fun f a ha => i3 f a (by omega), i5, ⟨fun z => by omega, fun z => by omega⟩, i4⟩
    · have e : dclLf hr Lf q = funLf Lf hr q.2.1 := by unfold dclLf; rw [if_neg (by omega), if_neg (by omega)]
      rw [e] at e98 e110 e106
      have t5 : (pst S s p).2.2.2.2.1 = s.2.2.2.2.1 ++ [tokw S p.2.1] := by rw [pst_2 p2]
      rw [t5] at t3
      have e98' : LT 98 = Lf 98 ++ (fR hr 1530 q.2.1 :: T1) := by rw [e98]; exact List.append_assoc _ _ _
      have e110' : LT 110 = Lf 110 ++ (0 :: T2) := by rw [e110]; exact List.append_assoc _ _ _
      have e106' : LT 106 = Lf 106 ++ (q.2.1 :: T4) := by rw [e106]; exact List.append_assoc _ _ _
      have eT'' : Tn = s.2.2.2.2.1 ++ (tokw S p.2.1 :: T3) := by rw [eT', t3]; exact List.append_assoc _ _ _
      have x98 : (LT 98)[(Lf 98).length]? = some (fR hr 1530 q.2.1) := by rw [e98']; exact at_len
      have x110 : (LT 110)[(Lf 98).length]? = some 0 := by rw [e110', ← L.2.2.2.2.2]; exact at_len
      have x106 : (LT 106)[(Lf 98).length]? = some q.2.1 := by rw [e106', ← L.2.2.2.2.1]; exact at_len
      have xT : Tn[(Lf 98).length]? = some (tokw S p.2.1) := by rw [eT'', lw]; exact at_len
      have xt : Tn.take (Lf 98).length = s.2.2.2.2.1 := by rw [eT'', lw]; exact take_pre
      have st1 := n_step (G := G) B F x98 xT
      rw [n_171f B F x110 x106 C.2.1.1, xt, C.2.1.2, L.2.2.1.2.2.1] at st1
      have F1 : hF ND h (sI h 1539 q.2.1 (if (if btI (tokw S p.2.1) = none ∧ tokw S p.2.1 ∉ s.2.2.2.2.1 then (1 : Int) else 0) ≠ 0 ∧ (s.2.1.length : Int) < 24 then 1 else 0)) := hF_sI (by decide)
      have v1 : fI (sI h 1539 q.2.1 (if (if btI (tokw S p.2.1) = none ∧ tokw S p.2.1 ∉ s.2.2.2.2.1 then (1 : Int) else 0) ≠ 0 ∧ (s.2.1.length : Int) < 24 then 1 else 0)) 1539 q.2.1 ≠ 0 ↔ fE S s p ≠ none := by
        rw [fI_eq, if10, if10]
        unfold fE
        by_cases z : nwF S s.2.2.2.2.1 s.2.1.length p.2.1
        · rw [if_pos z]; exact ⟨fun _ => by simp, fun _ => ⟨⟨z.1, z.2.1⟩, by have := z.2.2; omega⟩⟩
        · rw [if_neg z]; exact ⟨fun y => absurd ⟨y.1.1, y.1.2, by have := y.2; omega⟩ z, fun y => absurd rfl y⟩
      have w1 : ∀ f a, a ≠ q.2.1 → fI (sI h 1539 q.2.1 (if (if btI (tokw S p.2.1) = none ∧ tokw S p.2.1 ∉ s.2.2.2.2.1 then (1 : Int) else 0) ≠ 0 ∧ (s.2.1.length : Int) < 24 then 1 else 0)) f a = fI h f a := fun f a na => fI_na na
      generalize sI h 1539 q.2.1 (if (if btI (tokw S p.2.1) = none ∧ tokw S p.2.1 ∉ s.2.2.2.2.1 then (1 : Int) else 0) ≠ 0 ∧ (s.2.1.length : Int) < 24 then 1 else 0) = h1 at st1 F1 v1 w1
      obtain ⟨h2, i1, i2, i3, i5, i4⟩ := n_loop B hh qs ps (dclLf hr Lf q) amid (pst S s p) h1 (by omega) P L' (fun f => eL f) eT (hF_trans F (hF_mono F1 (by decide))) (flG_keep (fun a => ⟨(F1.2 a).2.1 1219 (by decide), (F1.2 a).2.1 1223 (by decide)⟩) fl.2)
      refine ⟨h2, ?_, hF_trans F1 i2, fun f a ha => by rw [i3 f a (by omega), w1 f a (by omega)], fun f a ha hb => by rw [i5 f a ha hb, w1 f a (fun e => hb (by rw [e]; exact C.2.1.1))], ⟨fun z => by omega, fun _ => ?_⟩, i4⟩
      · rw [om_loop_in st1, ← i1, e]
        show om_loop _ (((_ : Nat) : Int), h1) = om_loop _ ((((Lf 98 ++ [fR hr 1530 q.2.1]).length : Nat) : Int), h1)
        rw [List.length_append]
        rfl
      · rw [i3 1539 _ di.2]; exact v1
  | [], _ :: _, _, _, _, _, _, P, _, _, _, _, _ => P.elim
  | _ :: _, [], _, _, _, _, _, P, _, _, _, _, _ => P.elim
end LNB
