set_option maxRecDepth 100000
/-! RESOLVE: names around, in the component; those of an inst's head in both -/
/-- told twice -/
def nmBI (S : List Int) : List (List Int) → List Nat → List Int
  | _, [] => []
  | tn, j :: js => (if tokw S j ∈ tn then [(tokq S j : Int)] else []) ++ nmBI S (tn ++ [tokw S j]) js
section LNN
variable {G : om_G} {S : List Int} {b m : Nat} {N : List (List Int)} {K : KT} {sc sc' : List Nat} {Ls tn : List (List Int)} {h : om_H} {σ τ υ : tS} {n j w f g o d k pr so Ln : Nat} {L : List Int} {B : List Int}
theorem c_nmF : ∀ (js : List Nat) (k : Nat) (tn : List (List Int)) (h : om_H), kd h f = 33 → fR h 1542 f = so → kd h so = 5 → fR h 162 so = Ln → kd h pr = 2 → SCc h Ln Ls → Ls = tn ++ js.map (tokw S) → tn.length = k → (∀ i j : Nat, js[i]? = some j → ∃ w, (ll h Ln)[k + i]? = some w ∧ fI h 1188 w = (tokq S j : Int)) → om_loop (C_1_resolveFunction_16s G pr f) ((k : Int), h) = some (ruH h pr (nmBC S tn k js))
  | [], k, tn, h, kf, e1, ks, e2, kp, C, eL, et, _ => by
    have len := WL_len C.2.2.2
    refine om_loop_out ?_
    unfold C_1_resolveFunction_16s
    simp only
    have es : P_J2_size G Ln h = some (((ll h Ln).length : Nat) : Int) := by unfold P_J2_size; rw [gd_pos C.2.1]
    rw [e1, e2, gd_pos ⟨kf, ks, C.2.1⟩, es, Option.bind_some, if_pos (by rw [len, eL]; simp; omega), show nmBC S tn k [] = [] from rfl, ruH_nil]
  | j :: js, k, tn, h, kf, e1, ks, e2, kp, C, eL, et, ew => by
    have len := WL_len C.2.2.2
    have c3 := C.2.2.1
    have ll1 : Ls.length = k + (js.length + 1) := by rw [eL, List.length_append, List.length_map, et]; rfl
    have xT : Ls[k]? = some (tokw S j) := by rw [eL, ← et]; exact at_len
    have xt : Ls.take k = tn := by rw [eL, ← et]; exact take_pre
    obtain ⟨w, w1, w2⟩ := ew 0 j rfl
    have w1 : (ll h Ln)[k]? = some w := w1
    obtain ⟨v, v1, v2, v3, v4, v5⟩ := WL_at (G := G) C xT
    rw [w1] at v1
    rw [← Option.some.inj v1] at v4 v5
    have ek : w32 ((k : Int) + 1) = ((k + 1 : Nat) : Int) := by rw [w32_s (by omega) (by omega)]; rfl
    have es : P_J2_size G Ln h = some (((ll h Ln).length : Nat) : Int) := by unfold P_J2_size; rw [gd_pos C.2.1]
    have tm := c_tooMany (G := G) (h := h) (pr := pr) (x := (tokq S j : Int)) (i := k) (n := 4) kp
    have st : C_1_resolveFunction_16s G pr f ((k : Int), h) = some (.inl (((k + 1 : Nat) : Int), ruH h pr ((if k < 4 then [] else [(tokq S j : Int)]) ++ (if tokw S j ∈ tn then [(tokq S j : Int)] else [])))) := by
      have F1 : hF [112] h (ruH h pr (if k < 4 then [] else [(tokq S j : Int)])) := ruH_F
      have C1 := hF_SCc F1 (by decide) C
      have kp1 : kd (ruH h pr (if k < 4 then [] else [(tokq S j : Int)])) pr = 2 := kp
      have w1' : (ll (ruH h pr (if k < 4 then [] else [(tokq S j : Int)])) Ln)[k]? = some w := w1
      have w2' : fI (ruH h pr (if k < 4 then [] else [(tokq S j : Int)])) 1188 w = (tokq S j : Int) := by rw [(F1.2 w).2.1 1188 (by decide)]; exact w2
      have tw := c_twice (G := G) (S := S) (j := j) kp1 C1 xT w1' w2'
      rw [xt, ruH_app] at tw
      have kf1 : kd (ruH h pr (if k < 4 then [] else [(tokq S j : Int)])) f = 33 := kf
      have e11 : fR (ruH h pr (if k < 4 then [] else [(tokq S j : Int)])) 1542 f = so := e1
      have ks1 : kd (ruH h pr (if k < 4 then [] else [(tokq S j : Int)])) so = 5 := ks
      have e21 : fR (ruH h pr (if k < 4 then [] else [(tokq S j : Int)])) 162 so = Ln := e2
      unfold C_1_resolveFunction_16s
      simp only
      rw [e1, e2, gd_pos ⟨kf, ks, C.2.1⟩, es, Option.bind_some, if_neg (by omega), gd_pos ⟨kf, ks, C.2.1⟩, v5, Option.bind_some, gd_pos ⟨.inr v4.1, v4.1, kp⟩, w2, show (4 : Int) = ((4 : Nat) : Int) from rfl, tm, Option.bind_some, e11, gd_pos ⟨kf1, ks1⟩, e21, tw, Option.bind_some, ek]
    have F2 : ∀ B, hF [112] h (ruH h pr B) := fun B => ruH_F
    rw [om_loop_in st, c_nmF js (k + 1) (tn ++ [tokw S j]) (ruH h pr ((if k < 4 then [] else [(tokq S j : Int)]) ++ (if tokw S j ∈ tn then [(tokq S j : Int)] else []))) kf e1 ks e2 kp (hF_SCc (F2 _) (by decide) C) (by rw [eL, List.append_assoc]; rfl) (by rw [List.length_append, et]; rfl) (fun i l e => by
      obtain ⟨w', a1, a2⟩ := ew (i + 1) l e
      exact ⟨w', by rw [show k + 1 + i = k + (i + 1) by omega]; exact a1, by rw [((F2 _).2 w').2.1 1188 (by decide)]; exact a2⟩), ruH_app]
    rfl
theorem nmBC_mem : ∀ {js : List Nat} {tn : List (List Int)} {k : Nat} {y : Int}, y ∈ nmBC S tn k js → ∃ j ∈ js, y = (tokq S j : Int)
  | [], _, _, y, h => absurd h List.not_mem_nil
  | j :: js, tn, k, y, h => by
    rcases List.mem_append.mp h with h | h
    · rcases List.mem_append.mp h with h | h
      · split at h
        · exact absurd h List.not_mem_nil
        · exact ⟨j, List.mem_cons_self, List.mem_singleton.mp h⟩
      · split at h
        · exact ⟨j, List.mem_cons_self, List.mem_singleton.mp h⟩
        · exact absurd h List.not_mem_nil
    · obtain ⟨i, h1, h2⟩ := nmBC_mem h
      exact ⟨i, List.mem_cons_of_mem _ h1, h2⟩
theorem nm_lbE : ∀ {js : List Nat} {tn : List (List Int)} {k : Nat}, js.Pairwise (· ≤ ·) → lbE (nmBC S tn k js) (nmBT S tn k js)
  | [], _, _, _ => lbE_refl
  | j :: js, tn, k, pw => by
    obtain ⟨p1, p2⟩ := List.pairwise_cons.mp pw
    show lbE (((if k < 4 then [] else [(tokq S j : Int)]) ++ (if tokw S j ∈ tn then [(tokq S j : Int)] else [])) ++ nmBC S (tn ++ [tokw S j]) (k + 1) js) (if k < 4 then (if tokw S j ∈ tn then [(tokq S j : Int)] else []) ++ nmBT S (tn ++ [tokw S j]) (k + 1) js else [(tokq S j : Int)])
    by_cases c : k < 4
    · rw [if_pos c, if_pos c, List.nil_append]
      obtain ⟨i1, i2⟩ := nm_lbE (tn := tn ++ [tokw S j]) (k := k + 1) p2
      exact ⟨lb_both lb_refl i1, lb_both lb_refl i2⟩
    · rw [if_neg c, if_neg c]
      refine ⟨lb_one (fun y hy => ?_), lb_l (lb_l lb_refl)⟩
      rcases List.mem_append.mp hy with hy | hy
      · rcases List.mem_append.mp hy with hy | hy
        · rw [List.mem_singleton.mp hy]; exact Int.le_refl _
        · split at hy
          · rw [List.mem_singleton.mp hy]; exact Int.le_refl _
          · exact absurd hy List.not_mem_nil
      · obtain ⟨i, h1, h2⟩ := nmBC_mem hy
        rw [h2]; exact tq_i (p1 i h1)
theorem nm_five : ∀ {js : List Nat} {tn : List (List Int)} {k j : Nat}, k ≤ 4 → js[4 - k]? = some j → (tokq S j : Int) ∈ nmBT S tn k js
  | [], _, _, _, _, e => by cases e
  | i :: js, tn, k, j, hk, e => by
    show _ ∈ (if k < 4 then (if tokw S i ∈ tn then [(tokq S i : Int)] else []) ++ nmBT S (tn ++ [tokw S i]) (k + 1) js else [(tokq S i : Int)])
    by_cases c : k < 4
    · rw [if_pos c]
      rw [show 4 - k = (4 - (k + 1)) + 1 by omega] at e
      exact List.mem_append_right _ (nm_five (by omega) e)
    · rw [if_neg c]
      rw [show 4 - k = 0 by omega] at e
      rw [Option.some.inj e]
      exact List.mem_cons_self
/-- the names of an inst's head, in the component -/
theorem c_nmI : ∀ (js : List Nat) (k : Nat) (tn : List (List Int)) (h : om_H), kd h f = 21 → fR h 1286 f = so → kd h so = 5 → fR h 162 so = Ln → kd h pr = 2 → SCc h Ln Ls → Ls = tn ++ js.map (tokw S) → tn.length = k → (∀ i j : Nat, js[i]? = some j → ∃ w, (ll h Ln)[k + i]? = some w ∧ fI h 1188 w = (tokq S j : Int)) → om_loop (C_1_resolveInstance_92s G pr f) ((k : Int), h) = some (ruH h pr (nmBI S tn js))
  | [], k, tn, h, kf, e1, ks, e2, kp, C, eL, et, _ => by
    have len := WL_len C.2.2.2
    refine om_loop_out ?_
    unfold C_1_resolveInstance_92s
    simp only
    have es : P_J2_size G Ln h = some (((ll h Ln).length : Nat) : Int) := by unfold P_J2_size; rw [gd_pos C.2.1]
    rw [e1, e2, gd_pos ⟨kf, ks, C.2.1⟩, es, Option.bind_some, if_pos (by rw [len, eL]; simp; omega), show nmBI S tn [] = [] from rfl, ruH_nil]
  | j :: js, k, tn, h, kf, e1, ks, e2, kp, C, eL, et, ew => by
    have len := WL_len C.2.2.2
    have c3 := C.2.2.1
    have ll1 : Ls.length = k + (js.length + 1) := by rw [eL, List.length_append, List.length_map, et]; rfl
    have xT : Ls[k]? = some (tokw S j) := by rw [eL, ← et]; exact at_len
    have xt : Ls.take k = tn := by rw [eL, ← et]; exact take_pre
    obtain ⟨w, w1, w2⟩ := ew 0 j rfl
    have w1 : (ll h Ln)[k]? = some w := w1
    have ek : w32 ((k : Int) + 1) = ((k + 1 : Nat) : Int) := by rw [w32_s (by omega) (by omega)]; rfl
    have es : P_J2_size G Ln h = some (((ll h Ln).length : Nat) : Int) := by unfold P_J2_size; rw [gd_pos C.2.1]
    have st : C_1_resolveInstance_92s G pr f ((k : Int), h) = some (.inl (((k + 1 : Nat) : Int), ruH h pr (if tokw S j ∈ tn then [(tokq S j : Int)] else []))) := by
      have tw := c_twice (G := G) (S := S) (j := j) kp C xT w1 w2
      rw [xt] at tw
      unfold C_1_resolveInstance_92s
      simp only
      rw [e1, e2, gd_pos ⟨kf, ks, C.2.1⟩, es, Option.bind_some, if_neg (by omega), gd_pos ⟨kf, ks⟩, tw, Option.bind_some, ek]
    have F2 : ∀ B, hF [112] h (ruH h pr B) := fun B => ruH_F
    rw [om_loop_in st, c_nmI js (k + 1) (tn ++ [tokw S j]) (ruH h pr (if tokw S j ∈ tn then [(tokq S j : Int)] else [])) kf e1 ks e2 kp (hF_SCc (F2 _) (by decide) C) (by rw [eL, List.append_assoc]; rfl) (by rw [List.length_append, et]; rfl) (fun i l e => by
      obtain ⟨w', a1, a2⟩ := ew (i + 1) l e
      exact ⟨w', by rw [show k + 1 + i = k + (i + 1) by omega]; exact a1, by rw [((F2 _).2 w').2.1 1188 (by decide)]; exact a2⟩), ruH_app]
    rfl
/-- one name more stands around, in the twin; the first two are put down as an inst's -/
def pushI (τ : tS) (f k : Nat) (w : Int) : tS := us (ua (if k < 2 then ua τ 706 (2 * f + k) w else τ) 778 k w) 784 ((k + 1 : Nat) : Int)
theorem pushI_fr {w : Int} : fr [784] [706, 778] τ (pushI τ f k w) := ⟨fun x hx => by
  unfold pushI
  rw [gs_us, if_neg (fun z => hx (by rw [z]; simp))]
  by_cases c : k < 2
  · rw [if_pos c]; rfl
  · rw [if_neg c]; rfl, fun x hx i => by
  have hx' : x ≠ 706 ∧ x ≠ 778 := by simpa using hx
  unfold pushI
  rw [ga_us, ga_ua, if_neg (fun z => hx'.2 z.1)]
  by_cases c : k < 2
  · rw [if_pos c, ga_ua, if_neg (fun z => hx'.1 z.1)]
  · rw [if_neg c]⟩
theorem pushI_706 {w : Int} : (k < 2 → ga (pushI τ f k w) 706 (2 * f + k) = w) ∧ ∀ i, (i ≠ 2 * f + k ∨ 2 ≤ k) → ga (pushI τ f k w) 706 i = ga τ 706 i := by
  unfold pushI
  refine ⟨fun c => ?_, fun i hi => ?_⟩
  · rw [ga_us, ga_ua, if_neg (fun z => by have := z.1; omega), if_pos c, ga_ua, if_pos ⟨rfl, rfl⟩]
  · rw [ga_us, ga_ua, if_neg (fun z => by have := z.1; omega)]
    by_cases c : k < 2
    · rw [if_pos c, ga_ua, if_neg (fun z => by have := z.2; omega)]
    · rw [if_neg c]
theorem pushI_sc {w : Nat} (C : SCt τ sc) (hk : sc.length = k) (h4 : k < 1099) : SCt (pushI τ f k (w : Int)) (sc ++ [w]) := by
  refine ⟨?_, by rw [List.length_append]; simp; omega, fun i v e => ?_⟩
  · unfold pushI
    rw [gs_us, if_pos rfl, List.length_append, hk]
    rfl
  · unfold pushI
    rw [ga_us, ga_ua]
    rcases snoc_get e with x | ⟨x, y⟩
    · have := (List.getElem?_eq_some_iff.mp x).1
      rw [if_neg (fun z => by have := z.2; omega)]
      by_cases c : k < 2
      · rw [if_pos c, ga_ua, if_neg (fun z => by have := z.1; omega)]
        exact C.2.2 i v x
      · rw [if_neg c]; exact C.2.2 i v x
    · rw [if_pos ⟨rfl, by omega⟩, y]
set_option maxHeartbeats 1000000 in
theorem t_nmI {j1 len : Nat} (hN : ndN N) (hS : S.length ≤ 2000) (hf : f < 20) (hd : d < 700) (hl : len < 1099) (tk : ∀ i, i < len → tokk S (j1 + i) = 2) : ∀ (r k : Nat) (sc : List Nat) (tn : List (List Int)) (τ : tS), r + k = len → ((len = 0 ∨ ga τ 586 d = ((b + j1 : Nat) : Int)) ∧ ga τ 590 d = (len : Int)) → KU S b m N K sc τ n → sc.length = k → bdL N sc tn → (∀ i w : Nat, i < 2 → sc[i]? = some w → ga τ 706 (2 * f + i) = (w : Int)) →
    ∃ (τ' : tS) (sc' : List Nat), om_loop (T_fillInstance_133s (f : Int) (d : Int)) ((k : Int), τ) = some τ' ∧ KU S b m N K sc' τ' n ∧ fr [452, 456, 784] [706, 778] τ τ' ∧ bp τ' = mnl (bp τ) (nmBI S tn (List.range' (j1 + k) r)) ∧ bdL N sc' (tn ++ (List.range' (j1 + k) r).map (tokw S)) ∧ (∀ i w : Nat, i < 2 → sc'[i]? = some w → ga τ' 706 (2 * f + i) = (w : Int)) ∧ ∀ i, (i < 2 * f ∨ 2 * f + 2 ≤ i) → ga τ' 706 i = ga τ 706 i
  | 0, k, sc, tn, τ, hr, e59, U, hk, bd, e706 => by
    refine ⟨τ, sc, om_loop_out ?_, U, fr_refl _ _ _, rfl, by rw [show List.range' (j1 + k) 0 = [] from rfl, List.map_nil, List.append_nil]; exact bd, e706, fun _ _ => rfl⟩
    unfold T_fillInstance_133s
    simp only
    rw [if_pos (by omega), show ((d : Int)).toNat = d by omega, e59.2, if_pos (by omega)]
  | r + 1, k, sc, tn, τ, hr, e59, U, hk, bd, e706 => by
    have e586 : ga τ 586 d = ((b + j1 : Nat) : Int) := e59.1.resolve_left (by omega)
    have bm := U.2.1.2.1
    have tkk := tk k (by omega)
    obtain ⟨w, w1, w2, w3⟩ := t_nameAt U.2.1 (j := j1 + k) (.inl tkk)
    have isc := t_inScope U.2.2.2.1 w
    have sA := scA_bdL hN bd w _ w2
    have ea : w32 (((b + j1 : Nat) : Int) + (k : Int)) = ((b + (j1 + k) : Nat) : Int) := by rw [w32_s (by omega) (by omega)]; omega
    have ek : w32 ((k : Int) + 1) = ((k + 1 : Nat) : Int) := by rw [w32_s (by omega) (by omega)]; rfl
    have rg : List.range' (j1 + k) (r + 1) = (j1 + k) :: List.range' (j1 + (k + 1)) r := by rw [List.range'_succ]; rfl
    have jm : j1 + k ≤ m := by omega
    have s183 : ∀ υ, KU S b m N K sc υ n → T_fillInstance_183 (f : Int) (d : Int) (k : Int) (w : Int) υ = some (.inl (((k + 1 : Nat) : Int), pushI υ f k (w : Int))) := by
      intro υ Uu
      have g84 : gs υ 784 = (k : Int) := by rw [Uu.2.2.2.1.1, hk]
      have s202 : ∀ ρ, gs ρ 784 = (k : Int) → T_fillInstance_202 (f : Int) (d : Int) (k : Int) (w : Int) ρ = some (.inl (((k + 1 : Nat) : Int), us (ua ρ 778 k (w : Int)) 784 ((k + 1 : Nat) : Int))) := by
        intro ρ e
        unfold T_fillInstance_202
        rw [e, if_pos (by omega), show ((k : Int)).toNat = k by omega, ek]
      unfold T_fillInstance_183 pushI
      by_cases c : k < 2
      · rw [if_neg (by omega), if_pos c, show w32 (w32 (2 * (f : Int)) + (k : Int)) = ((2 * f + k : Nat) : Int) by rw [w32_s (x := 2 * (f : Int)) (by omega) (by omega), w32_s (by omega) (by omega)]; omega, if_pos (by omega), show (((2 * f + k : Nat) : Int)).toNat = 2 * f + k by omega]
        exact s202 _ g84
      · rw [if_pos (by omega), if_neg c]
        exact s202 _ g84
    have un : T_fillInstance_133s (f : Int) (d : Int) ((k : Int), τ) = if (if w ∈ sc then ((sc.idxOf w : Nat) : Int) else -1) = -1 then T_fillInstance_183 (f : Int) (d : Int) (k : Int) (w : Int) τ else (T_breaks 2 ((b + (j1 + k) : Nat) : Int) τ).bind fun p3 => T_fillInstance_183 (f : Int) (d : Int) (k : Int) (w : Int) p3 := by
      unfold T_fillInstance_133s
      simp only
      rw [if_pos (by omega), show ((d : Int)).toNat = d by omega, e59.2, if_neg (by omega), if_pos (by omega), e586, ea, w1, Option.bind_some, isc, Option.bind_some, if_pos (show (0 : Int) ≤ (d : Int) ∧ (d : Int) < 700 by omega)]
    obtain ⟨τb, b1, b2, b3, b4⟩ := KU_break U jm hS
    have go : ∀ υ, KU S b m N K sc υ n → fr [452, 456] [] τ υ → bp υ = mnl (bp τ) (if tokw S (j1 + k) ∈ tn then [(tokq S (j1 + k) : Int)] else []) → T_fillInstance_133s (f : Int) (d : Int) ((k : Int), τ) = some (.inl (((k + 1 : Nat) : Int), pushI υ f k (w : Int))) → ∃ (τ' : tS) (sc' : List Nat), om_loop (T_fillInstance_133s (f : Int) (d : Int)) ((k : Int), τ) = some τ' ∧ KU S b m N K sc' τ' n ∧ fr [452, 456, 784] [706, 778] τ τ' ∧ bp τ' = mnl (bp τ) (nmBI S tn (List.range' (j1 + k) (r + 1))) ∧ bdL N sc' (tn ++ (List.range' (j1 + k) (r + 1)).map (tokw S)) ∧ (∀ i w : Nat, i < 2 → sc'[i]? = some w → ga τ' 706 (2 * f + i) = (w : Int)) ∧ ∀ i, (i < 2 * f ∨ 2 * f + 2 ≤ i) → ga τ' 706 i = ga τ 706 i := by
      intro υ Uu Ru bu st
      have C2 := pushI_sc (f := f) (w := w) Uu.2.2.2.1 hk (by omega)
      obtain ⟨U2, bb2⟩ := KU_re Uu (pushI_fr (f := f) (k := k) (w := (w : Int))) (by decide) C2
      have F2 : fr [452, 456, 784] [706, 778] τ (pushI υ f k (w : Int)) := fr_trans (fr_wide Ru (by decide) (by simp)) (fr_wide pushI_fr (by decide) (fun _ h => h))
      obtain ⟨τ', sc', z1, z2, z3, z4, z5, z6, z7⟩ := t_nmI hN hS hf hd hl tk r (k + 1) (sc ++ [w]) (tn ++ [tokw S (j1 + k)]) (pushI υ f k (w : Int)) (by omega) (by rw [F2.2 586 (by decide), F2.2 590 (by decide)]; exact e59) U2 (by rw [List.length_append, hk]; rfl) (bdL_more bd w2) (fun i w' hi e => by
        rcases snoc_get e with x | ⟨x, y⟩
        · have := (List.getElem?_eq_some_iff.mp x).1
          rw [pushI_706.2 _ (by omega), Ru.2 706 (by simp)]
          exact e706 i w' hi x
        · rw [x, hk, y]; exact pushI_706.1 (by omega))
      refine ⟨τ', sc', by rw [om_loop_in st]; exact z1, z2, fr_trans F2 z3, ?_, ?_, z6, fun i hi => ?_⟩
      · rw [z4, bb2, bu, rg, ← mnl_app]
        rfl
      · rw [rg, List.map_cons, ← List.singleton_append, ← List.append_assoc]
        exact z5
      · rw [z7 i hi, pushI_706.2 i (by omega), Ru.2 706 (by simp)]
    by_cases c : w ∈ sc
    · have i1 : ¬ (if w ∈ sc then ((sc.idxOf w : Nat) : Int) else -1) = -1 := by rw [if_pos c]; omega
      refine go τb b2 b3 (by rw [if_pos (sA.mp c)]; exact b4) ?_
      rw [un, if_neg i1, b1, Option.bind_some]
      exact s183 τb b2
    · have i1 : (if w ∈ sc then ((sc.idxOf w : Nat) : Int) else -1) = -1 := by rw [if_neg c]
      refine go τ U (fr_refl _ _ _) (by rw [if_neg (fun z => c (sA.mpr z))]; rfl) ?_
      rw [un, if_pos i1]
      exact s183 τ U
end LNN
