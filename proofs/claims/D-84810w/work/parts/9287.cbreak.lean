set_option maxRecDepth 100000
/-! RULES BROKEN by greats and names, in the component -/
/-- what greats and names a declaration tells: their tokens -/
def gJ (p : PD) : List Nat := if p.1 = 5 then (p.2.1 + 1) :: p.2.2.2.1.elim [] (fun f => [f]) else []
def nJ (p : PD) : List Nat := if p.1 = 5 then p.2.2.2.2 else if p.1 = 6 then [] else [p.2.1]
def jlG (ps : List PD) : List Nat := ps.flatMap gJ
def jlN (ps : List PD) : List Nat := ps.flatMap nJ
/-- breaks of those that are built in (f) or told ahead -/
def toB (S : List Int) (f : List Int → Option Nat) : List (List Int) → List Nat → List Int
  | _, [] => []
  | tg, j :: js => (if f (tokw S j) = none ∧ tokw S j ∉ tg then [] else [(tokq S j : Int)]) ++ toB S f (tg ++ [tokw S j]) js
section LCB
variable {G : om_G} {A pr : Nat} {S : List Int} {h h' hr : om_H} {c k w : Nat} {L : List Int} {p : PD} {Lf LT : Nat → List Nat} {s : PS} {q : dcl} {qs : List dcl} {ps : List PD} {Tg Tn : List (List Int)} {alo ahi : Nat}
theorem pst_J : (pst S s p).2.2.2.1 = s.2.2.2.1 ++ (gJ p).map (tokw S) ∧ (pst S s p).2.2.2.2.1 = s.2.2.2.2.1 ++ (nJ p).map (tokw S) := by
  by_cases h5 : p.1 = 5
  · rw [pst_5 h5]
    unfold gJ nJ
    rw [if_pos h5, if_pos h5]
    refine ⟨?_, rfl⟩
    show s.2.2.2.1 ++ [tokw S (p.2.1 + 1)] ++ oW S p.2.2.2.1 = _
    rw [List.append_assoc]
    cases p.2.2.2.1 <;> rfl
  · by_cases h6 : p.1 = 6
    · rw [pst_6 h6]
      unfold gJ nJ
      rw [if_neg h5, if_neg h5, if_pos h6]
      exact ⟨(List.append_nil _).symm, (List.append_nil _).symm⟩
    · unfold pst gJ nJ
      rw [if_neg h5, if_neg h6, if_neg h5, if_neg h5, if_neg h6]
      exact ⟨(List.append_nil _).symm, rfl⟩
theorem pss_J : ∀ (ps : List PD) (s : PS), (ps.foldl (pst S) s).2.2.2.1 = s.2.2.2.1 ++ (jlG ps).map (tokw S) ∧ (ps.foldl (pst S) s).2.2.2.2.1 = s.2.2.2.2.1 ++ (jlN ps).map (tokw S)
  | [], s => ⟨(List.append_nil _).symm, (List.append_nil _).symm⟩
  | p :: ps, s => by
    obtain ⟨a, b⟩ := pss_J ps (pst S s p)
    obtain ⟨c, d⟩ := pst_J (S := S) (s := s) (p := p)
    refine ⟨?_, ?_⟩
    · show (ps.foldl (pst S) (pst S s p)).2.2.2.1 = _
      rw [a, c, List.append_assoc, ← List.map_append]
      rfl
    · show (ps.foldl (pst S) (pst S s p)).2.2.2.2.1 = _
      rw [b, d, List.append_assoc, ← List.map_append]
      rfl
/-- words that are the tokens js -/
def wL (A : Nat) (S : List Int) (h : om_H) : List Nat → List Nat → Prop
  | [], [] => True
  | w :: ws, j :: js => wd h A S w j ∧ wL A S h ws js
  | _, _ => False
theorem wL_app {vs is : List Nat} (B : wL A S h vs is) : ∀ {ws js : List Nat}, wL A S h ws js → wL A S h (ws ++ vs) (js ++ is)
  | [], [], _ => B
  | _ :: _, _ :: _, c => ⟨c.1, wL_app B c.2⟩
  | [], _ :: _, c => c.elim
  | _ :: _, [], c => c.elim
theorem wL_len : ∀ {ws js : List Nat}, wL A S h ws js → ws.length = js.length
  | [], [], _ => rfl
  | _ :: _, _ :: _, c => by rw [List.length_cons, List.length_cons, wL_len c.2]
  | [], _ :: _, c => c.elim
  | _ :: _, [], c => c.elim
theorem wL_hF {D : List Nat} (F : hF D h h') (d : ∀ f ∈ [1188, 1192], f ∉ D) : ∀ {ws js : List Nat}, wL A S h ws js → wL A S h' ws js
  | [], [], _ => trivial
  | _ :: _, _ :: _, c => ⟨hF_wd F d c.1, wL_hF F d c.2⟩
  | [], _ :: _, c => c.elim
  | _ :: _, [], c => c.elim
theorem wL_WL (X : txC h A S) (hA : A < hz h) : ∀ {ws js : List Nat}, wL A S h ws js → (∀ w ∈ ws, w < hz h) → WL h ws (js.map (tokw S))
  | [], [], _, _ => trivial
  | w :: ws, j :: js, c, l => ⟨⟨l w List.mem_cons_self, by rw [c.1.2.1]; exact hA, wd_wb X c.1⟩, wL_WL X hA c.2 (fun v hv => l v (List.mem_cons_of_mem _ hv))⟩
  | [], _ :: _, c, _ => c.elim
  | _ :: _, [], c, _ => c.elim
theorem mC_wL {z0 z1 : Nat} : ∀ {k : Nat} {xs js : List Nat}, mC A S h z0 z1 c k xs js → wL A S h (xs.map (fun x => fR h 1242 x)) js
  | _, [], [], _ => trivial
  | _, _ :: _, _ :: _, m => ⟨m.1.2.2.1.2.2, mC_wL m.2⟩
  | _, [], _ :: _, m => m.elim
  | _, _ :: _, [], m => m.elim
theorem prC_wL : ∀ (qs : List dcl) (ps : List PD) (Lf : Nat → List Nat) (alo : Nat) (js is : List Nat), prC A S h qs ps Lf alo ahi → wL A S h (Lf 94) js → wL A S h (Lf 98) is → wL A S h (prgL h qs Lf 94) (js ++ jlG ps) ∧ wL A S h (prgL h qs Lf 98) (is ++ jlN ps)
  | [], [], Lf, alo, js, is, _, a, b => ⟨by rw [show jlG [] = [] from rfl, List.append_nil]; exact a, by rw [show jlN [] = [] from rfl, List.append_nil]; exact b⟩
  | q :: qs, p :: ps, Lf, alo, js, is, ⟨a0, amid, r1, r2, D, P⟩, a, b => by
    rw [show jlG (p :: ps) = gJ p ++ jlG ps from rfl, show jlN (p :: ps) = nJ p ++ jlN ps from rfl, ← List.append_assoc, ← List.append_assoc]
    refine prC_wL qs ps (dclLf h Lf q) amid (js ++ gJ p) (is ++ nJ p) P ?_ ?_
    · rcases D with ⟨d, D⟩ | ⟨d, D⟩ | ⟨d, D⟩
      · have e : dclLf h Lf q = clsLf Lf h q.2.1 := by unfold dclLf; rw [if_pos (by omega)]
        rw [e]
        show wL A S h (Lf 94 ++ clsG h q.2.1) _
        refine wL_app ?_ a
        unfold gJ clsG
        rw [if_pos d]
        obtain ⟨c1, c2, c3, c4, c5, c6⟩ := D
        rcases c5 with ⟨e, e0⟩ | ⟨f, e, e0, e1⟩
        · rw [if_pos e0, e]; exact ⟨c3.2.2, trivial⟩
        · rw [if_neg e0, e]; exact ⟨c3.2.2, e1.2.2, trivial⟩
      · have e : dclLf h Lf q 94 = Lf 94 := by unfold dclLf; rw [if_neg (by omega), if_pos (by omega)]; rfl
        rw [e]
        unfold gJ
        rw [if_neg (by omega), List.append_nil]; exact a
      · have e : dclLf h Lf q 94 = Lf 94 := by unfold dclLf; rw [if_neg (by omega), if_neg (by omega)]; rfl
        rw [e]
        unfold gJ
        rw [if_neg (by omega), List.append_nil]; exact a
    · rcases D with ⟨d, D⟩ | ⟨d, D⟩ | ⟨d, D⟩
      · have e : dclLf h Lf q = clsLf Lf h q.2.1 := by unfold dclLf; rw [if_pos (by omega)]
        rw [e]
        show wL A S h (Lf 98 ++ (ll h (fR h 1230 q.2.1)).map (fun x => fR h 1242 x)) _
        refine wL_app ?_ b
        unfold nJ
        rw [if_pos d]
        exact mC_wL D.2.2.2.2.2.1.2.2
      · have e : dclLf h Lf q 98 = Lf 98 := by unfold dclLf; rw [if_neg (by omega), if_pos (by omega)]; rfl
        rw [e]
        unfold nJ
        rw [if_neg (by omega), if_pos d, List.append_nil]; exact b
      · have e : dclLf h Lf q 98 = Lf 98 ++ [fR h 1530 q.2.1] := by unfold dclLf; rw [if_neg (by omega), if_neg (by omega)]; rfl
        rw [e]
        refine wL_app ?_ b
        unfold nJ
        rw [if_neg (by omega), if_neg (by omega)]
        exact ⟨D.2.2.2.2, trivial⟩
  | [], _ :: _, _, _, _, _, P, _, _ => P.elim
  | _ :: _, [], _, _, _, _, P, _, _ => P.elim
/-- a rule broken -/
theorem c_rule {x : Int} (kp : kd h pr = 2) : C_1_rule G pr x h = some (sI h 112 pr (mnl (fI h 112 pr) [x])) := by
  unfold C_1_rule
  rw [gd_pos kp, show (if x < fI h 112 pr then x else fI h 112 pr) = mnl (fI h 112 pr) [x] by
    show _ = min (fI h 112 pr) x
    by_cases c : x < fI h 112 pr
    · rw [if_pos c]; omega
    · rw [if_neg c]; omega]
/-- breaks, one after another -/
def ruH (h : om_H) (pr : Nat) (B : List Int) : om_H := sI h 112 pr (mnl (fI h 112 pr) B)
theorem ruH_nil : ruH h pr [] = h := sI_id rfl
theorem ruH_app {B C : List Int} : ruH (ruH h pr B) pr C = ruH h pr (B ++ C) := by
  unfold ruH
  rw [sI_sI, fI_eq, ← mnl_app]
theorem ruH_F {B : List Int} : hF [112] h (ruH h pr B) := hF_sI (by decide)
theorem ruH_kd {B : List Int} {a : Nat} : kd (ruH h pr B) a = kd h a := rfl
theorem c_rule' {x : Int} (kp : kd h pr = 2) : C_1_rule G pr x h = some (ruH h pr [x]) := c_rule kp
theorem c_tooMany {x : Int} {i n : Nat} (kp : kd h pr = 2) : C_1_tooMany G pr (i : Int) (n : Int) x h = some (ruH h pr (if i < n then [] else [x])) := by
  unfold C_1_tooMany
  by_cases c : i < n
  · rw [if_pos (by omega), if_pos c, ruH_nil]
  · rw [if_neg (by omega), if_neg c, gd_pos kp, c_rule' kp, Option.bind_some]
theorem c_twice {Ln j : Nat} {Ls : List (List Int)} (kp : kd h pr = 2) (C : SCc h Ln Ls) (e : Ls[k]? = some L) (e2 : (ll h Ln)[k]? = some w) (W : fI h 1188 w = (tokq S j : Int)) : C_1_twice G pr Ln (k : Int) h = some (ruH h pr (if L ∈ Ls.take k then [(tokq S j : Int)] else [])) := by
  unfold C_1_twice
  rw [c_isTold C e, Option.bind_some]
  by_cases y : L ∈ Ls.take k
  · obtain ⟨v, v1, v2, v3, v4, v5⟩ := WL_at (G := G) C e
    rw [e2] at v1
    rw [← Option.some.inj v1] at v4 v5
    rw [if_pos y, if_neg (by decide), if_pos y, gd_pos C.2.1, v5, Option.bind_some, gd_pos ⟨.inr v4.1, v4.1, kp⟩, W, c_rule' kp, Option.bind_some]
  · rw [if_neg y, if_pos rfl, if_neg y, ruH_nil]
theorem wL_get : ∀ {ws js : List Nat} {i j : Nat}, wL A S h ws js → js[i]? = some j → ∃ w, ws[i]? = some w ∧ wd h A S w j
  | w :: ws, j :: js, 0, l, c, e => ⟨w, rfl, by rw [← Option.some.inj e]; exact c.1⟩
  | w :: ws, j :: js, i + 1, l, c, e => wL_get (ws := ws) (js := js) (i := i) c.2 e
  | [], [], _, _, _, e => by cases e
  | [], _ :: _, _, _, c, _ => c.elim
  | _ :: _, [], _, _, c, _ => c.elim
theorem toB_one {f : List Int → Option Nat} {x : Int} {Ls : List (List Int)} {i : Nat} (hx : Decidable (f L = none)) : mnl x ((if f L = none then [] else [(i : Int)]) ++ (if L ∈ Ls then [(i : Int)] else [])) = mnl x (if f L = none ∧ L ∉ Ls then [] else [(i : Int)]) := by
  by_cases a : f L = none
  · by_cases b : L ∈ Ls
    · rw [if_pos a, if_pos b, if_neg (fun z => z.2 b)]; rfl
    · rw [if_pos a, if_neg b, if_pos ⟨a, b⟩]; rfl
  · by_cases b : L ∈ Ls
    · rw [if_neg a, if_pos b, if_neg (fun z => a z.1)]
      show min (min x i) i = min x i
      omega
    · rw [if_neg a, if_neg b, if_neg (fun z => a z.1)]; rfl
theorem ruH_eq {B C : List Int} (e : ∀ x, mnl x B = mnl x C) : ruH h pr B = ruH h pr C := by
  unfold ruH
  rw [e]
theorem ruH_FD (F : hF FD hr h) {B : List Int} : hF FD hr (ruH h pr B) := hF_trans F (hF_mono ruH_F (by decide))
/-- the greats -/
theorem b_greats (B : CBs A S hr pr LT Tg Tn) : ∀ (js : List Nat) (k : Nat) (tg : List (List Int)) (h : om_H), hF FD hr h → Tg = tg ++ js.map (tokw S) → tg.length = k → (∀ i j, js[i]? = some j → ∃ w, (LT 94)[k + i]? = some w ∧ wd hr A S w j) → (LT 94).length = k + js.length →
    om_loop (C_1_resolve_13s G pr) ((k : Int), h) = some (ruH h pr (toB S cnI tg js))
  | [], k, tg, h, F, _, _, _, el => by
    refine om_loop_out ?_
    unfold C_1_resolve_13s
    simp only
    rw [gd_pos (CB_kd B F (by simp)), CB_size B F (by simp), Option.bind_some, if_pos (by rw [el]; simp), show toB S cnI tg [] = [] from rfl, ruH_nil]
  | j :: js, k, tg, h, F, eT, p1, ew, el => by
    have x4 := (B.2.2.1 94 (by simp)).2.2.2
    have el' : (LT 94).length = k + (js.length + 1) := el
    obtain ⟨w, w1, w2⟩ := ew 0 j rfl
    have w1 : (LT 94)[k]? = some w := w1
    have xT : Tg[k]? = some (tokw S j) := by rw [eT, ← p1]; exact at_len
    have xt : Tg.take k = tg := by rw [eT, ← p1]; exact take_pre
    have ewk : w32 ((k : Int) + 1) = ((k + 1 : Nat) : Int) := by rw [w32_s (by omega) (by omega)]; rfl
    have kp := (CB_kd B F (f := 94) (by simp)).1
    obtain ⟨v, v1, v2, v3, v4, v5⟩ := WL_at (G := G) (CB_SCg B F) xT
    have ev : v = w := by
      have := CB_get (G := G) B F (f := 94) (by simp) w1
      rw [v5] at this
      exact Option.some.inj this
    rw [ev] at v1 v4 v5
    have pl : fI h 1188 w = (tokq S j : Int) := by rw [(F.2 w).2.1 1188 (by decide)]; exact w2.2.2.1
    have tw : ∀ C, C_1_resolve_59 G pr (k : Int) (ruH h pr C) = some (.inl (((k + 1 : Nat) : Int), ruH h pr (C ++ if tokw S j ∈ tg then [(tokq S j : Int)] else []))) := by
      intro C
      have F' := ruH_FD (pr := pr) F (B := C)
      unfold C_1_resolve_59
      have kp' : kd (ruH h pr C) pr = 2 := kp
      have v1' : (ll (ruH h pr C) (fR (ruH h pr C) 94 pr))[k]? = some w := v1
      have pl' : fI (ruH h pr C) 1188 w = (tokq S j : Int) := by rw [(F'.2 w).2.1 1188 (by decide)]; exact w2.2.2.1
      rw [gd_pos kp', c_twice (S := S) (j := j) (L := tokw S j) (w := w) kp' (CB_SCg B F') xT v1' pl', xt, Option.bind_some, ewk, ruH_app]
    have st : C_1_resolve_13s G pr ((k : Int), h) = some (.inl (((k + 1 : Nat) : Int), ruH h pr (if cnI (tokw S j) = none ∧ tokw S j ∉ tg then [] else [(tokq S j : Int)]))) := by
      rw [← ruH_eq (fun x => toB_one (f := cnI) (L := tokw S j) (Ls := tg) (i := tokq S j) (x := x) inferInstance)]
      unfold C_1_resolve_13s
      simp only
      rw [gd_pos (CB_kd B F (by simp)), CB_size B F (by simp), Option.bind_some, if_neg (by omega), gd_pos (CB_kd B F (by simp)), v5, Option.bind_some, gd_pos (.inr v4.1), c_isCon v4, Option.bind_some]
      by_cases z : cnI (tokw S j) = none
      · rw [if_pos z, if_pos rfl, if_pos z]
        have := tw []
        rw [ruH_nil] at this
        exact this
      · rw [if_neg z, if_neg (by decide), if_neg z, gd_pos (CB_kd B F (by simp)), Option.bind_some, gd_pos ⟨.inr v4.1, v4.1, kp⟩, pl, c_rule' kp, Option.bind_some]
        exact tw _
    rw [om_loop_in st, b_greats B js (k + 1) (tg ++ [tokw S j]) _ (ruH_FD F) (by rw [eT, List.append_assoc]; rfl) (by rw [List.length_append, p1]; rfl) (fun i l e => by obtain ⟨w, a, b⟩ := ew (i + 1) l e; exact ⟨w, by rw [show k + 1 + i = k + (i + 1) by omega]; exact a, b⟩) (by omega), ruH_app]
    rfl
/-- the names -/
theorem b_names (B : CBs A S hr pr LT Tg Tn) : ∀ (js : List Nat) (k : Nat) (tn : List (List Int)) (h : om_H), hF FD hr h → Tn = tn ++ js.map (tokw S) → tn.length = k → (∀ i j, js[i]? = some j → ∃ w, (LT 98)[k + i]? = some w ∧ wd hr A S w j) → (LT 98).length = k + js.length →
    om_loop (C_1_resolve_76s G pr) ((k : Int), h) = some (ruH h pr (toB S btI tn js))
  | [], k, tn, h, F, _, _, _, el => by
    refine om_loop_out ?_
    unfold C_1_resolve_76s
    simp only
    rw [gd_pos (CB_kd B F (by simp)), CB_size B F (by simp), Option.bind_some, if_pos (by rw [el]; simp), show toB S btI tn [] = [] from rfl, ruH_nil]
  | j :: js, k, tn, h, F, eT, p1, ew, el => by
    have x4 := (B.2.2.1 98 (by simp)).2.2.2
    have el' : (LT 98).length = k + (js.length + 1) := el
    obtain ⟨w, w1, w2⟩ := ew 0 j rfl
    have w1 : (LT 98)[k]? = some w := w1
    have xT : Tn[k]? = some (tokw S j) := by rw [eT, ← p1]; exact at_len
    have xt : Tn.take k = tn := by rw [eT, ← p1]; exact take_pre
    have ewk : w32 ((k : Int) + 1) = ((k + 1 : Nat) : Int) := by rw [w32_s (by omega) (by omega)]; rfl
    have kp := (CB_kd B F (f := 98) (by simp)).1
    obtain ⟨v, v1, v2, v3, v4, v5⟩ := WL_at (G := G) (CB_SCn B F) xT
    have ev : v = w := by
      have := CB_get (G := G) B F (f := 98) (by simp) w1
      rw [v5] at this
      exact Option.some.inj this
    rw [ev] at v1 v4 v5
    have pl : fI h 1188 w = (tokq S j : Int) := by rw [(F.2 w).2.1 1188 (by decide)]; exact w2.2.2.1
    have tw : ∀ C, C_1_resolve_122 G pr (k : Int) (ruH h pr C) = some (.inl (((k + 1 : Nat) : Int), ruH h pr (C ++ if tokw S j ∈ tn then [(tokq S j : Int)] else []))) := by
      intro C
      have F' := ruH_FD (pr := pr) F (B := C)
      unfold C_1_resolve_122
      have kp' : kd (ruH h pr C) pr = 2 := kp
      have v1' : (ll (ruH h pr C) (fR (ruH h pr C) 98 pr))[k]? = some w := v1
      have pl' : fI (ruH h pr C) 1188 w = (tokq S j : Int) := by rw [(F'.2 w).2.1 1188 (by decide)]; exact w2.2.2.1
      rw [gd_pos kp', c_twice (S := S) (j := j) (L := tokw S j) (w := w) kp' (CB_SCn B F') xT v1' pl', xt, Option.bind_some, ewk, ruH_app]
    have st : C_1_resolve_76s G pr ((k : Int), h) = some (.inl (((k + 1 : Nat) : Int), ruH h pr (if btI (tokw S j) = none ∧ tokw S j ∉ tn then [] else [(tokq S j : Int)]))) := by
      rw [← ruH_eq (fun x => toB_one (f := btI) (L := tokw S j) (Ls := tn) (i := tokq S j) (x := x) inferInstance)]
      unfold C_1_resolve_76s
      simp only
      rw [gd_pos (CB_kd B F (by simp)), CB_size B F (by simp), Option.bind_some, if_neg (by omega), gd_pos (CB_kd B F (by simp)), v5, Option.bind_some, gd_pos (.inr v4.1), c_builtOf v4, Option.bind_some]
      cases z : btI (tokw S j) with
      | none =>
        rw [if_pos (show oI none < 0 by decide), if_pos rfl]
        have := tw []
        rw [ruH_nil] at this
        exact this
      | some i =>
        rw [if_neg (show ¬ oI (some i) < 0 by show ¬ ((i : Int) < 0); omega), if_neg (by simp), gd_pos (CB_kd B F (by simp)), Option.bind_some, gd_pos ⟨.inr v4.1, v4.1, kp⟩, pl, c_rule' kp, Option.bind_some]
        exact tw _
    rw [om_loop_in st, b_names B js (k + 1) (tn ++ [tokw S j]) _ (ruH_FD F) (by rw [eT, List.append_assoc]; rfl) (by rw [List.length_append, p1]; rfl) (fun i l e => by obtain ⟨w, a, b⟩ := ew (i + 1) l e; exact ⟨w, by rw [show k + 1 + i = k + (i + 1) by omega]; exact a, b⟩) (by omega), ruH_app]
    rfl
end LCB
