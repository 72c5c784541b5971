set_option maxRecDepth 100000
/-! THE COMPONENT: a dictionary of an inst: the types and the conditions -/
/-- one's own dictionary, being filled -/
def OwnS (G : om_G) (N : List (List Int)) (cl : Nat → Nat) (tb l0 sc : Nat) (rest : List (Nat × List Nat)) (Sl Gx : Nat → Prop) (io : Nat → Nat) (ab : List (Option Nat)) (ins : List INs) (gv : List GVs) (h0 : om_H) (us0 fs0 : List Nat) (Dk0 : Nat → Prop) (ds0 : List Nat) (dm0 d c i : Nat) (h : om_H) (us fs : List Nat) (Dk : Nat → Prop) (ds : List Nat) (dm : Nat) (s : WS) (q : Nat) : Prop := (HvC G h N cl tb l0 sc us fs rest Sl Gx io ab ins gv Dk ds dm s ∧ KH N cl tb l0 sc rest Sl Gx h0 us0 fs0 Dk0 ds0 dm0 h us fs Dk ds dm q 0 0) ∧ (PoolC G h0 tb Sl Dk0 ds0 dm0 ∧ (Dl3 Dk ds dm0 dm d ∧ ds[dm0]? = some d ∧ dm0 + 1 ≤ dm) ∧ ¬ Dlv h0 Dk0 ds0 dm0 d) ∧ fI h 1616 d = -1 ∧ fR h 1622 d = 0 ∧ fR h 1614 d = cl c ∧ fR h 1626 d = io i ∧ fR h 1638 d = 0
/-- the types of an inst's dictionary -/
def tyL (h : om_H) (N : List (List Int)) (cl : Nat → Nat) (U : Nat → Prop) (u : Ty) (L n : Nat) : Prop := (ll h L).length = n ∧ ∀ (k y : Nat), (ll h L)[k]? = some y → tyC h N cl U (if k = 0 then tL u else tR' u) y
/-- dictionaries, one by one -/
def dcS (h : om_H) (N : List (List Int)) (cl : Nat → Nat) (U Lv : Nat → Prop) (io : Nat → Nat) (ab : List (Option Nat)) (gv : List GVs) (as : List Dc) (l : List Nat) : Prop := l.length = as.length ∧ ∀ (k y : Nat) (a : Dc), l[k]? = some y → as[k]? = some a → DcX h N cl U Lv io ab gv a [y]
def chD : List Dc → Dc
  | [] => .leaf
  | a :: l => dnx a (chD l)
section LBI
variable {G : om_G} {N : List (List Int)} {cl : Nat → Nat} {tb l0 sc : Nat} {rest : List (Nat × List Nat)} {Sl Gx U U' Lv Lv' : Nat → Prop} {io : Nat → Nat} {ab : List (Option Nat)} {ins : List INs} {gv : List GVs} {h0 h h1 : om_H} {us0 fs0 us fs us1 fs1 : List Nat} {Dk0 Dk Dk1 : Nat → Prop} {ds0 ds ds1 : List Nat} {dm0 dm dm1 d c i : Nat} {s s1 : WS} {q q1 : Nat}
theorem DcX_36 {a : Dc} {y : Nat} (H : DcX h N cl U Lv io ab gv a [y]) : (y ≠ 0 ∧ y < hz h ∧ kd h y = 36) ∧ Lv y := by
  rcases a with ⟨t, a, _, cs, nx⟩ | _
  · obtain ⟨x, l', e1, e2, e3, e4, e5⟩ := H
    injection e1 with e1 _
    rw [e1]
    split at e3
    · obtain ⟨g, _, g2⟩ := e3
      cases n : a.2.1 with
      | zero => rw [n] at g2; exact ⟨g2.2.1, g2.1⟩
      | succ n' => rw [n] at g2; exact ⟨g2.2.1, g2.1⟩
    · exact ⟨e3.2.1, e3.1⟩
  · cases H
theorem DcX_dnx {a b : Dc} {y : Nat} {l : List Nat} (A : DcX h N cl U Lv io ab gv a [y]) (B : DcX h N cl U Lv io ab gv b l) : DcX h N cl U Lv io ab gv (dnx a b) (y :: l) := by
  rcases a with ⟨t, a, x0, cs, nx⟩ | _
  · obtain ⟨x, l', e1, e2, e3, e4, e5⟩ := A
    injection e1 with e1 _
    exact ⟨x, l, by rw [e1], e2, e3, e4, B⟩
  · cases A
theorem dcS_ch : ∀ {as : List Dc} {l : List Nat}, dcS h N cl U Lv io ab gv as l → DcX h N cl U Lv io ab gv (chD as) l
  | [], l, H => by
    have : l = [] := List.length_eq_zero_iff.mp H.1
    exact this
  | a :: as, [], H => by have := H.1; simp at this
  | a :: as, y :: l, H => DcX_dnx (H.2 0 y a rfl rfl) (dcS_ch ⟨by have := H.1; simpa using this, fun k y' a' e1 e2 => H.2 (k + 1) y' a' e1 e2⟩)
theorem dcL_ch {r : Nat → Ty → Option Dc} {u : Ty} : ∀ {l : List (Nat × Nat)} {bs : List Dc}, l.length = bs.length → (∀ (k : Nat) (p : Nat × Nat) (b : Dc), l[k]? = some p → bs[k]? = some b → r p.1 (if p.2 = 0 then tL u else tR' u) = some b) → dcL r u l = some (chD bs)
  | [], [], _, _ => rfl
  | [], b :: bs, e, _ => by simp at e
  | p :: l, [], e, _ => by simp at e
  | p :: l, b :: bs, e, H => by
    show (r p.1 (if p.2 = 0 then tL u else tR' u)).bind _ = _
    rw [H 0 p b rfl rfl, Option.bind_some, dcL_ch (l := l) (bs := bs) (by simpa using e) (fun k p' b' e1 e2 => H (k + 1) p' b' e1 e2)]
    rfl
theorem dcS_KG (P : PoolC G h tb Sl Dk ds dm) {z0 u0 : Nat} (K : KG N cl tb l0 rest Sl h us fs Dk ds dm h1 us1 fs1 Dk1 ds1 dm1 q z0 u0) {as : List Dc} {l : List Nat} {lo : Nat} (hlo : lo ≤ ds.length) (H : dcS h N cl (UU us rest) (Dl3 Dk ds lo dm) io ab gv as l) : dcS h1 N cl (UU us1 rest) (Dl3 Dk1 ds1 lo dm1) io ab gv as l := ⟨H.1, fun k y a e1 e2 => DcX_KG P K hlo (H.2 k y a e1 e2)⟩
theorem OwnS_dd (O : OwnS G N cl tb l0 sc rest Sl Gx io ab ins gv h0 us0 fs0 Dk0 ds0 dm0 d c i h us fs Dk ds dm s q) : (Dk d ∧ d ∈ ds) ∧ d ∈ ds.take (dm0 + 1) ∧ dm0 + 1 ≤ ds.length ∧ (d ≠ 0 ∧ d < hz h ∧ kd h d = 36) := by
  obtain ⟨⟨H, K⟩, ⟨P0, ⟨o1, o2, o3⟩, o4⟩, o5⟩ := O
  have dl := (List.getElem?_eq_some_iff.mp o2).1
  refine ⟨⟨o1.1, List.mem_of_getElem? o2⟩, ?_, dl, (H.2.1.2.2.2.2.2.1 d o1.1).1⟩
  refine List.mem_of_getElem? (i := dm0) ?_
  rw [List.getElem?_take_of_lt (by omega)]
  exact o2
/-- one's own dictionary stays while others are made -/
theorem OwnS_KH (O : OwnS G N cl tb l0 sc rest Sl Gx io ab ins gv h0 us0 fs0 Dk0 ds0 dm0 d c i h us fs Dk ds dm s q) (K : KH N cl tb l0 sc rest Sl Gx h us fs Dk ds dm h1 us1 fs1 Dk1 ds1 dm1 q1 0 0) (H1 : HvC G h1 N cl tb l0 sc us1 fs1 rest Sl Gx io ab ins gv Dk1 ds1 dm1 s1) : OwnS G N cl tb l0 sc rest Sl Gx io ab ins gv h0 us0 fs0 Dk0 ds0 dm0 d c i h1 us1 fs1 Dk1 ds1 dm1 s1 (q + q1) ∧ eqA d h h1 ∧ (fR h 1630 d ≠ 0 → eqA (fR h 1630 d) h h1) ∧ (fR h 1634 d ≠ 0 → eqA (fR h 1634 d) h h1) := by
  obtain ⟨⟨H, K0⟩, ⟨P0, ⟨o1, o2, o3⟩, o4⟩, o5, o6, o7, o8, o9⟩ := O
  obtain ⟨⟨z1, u1, KG1, _, _⟩, _, _⟩ := id K
  have ed := (KG1.2.1 d (Dl3_v o1)).2
  have hlo : dm0 ≤ ds.length := by have := (List.getElem?_eq_some_iff.mp o2).1; omega
  obtain ⟨e, e1, e2⟩ := KG1.2.2.1.2.2.2
  refine ⟨⟨⟨H1, KH_trans K0 K⟩, ⟨P0, ⟨Dl3_next H.2.1 KG1.2.2.1 hlo o1, ?_, by have := KG1.2.2.1.2.2.1; omega⟩, o4⟩, by rw [ed.2.1]; exact o5, by rw [ed.2.2.1]; exact o6, by rw [ed.2.2.1]; exact o7, by rw [ed.2.2.1]; exact o8, by rw [ed.2.2.1]; exact o9⟩, ed, fun n => (KG1.2.1 _ ⟨d, o1.1, o1.2.2, .inr ⟨n, .inl rfl⟩⟩).2, fun n => (KG1.2.1 _ ⟨d, o1.1, o1.2.2, .inr ⟨n, .inr rfl⟩⟩).2⟩
  rw [e1, List.getElem?_append_left (by have := (List.getElem?_eq_some_iff.mp o2).1; omega)]
  exact o2
theorem OwnS_add (nd : ndN N) (O : OwnS G N cl tb l0 sc rest Sl Gx io ab ins gv h0 us0 fs0 Dk0 ds0 dm0 d c i h us fs Dk ds dm s q) {f0 cap x : Nat} (o : (f0 = 1630 ∧ cap = 2) ∨ (f0 = 1634 ∧ cap = 4)) (n0 : fR h f0 d ≠ 0) (hx : objY G h x) (hy : ∀ y ∈ ll h (fR h f0 d), objY G h y) (hn : (ll h (fR h f0 d)).length < cap) : ∃ h1, P_J2_add G (fR h f0 d) x h = some (1, h1) ∧ OwnS G N cl tb l0 sc rest Sl Gx io ab ins gv h0 us0 fs0 Dk0 ds0 dm0 d c i h1 us fs Dk ds dm s q ∧ (∀ T a, tyC h N cl (UU us rest) T a → tyC h1 N cl (UU us rest) T a) ∧ ll h1 (fR h f0 d) = ll h (fR h f0 d) ++ [x] ∧ (∀ L, L ≠ fR h f0 d → ll h1 L = ll h L) ∧ (∀ f y, fR h1 f y = fR h f y) ∧ (∀ y, kd h1 y = kd h y) ∧ hz h1 = hz h ∧ hT (oD h d) h h1 := by
  have dd := (OwnS_dd O).1
  obtain ⟨⟨H, K⟩, ⟨P0, o1, o4⟩, o5⟩ := O
  obtain ⟨a1, a2, a3, a4⟩ := own_add nd H K P0 dd o4 o n0 hx hy hn
  refine ⟨_, a1, ⟨⟨a2, a3⟩, ⟨P0, o1, o4⟩, o5⟩, a4, by rw [ll_sL, if_pos rfl], fun L hL => by rw [ll_sL, if_neg hL], fun _ _ => rfl, fun _ => rfl, rfl, hT_mono hT_sL (fun y _ w => .inr ⟨by rw [w]; exact n0, ?_⟩)⟩
  rcases o with ⟨e, _⟩ | ⟨e, _⟩
  · rw [e] at w; exact .inl w
  · rw [e] at w; exact .inr w
/-- how many parts -/
theorem c_many {w : Nat} {xu : Unit} {l r : Ty} {x : Nat} (hw : w ≤ 3) (cx : tyC h N cl U (.inner 1 w xu l r) x) : C_34_many G x h = some ((pN w : Nat) : Int) ∧ fI h 1560 x = (w : Int) := by
  obtain ⟨_, c1, c2, c3, _⟩ := cx
  have e : fI h 1560 x = (w : Int) := by
    rcases c3 with d | d | d | d
    · exact absurd d.1 (by decide)
    · exact d.2.1
    · exact absurd d.1 (by decide)
    · exact absurd d.1 (by decide)
  refine ⟨?_, e⟩
  unfold C_34_many
  rw [gd_pos c1, c2, if_neg (fun z => z rfl), gd_pos c1, e, c_pN hw]
  rfl
theorem c_part {w : Nat} {xu : Unit} {l r : Ty} {x k : Nat} (cx : tyC h N cl U (.inner 1 w xu l r) x) : ∃ y, C_34_part G x (k : Int) h = some y ∧ tyC h N cl U (if k = 0 then l else r) y := by
  obtain ⟨_, c1, c2, c3, c4, c5, _⟩ := cx
  unfold C_34_part
  by_cases k0 : k = 0
  · rw [if_neg (fun z => z (by omega)), gd_pos c1, if_pos k0]; exact ⟨_, rfl, c4⟩
  · rw [if_pos (by omega), gd_pos c1, if_neg k0]; exact ⟨_, rfl, c5⟩
theorem part_nl {w : Nat} {xu : Unit} {l r : Ty} (wf : wfT (.inner 1 w xu l r)) {k : Nat} (hk : k < pN w) : (if k = 0 then l else r) ≠ .leaf ∧ pN w ≤ 2 ∧ w ≤ 3 := by
  have sh := wf.1
  unfold shT at sh
  have w2 : 2 ≤ w ∧ k < w - 1 := by
    unfold pN at hk
    split at hk <;> omega
  rcases sh with ⟨z, _⟩ | ⟨_, h1, h2, h3⟩ | ⟨z, _⟩ | ⟨z, _⟩
  · omega
  · refine ⟨?_, by unfold pN; split <;> omega, h1⟩
    by_cases k0 : k = 0
    · rw [if_pos k0]
      exact fun e => by have := h2.mp e; omega
    · rw [if_neg k0]
      exact fun e => by have := h3.mp e; omega
  · omega
  · omega
/-- the types -/
theorem c_types (nd : ndN N) {r : Nat → Nat → Nat → Int → om_H → Option ((Nat ⊕ Nat) × om_H)} {w : Nat} {xu : Unit} {l t : Ty} (wf : wfT (.inner 1 w xu l t)) (hw : w ≤ 3) {x io' : Nat} {pl : Int} : ∀ (n k : Nat) (h : om_H), pN w - k = n → k ≤ pN w → OwnS G N cl tb l0 sc rest Sl Gx io ab ins gv h0 us0 fs0 Dk0 ds0 dm0 d c i h us fs Dk ds dm s q → tyC h N cl (UU us rest) (.inner 1 w xu l t) x → (fR h 1630 d ≠ 0 ∧ fR h 1634 d ≠ 0 ∧ ll h (fR h 1634 d) = []) → tyL h N cl (UU us rest) (.inner 1 w xu l t) (fR h 1630 d) k → ∃ h', om_loop (C_8_byInstance_85s G r l0 x pl io' d) ((k : Int), h) = some h' ∧ OwnS G N cl tb l0 sc rest Sl Gx io ab ins gv h0 us0 fs0 Dk0 ds0 dm0 d c i h' us fs Dk ds dm s q ∧ tyC h' N cl (UU us rest) (.inner 1 w xu l t) x ∧ (fR h' 1630 d ≠ 0 ∧ fR h' 1634 d ≠ 0 ∧ ll h' (fR h' 1634 d) = []) ∧ tyL h' N cl (UU us rest) (.inner 1 w xu l t) (fR h' 1630 d) (pN w) ∧ ∀ T a, tyC h N cl (UU us rest) T a → tyC h' N cl (UU us rest) T a
  | 0, k, h, en, hk, O, cx, L, Y => by
    have ek : k = pN w := by omega
    refine ⟨h, om_loop_out ?_, O, cx, L, by rw [← ek]; exact Y, fun _ _ c => c⟩
    unfold C_8_byInstance_85s
    simp only
    rw [gd_pos cx.2.1, (c_many hw cx).1, Option.bind_some, if_pos (by omega)]
  | n + 1, k, h, en, hk, O, cx, L, Y => by
    obtain ⟨⟨dD, dM⟩, dT, dL, d1, d2, d3⟩ := OwnS_dd O
    obtain ⟨y, y1, y2⟩ := c_part (G := G) (k := k) cx
    obtain ⟨pn1, pn2, _⟩ := part_nl wf (k := k) (by omega)
    have k34 := tyC_34 y2 pn1
    have P := O.1.1.2.1
    have l1 := (P.2.2.2.2.2.1 d dD).2.1.resolve_left L.1
    have ne : fR h 1634 d ≠ fR h 1630 d := fun e => by
      have := (P.2.2.2.2.2.2 d d 1634 1630 dD dD (.inr rfl) (.inl rfl) L.2.1 e).2
      omega
    obtain ⟨h1, a1, O1, a3, a4, a5, a6, a7, a8, a9⟩ := OwnS_add nd O (.inl ⟨rfl, rfl⟩) L.1 (.inl ⟨k34.2.2.1, by omega, by omega⟩) (fun y' hy' => by
      obtain ⟨j, jl, ej⟩ := List.mem_iff_getElem.mp hy'
      have ej' : (ll h (fR h 1630 d))[j]? = some y' := by rw [List.getElem?_eq_getElem jl, ej]
      have c := Y.2 j y' ej'
      have kk := tyC_34 (T := if j = 0 then l else t) c (part_nl wf (k := j) (by have := Y.1; omega)).1
      exact .inl ⟨kk.2.2.1, by omega, by omega⟩) (by rw [Y.1]; omega)
    have stp : C_8_byInstance_85s G r l0 x pl io' d ((k : Int), h) = some (.inl (((k + 1 : Nat) : Int), h1)) := by
      unfold C_8_byInstance_85s
      simp only
      rw [gd_pos cx.2.1, (c_many hw cx).1, Option.bind_some, if_neg (by omega), gd_pos ⟨d3, cx.2.1⟩, y1, Option.bind_some, gd_pos l1.1.2, a1, Option.bind_some, w32_s (by omega) (by omega)]
      rfl
    obtain ⟨h', r1, r2, r3, r4, r5, r6⟩ := c_types nd (r := r) wf hw (x := x) (io' := io') (pl := pl) n (k + 1) h1 (by omega) (by omega) O1 (a3 _ _ cx) ⟨by rw [a6]; exact L.1, by rw [a6]; exact L.2.1, by rw [a6, a5 _ ne]; exact L.2.2⟩ ⟨by rw [a6, a4, List.length_append, Y.1]; rfl, fun j y' e => by
      rw [a6, a4] at e
      by_cases jl : j < k
      · rw [List.getElem?_append_left (by rw [Y.1]; exact jl)] at e
        exact a3 _ _ (Y.2 j y' e)
      · have jk : j = k := by
          have := (List.getElem?_eq_some_iff.mp e).1
          rw [List.length_append, Y.1, List.length_singleton] at this
          omega
        rw [jk, List.getElem?_append_right (by rw [Y.1]; omega), Y.1, Nat.sub_self] at e
        have ey : y = y' := Option.some.inj e
        rw [← ey, jk]
        exact a3 _ _ y2⟩
    exact ⟨h', by rw [om_loop_in stp]; exact r1, r2, r3, r4, r5, fun T a c => r6 T a (a3 T a c)⟩
end LBI
