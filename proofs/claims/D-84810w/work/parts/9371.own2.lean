set_option maxRecDepth 100000
/-! WRITING INTO A DICTIONARY OF ONE'S OWN: its fields, new lists, one more in a list -/
section LOX
variable {G : om_G} {h h0 h1 h2 : om_H} {N : List (List Int)} {cl : Nat → Nat} {tb l0 sc : Nat} {us fs us0 fs0 us1 fs1 : List Nat} {rest : List (Nat × List Nat)} {Sl Gx U U' : Nat → Prop} {io : Nat → Nat} {ab : List (Option Nat)} {ins : List INs} {gv : List GVs} {Dk Dk0 Dk1 : Nat → Prop} {ds ds0 ds1 : List Nat} {dm dm0 dm1 d : Nat} {s : WS} {q z u : Nat}
theorem nl_same (m : ∀ d ∈ ds, fR h1 1630 d = fR h 1630 d ∧ fR h1 1634 d = fR h 1634 d) : nlN h ds + 0 ≤ nlN h1 ds := by
  have := nl_mono (h := h) (h1 := h1) (ds := ds) (e := []) (fun d hd => by rw [(m d hd).1, (m d hd).2]; exact ⟨id, id⟩)
  rw [List.append_nil] at this
  omega
/-- one's own fields -/
theorem own_fld (nd : ndN N) (H : HvC G h1 N cl tb l0 sc us1 fs1 rest Sl Gx io ab ins gv Dk1 ds1 dm1 s) (K : KH N cl tb l0 sc rest Sl Gx h0 us0 fs0 Dk0 ds0 dm0 h1 us1 fs1 Dk1 ds1 dm1 q z u) (P0 : PoolC G h0 tb Sl Dk0 ds0 dm0) (dd : Dk1 d ∧ d ∈ ds1) (nL : ¬ Dlv h0 Dk0 ds0 dm0 d) (X : hT (fun y => y = d) h1 h2) (e1 : fR h2 1630 d = fR h1 1630 d) (e2 : fR h2 1634 d = fR h1 1634 d) (r : hz h2 = hz h1 ∧ hu h2 = hu h1) : HvC G h2 N cl tb l0 sc us1 fs1 rest Sl Gx io ab ins gv Dk1 ds1 dm1 s ∧ KH N cl tb l0 sc rest Sl Gx h0 us0 fs0 Dk0 ds0 dm0 h2 us1 fs1 Dk1 ds1 dm1 q z u ∧ ∀ T a, tyC h1 N cl (UU us1 rest) T a → tyC h2 N cl (UU us1 rest) T a := by
  have P := H.2.1
  have T := H.1.1
  obtain ⟨⟨w0, w1, w2⟩, w3, w4⟩ := P.2.2.2.2.2.1 d dd.1
  have X' : hT (oD h1 d) h1 h2 := hT_mono X (fun y _ w => .inl w)
  have ls : ∀ {L cap : Nat}, lsD h1 tb Sl L cap → lc h2 L = cap ∧ (ll h2 L).length ≤ cap := fun {L cap} w => by
    have e := X.2.2.2 L w.1.1 (fun v => by have := w.1.2; rw [v] at this; omega)
    rw [e.2.2.2.2.2.2.1, e.2.2.2.2.2.2.2]; exact w.2.1
  have P2 := PoolC_own P ⟨(TB_3 T).1, (TB_3 T).2.2⟩ dd.1 X' e1 e2 (fun n => ls (w3.resolve_left n)) (fun n => ls (w4.resolve_left n))
  refine HvC_own nd H K P0 dd nL X' P2 0 (nl_same (fun y hy => ?_)) (by omega) (by omega)
  by_cases q : y = d
  · rw [q]; exact ⟨e1, e2⟩
  · have yk := (P.2.2.2.2.2.1 y (P.2.2.2.2.1 y hy)).1
    have e := X.2.2.2 y yk.2.1 q
    exact ⟨e.2.2.1 _, e.2.2.1 _⟩
/-- a new list of a dictionary -/
def nwL (h : om_H) (f0 cap d : Nat) : om_H := sR (gL (nO h 41 3) (hz h) [] cap 1 cap) f0 d (hz h)
theorem nwL_f {f0 cap : Nat} (hd : d < hz h) : hT (fun y => y = d) h (nwL h f0 cap d) ∧ (hz (nwL h f0 cap d) = hz h + 2 ∧ hu (nwL h f0 cap d) = hu h + 3 + cap) ∧ (fR (nwL h f0 cap d) f0 d = hz h ∧ (∀ f, f ≠ f0 → fR (nwL h f0 cap d) f d = fR h f d) ∧ ∀ f, fI (nwL h f0 cap d) f d = fI h f d) ∧ kd (nwL h f0 cap d) (hz h) = 42 ∧ lc (nwL h f0 cap d) (hz h) = cap ∧ ll (nwL h f0 cap d) (hz h) = [] := by
  unfold nwL
  have kE : ∀ y, y < hz h → kd (gL (nO h 41 3) (hz h) [] cap 1 cap) y = kd h y := fun y hy => by
    show (if y = hz h then 42 else kd (nO h 41 3) y) = _
    rw [if_neg (by omega), kd_nO, if_neg (by omega)]
  have rE : ∀ f y, y < hz h → fR (gL (nO h 41 3) (hz h) [] cap 1 cap) f y = fR h f y := fun f y hy => by
    show fR (nO h 41 3) f y = _
    rw [fR_nO, if_neg (by omega)]
  have iE : ∀ f y, y < hz h → fI (gL (nO h 41 3) (hz h) [] cap 1 cap) f y = fI h f y := fun f y hy => by
    show fI (nO h 41 3) f y = _
    rw [fI_nO, if_neg (by omega)]
  refine ⟨⟨by show hz h ≤ hz h + 1 + 1; omega, by show hu h ≤ hu h + 3 + cap; omega, fun y hy => kE y hy, fun y hy ny => ⟨kE y hy, fun f => iE f y hy, fun f => by rw [fR_na ny]; exact rE f y hy, rfl, fun _ => rfl, fun _ => rfl, ?_, ?_⟩⟩, ⟨rfl, rfl⟩, ⟨fR_eq, fun f hf => by rw [fR_ne hf]; exact rE f d hd, fun f => iE f d hd⟩, if_pos rfl, if_pos rfl, if_pos rfl⟩
  · exact if_neg (show ¬ y = hz h by omega)
  · exact if_neg (show ¬ y = hz h by omega)
theorem nwL_init {cap : Nat} (h1 : 0 < cap) (h2 : cap ≤ 1000) : P_J2_init_2 G (hz h) (cap : Int) (nO h 41 3) = some (gL (nO h 41 3) (hz h) [] cap 1 cap) ∧ kd (nO h 41 3) (hz h) = 41 := by
  have k : kd (nO h 41 3) (hz h) = 41 := by rw [kd_nO, if_pos rfl]
  refine ⟨?_, k⟩
  unfold P_J2_init_2
  rw [gd_pos ⟨k, by rw [fI_nO, if_pos rfl], by omega, by omega⟩, show ((cap : Int)).toNat = cap by omega]
theorem PoolC_newL (P : PoolC G h tb Sl Dk ds dm) (t3 : kd h tb = 3 ∧ tb < hz h) (t122 : fR h 122 tb < hz h) (hsl : ∀ a, Sl a → a < hz h) (hd : Dk d) {f0 cap : Nat} (o : (f0 = 1630 ∧ cap = 2) ∨ (f0 = 1634 ∧ cap = 4)) (z0 : fR h f0 d = 0) : PoolC G (nwL h f0 cap d) tb Sl Dk ds dm := by
  obtain ⟨⟨p1, p2, p3⟩, p4, ⟨p5, p6, p7⟩, p8, p9, p10, p11⟩ := P
  obtain ⟨⟨w0, w1, w2⟩, w3, w4⟩ := p10 d hd
  obtain ⟨X, ⟨hz1, hu1⟩, ⟨n1, n2, n3⟩, n4, n5, n6⟩ := nwL_f (f0 := f0) (cap := cap) w1
  generalize nwL h f0 cap d = h1 at *
  have k42 := p1.2.1
  have etb : eqA tb h h1 := X.2.2.2 tb t3.2 (fun w => by rw [← w, t3.1] at w2; omega)
  have eR := etb.2.2.1
  have n138 : ¬ fR h 138 tb = d := fun w => by rw [← w, k42] at w2; omega
  have e138 := X.2.2.2 _ p1.1 n138
  have fl : ∀ y f, Dk y → ¬ (y = d ∧ f = f0) → fR h1 f y = fR h f y := fun y f hy n => by
    by_cases w : y = d
    · rw [w]; exact n2 f (fun v => n ⟨w, v⟩)
    · exact (X.2.2.2 y (p10 y hy).1.2.1 w).2.2.1 f
  have lk : ∀ {L cap : Nat}, lsD h tb Sl L cap → lsD h1 tb Sl L cap := fun {L cap} w => by
    obtain ⟨⟨c1, c2⟩, ⟨c3, c4⟩, c5, c6, c7⟩ := w
    have e := X.2.2.2 L c1 (fun v => by rw [v, w2] at c2; omega)
    exact ⟨⟨by omega, by rw [e.1]; exact c2⟩, ⟨by rw [e.2.2.2.2.2.2.2]; exact c3, by rw [e.2.2.2.2.2.2.1]; exact c4⟩, c5, by rw [eR]; exact c6, by rw [eR]; exact c7⟩
  have nw : lsD h1 tb Sl (hz h) cap := ⟨⟨by omega, n4⟩, ⟨n5, by rw [n6]; exact Nat.zero_le _⟩, fun w => by have := hsl _ w; omega, by rw [eR]; have := p1.1; omega, by rw [eR]; omega⟩
  have lt : ∀ y f, Dk y → (f = 1630 ∨ f = 1634) → fR h f y < hz h := fun y f hy o => by
    obtain ⟨⟨y0, y1, y2⟩, y3, y4⟩ := p10 y hy
    rcases o with o | o
    · rw [o]; rcases y3 with e | e
      · rw [e]; omega
      · exact e.1.1
    · rw [o]; rcases y4 with e | e
      · rw [e]; omega
      · exact e.1.1
  refine ⟨⟨by rw [eR]; exact okV_hT p1 X n138, by rw [eR]; exact p2, by rw [eR, eR]; exact p3⟩, by rw [eR, e138.2.2.2.2.2.2.1]; exact p4, ⟨by rw [etb.2.1]; exact p5, p6, p7⟩, p8, p9, fun y hy => ?_, fun y y' f f' h3 h4 o1 o2 m1 e3 => ?_⟩
  · obtain ⟨⟨y0, y1, y2⟩, y3, y4⟩ := p10 y hy
    refine ⟨⟨y0, by omega, by rw [X.2.2.1 y y1]; exact y2⟩, ?_, ?_⟩
    · by_cases w : y = d ∧ 1630 = f0
      · rw [w.1, w.2, n1]
        have ec : cap = 2 := by omega
        rw [ec] at nw
        exact .inr nw
      · rw [fl y 1630 hy w]; exact y3.imp id lk
    · by_cases w : y = d ∧ 1634 = f0
      · rw [w.1, w.2, n1]
        have ec : cap = 4 := by omega
        rw [ec] at nw
        exact .inr nw
      · rw [fl y 1634 hy w]; exact y4.imp id lk
  · by_cases w : y = d ∧ f = f0
    · by_cases w' : y' = d ∧ f' = f0
      · exact ⟨w.1.trans w'.1.symm, w.2.trans w'.2.symm⟩
      · rw [w.1, w.2, n1, fl y' f' h4 w'] at e3
        have := lt y' f' h4 o2
        omega
    · rw [fl y f h3 w] at m1 e3
      by_cases w' : y' = d ∧ f' = f0
      · rw [w'.1, w'.2, n1] at e3
        have := lt y f h3 o1
        omega
      · rw [fl y' f' h4 w'] at e3
        exact p11 y y' f f' h3 h4 o1 o2 m1 e3
/-- a new list of one's own -/
theorem own_new (nd : ndN N) (H : HvC G h1 N cl tb l0 sc us1 fs1 rest Sl Gx io ab ins gv Dk1 ds1 dm1 s) (K : KH N cl tb l0 sc rest Sl Gx h0 us0 fs0 Dk0 ds0 dm0 h1 us1 fs1 Dk1 ds1 dm1 q z u) (P0 : PoolC G h0 tb Sl Dk0 ds0 dm0) (dd : Dk1 d ∧ d ∈ ds1) (nL : ¬ Dlv h0 Dk0 ds0 dm0 d) {f0 cap : Nat} (o : (f0 = 1630 ∧ cap = 2) ∨ (f0 = 1634 ∧ cap = 4)) (z0 : fR h1 f0 d = 0) : HvC G (nwL h1 f0 cap d) N cl tb l0 sc us1 fs1 rest Sl Gx io ab ins gv Dk1 ds1 dm1 s ∧ KH N cl tb l0 sc rest Sl Gx h0 us0 fs0 Dk0 ds0 dm0 (nwL h1 f0 cap d) us1 fs1 Dk1 ds1 dm1 q z u ∧ ∀ T a, tyC h1 N cl (UU us1 rest) T a → tyC (nwL h1 f0 cap d) N cl (UU us1 rest) T a := by
  have P := H.2.1
  have T := H.1.1
  obtain ⟨⟨w0, w1, w2⟩, w3, w4⟩ := P.2.2.2.2.2.1 d dd.1
  obtain ⟨X, ⟨hz1, hu1⟩, ⟨n1, n2, n3⟩, n4, n5, n6⟩ := nwL_f (f0 := f0) (cap := cap) w1
  have P2 := PoolC_newL P ⟨(TB_3 T).1, (TB_3 T).2.2⟩ T.2.1.1.1 (fun a ha => (H.1.2.2.1.2.2.1 a ha).1) dd.1 o z0
  refine HvC_own nd H K P0 dd nL (hT_mono X (fun y _ w => .inl w)) P2 1 ?_ (by omega) (by omega)
  generalize nwL h1 f0 cap d = h3 at *
  have same : ∀ y ∈ ds1, ∀ f, ¬ (y = d ∧ f = f0) → fR h3 f y = fR h1 f y := fun y hy f n => by
    by_cases w : y = d
    · rw [w]; exact n2 f (fun v => n ⟨w, v⟩)
    · exact (X.2.2.2 y (P.2.2.2.2.2.1 y (P.2.2.2.2.1 y hy)).1.2.1 w).2.2.1 f
  have hzn : hz h1 ≠ 0 := by omega
  unfold nlN
  rcases o with ⟨e0, _⟩ | ⟨e0, _⟩
  · have a := cp_more (p := fun d => decide (fR h1 1630 d ≠ 0)) (q := fun d => decide (fR h3 1630 d ≠ 0)) (l := ds1) (fun y hy w => by
      by_cases v : y = d
      · rw [v, ← e0, n1]; simpa using hzn
      · rw [same y hy 1630 (fun v' => v v'.1)]; exact w) dd.2 (by rw [← e0]; simpa using z0) (by rw [← e0, n1]; simpa using hzn)
    have b := List.countP_mono_left (p := fun d => decide (fR h1 1634 d ≠ 0)) (q := fun d => decide (fR h3 1634 d ≠ 0)) (l := ds1) (fun y hy w => by rw [same y hy 1634 (fun v => by omega)]; exact w)
    omega
  · have a := cp_more (p := fun d => decide (fR h1 1634 d ≠ 0)) (q := fun d => decide (fR h3 1634 d ≠ 0)) (l := ds1) (fun y hy w => by
      by_cases v : y = d
      · rw [v, ← e0, n1]; simpa using hzn
      · rw [same y hy 1634 (fun v' => v v'.1)]; exact w) dd.2 (by rw [← e0]; simpa using z0) (by rw [← e0, n1]; simpa using hzn)
    have b := List.countP_mono_left (p := fun d => decide (fR h1 1630 d ≠ 0)) (q := fun d => decide (fR h3 1630 d ≠ 0)) (l := ds1) (fun y hy w => by rw [same y hy 1630 (fun v => by omega)]; exact w)
    omega
/-- one more in a list of one's own -/
theorem own_add (nd : ndN N) (H : HvC G h1 N cl tb l0 sc us1 fs1 rest Sl Gx io ab ins gv Dk1 ds1 dm1 s) (K : KH N cl tb l0 sc rest Sl Gx h0 us0 fs0 Dk0 ds0 dm0 h1 us1 fs1 Dk1 ds1 dm1 q z u) (P0 : PoolC G h0 tb Sl Dk0 ds0 dm0) (dd : Dk1 d ∧ d ∈ ds1) (nL : ¬ Dlv h0 Dk0 ds0 dm0 d) {f0 cap x : Nat} (o : (f0 = 1630 ∧ cap = 2) ∨ (f0 = 1634 ∧ cap = 4)) (n0 : fR h1 f0 d ≠ 0) (hx : objY G h1 x) (hy : ∀ y ∈ ll h1 (fR h1 f0 d), objY G h1 y) (hn : (ll h1 (fR h1 f0 d)).length < cap) : P_J2_add G (fR h1 f0 d) x h1 = some (1, sL h1 (fR h1 f0 d) (ll h1 (fR h1 f0 d) ++ [x])) ∧ HvC G (sL h1 (fR h1 f0 d) (ll h1 (fR h1 f0 d) ++ [x])) N cl tb l0 sc us1 fs1 rest Sl Gx io ab ins gv Dk1 ds1 dm1 s ∧ KH N cl tb l0 sc rest Sl Gx h0 us0 fs0 Dk0 ds0 dm0 (sL h1 (fR h1 f0 d) (ll h1 (fR h1 f0 d) ++ [x])) us1 fs1 Dk1 ds1 dm1 q z u ∧ ∀ T a, tyC h1 N cl (UU us1 rest) T a → tyC (sL h1 (fR h1 f0 d) (ll h1 (fR h1 f0 d) ++ [x])) N cl (UU us1 rest) T a := by
  have P := H.2.1
  have T := H.1.1
  obtain ⟨⟨w0, w1, w2⟩, w3, w4⟩ := P.2.2.2.2.2.1 d dd.1
  have lw : lsD h1 tb Sl (fR h1 f0 d) cap := by
    rcases o with ⟨e, e'⟩ | ⟨e, e'⟩
    · rw [e] at n0 ⊢; rw [e']; exact w3.resolve_left n0
    · rw [e] at n0 ⊢; rw [e']; exact w4.resolve_left n0
  have X : hT (oD h1 d) h1 (sL h1 (fR h1 f0 d) (ll h1 (fR h1 f0 d) ++ [x])) := hT_mono hT_sL (fun y _ w => .inr ⟨by rw [w]; exact n0, by
    rcases o with ⟨e, _⟩ | ⟨e, _⟩
    · rw [e] at w; exact .inl w
    · rw [e] at w; exact .inr w⟩)
  have lE : ∀ L, L ≠ fR h1 f0 d → ll (sL h1 (fR h1 f0 d) (ll h1 (fR h1 f0 d) ++ [x])) L = ll h1 L := fun L hL => by rw [ll_sL, if_neg hL]
  have lN : ll (sL h1 (fR h1 f0 d) (ll h1 (fR h1 f0 d) ++ [x])) (fR h1 f0 d) = ll h1 (fR h1 f0 d) ++ [x] := by rw [ll_sL, if_pos rfl]
  have ls : ∀ {L c : Nat}, lsD h1 tb Sl L c → (L = fR h1 f0 d → c = cap) → lc h1 L = c ∧ (ll (sL h1 (fR h1 f0 d) (ll h1 (fR h1 f0 d) ++ [x])) L).length ≤ c := fun {L c} w e => by
    refine ⟨w.2.1.1, ?_⟩
    by_cases v : L = fR h1 f0 d
    · rw [e v, v, lN, List.length_append, List.length_singleton]; omega
    · rw [lE L v]; exact w.2.1.2
  have P2 : PoolC G (sL h1 (fR h1 f0 d) (ll h1 (fR h1 f0 d) ++ [x])) tb Sl Dk1 ds1 dm1 := by
    refine PoolC_own P ⟨(TB_3 T).1, (TB_3 T).2.2⟩ dd.1 X rfl rfl (fun n => ls (w3.resolve_left n) (fun v => ?_)) (fun n => ls (w4.resolve_left n) (fun v => ?_))
    · have := (P.2.2.2.2.2.2 d d 1630 f0 dd.1 dd.1 (.inl rfl) (by omega) n v).2
      omega
    · have := (P.2.2.2.2.2.2 d d 1634 f0 dd.1 dd.1 (.inr rfl) (by omega) n v).2
      omega
  refine ⟨?_, HvC_own nd H K P0 dd nL X P2 0 (Nat.le_refl _) (Nat.le_refl _) (Nat.le_refl _)⟩
  unfold P_J2_add addL
  rw [gd_pos ⟨lw.1.2, by rw [lw.2.1.1]; exact lw.2.1.2, by omega, objY_obj hx, fun y hy' => objY_obj (hy y hy')⟩, if_pos (by rw [lw.2.1.1]; exact hn)]
/-- dictionaries that are not one's own stay -/
theorem DcX_own (P : PoolC G h tb Sl Dk ds dm) (dd : Dk d) (X : hT (oD h d) h h1) (kp : ∀ T a, tyC h N cl U T a → tyC h1 N cl U' T a) {D : Dc} {l : List Nat} {lo : Nat} (hd : d ∈ ds.take lo) (H : DcX h N cl U (Dl3 Dk ds lo dm) io ab gv D l) : DcX h1 N cl U' (Dl3 Dk ds lo dm) io ab gv D l := by
  have ne : ∀ y, Dl3 Dk ds lo dm y → y ≠ d := fun y L e => L.2.1 (by rw [e]; exact hd)
  have kD : ∀ y, oD h d y → _ := fun y w => oD_kd P dd w
  refine DcX_keep (fun y L => ?_) (fun y L => ⟨fun n => ?_, fun n => ?_⟩) X.2.2.1 X.1 (fun _ L => L) kp H
  · have yk := (P.2.2.2.2.2.1 y L.1).1
    refine X.2.2.2 y yk.2.1 (fun w => ?_)
    rcases w with w | ⟨n, w⟩
    · exact ne y L w
    · have o := P.2.2.2.2.2.1 d dd
      rcases w with w | w
      · have l := (o.2.1.resolve_left (by rw [← w]; exact n)).1.2
        rw [← w] at l; omega
      · have l := (o.2.2.resolve_left (by rw [← w]; exact n)).1.2
        rw [← w] at l; omega
  · have l := (P.2.2.2.2.2.1 y L.1).2.1.resolve_left n
    refine (X.2.2.2 _ l.1.1 (fun w => ?_)).2.2.2.2.2.2.1
    rcases w with w | ⟨_, w | w⟩
    · have := (P.2.2.2.2.2.1 d dd).1.2.2
      have l2 := l.1.2
      rw [w] at l2; omega
    · exact ne y L (P.2.2.2.2.2.2 y d 1630 1630 L.1 dd (.inl rfl) (.inl rfl) n w).1
    · exact ne y L (P.2.2.2.2.2.2 y d 1630 1634 L.1 dd (.inl rfl) (.inr rfl) n w).1
  · have l := (P.2.2.2.2.2.1 y L.1).2.2.resolve_left n
    refine (X.2.2.2 _ l.1.1 (fun w => ?_)).2.2.2.2.2.2.1
    rcases w with w | ⟨_, w | w⟩
    · have := (P.2.2.2.2.2.1 d dd).1.2.2
      have l2 := l.1.2
      rw [w] at l2; omega
    · exact ne y L (P.2.2.2.2.2.2 y d 1634 1630 L.1 dd (.inr rfl) (.inl rfl) n w).1
    · exact ne y L (P.2.2.2.2.2.2 y d 1634 1634 L.1 dd (.inr rfl) (.inr rfl) n w).1
end LOX
