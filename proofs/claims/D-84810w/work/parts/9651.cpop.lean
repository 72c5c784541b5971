set_option maxRecDepth 100000
/-! THE COMPONENT'S MACHINE: a frame is taken; the ends of a step -/
/-- why one waits, as an enum -/
def waitO (G : om_G) : Prop := ∀ (h : om_H) (j : Nat), j ≤ 6 → om_Rc G h (om_cA G (19 + j)) "CoercedClasses$Wait" ∧ P_J3_ordinal G (om_cA G (19 + j)) h = some (j : Int)
def ordK (t : Nat) : Nat := if t = 12 then 0 else if t = 112 then 1 else if t = 15 then 2 else if t = 16 then 3 else if t = 17 then 4 else if t = 18 then 5 else 6
/-- between -/
def mMc (G : om_G) (io : Nat → Nat) (M : MPg) (cd : Nat → Et → Nat → Nat → Nat → Prop) (h0 : om_H) (m : Nat) (h : om_H) (ls : List Fr) (c mx : Nat) : Prop := mFs m h0 h ∧ MC G h m ∧ cNu h m c ∧ (fI h 272 m = (ls.length : Int) ∧ ls.length ≤ 300 ∧ ls.length ≤ mx) ∧ (fI h 276 m = (mx : Int) ∧ mx ≤ 300) ∧ fI h 280 m = 1 ∧ fCm G io M cd h m ls
/-- a state -/
def mTc (G : om_G) (io : Nat → Nat) (M : MPg) (cd cs : Nat → Et → Nat → Nat → Nat → Prop) (h0 : om_H) (m : Nat) (h : om_H) (s : MS) : Prop := mMc G io M cd h0 m h s.2.2.2.1 s.2.2.2.2.1 s.2.2.2.2.2 ∧ (∃ lv : Nat, fI h 292 m = (lv : Int) ∧ cs s.2.2.1.1 s.1 (fR h 290 m) lv (xls s.2.1).length) ∧ vC G io M cd h m s.2.1 false (fI h 296 m) ∧ rC G io M.2.2.2 h m (gvW M s.2.2.1.1) s.2.2.1.2 (fR h 302 m)
/-- steps, and how much is shown, stay -/
def kZ (m : Nat) (Z h : om_H) : Prop := fI h 284 m = fI Z 284 m ∧ fI h 316 m = fI Z 316 m
/-- what came of it -/
def mRc (G : om_G) (io : Nat → Nat) (M : MPg) (cd cs : Nat → Et → Nat → Nat → Nat → Prop) (h0 : om_H) (m : Nat) (Z : om_H) (r : Option om_H) : MS ⊕ MF → Prop
  | .inl s => ∃ h', r = some h' ∧ mTc G io M cd cs h0 m h' s ∧ kZ m Z h'
  | .inr f => (f.1 = 2 ∧ ∃ (x : Int) (h1 : om_H), r = C_10_show G m (sI (sI h1 309 m x) 280 m 2) ∧ mMc G io M cd h0 m h1 [] f.2.2.1 f.2.2.2 ∧ vC G io M cd h1 m f.2.1 true x ∧ kZ m Z h1) ∨ (f.1 ≠ 2 ∧ ∃ h', r = some h' ∧ mFs m h0 h' ∧ MC G h' m ∧ cNu h' m f.2.2.1 ∧ fI h' 280 m = (f.1 : Int) ∧ fI h' 276 m = (f.2.2.2 : Int) ∧ kZ m Z h')
section LPO
variable {G : om_G} {io : Nat → Nat} {ins : List INs} {M : MPg} {cd cs : Nat → Et → Nat → Nat → Nat → Prop} {h0 h h1 h2 Z : om_H} {m nu nu1 nu2 kk A B n mx c c' : Nat} {fs : List Nat} {ls : List Fr}
theorem kZ_refl : kZ m h h := ⟨rfl, rfl⟩
theorem kZ_trans (X : kZ m Z h) (Y : kZ m h h1) : kZ m Z h1 := ⟨Y.1.trans X.1, Y.2.trans X.2⟩
theorem kZ_W (X : WSt m fs h h1) (hf : 284 ∉ fs ∧ 316 ∉ fs) : kZ m h h1 := ⟨X.2.2.1 _ hf.1, X.2.2.1 _ hf.2⟩
theorem kZ_C (X : CSt G m nu nu1 fs h h1) (hf : 284 ∉ fs ∧ 316 ∉ fs) : kZ m h h1 := ⟨X.2.2.2.2.1.1 _ hf.1 (by decide), X.2.2.2.2.1.1 _ hf.2 (by decide)⟩
theorem mRc_tr (K : kZ m Z h) {r : Option om_H} : ∀ {q : MS ⊕ MF}, mRc G io M cd cs h0 m h r q → mRc G io M cd cs h0 m Z r q
  | .inl _, ⟨h', a, b, k⟩ => ⟨h', a, b, kZ_trans K k⟩
  | .inr _, H => by
    rcases H with ⟨a, x, h1, b, d, e, k⟩ | ⟨a, h', b, d, e, f, g, i, k⟩
    · exact .inl ⟨a, x, h1, b, d, e, kZ_trans K k⟩
    · exact .inr ⟨a, h', b, d, e, f, g, i, kZ_trans K k⟩
theorem mMc_C (H : mMc G io M cd h0 m h ls c mx) (X : CSt G m c c' fs h h1) (hf : 272 ∉ fs ∧ 276 ∉ fs ∧ 280 ∉ fs) : mMc G io M cd h0 m h1 ls c' mx := by
  obtain ⟨a1, a2, a3, a4, a5, a6, a7⟩ := H
  have q := X.2.2.2.2.1.1
  exact ⟨mFs_trans a1 (mFs_C a2 X), X.1, X.2.1, by rw [q 272 hf.1 (by decide)]; exact a4, by rw [q 276 hf.2.1 (by decide)]; exact a5, by rw [q 280 hf.2.2 (by decide)]; exact a6, fCm_CSt a2 X a4.2.1 a7⟩
theorem mMc_W (H : mMc G io M cd h0 m h ls c mx) (X : WSt m fs h h1) (hf : 264 ∉ fs ∧ 272 ∉ fs ∧ 276 ∉ fs ∧ 280 ∉ fs) (he : ∀ i, i < ls.length → eqA (fO h m i) h h1 ∧ eqA (fR h 374 (fO h m i)) h h1) : mMc G io M cd h0 m h1 ls c mx := by
  obtain ⟨a1, a2, a3, a4, a5, a6, a7⟩ := H
  have q := X.2.2.1
  refine ⟨mFs_trans a1 (mFs_W a2 X), MC_sk X.1 a2, WSt_nu a3 X hf.1, by rw [q 272 hf.2.1]; exact a4, by rw [q 276 hf.2.2.1]; exact a5, by rw [q 280 hf.2.2.2]; exact a6, fCm_keep (WSt_gr a2 a3 X hf.1) (fun i hi => ?_) a7⟩
  obtain ⟨e1, e2⟩ := he i hi
  exact ⟨fO_sk a2 X.1, e1.2.1, e1.2.2.1, e2.2.2.2.2.1⟩
/-- what is no frame, no row: for steps that write the machine alone -/
theorem eq_sI {a f b : Nat} {x : Int} (ne : a ≠ b) : eqA a h (sI h f b x) := ⟨rfl, fun _ => fI_na ne, fun _ => rfl, rfl, fun _ => rfl, fun _ => rfl, rfl, rfl⟩
theorem eq_sR {a f b x : Nat} (ne : a ≠ b) : eqA a h (sR h f b x) := ⟨rfl, fun _ => rfl, fun _ => fR_na ne, rfl, fun _ => rfl, fun _ => rfl, rfl, rfl⟩
theorem MC_fm (I : MC G h m) {i : Nat} (hi : i < 300) : fO h m i ≠ m ∧ fR h 374 (fO h m i) ≠ m := by
  obtain ⟨⟨_, _, q3⟩, ⟨_, r2, _⟩, _⟩ := MC_f I hi
  have := I.1.1
  exact ⟨fun z => by rw [z] at q3; omega, fun z => by rw [z] at r2; omega⟩
/-- what is to be done next is known -/
theorem c_mkT {s : MS} {a : Nat} (H : mMc G io M cd h0 m h s.2.2.2.1 s.2.2.2.2.1 s.2.2.2.2.2) (hc : cs s.2.2.1.1 s.1 a 0 (xls s.2.1).length) (he : vC G io M cd h m s.2.1 false (fI h 296 m)) (hr : rC G io M.2.2.2 h m (gvW M s.2.2.1.1) s.2.2.1.2 (fR h 302 m)) (K : kZ m Z h) : ∃ h', C_10_next G m a h = some h' ∧ mTc G io M cd cs h0 m h' s ∧ kZ m Z h' := by
  have I := H.2.1
  have W : WSt m [292] h (sI (sR h 290 m a) 292 m 0) := WSt_sI (WSt_sR WSt_refl) (by decide)
  have g := WSt_gr I H.2.2.1 W (by decide)
  refine ⟨_, by unfold C_10_next; rw [gd_pos I.1.1], ⟨mMc_W H W (by decide) (fun i hi => ?_), ⟨0, fI_eq, ?_⟩, ?_, ?_⟩, kZ_trans K (kZ_W W (by decide))⟩
  · obtain ⟨n1, n2⟩ := MC_fm I (i := i) (by have := H.2.2.2.1.2.1; omega)
    exact ⟨eqA_trans (eq_sR n1) (eq_sI n1), eqA_trans (eq_sR n2) (eq_sI n2)⟩
  · show cs _ _ (fR (sR h 290 m a) 290 m) 0 _
    rw [fR_eq]; exact hc
  · rw [fI_ne (by decide)]
    exact vC_gr g he
  · have e : fR (sI (sR h 290 m a) 292 m 0) 302 m = fR h 302 m := fR_ne (by decide)
    rw [e]
    exact rC_gr g (fun j _ => rfl) hr
/-- cells are full -/
theorem c_mkF (H : mMc G io M cd h0 m h ls c mx) (hc : ¬ c < 4000) (K : kZ m Z h) {r : Option om_H} (er : r = some (sI h 280 m 4)) : mRc G io M cd cs h0 m Z r (.inr (4, .leaf, 4000, mx)) := by
  obtain ⟨a1, a2, a3, a4, a5, a6, a7⟩ := H
  have W : WSt m [280] h (sI h 280 m 4) := WSt_sI WSt_refl (by decide)
  have c4 : c = 4000 := by have := a3.2.2; omega
  subst c4
  refine .inr ⟨(show (4 : Nat) ≠ 2 by decide), _, er, mFs_trans a1 (mFs_W a2 W), MC_sk W.1 a2, WSt_nu a3 W (by decide), fI_eq, by rw [W.2.2.1 276 (by decide)]; exact a5.1, kZ_trans K (kZ_W W (by decide))⟩
theorem c_done {x y : Int} (st : C_10_comes_5s G m (x, 1, h) = some (.inl (y, 0, h1))) : C_10_comes G m x h = some h1 := by
  have ex : C_10_comes_5s G m (y, 0, h1) = some (.inr (.inr (.inr (.inr h1)))) := by
    unfold C_10_comes_5s
    exact if_pos rfl
  unfold C_10_comes
  rw [om_loop_in st, om_loop_out ex]
  rfl
theorem c_again {x y : Int} (st : C_10_comes_5s G m (x, 1, h) = some (.inl (y, 1, h1))) : C_10_comes G m x h = C_10_comes G m y h1 := by
  unfold C_10_comes
  rw [om_loop_in st]
set_option maxHeartbeats 1000000 in
/-- A FRAME IS TAKEN -/
theorem c_popM (wO : waitO G) {f : Fr} (H : mMc G io M cd h0 m h (f :: ls) c mx) (x : Int) : ∃ hp, C_10_comes_5s G m (x, 1, h) = C_10_comes_87 G m x 0 (fO hp m ls.length) ((ordK f.1 : Nat) : Int) hp ∧ mMc G io M cd h0 m hp ls c mx ∧ mGc m h hp ∧ kZ m h hp ∧ fR hp 290 m = fR hp 358 (fO hp m ls.length) ∧ vC G io M cd hp m f.2.2.1 false (fI hp 296 m) ∧ rC G io M.2.2.2 hp m (gvW M f.2.2.2.1.1) f.2.2.2.1.2 (fR hp 302 m) ∧ (∃ lv : Nat, fI hp 360 (fO hp m ls.length) = (lv : Int) ∧ cd f.2.2.2.1.1 f.2.1 (fR hp 358 (fO hp m ls.length)) lv (xls f.2.2.1).length ∧ (f.1 = 15 ∨ f.1 = 16 ∨ f.1 = 17 → lv = 0)) ∧ (100 ≤ f.1 → vC G io M cd hp m f.2.2.2.2 true (fI hp 369 (fO hp m ls.length))) ∧ ls.length < 300 ∧ kd hp (fO hp m ls.length) = 12 := by
  obtain ⟨a1, a2, a3, ⟨a4, a4', a4''⟩, a5, a6, ⟨q1, ⟨lv, q2, q3⟩, q4, q5, q6⟩, q7⟩ := H
  rw [List.length_cons] at a4 a4' a4''
  have nl : ls.length < 300 := by omega
  have w1 : w32 (((ls.length + 1 : Nat) : Int) - 1) = (ls.length : Int) := (w32_s (by omega) (by omega)).trans (by omega)
  have W1 : WSt m [272, 296] h (sI h 272 m (ls.length : Int)) := WSt_sI WSt_refl (by decide)
  have I1 := MC_sk W1.1 a2
  obtain ⟨hb, b1, b2, b3, b4, b5, b6⟩ := c_back I1 nl
  have eF : ∀ i, fO (sI h 272 m (ls.length : Int)) m i = fO h m i := fun i => fO_sk a2 W1.1
  rw [eF] at b1 b3 b5
  have b6' : ∀ i, i < 300 → eqA (fO h m i) h hb ∧ eqA (fR h 374 (fO h m i)) h hb := fun i hi => by
    obtain ⟨e1, e2⟩ := b6 i hi
    obtain ⟨n1, n2⟩ := MC_fm a2 hi
    rw [eF] at e1 e2
    exact ⟨eqA_trans (eq_sI n1) e1, eqA_trans (eq_sI n2) e2⟩
  have W2 : WSt m [272, 296] h hb := WSt_trans a2 W1 (WSt_le b2 (by decide))
  obtain ⟨n1, n2⟩ := MC_fm a2 nl
  obtain ⟨⟨g1, g2, g3⟩, g4, g5, g6⟩ := MC_f a2 nl
  obtain ⟨e1, e2⟩ := b6' _ nl
  obtain ⟨hp, ep⟩ : ∃ hp, hp = sR hb 290 m (fR h 358 (fO h m ls.length)) := ⟨_, rfl⟩
  have W3 : WSt m [272, 296] h hp := by rw [ep]; exact WSt_sR W2
  have I3 := MC_sk W3.1 a2
  have g := WSt_gr a2 a3 W3 (by decide)
  have eP : ∀ i, fO hp m i = fO h m i := fun i => fO_sk a2 W3.1
  have Eq : ∀ i, i < 300 → eqA (fO h m i) h hp ∧ eqA (fR h 374 (fO h m i)) h hp := fun i hi => by
    obtain ⟨e1, e2⟩ := b6' i hi
    obtain ⟨n1, n2⟩ := MC_fm a2 hi
    rw [ep]
    exact ⟨eqA_trans e1 (eq_sR n1), eqA_trans e2 (eq_sR n2)⟩
  obtain ⟨E1, E2⟩ := Eq _ nl
  have hord : ordK f.1 ≤ 6 := by
    unfold ordK
    (repeat' split)
    all_goals omega
  have ewk : wtK G f.1 = om_cA G (19 + ordK f.1) := by
    unfold wtK ordK
    congr 1
    repeat' split
    all_goals rfl
  obtain ⟨o1, o2⟩ := wO hp (ordK f.1) hord
  have p296 : fI hp 296 m = fI h 364 (fO h m ls.length) := by
    rw [ep]
    show fI hb 296 m = _
    rw [b3]
    exact fI_na n1
  have p302 : fR hp 302 m = fR h 302 m := W3.2.2.2 302 (by decide)
  have p272 : fI hp 272 m = (ls.length : Int) := by
    rw [ep]
    show fI hb 272 m = _
    rw [b2.2.2.1 272 (by decide), fI_eq]
  refine ⟨hp, ?_, ⟨mFs_trans a1 (mFs_W a2 W3), I3, WSt_nu a3 W3 (by decide), ⟨p272, by omega, by omega⟩, by rw [W3.2.2.1 276 (by decide)]; exact a5, by rw [W3.2.2.1 280 (by decide)]; exact a6, ?_⟩, g, kZ_W W3 (by decide), ?_, ?_, ?_, ⟨lv, ?_, ?_⟩, fun z => ?_, nl, ?_⟩
  · unfold C_10_comes_5s
    rw [if_neg (show ¬ (1 : Int) = 0 by decide)]
    show gd (kd h m = 11) (if fI h 280 m ≠ 1 then _ else gd (kd h m = 11) (if fI h 272 m ≠ 0 then gd (kd h m = 11 ∧ kd h (fR h 270 m) = 60 ∧ 0 ≤ w32 (fI h 272 m - 1) ∧ w32 (fI h 272 m - 1) < (an h (fR h 270 m) : Int)) ((C_10_back G m (aR h (fR h 270 m) (w32 (fI h 272 m - 1)).toNat) (sI h 272 m (w32 (fI h 272 m - 1)))).bind _) else _)) = _
    rw [gd_pos a2.1.1, a6, if_neg (fun z => z rfl), gd_pos a2.1.1, a4, if_pos (by omega), w1, show ((ls.length : Int)).toNat = ls.length by omega, gd_pos ⟨a2.1.1, a2.2.2.1.1.2.1, by omega, by rw [a2.2.2.1.1.2.2]; omega⟩]
    show (C_10_back G m (fO h m ls.length) (sI h 272 m (ls.length : Int))).bind _ = _
    rw [b1, Option.bind_some]
    show gd (kd hb (fO h m ls.length) = 12 ∧ kd hb m = 11 ∧ om_Rc G (sR hb 290 m (fR hb 358 (fO h m ls.length))) (fR hb 354 (fO h m ls.length)) "CoercedClasses$Wait") ((P_J3_ordinal G (fR hb 354 (fO h m ls.length)) (sR hb 290 m (fR hb 358 (fO h m ls.length)))).bind fun p2 => C_10_comes_87 G m x 0 (fO h m ls.length) p2 (sR hb 290 m (fR hb 358 (fO h m ls.length)))) = _
    rw [e1.2.2.1 358, e1.2.2.1 354, ← ep, q1, ewk, gd_pos ⟨e1.1.trans g3, ((W2.1.2.1 m).1).trans a2.1.1, o1⟩, o2, Option.bind_some, eP]
  · refine fCm_keep g (fun i hi => ?_) q7
    obtain ⟨e1, e2⟩ := Eq i (by omega)
    exact ⟨eP i, e1.2.1, e1.2.2.1, e2.2.2.2.2.1⟩
  · rw [eP, E1.2.2.1, ep]; exact fR_eq
  · rw [p296]; exact vC_gr g q4
  · rw [p302]
    refine rC_gr g (fun j hj => ?_) q5
    rw [ep]
    show aI hb (fR h 302 m) j = _
    have := b5 j hj
    exact this
  · rw [eP, E1.2.1]; exact q2
  · rw [eP, E1.2.2.1]; exact q3
  · rw [eP, E1.2.1]; exact vC_gr g (q6 z)
  · rw [eP, E1.1]; exact g3
end LPO
