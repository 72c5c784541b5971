set_option maxRecDepth 100000
/-! RESOLVE: what the component has between declarations; its steps -/
abbrev Wi : List Nat := [1304]
abbrev Wr : List Nat := [1226, 1262, 1302, 1314, 1318, 1350, 1354, 1550]
/-- what is known all the time -/
def RX (G : om_G) (A : Nat) (S : List Int) (N : List (List Int)) (cs : List Nat) (K : KT) (pr tb : Nat) (rest : List (Nat × List Nat)) (fo : List Nat) (F : FT) (mo : List (List Nat)) (Ms : List FT) (h : om_H) (us fs : List Nat) : Prop :=
  ((TB G h N (clF cs) tb us fs rest ∧ ndN N) ∧ (txC h A S ∧ A < hz h) ∧ (CLS h pr cs K ∧ fR h 82 pr ≠ fR h 122 tb ∧ fI h 112 pr ≤ 2147483647)) ∧ FNS h pr cs fo F mo Ms ∧ nPL h pr tb cs
/-- what may be written -/
def PW (pr alo ahi y : Nat) : Prop := y = pr ∨ (alo ≤ y ∧ y < ahi)
/-- a step -/
def RS (G : om_G) (A : Nat) (S : List Int) (N : List (List Int)) (cs : List Nat) (K : KT) (pr tb : Nat) (rest : List (Nat × List Nat)) (fo : List Nat) (F : FT) (mo : List (List Nat)) (Ms : List FT) (alo ahi : Nat) (h : om_H) (us fs : List Nat) (h' : om_H) (us' fs' : List Nat) (q z u : Nat) (B : List Int) : Prop :=
  RX G A S N cs K pr tb rest fo F mo Ms h' us' fs' ∧ CS (PW pr alo ahi) N (clF cs) tb rest h us fs h' us' fs' q z u ∧ ((∀ f, f ≠ 112 → fI h' f pr = fI h f pr) ∧ ∀ f, fR h' f pr = fR h f pr) ∧ fI h' 112 pr = mnl (fI h 112 pr) B ∧ (dj h tb fs pr alo ahi → ahi ≤ hz h → hs alo ahi h h')
/-- one object is written, in fields of resolve -/
def hG (a : Nat) (h h' : om_H) : Prop := (hz h' = hz h ∧ hu h' = hu h) ∧ (∀ y, y ≠ a → eqA y h h') ∧ kd h' a = kd h a ∧ (∀ f, f ∉ Wi → fI h' f a = fI h f a) ∧ (∀ f, f ∉ Wr → fR h' f a = fR h f a) ∧ an h' a = an h a ∧ (∀ k, aI h' a k = aI h a k) ∧ (∀ k, aR h' a k = aR h a k) ∧ ll h' a = ll h a ∧ lc h' a = lc h a
section LRS
variable {G : om_G} {A : Nat} {S : List Int} {b m : Nat} {N : List (List Int)} {cs : List Nat} {K : KT} {pr Ln : Nat} {Ls : List (List Int)} {sc : List Nat} {tb : Nat} {rest : List (Nat × List Nat)} {fo : List Nat} {F : FT} {mo : List (List Nat)} {Ms : List FT}
variable {h h' h2 : om_H} {us fs us' fs' us2 fs2 : List Nat} {σ τ : tS} {n n' q q2 z u z2 u2 lo hi alo ahi a : Nat} {B B2 : List Int} {X : Int} {P : Nat → Prop}
theorem hG_sR {f x : Nat} (hf : f ∈ Wr) : hG a h (sR h f a x) := ⟨⟨rfl, rfl⟩, fun y hy => ⟨rfl, fun _ => rfl, fun g => fR_na hy, rfl, fun _ => rfl, fun _ => rfl, rfl, rfl⟩, rfl, fun _ _ => rfl, fun g hg => fR_ne (fun e => hg (by rw [e]; exact hf)), rfl, fun _ => rfl, fun _ => rfl, rfl, rfl⟩
theorem hG_sI {f : Nat} {x : Int} (hf : f ∈ Wi) : hG a h (sI h f a x) := ⟨⟨rfl, rfl⟩, fun y hy => ⟨rfl, fun g => fI_na hy, fun _ => rfl, rfl, fun _ => rfl, fun _ => rfl, rfl, rfl⟩, rfl, fun g hg => fI_ne (fun e => hg (by rw [e]; exact hf)), fun _ _ => rfl, rfl, fun _ => rfl, fun _ => rfl, rfl, rfl⟩
theorem hG_fI (Y : hG a h h') {f : Nat} (hf : f ∉ Wi) (y : Nat) : fI h' f y = fI h f y := by
  by_cases c : y = a
  · rw [c]; exact Y.2.2.2.1 f hf
  · exact (Y.2.1 y c).2.1 f
theorem hG_fR (Y : hG a h h') {f : Nat} (hf : f ∉ Wr) (y : Nat) : fR h' f y = fR h f y := by
  by_cases c : y = a
  · rw [c]; exact Y.2.2.2.2.1 f hf
  · exact (Y.2.1 y c).2.2.1 f
theorem hG_kd (Y : hG a h h') (y : Nat) : kd h' y = kd h y := by
  by_cases c : y = a
  · rw [c]; exact Y.2.2.1
  · exact (Y.2.1 y c).1
theorem hG_ll (Y : hG a h h') (y : Nat) : ll h' y = ll h y ∧ lc h' y = lc h y := by
  by_cases c : y = a
  · rw [c]; exact Y.2.2.2.2.2.2.2.2
  · exact (Y.2.1 y c).2.2.2.2.2.2
theorem hG_an (Y : hG a h h') (y : Nat) : an h' y = an h y ∧ ∀ k, aI h' y k = aI h y k := by
  by_cases c : y = a
  · rw [c]; exact ⟨Y.2.2.2.2.2.1, Y.2.2.2.2.2.2.1⟩
  · exact ⟨(Y.2.1 y c).2.2.2.1, (Y.2.1 y c).2.2.2.2.1⟩
theorem hG_wb (Y : hG a h h') {w : Nat} {L : List Int} (W : wb h w L) : wb h' w L := by
  obtain ⟨w1, w2, w3, w4, p, w5, w6, w7⟩ := W
  have e := hG_fR Y (f := 1186) (by decide) w
  obtain ⟨b4, b5⟩ := hG_an Y (fR h 1186 w)
  exact ⟨by rw [hG_kd Y]; exact w1, by rw [e, hG_kd Y]; exact w2, by rw [hG_fI Y (by decide)]; exact w3, by rw [e, b4]; exact w4, p, by rw [hG_fI Y (by decide)]; exact w5, by rw [e, b4]; exact w6, fun k hk => by rw [e, b5]; exact w7 k hk⟩
theorem hG_WL (Y : hG a h h') : ∀ {ws : List Nat} {Ls : List (List Int)}, WL h ws Ls → WL h' ws Ls
  | [], [], _ => trivial
  | w :: ws, L :: Ls, c => ⟨⟨by rw [Y.1.1]; exact c.1.1, by rw [hG_fR Y (by decide), Y.1.1]; exact c.1.2.1, hG_wb Y c.1.2.2⟩, hG_WL Y c.2⟩
  | [], _ :: _, c => c.elim
  | _ :: _, [], c => c.elim
theorem hG_SCc (Y : hG a h h') (C : SCc h Ln Ls) : SCc h' Ln Ls := ⟨by rw [Y.1.1]; exact C.1, by rw [hG_kd Y]; exact C.2.1, by rw [(hG_ll Y Ln).1]; exact C.2.2.1, by rw [(hG_ll Y Ln).1]; exact hG_WL Y C.2.2.2⟩
theorem hG_CLw (Y : hG a h h') {c f g : Nat} {o : Option (List Int)} (hf : f ∉ Wi) (hg : g ∉ Wr) (C : CLw h c f g o) : CLw h' c f g o := by
  cases o with
  | none => show fI h' f c = 0; rw [hG_fI Y hf]; exact C
  | some L => exact ⟨by rw [hG_fI Y hf]; exact C.1, by rw [hG_fR Y hg, Y.1.1]; exact C.2.1, by rw [hG_fR Y hg, hG_fR Y (by decide), Y.1.1]; exact C.2.2.1, by rw [hG_fR Y hg]; exact hG_wb Y C.2.2.2⟩
theorem hG_SLs (Y : hG a h h') {Lx kk f g : Nat} {os : List Nat} {F : FT} (hf : f ∉ Wi) (hg : g ∉ Wr) (C : SLs h Lx kk f g os F) : SLs h' Lx kk f g os F := by
  obtain ⟨c1, c2, c3, c4, c5, c6⟩ := C
  exact ⟨by rw [Y.1.1]; exact c1, by rw [hG_kd Y]; exact c2, by rw [(hG_ll Y Lx).1]; exact c3, c4, c5, fun i o k e1 e2 => ⟨⟨(c6 i o k e1 e2).1.1, by rw [Y.1.1]; exact (c6 i o k e1 e2).1.2.1, by rw [hG_kd Y]; exact (c6 i o k e1 e2).1.2.2⟩, hG_CLw Y hf hg (c6 i o k e1 e2).2⟩⟩
theorem RX_hG (H : RX G A S N cs K pr tb rest fo F mo Ms h us fs) (Y : hG a h h') (ka : kd h a ∈ [18, 19, 21, 22, 33]) : RX G A S N cs K pr tb rest fo F mo Ms h' us fs ∧ CS (fun y => y = a) N (clF cs) tb rest h us fs h' us fs 0 0 0 := by
  obtain ⟨⟨⟨a1, a3⟩, ⟨b2, b3⟩, ⟨c1, c3, c4⟩⟩, ⟨f1, f2, f3, f4⟩, n1, n2⟩ := H
  have ka' : kd h a = 18 ∨ kd h a = 19 ∨ kd h a = 21 ∨ kd h a = 22 ∨ kd h a = 33 := by simpa using ka
  have T : hT (fun y => y = a) h h' := ⟨Nat.le_of_eq Y.1.1.symm, Nat.le_of_eq Y.1.2.symm, fun y _ => hG_kd Y y, fun y _ ny => Y.2.1 y ny⟩
  have k42 := a1.2.1.1.2.1
  have pk : ∀ y, y = a → y < hz h → kd h y ≠ 3 ∧ kd h y ≠ 34 ∧ kd h y ≠ 56 ∧ y ≠ fR h 122 tb := fun y hy _ => by
    rw [hy]
    exact ⟨by omega, by omega, by omega, fun z => by rw [← z] at k42; omega⟩
  have d : dOK (fun y => y = a) h h' := fun y hy => by
    have hy' : y = a := hy
    rw [hy']
    exact ⟨by omega, by omega, fun _ => hG_fI Y (by decide) a⟩
  have C := CS_write (P := fun y => y = a) (z := 0) (u := 0) a1 T pk d (Nat.le_of_eq Y.1.1) (Nat.le_of_eq Y.1.2)
  refine ⟨⟨⟨⟨TB_hT a1 a3 T pk d, a3⟩, ⟨⟨by rw [hG_kd Y]; exact b2.1, by rw [(hG_an Y A).1]; exact b2.2.1, b2.2.2.1, fun i x hx => by rw [(hG_an Y A).2]; exact b2.2.2.2.1 i x hx, b2.2.2.2.2⟩, by rw [Y.1.1]; exact b3⟩, ⟨⟨⟨by rw [hG_kd Y]; exact c1.1.1, by rw [Y.1.1]; exact c1.1.2⟩, ⟨by rw [hG_fR Y (by decide), Y.1.1]; exact c1.2.1.1, by rw [hG_fR Y (by decide), hG_kd Y]; exact c1.2.1.2.1, by rw [hG_fR Y (by decide), (hG_ll Y _).1]; exact c1.2.1.2.2⟩, c1.2.2.1, c1.2.2.2.1, fun i c k e1 e2 => ?_⟩, by rw [hG_fR Y (by decide), hG_fR Y (by decide)]; exact c3, by rw [hG_fI Y (by decide)]; exact c4⟩⟩, ⟨by rw [hG_fR Y (by decide)]; exact hG_SLs Y (by decide) (by decide) f1, f2, f3, fun i c ms Fm e1 e2 e3 => by rw [hG_fR Y (by decide)]; exact hG_SLs Y (by decide) (by decide) (f4 i c ms Fm e1 e2 e3)⟩, by rw [hG_fR Y (by decide), hG_fR Y (by decide)]; exact n1, fun c hc => by rw [hG_fR Y (by decide), hG_fR Y (by decide)]; exact n2 c hc⟩, C⟩
  obtain ⟨x1, x2, x3⟩ := c1.2.2.2.2 i c k e1 e2
  exact ⟨⟨x1.1, by rw [Y.1.1]; exact x1.2.1, by rw [hG_kd Y]; exact x1.2.2.1, by rw [hG_fI Y (by decide)]; exact x1.2.2.2⟩, hG_CLw Y (by decide) (by decide) x2, hG_CLw Y (by decide) (by decide) x3⟩
/-- the tables stay out of a range -/
theorem dj_CS (D : dj h tb fs pr alo ahi) (C : CS P N (clF cs) tb rest h us fs h' us' fs' q z u) (hA : ahi ≤ hz h) : dj h' tb fs' pr alo ahi := fun y hy => by
  rcases hy with (e | e | e | e) | e
  · exact D y (.inl (.inl e))
  · rw [C.2.2.2.2.1.2] at e; exact D y (.inl (.inr (.inl e)))
  · rw [C.2.2.2.2.1.2] at e; exact D y (.inl (.inr (.inr (.inl e))))
  · rcases C.2.2.1 y e with e | e
    · exact D y (.inl (.inr (.inr (.inr e))))
    · omega
  · exact D y (.inr e)
theorem hs1 {y : Nat} (E : eqA y h h') : kd h' y = kd h y ∧ (∀ f, f ∉ mI → fI h' f y = fI h f y) ∧ (∀ f, f ∉ mR → fR h' f y = fR h f y) ∧ ll h' y = ll h y := ⟨E.1, fun f _ => E.2.1 f, fun f _ => E.2.2.1 f, E.2.2.2.2.2.2.1⟩
theorem RS_refl (H : RX G A S N cs K pr tb rest fo F mo Ms h us fs) : RS G A S N cs K pr tb rest fo F mo Ms alo ahi h us fs h us fs 0 0 0 [] := ⟨H, CS_refl, ⟨fun _ _ => rfl, fun _ => rfl⟩, rfl, fun _ _ y _ _ => hs1 (eqA_refl y h)⟩
theorem RS_trans (A1 : RS G A S N cs K pr tb rest fo F mo Ms alo ahi h us fs h' us' fs' q z u B) (B1 : RS G A S N cs K pr tb rest fo F mo Ms alo ahi h' us' fs' h2 us2 fs2 q2 z2 u2 B2) : RS G A S N cs K pr tb rest fo F mo Ms alo ahi h us fs h2 us2 fs2 (q + q2) (z + z2) (u + u2) (B ++ B2) := by
  obtain ⟨a1, a2, a3, a4, a5⟩ := A1
  obtain ⟨b1, b2, b3, b4, b5⟩ := B1
  refine ⟨b1, CS_trans a2 b2 (fun _ _ z => z), ⟨fun f hf => (b3.1 f hf).trans (a3.1 f hf), fun f => (b3.2 f).trans (a3.2 f)⟩, by rw [b4, a4, mnl_app], fun D hA y y1 y2 => ?_⟩
  have x := a5 D hA y y1 y2
  have w := b5 (dj_CS D a2 hA) (Nat.le_trans hA a2.1.1) y y1 y2
  exact ⟨w.1.trans x.1, fun f hf => (w.2.1 f hf).trans (x.2.1 f hf), fun f hf => (w.2.2.1 f hf).trans (x.2.2.1 f hf), w.2.2.2.trans x.2.2.2⟩
theorem RS_le (C : RS G A S N cs K pr tb rest fo F mo Ms alo ahi h us fs h' us' fs' q z u B) (h1 : q ≤ q2) (h2 : z ≤ z2) (h3 : u ≤ u2) : RS G A S N cs K pr tb rest fo F mo Ms alo ahi h us fs h' us' fs' q2 z2 u2 B := ⟨C.1, CS_le C.2.1 h1 h2 h3, C.2.2⟩
/-- a write -/
theorem RS_hG (H : RX G A S N cs K pr tb rest fo F mo Ms h us fs) (Y : hG a h h') (ka : kd h a ∈ [18, 19, 21, 22, 33]) (r : alo ≤ a ∧ a < ahi) : RS G A S N cs K pr tb rest fo F mo Ms alo ahi h us fs h' us fs 0 0 0 [] := by
  obtain ⟨R, C⟩ := RX_hG H Y ka
  exact ⟨R, CS_mono C (fun y _ e => .inr (by rw [e]; exact r)), ⟨fun f _ => (Y.2.1 pr (fun e => by have := H.1.2.2.1.1.1; rw [e] at this; rw [this] at ka; simp at ka)).2.1 f, fun f => (Y.2.1 pr (fun e => by have := H.1.2.2.1.1.1; rw [e] at this; rw [this] at ka; simp at ka)).2.2.1 f⟩, by rw [hG_fI Y (by decide)]; rfl, fun _ _ y _ _ => ⟨hG_kd Y y, fun f hf => hG_fI Y (fun e => hf (by simp only [List.mem_cons, List.not_mem_nil, or_false] at e ⊢; omega)) y, fun f hf => hG_fR Y (fun e => hf (by simp only [List.mem_cons, List.not_mem_nil, or_false] at e ⊢; omega)) y, (hG_ll Y y).1⟩⟩
theorem KC_of (H : RX G A S N cs K pr tb rest fo F mo Ms h us fs) (C : SCc h Ln Ls) (e : Ln ≠ fR h 122 tb) : KC G A S N cs K pr Ln Ls tb rest h us fs := ⟨H.1.1, H.1.2.1, H.1.2.2, C, e⟩
/-- terms that stand, when something else is written -/
theorem FNS_hT {D : Nat → Prop} (X : hT D h h') (d : dOK D h h') (HC : CLS h pr cs K) (HF : FNS h pr cs fo F mo Ms) (e90 : fR h' 90 pr = fR h 90 pr) (n90 : ¬ D (fR h 90 pr)) (nc : ∀ c ∈ cs, ¬ D c ∧ ¬ D (fR h 1230 c)) (nk : ∀ y, kd h y = 33 ∨ kd h y = 19 → ¬ D y) : FNS h' pr cs fo F mo Ms := by
  obtain ⟨f1, f2, f3, f4⟩ := HF
  refine ⟨by rw [e90]; exact SLs_hT X d f1 n90 (fun c hc => nk c (.inl hc)), f2, f3, fun i c ms Fm e1 e2 e3 => ?_⟩
  have hc := List.mem_of_getElem? e1
  have il := (List.getElem?_eq_some_iff.mp e1).1
  have ik : i < K.length := by have := HC.2.2.1; omega
  have k18 := (HC.2.2.2.2 i c _ e1 (List.getElem?_eq_getElem ik)).1
  rw [(X.2.2.2 c k18.2.1 (nc c hc).1).2.2.1]
  exact SLs_hT X d (f4 i c ms Fm e1 e2 e3) (nc c hc).2 (fun c hc => nk c (.inr hc))
/-- a type that becomes known, or a rule -/
theorem RS_SC (H : RX G A S N cs K pr tb rest fo F mo Ms h us fs) (C : SC G A S N cs K pr Ln Ls tb rest h us fs h' us' fs' q X) : RS G A S N cs K pr tb rest fo F mo Ms alo ahi h us fs h' us' fs' q 0 0 [X] := by
  obtain ⟨⟨⟨a1, a3⟩, ⟨b2, b3⟩, ⟨c1, c3, c4⟩⟩, HF, n1, n2⟩ := H
  obtain ⟨k1, k2, k3, k4⟩ := C
  have T := k2.1
  have k42 := a1.2.1.1.2.1
  have dd : dOK (fun y => DT h tb fs y ∨ y = pr) h h' := fun y hy => by
    rcases hy with hy | hy
    · exact DT_ok a1 y hy
    · rw [hy]; have := c1.1.1; exact ⟨by omega, by omega, fun z => by omega⟩
  have kc : ∀ c ∈ cs, kd h c = 18 ∧ c < hz h ∧ kd h (fR h 1230 c) = 42 := fun c hc => by
    obtain ⟨i, hi⟩ := List.getElem?_of_mem hc
    have il := (List.getElem?_eq_some_iff.mp hi).1
    have ik : i < K.length := by have := c1.2.2.1; omega
    have k18 := (c1.2.2.2.2 i c _ hi (List.getElem?_eq_getElem ik)).1
    have im : i < mo.length := by have := HF.2.1; omega
    have iM : i < Ms.length := by have := HF.2.2.1; omega
    exact ⟨k18.2.2.1, k18.2.1, (HF.2.2.2 i c _ _ hi (List.getElem?_eq_getElem im) (List.getElem?_eq_getElem iM)).2.1⟩
  have nD : ∀ y, kd h y ≠ 3 → kd h y ≠ 34 → kd h y ≠ 56 → kd h y ≠ 2 → y ≠ fR h 122 tb → ¬ (DT h tb fs y ∨ y = pr) := fun y h1 h2 h3 h4 h5 z => by
    rcases z with z | z
    · exact nDT a1 ⟨h1, h2, h3⟩ h5 z
    · rw [z] at h4; exact h4 c1.1.1
  have HF' : FNS h' pr cs fo F mo Ms := FNS_hT T dd c1 HF (k3.2 90) (nD _ (by have := HF.1.2.1; omega) (by have := HF.1.2.1; omega) (by have := HF.1.2.1; omega) (by have := HF.1.2.1; omega) n1) (fun c hc => ⟨nD c (by have := (kc c hc).1; omega) (by have := (kc c hc).1; omega) (by have := (kc c hc).1; omega) (by have := (kc c hc).1; omega) (fun z => by have := (kc c hc).1; rw [z] at this; omega), nD _ (by have := (kc c hc).2.2; omega) (by have := (kc c hc).2.2; omega) (by have := (kc c hc).2.2; omega) (by have := (kc c hc).2.2; omega) (n2 c hc)⟩) (fun y hy => nD y (by omega) (by omega) (by omega) (by omega) (fun z => by rw [← z] at k42; omega))
  refine ⟨⟨⟨k1.1, k1.2.1, k1.2.2.1⟩, HF', by rw [k3.2, k2.2.2.2.2.1.2]; exact n1, fun c hc => ?_⟩, CS_mono k2 (fun y _ z => .inl z), k3, k4, fun D hA y y1 y2 => hs1 (T.2.2.2 y (by omega) (fun e => ?_))⟩
  rotate_left
  · rcases e with e | e
    · have := D y (.inl e); omega
    · have := D y (.inr e); omega
  have e := T.2.2.2 c (kc c hc).2.1 (nD c (by have := (kc c hc).1; omega) (by have := (kc c hc).1; omega) (by have := (kc c hc).1; omega) (by have := (kc c hc).1; omega) (fun z => by have := (kc c hc).1; rw [z] at this; omega))
  rw [e.2.2.1, k2.2.2.2.2.1.2]
  exact n2 c hc
/-- an ex that becomes known -/
theorem RS_SR {alo' ahi' : Nat} (C : SR G A S N cs K pr Ln Ls tb rest fo F mo Ms alo' ahi' h us fs h' us' fs' q z u X) (h1 : alo ≤ alo') (h2 : ahi' ≤ ahi) : RS G A S N cs K pr tb rest fo F mo Ms alo ahi h us fs h' us' fs' q z u [X] := by
  obtain ⟨k1, k2, k3, k4, k5, k6, k7⟩ := C
  refine ⟨⟨⟨k1.1, k1.2.1, k1.2.2.1⟩, k2, k3⟩, CS_mono k4 (fun y _ e => e.elim .inl (fun e => .inr ⟨by omega, by omega⟩)), k6, k7, fun D hA y y1 y2 => ?_⟩
  by_cases c : alo' ≤ y ∧ y < ahi'
  · exact k5 y c.1 c.2
  · refine hs1 (k4.1.2.2.2 y (by omega) (fun e => ?_))
    rcases e with e | e | e
    · have := D y (.inl e); omega
    · have := D y (.inr e); omega
    · exact c ⟨e.1, e.2.1⟩
/-- rules broken -/
theorem RS_ruH (H : RX G A S N cs K pr tb rest fo F mo Ms h us fs) (B : List Int) : RS G A S N cs K pr tb rest fo F mo Ms alo ahi h us fs (ruH h pr B) us fs 0 0 0 B := by
  obtain ⟨⟨⟨a1, a3⟩, ⟨b2, b3⟩, ⟨c1, c3, c4⟩⟩, HF, n1, n2⟩ := id H
  have kp := c1.1.1
  have k42 := a1.2.1.1.2.1
  have T : hT (fun y => y = pr) h (ruH h pr B) := ⟨Nat.le_refl _, Nat.le_refl _, fun _ _ => rfl, fun y _ nd => ⟨rfl, fun f => fI_na nd, fun f => rfl, rfl, fun f => rfl, fun f => rfl, rfl, rfl⟩⟩
  have pk : ∀ y, y = pr → y < hz h → kd h y ≠ 3 ∧ kd h y ≠ 34 ∧ kd h y ≠ 56 ∧ y ≠ fR h 122 tb := fun y hy _ => by
    rw [hy]
    exact ⟨by omega, by omega, by omega, fun z => by rw [← z] at k42; omega⟩
  have d : dOK (fun y => y = pr) h (ruH h pr B) := fun y hy => by
    have hy' : y = pr := hy
    rw [hy']
    exact ⟨by omega, by omega, fun z => by omega⟩
  have C := CS_write (P := fun y => y = pr) (z := 0) (u := 0) a1 T pk d (Nat.le_refl _) (Nat.le_refl _)
  have Fh : hF [112] h (ruH h pr B) := ruH_F
  have cw : ∀ {c f g : Nat} {o : Option (List Int)}, f ≠ 112 → CLw h c f g o → CLw (ruH h pr B) c f g o := fun {c f g o} hf C => by
    cases o with
    | none => show fI (ruH h pr B) f c = 0; rw [(Fh.2 c).2.1 f (by simpa using hf)]; exact C
    | some L => exact ⟨by rw [(Fh.2 c).2.1 f (by simpa using hf)]; exact C.1, C.2.1, C.2.2.1, hF_wb Fh (by decide) C.2.2.2⟩
  have sl : ∀ {Lx kk f g : Nat} {os : List Nat} {F : FT}, f ≠ 112 → SLs h Lx kk f g os F → SLs (ruH h pr B) Lx kk f g os F := fun {Lx kk f g os F} hf C => ⟨C.1, C.2.1, C.2.2.1, C.2.2.2.1, C.2.2.2.2.1, fun i o k e1 e2 => ⟨(C.2.2.2.2.2 i o k e1 e2).1, cw hf (C.2.2.2.2.2 i o k e1 e2).2⟩⟩
  have e112 : fI (ruH h pr B) 112 pr = mnl (fI h 112 pr) B := fI_eq
  refine ⟨⟨⟨⟨TB_hT a1 a3 T pk d, a3⟩, ⟨⟨b2.1, b2.2.1, b2.2.2.1, b2.2.2.2.1, b2.2.2.2.2⟩, b3⟩, ⟨⟨c1.1, c1.2.1, c1.2.2.1, c1.2.2.2.1, fun i c k e1 e2 => ?_⟩, c3, by rw [e112]; have := (mnl_le (A := B) (x := fI h 112 pr)).1; omega⟩⟩, ⟨sl (by decide) HF.1, HF.2.1, HF.2.2.1, fun i c ms Fm e1 e2 e3 => sl (by decide) (HF.2.2.2 i c ms Fm e1 e2 e3)⟩, n1, n2⟩, CS_mono C (fun y _ e => .inl e), ⟨fun f hf => fI_ne hf, fun _ => rfl⟩, e112, fun D hA y y1 y2 => hs1 (T.2.2.2 y (by omega) (fun e => by have := D y (.inr e); omega))⟩
  obtain ⟨x1, x2, x3⟩ := c1.2.2.2.2 i c k e1 e2
  exact ⟨⟨x1.1, x1.2.1, x1.2.2.1, by rw [(Fh.2 c).2.1 1200 (by decide)]; exact x1.2.2.2⟩, cw (by decide) x2, cw (by decide) x3⟩
/-- what lies elsewhere is the same -/
theorem RS_eq (D : dj h tb fs pr lo hi) (C : RS G A S N cs K pr tb rest fo F mo Ms alo ahi h us fs h' us' fs' q z u B) {y : Nat} (h1 : lo ≤ y ∧ y < hi) (h2 : hi ≤ hz h) (h3 : y < alo ∨ ahi ≤ y) : eqA y h h' := C.2.1.1.2.2.2 y (by omega) (fun e => by
  rcases e with e | e | e
  · have := D y (.inl e); omega
  · have := D y (.inr e); omega
  · omega)
end LRS
