set_option maxRecDepth 100000
/-! THE COMPONENT'S MACHINE: a fresh cell -/
section LFE
variable {G : om_G} {io : Nat → Nat} {ins : List INs} {M : MPg} {cd : Nat → Et → Nat → Nat → Nat → Prop} {h h1 h2 : om_H} {m nu kk : Nat}
theorem cO_eq {k : Nat} (e : fR h1 262 m = fR h 262 m) (e2 : ll h1 (fR h 262 m) = ll h (fR h 262 m)) : cO h1 m k = cO h m k := by
  unfold cO
  rw [e, e2]
/-- how many cells are in use -/
def cNu (h : om_H) (m nu : Nat) : Prop := fI h 264 m = (nu : Int) ∧ nu ≤ (ll h (fR h 262 m)).length ∧ nu ≤ 4000
/-- a step with a fresh cell c: only the machine's count, the list, and the cell -/
def FrS (m nu c kk : Nat) (h h' : om_H) : Prop := (hT (fun a => a = m ∨ a = fR h 262 m ∨ a = c) h h' ∧ (c < hz h → (ll h (fR h 262 m))[nu]? = some c ∧ ll h' (fR h 262 m) = ll h (fR h 262 m)) ∧ (hz h ≤ c → (ll h (fR h 262 m)).length = nu ∧ ll h' (fR h 262 m) = ll h (fR h 262 m) ++ [c])) ∧ ((∀ f, f ≠ 264 → fI h' f m = fI h f m) ∧ ∀ f, fR h' f m = fR h f m) ∧ (hz h ≤ c → hz h ≤ fR h' 1718 c) ∧ (c < hz h → fR h' 1718 c = fR h 1718 c) ∧ (cO h' m nu = c ∧ (∀ k, k < nu → cO h' m k = cO h m k) ∧ fR h' 1694 c = kk) ∧ (hz h' + 3 * (ll h (fR h 262 m)).length ≤ hz h + 3 * (ll h' (fR h 262 m)).length ∧ hu h' + 4 * lc h (fR h 262 m) + 11 * (ll h (fR h 262 m)).length ≤ hu h + 4 * lc h' (fR h 262 m) + 11 * (ll h' (fR h 262 m)).length)
/-- nothing that is there is touched -/
theorem FrS_gr {c : Nat} (I : MC G h m) (hn : cNu h m nu) (F : FrS m nu c kk h h1) (e : fI h1 264 m = ((nu + 1 : Nat) : Int)) : mGc m h h1 := by
  obtain ⟨⟨X, c1, c2⟩, _, _, _, ⟨_, e2, _⟩, _⟩ := F
  refine ⟨by rw [e, hn.1]; omega, fun k hk => ?_⟩
  have kn : k < nu := by have := hn.1; omega
  obtain ⟨g1, g2, ⟨g3, g4, g5⟩, g6, g7, g8⟩ := MC_at I (k := k) (by have := hn.2.1; omega)
  have nm : cO h m k ≠ m := fun z => by rw [z, I.1.1] at g5; omega
  have nL : cO h m k ≠ fR h 262 m := fun z => by rw [z, I.2.1.1.1.2.1] at g5; omega
  have nc : cO h m k ≠ c := fun z => by
    have q := (c1 (by omega)).1
    have := nd_idx I.2.1.1.2.2 (g1.trans (by rw [z])) q
    omega
  have rm : fR h 1718 (cO h m k) ≠ m := fun z => by rw [z, I.1.1] at g7; omega
  have rL : fR h 1718 (cO h m k) ≠ fR h 262 m := fun z => by rw [z, I.2.1.1.1.2.1] at g7; omega
  have rc : fR h 1718 (cO h m k) ≠ c := fun z => by
    have q := (c1 (by omega)).1
    have := (I.2.1.2 c (List.mem_of_getElem? q)).1.2.2
    rw [← z] at this
    omega
  have E := X.2.2.2 (cO h m k) g4 (fun z => by rcases z with z | z | z; exact nm z; exact nL z; exact nc z)
  have E2 := X.2.2.2 (fR h 1718 (cO h m k)) g6 (fun z => by rcases z with z | z | z; exact rm z; exact rL z; exact rc z)
  unfold cRw
  rw [e2 k kn, E.2.2.1, E.2.2.1, E.2.2.1, E.2.1, E.2.1, E.2.1]
  exact ⟨⟨rfl, rfl, rfl⟩, ⟨rfl, rfl, rfl⟩, fun j _ => by rw [E.2.2.1]; exact E2.2.2.2.2.1 j⟩
set_option maxHeartbeats 1000000 in
/-- one that is there already -/
theorem c_fr46 (I : MC G h m) (hn : cNu h m nu) (hl : nu < (ll h (fR h 262 m)).length) (h4 : nu < 4000) : ∃ c h', C_10_fresh_46 G m kk h = some (c, h') ∧ MC G h' m ∧ cNu h' m (nu + 1) ∧ (c ≠ 0 ∧ c < hz h ∧ kd h c = 40) ∧ FrS m nu c kk h h' := by
  obtain ⟨g1, g2, ⟨g3, g4, g5⟩, g6⟩ := MC_at I hl
  have kL := I.2.1.1.1.2.1
  have wu : w32 ((nu : Int) + 1) = ((nu + 1 : Nat) : Int) := (w32_s (by omega) (by omega)).trans (by omega)
  have nm : cO h m nu ≠ m := fun z => by rw [z, I.1.1] at g5; omega
  have S : skE m h (sR (sI h 264 m ((nu + 1 : Nat) : Int)) 1694 (cO h m nu) kk) := skE_sR (skE_sI skE_refl) (by decide)
  have eL : fR (sR (sI h 264 m ((nu + 1 : Nat) : Int)) 1694 (cO h m nu) kk) 262 m = fR h 262 m := S.2.2.1 262 m (by decide)
  refine ⟨cO h m nu, sR (sI h 264 m ((nu + 1 : Nat) : Int)) 1694 (cO h m nu) kk, ?_, MC_sk S I, ⟨?_, ?_, by omega⟩, ⟨g3, g4, g5⟩, ?_⟩
  · unfold C_10_fresh_46
    rw [gd_pos ⟨I.1.1, kL⟩, hn.1, MC_get I hl, Option.bind_some, gd_pos ⟨.inr g5, I.1.1, g5⟩, wu]
  · show fI (sI h 264 m _) 264 m = _
    exact fI_eq
  · rw [eL]
    show nu + 1 ≤ (ll h (fR h 262 m)).length
    omega
  · refine ⟨⟨⟨Nat.le_refl _, Nat.le_refl _, fun _ _ => rfl, fun a _ nd => ⟨rfl, fun f => ?_, fun f => ?_, rfl, fun _ => rfl, fun _ => rfl, rfl, rfl⟩⟩, fun _ => ⟨g1, rfl⟩, fun z => by omega⟩, ⟨fun f hf => ?_, fun f => ?_⟩, fun z => by omega, fun _ => ?_, ⟨?_, fun k _ => ?_, ?_⟩, ?_, ?_⟩
    · show fI (sI h 264 m _) f a = fI h f a
      exact fI_na (fun z => nd (.inl z))
    · rw [fR_sR, if_neg (fun z => nd (.inr (.inr z.2)))]
      rfl
    · show fI (sI h 264 m _) f m = fI h f m
      exact fI_ne hf
    · rw [fR_sR, if_neg (fun z => nm z.2.symm)]
      rfl
    · rw [fR_sR, if_neg (fun z => by cases z.1)]
      rfl
    · exact cO_eq eL rfl
    · exact cO_eq eL rfl
    · exact fR_eq
    · exact Nat.le_refl _
    · exact Nat.le_refl _
set_option maxHeartbeats 1000000 in
/-- one more cell -/
theorem c_frN (I : MC G h m) (hl : (ll h (fR h 262 m)).length < 4000) : ∃ h3, (C_40_init G (hz h) (nO h 40 7)).bind (fun p2 => gd (kd p2 (fR h 262 m) = 42) ((P_J2_add G (fR h 262 m) (hz h) p2).bind fun p3 => C_10_fresh_46 G m kk p3.2)) = C_10_fresh_46 G m kk h3 ∧ MC G h3 m ∧ hT (fun y => y = fR h 262 m) h h3 ∧ ll h3 (fR h 262 m) = ll h (fR h 262 m) ++ [hz h] ∧ fR h3 1718 (hz h) = hz h + 1 ∧ (hz h3 ≤ hz h + 3 ∧ hu h3 + 4 * lc h (fR h 262 m) ≤ hu h + 11 + 4 * lc h3 (fR h 262 m)) := by
  obtain ⟨⟨m1, m2⟩, ⟨⟨lV, l6, l7⟩, l8⟩, ⟨⟨f1, f2, f3⟩, f4⟩, ⟨a1, a2, a3⟩, ⟨a4, a5, a6⟩, ⟨a7, a8, a9⟩, b1, b2, b3, b4, b5⟩ := id I
  have kn : kd (nO h 40 7) (hz h) = 40 := by rw [kd_nO, if_pos rfl]
  have kn2 : kd (nA (nO h 40 7) 51 4) (hz h) = 40 := by
    rw [kd_nA, if_neg (by show ¬ hz h = hz h + 1; omega)]
    exact kn
  obtain ⟨hb, eb⟩ : ∃ hb, hb = sR (nA (nO h 40 7) 51 4) 1718 (hz h) (hz h + 1) := ⟨_, rfl⟩
  have ini : C_40_init G (hz h) (nO h 40 7) = some hb := by
    unfold C_40_init
    rw [gd_pos ⟨kn, kn2⟩, eb]
    rfl
  have zb : hz hb = hz h + 2 := by rw [eb]; rfl
  have ub : hu hb = hu h + 7 + 4 := by rw [eb]; rfl
  have kb : ∀ y, kd hb y = if y = hz h + 1 then 51 else if y = hz h then 40 else kd h y := fun y => by
    rw [eb]
    show kd (nA (nO h 40 7) 51 4) y = _
    rw [kd_nA, kd_nO]
    rfl
  have X1 : hT (fun _ => False) h hb := ⟨by omega, by omega, fun y hy => by rw [kb, if_neg (by omega), if_neg (by omega)], fun y hy _ => ⟨by rw [kb, if_neg (by omega), if_neg (by omega)], fun f => by
    rw [eb]
    show fI (nO h 40 7) f y = _
    rw [fI_nO, if_neg (by omega)], fun f => by
    rw [eb, fR_sR, if_neg (fun z => by omega)]
    show fR (nO h 40 7) f y = _
    rw [fR_nO, if_neg (by omega)], by
    rw [eb]
    show an (nA (nO h 40 7) 51 4) y = _
    rw [an_nA, if_neg (by show ¬ y = hz h + 1; omega)]
    rfl, fun k => by
    rw [eb]
    show aI (nA (nO h 40 7) 51 4) y k = _
    rw [aI_nA, if_neg (by show ¬ y = hz h + 1; omega)]
    rfl, fun k => by
    rw [eb]
    show aR (nA (nO h 40 7) 51 4) y k = _
    rw [aR_nA, if_neg (by show ¬ y = hz h + 1; omega)]
    rfl, by rw [eb]; rfl, by rw [eb]; rfl⟩⟩
  have L1 := okV_hT lV X1 (fun z => z)
  have lb : ll hb (fR h 262 m) = ll h (fR h 262 m) := by rw [eb]; rfl
  have cb : lc hb (fR h 262 m) = lc h (fR h 262 m) := by rw [eb]; rfl
  obtain ⟨c1, c2, c3, c4, c5, c6⟩ := v_add (x := hz h) L1 (.inl ⟨by omega, by rw [kb, if_neg (by omega), if_pos rfl]; decide, by rw [kb, if_neg (by omega), if_pos rfl]; decide⟩) (by rw [lb]; omega)
  rw [lb] at c4
  rw [cb] at c6
  obtain ⟨d0, d1, d2, d3, d4, d5, d6, d7, d8, d9⟩ := c2
  have row : fR hb 1718 (hz h) = hz h + 1 := by rw [eb]; exact fR_eq
  have anb : an hb (hz h + 1) = 4 := by
    rw [eb]
    show (if hz h + 1 = hz h + 1 then 4 else _) = 4
    rw [if_pos rfl]
  generalize addL hb (fR h 262 m) (hz h) = h3 at *
  have X2 : hT (fun y => y = fR h 262 m) h h3 := ⟨by omega, by omega, fun y hy => (d2 y (by omega)).trans (X1.2.2.1 y hy), fun y hy ny => eqA_trans (X1.2.2.2 y hy (fun z => z)) ⟨d2 y (by omega), fun f => d3 f y (by omega), fun f => d4 f y (by omega), d5 y (by omega), fun i => d6 y i (by omega), fun i => d7 y i (by omega), d8 y (by omega) ny, d9 y (by omega) ny⟩⟩
  have nk : ∀ y, y < hz h → kd h y ≠ 42 → eqA y h h3 := fun y hy hk => X2.2.2.2 y hy (fun z => by rw [z, lV.2.1] at hk; exact hk rfl)
  have em := nk m m2 (by omega)
  have rm : ∀ f, fR h3 f m = fR h f m := em.2.2.1
  have rw3 : ∀ A, rwO h A → rwO h3 A := fun A H => by
    have e := nk A H.1 (by rw [H.2.1]; decide)
    exact ⟨by have := H.1; omega, e.1.trans H.2.1, e.2.2.2.1.trans H.2.2⟩
  have row3 : fR h3 1718 (hz h) = hz h + 1 := by rw [d4 1718 (hz h) (by omega)]; exact row
  have rown : rwO h3 (hz h + 1) := ⟨by omega, by rw [d2 _ (by omega), kb, if_pos rfl], by rw [d5 _ (by omega)]; exact anb⟩
  have old : ∀ c ∈ ll h (fR h 262 m), fR h3 1718 c = fR h 1718 c ∧ fR h 1718 c < hz h ∧ c < hz h ∧ kd h3 c = 40 := fun c hc => by
    obtain ⟨⟨q1, q2, q3⟩, q4, _⟩ := l8 c hc
    have e := nk c q2 (by omega)
    exact ⟨e.2.2.1 1718, q4.1, q2, e.1.trans q3⟩
  refine ⟨h3, ?_, ⟨⟨by rw [em.1]; exact m1, by omega⟩, ⟨?_, ?_⟩, ⟨?_, ?_⟩, ?_, ?_, ?_, ?_, ?_, ?_⟩, X2, c4, row3, by omega, by omega⟩
  · rw [ini, Option.bind_some, gd_pos L1.2.1, c1, Option.bind_some]
  · rw [rm, c4]
    refine ⟨c3, by rw [List.length_append, List.length_singleton]; omega, List.nodup_append.mpr ⟨l7, by simp, fun x hx y hy => ?_⟩⟩
    have := (old x hx).2.2.1
    rw [List.mem_singleton.mp hy]
    omega
  · rw [rm, c4, rm, rm]
    intro c hc
    rcases List.mem_append.mp hc with hc | hc
    · obtain ⟨⟨q1, q2, q3⟩, q4, q5, q6, q7⟩ := l8 c hc
      obtain ⟨o1, o2, o3, o4⟩ := old c hc
      rw [o1]
      refine ⟨⟨q1, by omega, o4⟩, rw3 _ q4, fun c' hc' e => ?_, q6, q7⟩
      rcases List.mem_append.mp hc' with hc' | hc'
      · rw [(old c' hc').1] at e
        exact q5 c' hc' e
      · rw [List.mem_singleton.mp hc', row3] at e
        omega
    · rw [List.mem_singleton.mp hc, row3]
      refine ⟨⟨by omega, by omega, by rw [d2 _ (by omega), kb, if_neg (by omega), if_pos rfl]⟩, rown, fun c' hc' e => ?_, by have := a1.1; omega, by have := a2.1; omega⟩
      rcases List.mem_append.mp hc' with hc' | hc'
      · obtain ⟨o1, o2, _⟩ := old c' hc'
        rw [o1] at e
        omega
      · exact List.mem_singleton.mp hc'
  · have e := nk _ f1 (by omega)
    rw [rm]
    exact ⟨by omega, e.1.trans f2, e.2.2.2.1.trans f3⟩
  · have e := nk _ f1 (by omega)
    rw [rm, rm, rm, rm, c4]
    intro i hi
    obtain ⟨⟨q1, q2, q3⟩, q4, q5, q6, q7, q8⟩ := f4 i hi
    have rr : ∀ j, j < 300 → aR h3 (fR h 270 m) j = aR h (fR h 270 m) j ∧ fR h3 374 (aR h (fR h 270 m) j) = fR h 374 (aR h (fR h 270 m) j) := fun j hj => by
      obtain ⟨⟨p1, p2, p3⟩, _⟩ := f4 j hj
      exact ⟨e.2.2.2.2.2.1 j, (nk _ p2 (by omega)).2.2.1 374⟩
    rw [(rr i hi).1, (rr i hi).2]
    refine ⟨⟨q1, by omega, (nk _ q2 (by omega)).1.trans q3⟩, rw3 _ q4, fun j hj w => ?_, q6, q7, fun c hc => ?_⟩
    · rw [(rr j hj).1, (rr j hj).2] at w
      exact q5 j hj w
    · rcases List.mem_append.mp hc with hc | hc
      · rw [(old c hc).1]
        exact q8 c hc
      · rw [List.mem_singleton.mp hc, row3]
        have := q4.1
        omega
  · rw [rm, rm]
    exact ⟨rw3 _ a1, rw3 _ a2, a3⟩
  · have e := nk _ a4 (by omega)
    rw [rm]
    exact ⟨by omega, e.1.trans a5, e.2.2.2.1.trans a6⟩
  · have e := nk _ a7 (by omega)
    rw [rm]
    exact ⟨by omega, e.1.trans a8, e.2.2.2.1.trans a9⟩
  · intro f hf
    obtain ⟨q1, q2, q3⟩ := b1 f hf
    have e := nk _ q1 (by omega)
    rw [rm]
    exact ⟨by omega, e.1.trans q2, e.2.2.2.1.trans q3⟩
  · rw [rm, rm, rm]
    exact b2
  · have e := nk _ b3 (by omega)
    rw [rm]
    exact ⟨by omega, e.1.trans b4, e.2.2.2.1.trans b5⟩
set_option maxHeartbeats 1000000 in
/-- A FRESH CELL -/
theorem c_fresh (I : MC G h m) (hn : cNu h m nu) (h4 : nu < 4000) : ∃ c h', C_10_fresh G m kk h = some (c, h') ∧ MC G h' m ∧ cNu h' m (nu + 1) ∧ (c ≠ 0 ∧ c < hz h' ∧ kd h' c = 40) ∧ FrS m nu c kk h h' ∧ mGc m h h' := by
  have kL := I.2.1.1.1.2.1
  have un : C_10_fresh G m kk h = if (nu : Int) ≠ ((ll h (fR h 262 m)).length : Int) then C_10_fresh_46 G m kk h else (C_40_init G (hz h) (nO h 40 7)).bind (fun p2 => gd (kd p2 (fR h 262 m) = 42) ((P_J2_add G (fR h 262 m) (hz h) p2).bind fun p3 => C_10_fresh_46 G m kk p3.2)) := by
    unfold C_10_fresh P_J2_size
    rw [gd_pos I.1.1, hn.1, if_pos (by omega), gd_pos ⟨I.1.1, kL⟩, gd_pos kL, Option.bind_some]
    split
    · rfl
    · exact gd_pos ⟨I.1.1, by rw [kd_nO, if_pos rfl]⟩
  by_cases c : nu < (ll h (fR h 262 m)).length
  · obtain ⟨y, h', c1, c2, c3, c4, c5⟩ := c_fr46 (kk := kk) I hn c h4
    refine ⟨y, h', by rw [un, if_pos (by omega)]; exact c1, c2, c3, ?_, c5, FrS_gr I hn c5 c3.1⟩
    have X := c5.1.1
    exact ⟨c4.1, Nat.lt_of_lt_of_le c4.2.1 X.1, (X.2.2.1 y c4.2.1).trans c4.2.2⟩
  · have el : (ll h (fR h 262 m)).length = nu := by have := hn.2.1; omega
    obtain ⟨h3, n1, n2, n3, n4, n5, n6, n7⟩ := c_frN (kk := kk) I (by omega)
    have nm : m ≠ fR h 262 m := fun z => by have := I.1.1; rw [z, kL] at this; omega
    have em := n3.2.2.2 m I.1.2 nm
    have e62 : fR h3 262 m = fR h 262 m := em.2.2.1 262
    have hn3 : cNu h3 m nu := ⟨(em.2.1 264).trans hn.1, by rw [e62, n4, List.length_append]; omega, hn.2.2⟩
    obtain ⟨y, h', c1, c2, c3, c4, c5⟩ := c_fr46 (kk := kk) n2 hn3 (by rw [e62, n4, List.length_append, List.length_singleton]; omega) h4
    obtain ⟨⟨X, x1, x2⟩, ⟨y1, y2⟩, y3, y4, ⟨y5, y6, y7⟩, y8, y9⟩ := c5
    have ey : y = hz h := by
      have q := (x1 c4.2.1).1
      rw [e62, n4, ← el, List.getElem?_append_right (Nat.le_refl _), Nat.sub_self] at q
      exact (Option.some.inj q).symm
    rw [e62] at X y8 y9 x1 x2
    have F : FrS m nu y kk h h' := by
      refine ⟨⟨hT_trans (hT_mono n3 (fun a _ z => .inr (.inl z))) X (fun a _ z => z), fun z => by omega, fun _ => ⟨el, by rw [(x1 c4.2.1).2, n4, ey]⟩⟩, ⟨fun f hf => (y1 f hf).trans (em.2.1 f), fun f => (y2 f).trans (em.2.2.1 f)⟩, fun _ => ?_, fun z => by omega, ⟨y5, fun k hk => (y6 k hk).trans ?_, y7⟩, ?_, ?_⟩
      · rw [y4 (by omega), ey, n5]
        omega
      · unfold cO
        rw [e62, n4, List.getElem?_append_left (by omega)]
      · rw [n4] at y8
        rw [List.length_append, List.length_singleton] at y8
        have : hz h' + 3 * ((ll h (fR h 262 m)).length + 1) ≤ hz h3 + 3 * (ll h' (fR h 262 m)).length := y8
        omega
      · rw [n4] at y9
        rw [List.length_append, List.length_singleton] at y9
        omega
    refine ⟨y, h', by rw [un, if_neg (by omega), n1]; exact c1, c2, c3, ⟨c4.1, Nat.lt_of_lt_of_le c4.2.1 X.1, (X.2.2.1 y c4.2.1).trans c4.2.2⟩, F, FrS_gr I hn F c3.1⟩
theorem c_freshF (I : MC G h m) (hn : cNu h m nu) (h4 : ¬ nu < 4000) : C_10_fresh G m kk h = some (0, sI h 280 m 4) := by
  unfold C_10_fresh
  rw [gd_pos I.1.1, hn.1, if_neg (by have := hn.2.2; omega), gd_pos I.1.1]
end LFE
