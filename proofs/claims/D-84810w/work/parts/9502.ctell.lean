set_option maxRecDepth 100000
/-! THE COMPONENT TELLS: bytes, words, types -/
/-- one byte -/
def put1 (s : Nat) (h : om_H) (c : Int) : om_H := if fI h 192 s ≠ fI h 196 s then sI h 192 s (w32 (fI h 192 s + 1)) else sI (sI h 200 s c) 192 s (w32 (fI h 192 s + 1))
def putL (s : Nat) (L : List Int) (h : om_H) : om_H := L.foldl (put1 s) h
/-- only the sink is written -/
def hK (s : Nat) (h h' : om_H) : Prop := (hz h' = hz h ∧ hu h' = hu h) ∧ ∀ a, kd h' a = kd h a ∧ (∀ f, a ≠ s ∨ (f ≠ 192 ∧ f ≠ 200) → fI h' f a = fI h f a) ∧ (∀ f, fR h' f a = fR h f a) ∧ an h' a = an h a ∧ (∀ k, aI h' a k = aI h a k) ∧ (∀ k, aR h' a k = aR h a k) ∧ ll h' a = ll h a ∧ lc h' a = lc h a
section LCT
variable {G : om_G} {s : Nat} {h h1 h2 : om_H} {N : List (List Int)} {cl : Nat → Nat} {U : Nat → Prop} {nm con fam : Nat → List Int}
theorem hK_refl : hK s h h := ⟨⟨rfl, rfl⟩, fun _ => ⟨rfl, fun _ _ => rfl, fun _ => rfl, rfl, fun _ => rfl, fun _ => rfl, rfl, rfl⟩⟩
theorem hK_trans (A : hK s h h1) (B : hK s h1 h2) : hK s h h2 := ⟨⟨B.1.1.trans A.1.1, B.1.2.trans A.1.2⟩, fun a => by
  obtain ⟨a1, a2, a3, a4, a5, a6, a7, a8⟩ := A.2 a
  obtain ⟨b1, b2, b3, b4, b5, b6, b7, b8⟩ := B.2 a
  exact ⟨b1.trans a1, fun f hf => (b2 f hf).trans (a2 f hf), fun f => (b3 f).trans (a3 f), b4.trans a4, fun k => (b5 k).trans (a5 k), fun k => (b6 k).trans (a6 k), b7.trans a7, b8.trans a8⟩⟩
theorem hK_sI {g : Nat} {x : Int} (hg : g = 192 ∨ g = 200) : hK s h (sI h g s x) := ⟨⟨rfl, rfl⟩, fun a => ⟨rfl, fun f hf => by rw [fI_sI, if_neg (fun z => by omega)], fun _ => rfl, rfl, fun _ => rfl, fun _ => rfl, rfl, rfl⟩⟩
theorem put1_hK {c : Int} : hK s h (put1 s h c) := by
  unfold put1
  split
  · exact hK_sI (.inl rfl)
  · exact hK_trans (hK_sI (.inr rfl)) (hK_sI (.inl rfl))
theorem putL_hK : ∀ {L : List Int} {h : om_H}, hK s h (putL s L h)
  | [], h => hK_refl
  | c :: L, h => hK_trans put1_hK (putL_hK (L := L) (h := put1 s h c))
theorem putL_app {L M : List Int} : putL s (L ++ M) h = putL s M (putL s L h) := by
  unfold putL
  rw [List.foldl_append]
theorem putL_8 {L : List Int} (k : kd h s = 8) : kd (putL s L h) s = 8 := by rw [(putL_hK.2 s).1]; exact k
/-- a byte -/
theorem c_put1 (k : kd h s = 8) (c : Int) : C_7_put_2 G s c h = some (put1 s h c) := by
  unfold C_7_put_2 put1
  rw [gd_pos k]
  by_cases a : fI h 192 s ≠ fI h 196 s
  · rw [if_pos a, if_pos a]
    unfold C_7_put_2_16
    rw [gd_pos k]
  · rw [if_neg a, if_neg a, gd_pos k]
    unfold C_7_put_2_16
    rw [gd_pos (show kd (sI h 200 s c) s = 8 from k), fI_ne (by decide)]
/-- a string -/
theorem c_putS {j : Nat} {L : List Int} (k : kd h s = 8) (e : om_sb[j]? = some L) (hl : L.length ≤ 100000) : C_7_put G s j h = some (putL s L h) := by
  have go : ∀ (M P : List Int), L = P ++ M → om_loop (C_7_put_2s G s j) ((P.length : Int), putL s P h) = some (putL s L h) := by
    intro M
    induction M with
    | nil =>
      intro P e'
      rw [List.append_nil] at e'
      rw [← e']
      refine om_loop_out ?_
      unfold C_7_put_2s P_J4_length
      simp only
      rw [e, Option.bind_some, Option.bind_some, if_pos (Int.le_refl _)]
    | cons c M ih =>
      intro P e'
      have hl' : L.length = P.length + (M.length + 1) := by rw [e', List.length_append, List.length_cons]
      have ec : L[P.length]? = some c := by rw [e', List.getElem?_append_right (Nat.le_refl _), Nat.sub_self]; rfl
      have st : C_7_put_2s G s j ((P.length : Int), putL s P h) = some (.inl (((P ++ [c]).length : Int), putL s (P ++ [c]) h)) := by
        unfold C_7_put_2s P_J4_length P_J4_charAt
        simp only
        rw [e, Option.bind_some, Option.bind_some, if_neg (by omega), Option.bind_some, if_pos (by omega), show ((P.length : Int)).toNat = P.length by omega, ec, Option.bind_some, gd_pos (putL_8 k), c_put1 (putL_8 k), Option.bind_some, w32_s (by omega) (by omega), putL_app, List.length_append]
        rfl
      rw [om_loop_in st]
      exact ih (P ++ [c]) (by rw [e', List.append_assoc]; rfl)
  unfold C_7_put
  have g : om_loop (C_7_put_2s G s j) (0, h) = some (putL s L h) := go L [] rfl
  rw [g, Option.bind_some]
/-- a word -/
theorem c_putW {w : Nat} {L : List Int} (k : kd h s = 8) (W : wb h w L) : C_7_put_3 G s w h = some (putL s L h) := by
  obtain ⟨w1, w2, w3, w4, p, w5, w6, w7⟩ := W
  have go : ∀ (M P : List Int), L = P ++ M → om_loop (C_7_put_3_2s G s w) ((P.length : Int), putL s P h) = some (putL s L h) := by
    intro M
    induction M with
    | nil =>
      intro P e'
      rw [List.append_nil] at e'
      rw [← e']
      have K := putL_hK (s := s) (L := L) (h := h)
      refine om_loop_out ?_
      unfold C_7_put_3_2s
      simp only
      rw [(K.2 w).1, gd_pos w1, (K.2 w).2.1 1192 (.inr ⟨by decide, by decide⟩), w3, if_pos (Int.le_refl _)]
    | cons c M ih =>
      intro P e'
      have K := putL_hK (s := s) (L := P) (h := h)
      have hl' : L.length = P.length + (M.length + 1) := by rw [e', List.length_append, List.length_cons]
      have ec : L[P.length]? = some c := by rw [e', List.getElem?_append_right (Nat.le_refl _), Nat.sub_self]; rfl
      have ev : aI h (fR h 1186 w) (p + P.length) = c := Option.some.inj ((w7 P.length (by omega)).symm.trans ec)
      have ix : w32 ((p : Int) + (P.length : Int)) = ((p + P.length : Nat) : Int) := by rw [w32_s (by omega) (by omega)]; rfl
      have st : C_7_put_3_2s G s w ((P.length : Int), putL s P h) = some (.inl (((P ++ [c]).length : Int), putL s (P ++ [c]) h)) := by
        unfold C_7_put_3_2s
        simp only
        rw [(K.2 w).1, gd_pos w1, (K.2 w).2.1 1192 (.inr ⟨by decide, by decide⟩), w3, if_neg (by omega), (K.2 w).2.1 1188 (.inr ⟨by decide, by decide⟩), (K.2 w).2.2.1 1186, w5, ix, (K.2 (fR h 1186 w)).1, (K.2 (fR h 1186 w)).2.2.2.1, gd_pos ⟨w1, w2, by omega, by omega, putL_8 k⟩, show (((p + P.length : Nat) : Int)).toNat = p + P.length by omega, (K.2 (fR h 1186 w)).2.2.2.2.1, ev, c_put1 (putL_8 k), Option.bind_some, w32_s (by omega) (by omega), putL_app, List.length_append]
        rfl
      rw [om_loop_in st]
      exact ih (P ++ [c]) (by rw [e', List.append_assoc]; rfl)
  unfold C_7_put_3
  have g : om_loop (C_7_put_3_2s G s w) (0, h) = some (putL s L h) := go L [] rfl
  rw [g, Option.bind_some]
theorem wb_hK {w : Nat} {L : List Int} (K : hK s h h1) (W : wb h w L) : wb h1 w L := by
  obtain ⟨w1, w2, w3, w4, p, w5, w6, w7⟩ := W
  unfold wb
  rw [(K.2 w).2.2.1, (K.2 w).1, (K.2 _).1, (K.2 w).2.1 1192 (.inr ⟨by decide, by decide⟩), (K.2 w).2.1 1188 (.inr ⟨by decide, by decide⟩), (K.2 _).2.2.2.1]
  exact ⟨w1, w2, w3, w4, p, w5, w6, fun k hk => by rw [(K.2 _).2.2.2.2.1]; exact w7 k hk⟩
theorem tyC_hK (K : hK s h h1) : ∀ {T : Ty} {a : Nat}, tyC h N cl U T a → tyC h1 N cl U T a
  | .leaf, _, H => H
  | .inner k w u l r, a, ⟨⟨a1, a2, a3⟩, b, c, d, e, f, g1, g2, g3⟩ => by
    have n := fun f (hf : f ≠ 192 ∧ f ≠ 200) => (K.2 a).2.1 f (.inr hf)
    refine ⟨⟨a1, a2, by rw [K.1.1]; exact a3⟩, by rw [(K.2 a).1]; exact b, by rw [n 1556 (by decide)]; exact c, ?_, by rw [(K.2 a).2.2.1]; exact tyC_hK K e, by rw [(K.2 a).2.2.1]; exact tyC_hK K f, by rw [n 1564 (by decide)]; exact g1, by rw [n 1591 (by decide)]; exact g2, by rw [n 1568 (by decide)]; exact g3⟩
    rw [n 1560 (by decide), (K.2 a).2.2.1, (K.2 a).2.2.1]
    rcases d with ⟨d1, d2, d3, d4, ⟨d5, d6⟩, L, d7, d8⟩ | d | ⟨d1, d2, d3, d4, d5, d6, d7, d8⟩ | d
    · exact .inl ⟨d1, d2, d3, d4, ⟨by rw [K.1.1]; exact d5, by rw [(K.2 _).2.2.1, K.1.1]; exact d6⟩, L, d7, wb_hK K d8⟩
    · exact .inr (.inl d)
    · exact .inr (.inr (.inl ⟨d1, d2, d3, d4, by rw [K.1.1]; exact d5, d6, by rw [(K.2 _).1]; exact d7, by rw [(K.2 _).2.1 1200 (.inr ⟨by decide, by decide⟩)]; exact d8⟩))
    · exact .inr (.inr (.inr d))
variable (N cl nm con fam)
/-- a type's head is known by its letters -/
def hdC (h : om_H) (k w : Nat) : Prop := (k = 0 → N[w]? = some (nm w)) ∧ (k = 1 → w ≤ 3 ∧ om_sb[24 + w]? = some (con w) ∧ (con w).length ≤ 100000) ∧ (k = 2 → (cl w < hz h ∧ kd h (cl w) = 18 ∧ fR h 1214 (cl w) < hz h ∧ fR h 1186 (fR h 1214 (cl w)) < hz h) ∧ wb h (fR h 1214 (cl w)) (fam w))
abbrev tOc (h : om_H) (T : Ty) : Prop := allH (hdC N cl nm con fam h) T
variable {N cl nm con fam}
theorem hdC_hK {k w : Nat} (K : hK s h h1) (a : hdC N cl nm con fam h k w) : hdC N cl nm con fam h1 k w := ⟨a.1, a.2.1, fun z => by
  obtain ⟨⟨b1, b2, b3, b4⟩, b5⟩ := a.2.2 z
  rw [(K.2 _).2.2.1]
  exact ⟨⟨by rw [K.1.1]; exact b1, by rw [(K.2 _).1]; exact b2, by rw [K.1.1]; exact b3, by rw [(K.2 _).2.2.1, K.1.1]; exact b4⟩, wb_hK K b5⟩⟩
theorem tOc_hK (K : hK s h h1) : ∀ {T : Ty}, tOc N cl nm con fam h T → tOc N cl nm con fam h1 T
  | .leaf, _ => trivial
  | .inner _ _ _ _ _, ⟨a, d, e⟩ => ⟨hdC_hK K a, tOc_hK K d, tOc_hK K e⟩
/-- a head is told -/
theorem c_headT {k w a : Nat} {u : Unit} {l r : Ty} (k8 : kd h s = 8) (H : tyC h N cl U (.inner k w u l r) a) (O : hdC N cl nm con fam h k w) (h3 : k ≠ 3) : C_0_head G s a h = some (putL s (hdB nm con fam k w) h) := by
  obtain ⟨_, b, c, d, _⟩ := H
  unfold C_0_head
  rw [gd_pos b, c]
  rcases d with ⟨d1, d2, d3, d4, d5, L, d7, d8⟩ | ⟨d1, d2, d3, d4⟩ | ⟨d1, d2, d3, d4, d5, d6, d7, d8⟩ | d
  · rw [if_neg (by omega), gd_pos ⟨b, k8⟩]
    have eL : L = nm w := Option.some.inj (d7.symm.trans (O.1 d1))
    rw [c_putW k8 d8, Option.bind_some, eL]
    unfold hdB
    rw [if_pos d1]
  · obtain ⟨o1, o2, o3⟩ := O.2.1 d1
    have ec : C_0_con G (w : Int) h = some (24 + w) := by
      unfold C_0_con
      by_cases w0 : w = 0
      · rw [if_neg (by omega), w0]
      · rw [if_pos (by omega)]
        by_cases w1 : w = 1
        · rw [if_neg (by omega), w1]
        · rw [if_pos (by omega)]
          by_cases w2 : w = 2
          · rw [if_neg (by omega), w2]
          · rw [if_pos (by omega)]
            have : w = 3 := by omega
            rw [this]
    rw [if_pos (by omega), gd_pos b, if_neg (by omega), gd_pos b, d2, ec, Option.bind_some, gd_pos k8, c_putS k8 o2 o3, Option.bind_some]
    unfold hdB
    rw [if_neg (by omega), if_pos d1]
  · have W := (O.2.2 d1).2
    rw [if_pos (by omega), gd_pos b, if_pos (by omega), d6, gd_pos ⟨b, by rw [← d6]; exact d7, k8⟩, c_putW k8 W, Option.bind_some]
    unfold hdB
    rw [if_neg (by omega), if_neg (by omega)]
  · exact absurd d.1 h3
/-- A TYPE IS TOLD -/
theorem c_tellD (sep : om_sb[34]? = some [45, 62]) : ∀ (f : Nat) (T : Ty) (a : Nat) (h : om_H), T ≠ .leaf → tyC h N cl U T a → tdp T < f → wfT T → tOc N cl nm con fam h T → kd h s = 8 → C_0_tellD G f s a h = some (putL s (tyB nm con fam T) h)
  | 0, _, _, _, _, _, h, _, _, _ => by omega
  | f + 1, .leaf, _, _, h, _, _, _, _, _ => absurd rfl h
  | f + 1, .inner k w u l r, a, h, _, H, hd, wf, O, k8 => by
    obtain ⟨a1, b, c, d, tl', tr', _⟩ := id H
    obtain ⟨ho, ol, or⟩ := O
    obtain ⟨_, o0, o3⟩ := shT_f wf.1
    have hdl : tdp l < f ∧ tdp r < f := by
      have : tdp (.inner k w u l r) = 1 + max (tdp l) (tdp r) := rfl
      omega
    have z0 : ∀ {T : Ty} {x : Nat}, tyC h N cl U T x → (T = .leaf ↔ x = 0) := fun {T x} c => by
      cases T with
      | leaf => exact ⟨fun _ => c, fun _ => rfl⟩
      | inner _ _ _ _ _ => exact ⟨fun z => (by cases z), fun z => absurd z c.1.2.1⟩
    show C_0_tellB G (C_0_tellD G f) s a h = _
    unfold C_0_tellB
    rw [gd_pos b, c, tyB_inner]
    by_cases c3 : k = 3
    · obtain ⟨ln, rn⟩ := o3 c3
      rw [if_neg (by omega), gd_pos k8, if_pos c3, c_put1 k8, Option.bind_some]
      have K1 : hK s h (put1 s h 40) := put1_hK
      have k1 : kd (put1 s h 40) s = 8 := by rw [(K1.2 s).1]; exact k8
      rw [(K1.2 a).1, gd_pos b, (K1.2 a).2.2.1, c_tellD sep f l _ _ ln (tyC_hK K1 tl') hdl.1 wf.2.1 (tOc_hK K1 ol) k1, Option.bind_some]
      have k2 := putL_8 (L := tyB nm con fam l) k1
      rw [gd_pos k2, c_putS k2 sep (by decide), Option.bind_some]
      have K3 := hK_trans K1 (hK_trans (putL_hK (s := s) (L := tyB nm con fam l) (h := put1 s h 40)) (putL_hK (s := s) (L := [45, 62])))
      have k3 := putL_8 (L := [45, 62]) k2
      rw [(K3.2 a).1, gd_pos b, (K3.2 a).2.2.1, c_tellD sep f r _ _ rn (tyC_hK K3 tr') hdl.2 wf.2.2 (tOc_hK K3 or) k3, Option.bind_some]
      have k4 := putL_8 (L := tyB nm con fam r) k3
      rw [gd_pos k4, c_put1 k4, Option.bind_some]
      rw [show 40 :: tyB nm con fam l ++ [45, 62] ++ tyB nm con fam r ++ [41] = [40] ++ tyB nm con fam l ++ [45, 62] ++ tyB nm con fam r ++ [41] by simp, putL_app, putL_app, putL_app, putL_app]
      rfl
    · rw [if_pos (by omega), if_neg c3, c_headT k8 H ho c3, Option.bind_some]
      have K0 := putL_hK (s := s) (L := hdB nm con fam k w) (h := h)
      have k0 := putL_8 (L := hdB nm con fam k w) k8
      rw [(K0.2 a).1, gd_pos b, (K0.2 a).2.2.1]
      by_cases lf : l = .leaf
      · rw [if_neg (fun z => z ((z0 tl').mp lf)), if_pos (lfB_t.mpr lf), List.append_nil]
      · rw [if_pos (fun z => lf ((z0 tl').mpr z)), if_neg (fun z => lf (lfB_t.mp z)), gd_pos k0, c_put1 k0, Option.bind_some]
        have K1 := hK_trans K0 (put1_hK (s := s) (c := 40))
        have k1 : kd (put1 s (putL s (hdB nm con fam k w) h) 40) s = 8 := by rw [(K1.2 s).1]; exact k8
        rw [(K1.2 a).1, gd_pos b, (K1.2 a).2.2.1, c_tellD sep f l _ _ lf (tyC_hK K1 tl') hdl.1 wf.2.1 (tOc_hK K1 ol) k1, Option.bind_some]
        have K2 := hK_trans K1 (putL_hK (s := s) (L := tyB nm con fam l))
        have k2 := putL_8 (L := tyB nm con fam l) k1
        rw [(K2.2 a).1, gd_pos b, (K2.2 a).2.2.1]
        by_cases rf : r = .leaf
        · rw [if_pos ((z0 tr').mp rf), if_pos (lfB_t.mpr rf)]
          unfold C_0_tell_84 C_0_tell_99
          rw [(K2.2 a).1, gd_pos b, (K2.2 a).2.2.1, if_pos ((z0 tr').mp rf), gd_pos k2, c_put1 k2, Option.bind_some]
          rw [show hdB nm con fam k w ++ (40 :: tyB nm con fam l ++ [] ++ [41]) = hdB nm con fam k w ++ [40] ++ tyB nm con fam l ++ [41] by simp, putL_app, putL_app, putL_app]
          rfl
        · rw [if_neg (fun z => rf ((z0 tr').mpr z)), if_neg (fun z => rf (lfB_t.mp z)), gd_pos k2, c_put1 k2, Option.bind_some]
          have K3 := hK_trans K2 (put1_hK (s := s) (c := 44))
          have k3 : kd (put1 s (putL s (tyB nm con fam l) (put1 s (putL s (hdB nm con fam k w) h) 40)) 44) s = 8 := by rw [(K3.2 s).1]; exact k8
          unfold C_0_tell_84 C_0_tell_99
          rw [(K3.2 a).1, gd_pos b, (K3.2 a).2.2.1, if_neg (fun z => rf ((z0 tr').mpr z)), gd_pos b, c_tellD sep f r _ _ rf (tyC_hK K3 tr') hdl.2 wf.2.2 (tOc_hK K3 or) k3, Option.bind_some]
          have k4 := putL_8 (L := tyB nm con fam r) k3
          rw [gd_pos k4, c_put1 k4, Option.bind_some]
          rw [show hdB nm con fam k w ++ (40 :: tyB nm con fam l ++ 44 :: tyB nm con fam r ++ [41]) = hdB nm con fam k w ++ [40] ++ tyB nm con fam l ++ [44] ++ tyB nm con fam r ++ [41] by simp, putL_app, putL_app, putL_app, putL_app, putL_app]
          rfl
end LCT
