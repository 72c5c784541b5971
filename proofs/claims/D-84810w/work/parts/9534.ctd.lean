set_option maxRecDepth 100000
/-! RULES OF TELLING in the component -/
/-- the teller's context E, its steps K -/
def TH (E : om_H → Prop) (K : om_H → om_H → Prop) (te s : Nat) : Prop := (∀ h h1, E h → hK s h h1 → E h1 ∧ K h h1) ∧ (∀ h h1 h2, K h h1 → K h1 h2 → K h h2) ∧ (∀ h, K h h) ∧ ∀ h, E h → TlO h te s
/-- so much is still to be told -/
def okD (E : om_H → Prop) (K : om_H → om_H → Prop) (s : Nat) (h0 h : om_H) (L : List Int) : Prop := E h ∧ K h0 h ∧ ∃ t, SkC s h t ∧ t + L.length < 1000000000
/-- L is told -/
def TDw {α : Type} (E : om_H → Prop) (K : om_H → om_H → Prop) (s : Nat) (h : om_H) (w : om_H → α) (x : Option α) (L : List Int) : Prop := ∃ h1, x = some (w h1) ∧ E h1 ∧ K h h1 ∧ SyC s h L h1
/-- a run that tells and may throw -/
abbrev wDr : om_H → (Nat ⊕ Unit) × om_H := fun h => (Sum.inr (), h)
section LTD
variable {G : om_G} {E : om_H → Prop} {K : om_H → om_H → Prop} {te s : Nat} {h0 h h1 : om_H} {α β : Type} {L M : List Int}
theorem SyC_nil : SyC s h [] h := ⟨fun _ => ⟨rfl, by simp⟩, fun z => by simpa using z, ⟨Int.le_refl _, by simp⟩, rfl⟩
theorem TDw_end (H : TH E K te s) {w : om_H → α} (e : E h) : TDw E K s h w (some (w h)) [] := ⟨h, rfl, e, H.2.2.1 h, SyC_nil⟩
theorem okD_next (H : TH E K te s) (o : okD E K s h0 h (M ++ L)) (e : E h1) (k : K h h1) (S : SyC s h M h1) : okD E K s h0 h1 L := by
  obtain ⟨a, b, t, c, d⟩ := o
  obtain ⟨t1, c1, c2, c3⟩ := SyC_t c S
  rw [List.length_append] at d
  exact ⟨e, H.2.1 _ _ _ b k, t1, c1, by omega⟩
theorem okD_nil (o : okD E K s h0 h L) : okD E K s h0 h (L ++ []) := by
  rw [List.append_nil]
  exact o
theorem TDw_nil {w : om_H → α} {x : Option α} (A : TDw E K s h w x (L ++ [])) : TDw E K s h w x L := by
  rw [List.append_nil] at A
  exact A
theorem TDw_seq (H : TH E K te s) (o : okD E K s h0 h (M ++ L)) {w1 : om_H → α} {w2 : om_H → β} {x : Option α} {f : α → Option β} (A : TDw E K s h w1 x M) (B : ∀ h1, okD E K s h0 h1 L → TDw E K s h1 w2 (f (w1 h1)) L) : TDw E K s h w2 (x.bind f) (M ++ L) := by
  obtain ⟨h1, a1, a2, a3, a4⟩ := A
  obtain ⟨h2, b1, b2, b3, b4⟩ := B h1 (okD_next H o a2 a3 a4)
  exact ⟨h2, by rw [a1, Option.bind_some]; exact b1, b2, H.2.1 _ _ _ a3 b3, SyC_trans a4 b4⟩
theorem TDw_xc (H : TH E K te s) (o : okD E K s h0 h (M ++ L)) {w2 : om_H → β} {x : Option ((Nat ⊕ Unit) × om_H)} {f : Nat → om_H → Option β} {g : Unit → om_H → Option β} (A : TDw E K s h wDr x M) (B : ∀ h1, okD E K s h0 h1 L → TDw E K s h1 w2 (g () h1) L) : TDw E K s h w2 (xc x f g) (M ++ L) := by
  obtain ⟨h1, a1, a2, a3, a4⟩ := A
  obtain ⟨h2, b1, b2, b3, b4⟩ := B h1 (okD_next H o a2 a3 a4)
  have a1' : x = some (.inr (), h1) := a1
  exact ⟨h2, by rw [a1', xc_v]; exact b1, b2, H.2.1 _ _ _ a3 b3, SyC_trans a4 b4⟩
theorem TDw_gd {w : om_H → α} {c : Prop} {x : Option α} (q : c) (A : TDw E K s h w x L) : TDw E K s h w (gd c x) L := by
  rw [gd_pos q]
  exact A
theorem TDw_loop (H : TH E K te s) (o : okD E K s h0 h (M ++ L)) {k k' : Int} {step : Int × om_H → Option ((Int × om_H) ⊕ β)} {w2 : om_H → β} (A : TDw E K s h (fun h => (Sum.inl (k', h) : (Int × om_H) ⊕ β)) (step (k, h)) M) (B : ∀ h1, okD E K s h0 h1 L → TDw E K s h1 w2 (om_loop step (k', h1)) L) : TDw E K s h w2 (om_loop step (k, h)) (M ++ L) := by
  obtain ⟨h1, a1, a2, a3, a4⟩ := A
  obtain ⟨h2, b1, b2, b3, b4⟩ := B h1 (okD_next H o a2 a3 a4)
  exact ⟨h2, by rw [om_loop_in (a' := (k', h1)) a1]; exact b1, b2, H.2.1 _ _ _ a3 b3, SyC_trans a4 b4⟩
theorem TDw_out (H : TH E K te s) {k : Int} {step : Int × om_H → Option ((Int × om_H) ⊕ β)} {w2 : om_H → β} (e : step (k, h) = some (.inr (w2 h))) (eh : E h) : TDw E K s h w2 (om_loop step (k, h)) [] := ⟨h, om_loop_out e, eh, H.2.2.1 h, SyC_nil⟩
theorem TH_g (H : TH E K te s) (e : E h) : kd h te = 7 ∧ kd h (fR h 182 te) = 8 := by
  obtain ⟨o1, o2, o3⟩ := H.2.2.2 h e
  exact ⟨o1, by rw [o2]; exact o3⟩
theorem TD_L (H : TH E K te s) (o : okD E K s h0 h (M ++ L)) {x : Option om_H} (e : kd h s = 8 → x = some (putL s M h)) : TDw E K s h id x M := by
  obtain ⟨a, _, t, S, ht⟩ := o
  obtain ⟨o1, o2, o3⟩ := H.2.2.2 h a
  rw [List.length_append] at ht
  obtain ⟨e1, k1⟩ := H.1 _ _ a (putL_hK (s := s) (L := M))
  exact ⟨_, e o3, e1, k1, SyC_L S (by omega)⟩
theorem TD_b (H : TH E K te s) {c : Int} (o : okD E K s h0 h ([c] ++ L)) : TDw E K s h id (C_7_put_2 G (fR h 182 te) c h) [c] := TD_L H o (fun k => by
  rw [(H.2.2.2 h o.1).2.1, c_put1 k c]
  rfl)
theorem TD_s (H : TH E K te s) {j : Nat} (e : om_sb[j]? = some M) (hl : M.length ≤ 100000) (o : okD E K s h0 h (M ++ L)) : TDw E K s h id (C_7_put G (fR h 182 te) j h) M := TD_L H o (fun k => by
  rw [(H.2.2.2 h o.1).2.1, c_putS k e hl])
theorem TD_w (H : TH E K te s) {w : Nat} (W : wb h w M) (o : okD E K s h0 h (M ++ L)) : TDw E K s h id (C_7_put_3 G (fR h 182 te) w h) M := TD_L H o (fun k => by
  rw [(H.2.2.2 h o.1).2.1, c_putW k W])
theorem TD_n (H : TH E K te s) {v : Nat} (hv : v ≤ 2147483647) (o : okD E K s h0 h (numB v ++ L)) : TDw E K s h id (C_7_number G (fR h 182 te) (v : Int) h) (numB v) := TD_L H o (fun k => by
  rw [(H.2.2.2 h o.1).2.1, c_numT hv k])
theorem TD_t (H : TH E K te s) {N : List (List Int)} {cl : Nat → Nat} {U : Nat → Prop} {nm con fam : Nat → List Int} {T : Ty} {a : Nat} (hT : T ≠ .leaf) (c : tyC h N cl U T a) (hd : tdp T < 70) (wf : wfT T) (O : tOc N cl nm con fam h T) (o : okD E K s h0 h (tyB nm con fam T ++ L)) : TDw E K s h id (C_0_tell G (fR h 182 te) a h) (tyB nm con fam T) := TD_L H o (fun k => by
  rw [(H.2.2.2 h o.1).2.1]
  unfold C_0_tell
  exact c_tellD rfl 70 T a h hT c hd wf O k)
/-- a byte, and on -/
theorem TP_b (H : TH E K te s) {c : Int} (o : okD E K s h0 h ([c] ++ L)) {f : om_H → Option β} {w2 : om_H → β} (B : ∀ h1, okD E K s h0 h1 L → TDw E K s h1 w2 (f h1) L) : TDw E K s h w2 (gd (kd h te = 7 ∧ kd h (fR h 182 te) = 8) ((C_7_put_2 G (fR h 182 te) c h).bind f)) ([c] ++ L) := TDw_gd (TH_g H o.1) (TDw_seq H o (TD_b H o) B)
/-- bytes, and on -/
theorem TP_s (H : TH E K te s) {j : Nat} (e : om_sb[j]? = some M) (hl : M.length ≤ 100000) (o : okD E K s h0 h (M ++ L)) {f : om_H → Option β} {w2 : om_H → β} (B : ∀ h1, okD E K s h0 h1 L → TDw E K s h1 w2 (f h1) L) : TDw E K s h w2 (gd (kd h te = 7 ∧ kd h (fR h 182 te) = 8) ((C_7_put G (fR h 182 te) j h).bind f)) (M ++ L) := TDw_gd (TH_g H o.1) (TDw_seq H o (TD_s H e hl o) B)
/-- the last byte -/
theorem TP_e (H : TH E K te s) {c : Int} (o : okD E K s h0 h [c]) {w2 : om_H → β} : TDw E K s h w2 (gd (kd h te = 7 ∧ kd h (fR h 182 te) = 8) ((C_7_put_2 G (fR h 182 te) c h).bind fun p => some (w2 p))) [c] := TDw_nil (TP_b H (okD_nil o) (fun _ o1 => TDw_end H o1.1))
/-- nothing more is told behind the limit -/
theorem TD_over (H : TH E K te s) (o : okD E K s h0 h L) {x : Option ((Nat ⊕ Unit) × om_H)} (A : TDw E K s h wDr x L) : TDw E K s h wDr (gd (kd h te = 7 ∧ kd h (fR h 182 te) = 8) ((C_7_isOver G (fR h 182 te) h).bind fun p1 => if p1 = 0 then x else some (.inr (), h))) L := by
  refine TDw_gd (TH_g H o.1) ?_
  obtain ⟨o1, o2, o3⟩ := H.2.2.2 h o.1
  rw [o2, c_isOver o3, Option.bind_some]
  by_cases ov : fI h 192 s ≤ fI h 204 s
  · rw [if_pos ov, if_pos rfl]
    exact A
  · rw [if_neg ov, if_neg (by decide)]
    exact ⟨h, rfl, o.1, H.2.2.1 h, SyC_skip (by omega)⟩
end LTD
/-- what telling goes by: things stay, two types that are one are told -/
def TI (G : om_G) (N : List (List Int)) (cl : Nat → Nat) (U : Nat → Prop) (ins : List INs) (gv : List GVs) (nm con fam : Nat → List Int) (te s : Nat) (E : om_H → Prop) (K : om_H → om_H → Prop) (h0 : om_H) (Sx : Nat → Prop) (k2 : Ty → Ty → Prop) : Prop := TH E K te s ∧ (∀ h a, K h0 h → a < hz h0 → (kd h0 a ≠ 3 ∧ kd h0 a ≠ 42 ∧ kd h0 a ≠ 56 ∧ kd h0 a ≠ 34 ∧ kd h0 a ≠ 9 ∧ kd h0 a ≠ 6 ∧ kd h0 a ≠ 39 ∧ kd h0 a ≠ 8) → eqA a h0 h) ∧ (∀ h a, K h0 h → a < hz h0 → kd h0 a = 42 → Sx a → eqA a h0 h) ∧ (∀ h T a, K h0 h → tyC h0 N cl U T a → tyC h N cl U T a) ∧ (∀ h T, K h0 h → tOc N cl nm con fam h0 T → tOc N cl nm con fam h T) ∧ ∀ h T V a b L, okD E K s h0 h (oneB nm con fam ins gv T V ++ L) → k2 T V → tyC h0 N cl U T a → tyC h0 N cl U V b → TDw E K s h wDr (C_6_one G te a b h) (oneB nm con fam ins gv T V)
section LTI
variable {G : om_G} {h0 : om_H} {N : List (List Int)} {cl : Nat → Nat} {tb l0 sc pv Lp te s B : Nat} {us fs : List Nat} {rest : List (Nat × List Nat)} {Sl : Nat → Prop} {io : Nat → Nat} {ab : List (Option Nat)} {ins : List INs} {gv : List GVs} {nm con fam : Nat → List Int}
theorem TI_of (nd : ndN N) (hN : gvN gv) (wo : whyO G) (E0 : TvE G h0 N cl tb l0 sc us fs rest Sl io ab ins gv pv Lp te s) (I : InH (hdC N cl nm con fam h0) ins gv B) (htl : tl us fs + 2700 ≤ 149000) : TI G N cl (UU us rest) ins gv nm con fam te s (fun h => TvE G h N cl tb l0 sc us fs rest Sl io ab ins gv pv Lp te s) (KTe N cl tb l0 pv Lp s rest us fs) h0 (fun a => a ≠ fR h0 122 tb ∧ a ≠ Lp) (kn2C h0 N cl (UU us rest) ins gv nm con fam) := by
  refine ⟨⟨fun h h1 e k => TvE_K nd e k, fun h h1 h2 a b => KTe_trans a b, fun h => KTe_refl, fun h e => TvE_Tl e⟩, fun h a k ha hk => KTe_eq E0 k ha hk, fun h a k ha hk sx => KTe_ll E0 k ha hk sx.1 sx.2, fun h T a k c => k.2.1 T a c, fun h T k c => tOc_KT E0 k c, fun h T V a b L o k2 c c' => ?_⟩
  obtain ⟨e, k, t, S, ht⟩ := o
  rw [List.length_append] at ht
  exact c_one6 nd hN wo e (InH_KT E0 k I) (kn2C_KT E0 k k2) (k.2.1 _ _ c) (k.2.1 _ _ c') S (by omega) htl
end LTI
