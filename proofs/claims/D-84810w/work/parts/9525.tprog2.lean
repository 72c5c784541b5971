set_option maxRecDepth 100000
/-! THE TWIN SAYS A PROGRAM: what stands above an inst; all terms; the limit -/
section LPG
variable {σ σ1 σ2 τ : tS} {n : Nat} {fn : List (List Nat × List GVs × Ty)} {mt : List (Option (Nat × Nat × Ty))} {ab : List (Option Nat)} {ins : List INs} {gv : List GVs} {nm con fam cnm : Nat → List Int} {B : Nat}
/-- the term of what stands above -/
theorem t_aterm (H : TeB σ n fn mt ab ins nm con fam cnm) {i c t : Nat} {d : INs} {D : Dc} (hi : i < 20) (P : InTw σ n ab.length i d) (A : GvA σ fn mt ab ins nm con fam cnm B (gvI d)) (hN : ∀ w ∈ d.2.2.1, w < 2100 ∧ nmT σ w (nm w)) (hc : ab[d.1]? = some (some c)) (dk : dcK ab ins (gvI d) (QN σ n) 70 c (hdI d)) (dt : dcT ab ins (gvI d) 70 c (hdI d) = some D) (gh : GTy σ ins nm con fam (hdI d)) (qh : QN σ n (hdI d)) (S : SkT σ t) (ht : t + (dcB nm con fam cnm ab ins (gvI d) d.2.2.1 D).length < 1000000000) : ∃ σ', ((T_begins_2 (w32 (104 + (i : Int))) σ).bind fun p2 => (T_sayHead (i : Int) p2).bind fun p3 => (T_head (i : Int) p3).bind fun p4 => (T_sayDictionary (c : Int) p4.1 p4.2).bind fun p5 => (T_endsTerm (w32 (104 + (i : Int))) p5).bind fun p6 => (some (.inl (((i + 1 : Nat) : Int), p6)) : Option ((Int × tS) ⊕ tS))) = some (.inl (((i + 1 : Nat) : Int), σ')) ∧ TmK σ (104 + i) (dcB nm con fam cnm ab ins (gvI d) d.2.2.1 D) σ' := by
  unfold dcB at ht ⊢
  simp only [List.length_append] at ht
  have l8 : ab.length ≤ 8 := H.1.2.1.1.1
  obtain ⟨a1, a2⟩ := t_begT (σ := σ) (k := 104 + i) (by omega)
  have FA : fr WPS WPA σ (ua σ 898 (104 + i) (gs σ 904)) := fr_sub a2 (by decide) (by decide)
  have NA := eqN_P FA
  have PA : InTw (ua σ 898 (104 + i) (gs σ 904)) n ab.length i d := InTw_keep (fun a ha i => a2.2 a ((by decide : ∀ a ∈ [694, 698, 702, 706, 710, 714, 718, 722], a ∉ [898]) a ha) i) (tx_N NA) P
  obtain ⟨σ2, t2, b1, b2, ⟨b3, b4⟩, V2, b6⟩ := t_sayHd (TeB_P FA H) hi PA (GvA_N NA A) (fun w hw => ⟨(hN w hw).1, nmT_N NA (hN w hw).2⟩) (t := t) ⟨S.1, S.2⟩ (by omega)
  have F2 := fr_trans FA b2.2.2.2.1
  have N2 := eqN_P F2
  have P2 : InTw σ2 n ab.length i d := InTw_keep (fun a ha i => F2.2 a ((by decide : ∀ a ∈ [694, 698, 702, 706, 710, 714, 718, 722], a ∉ WPA) a ha) i) (tx_N N2) P
  obtain ⟨t0, ct0⟩ := QN_N N2 qh
  have n126 : n < 126000 := by have := H.2.1; omega
  have hd := t_hdI2 hi V2.1.1 n126 P2 ct0
  have cl : c < ab.length := by
    obtain ⟨_, p2⟩ := H.1.2.1.1.2 d.1 _ hc
    have := (List.getElem?_eq_some_iff.mp hc).1
    have := p2 c rfl
    omega
  have hne : hdI d ≠ .leaf := by unfold hdI; intro z; cases z
  have := V2.2.2.1.1.1.1
  have := V2.2.2.1.2
  have gh2 : GTy σ2 ins nm con fam (hdI d) := ⟨gh.1, gh.2.1, gh.2.2.1, tOn_N N2 gh.2.2.2⟩
  obtain ⟨_, R⟩ := t_sayDictD V2.2.1 (KW_J V2.1.1 V2.1.2) (by omega) V2.2.2.2.1.1 V2.2.2.2.1.2 70 c (hdI d) D t0 70 (Nat.le_refl _) (dcK_mono (fun X hX => QN_N N2 hX) dk) dt cl hne gh2 ct0
  obtain ⟨σ5, f1, f2⟩ := R σ2 t2 (fr_refl _ _ _) b3 (by show t2 + (evB nm con fam cnm ab ins (gvI d) D).length < 1000000000; omega)
  have f1' : T_sayDictionary (c : Int) t0 σ2 = some σ5 := f1
  have A5 := SyP_trans b2 (SyP_of (SyZ_of f2))
  have k898 : ∀ g ∈ [898, 902], ∀ k, ga σ5 g k = ga (ua σ 898 (104 + i) (gs σ 904)) g k := fun g hg k => by
    rw [f2.2.2.2.2 g ((by decide : ∀ g ∈ [898, 902], g ∉ WYA) g hg), b6 g hg]
  have ix : w32 (104 + (i : Int)) = ((104 + i : Nat) : Int) := (w32_s (by omega) (by omega)).trans (by omega)
  refine ⟨_, ?_, TmK_of S (by simp only [List.length_append]; omega) A5 (k898 898 (by simp)) (fun k => by rw [k898 902 (by simp)]; rfl)⟩
  rw [ix, a1, Option.bind_some, b1, Option.bind_some, hd, Option.bind_some]
  show ((T_sayDictionary (c : Int) t0 σ2).bind _) = _
  rw [f1', Option.bind_some, t_endT (by omega), Option.bind_some]
/-- what is known of an inst -/
def InsA (σ : tS) (n : Nat) (fn : List (List Nat × List GVs × Ty)) (mt : List (Option (Nat × Nat × Ty))) (ab : List (Option Nat)) (ins : List INs) (nm con fam cnm : Nat → List Int) (B : Nat) (i : Nat) (d : INs) (es : List Et) (od : Option Dc) : Prop := InTw σ n ab.length i d ∧ GvA σ fn mt ab ins nm con fam cnm B (gvI d) ∧ (∀ w ∈ d.2.2.1, w < 2100 ∧ nmT σ w (nm w)) ∧ (ga σ 678 d.1 = (es.length : Int) ∧ es.length ≤ 4 ∧ ∀ (m : Nat) (e : Et), es[m]? = some e → ∃ v : Nat, ga σ 726 (4 * i + m) = (v : Int) ∧ ExO σ n (fn, mt, ab, ins, gvI d) nm con fam e v) ∧ ((ab[d.1]? = some none ∧ od = none) ∨ ∃ c D, ab[d.1]? = some (some c) ∧ od = some D ∧ dcK ab ins (gvI d) (QN σ n) 70 c (hdI d) ∧ dcT ab ins (gvI d) 70 c (hdI d) = some D ∧ GTy σ ins nm con fam (hdI d) ∧ QN σ n (hdI d))
/-- an inst's terms -/
def insB (nm con fam cnm : Nat → List Int) (ab : List (Option Nat)) (ins : List INs) (i : Nat) (d : INs) (es : List Et) (od : Option Dc) : List (Nat × List Int) := lnsB nm con fam cnm ab ins d i 0 es ++ (od.elim [] (fun D => [(104 + i, dcB nm con fam cnm ab ins (gvI d) d.2.2.1 D)]))
theorem InsA_P {i : Nat} {d : INs} {es : List Et} {od : Option Dc} (F : fr WPS WPA σ τ) (H : InsA σ n fn mt ab ins nm con fam cnm B i d es od) : InsA τ n fn mt ab ins nm con fam cnm B i d es od := by
  obtain ⟨h1, h2, h3, ⟨h4, h5, h6⟩, h7⟩ := H
  have N := eqN_P F
  refine ⟨InTw_keep (fun a ha i => F.2 a ((by decide : ∀ a ∈ [694, 698, 702, 706, 710, 714, 718, 722], a ∉ WPA) a ha) i) (tx_N N) h1, GvA_N N h2, fun w hw => ⟨(h3 w hw).1, nmT_N N (h3 w hw).2⟩, ⟨by rw [F.2 678 (by decide)]; exact h4, h5, fun m e em => ?_⟩, ?_⟩
  · obtain ⟨v, v1, v2⟩ := h6 m e em
    exact ⟨v, by rw [F.2 726 (by decide)]; exact v1, ExO_N N v2⟩
  · rcases h7 with h | ⟨c, D, a1, a2, a3, a4, a5, a6⟩
    · exact .inl h
    · exact .inr ⟨c, D, a1, a2, dcK_mono (fun X hX => QN_N N hX) a3, a4, ⟨a5.1, a5.2.1, a5.2.2.1, tOn_N N a5.2.2.2⟩, QN_N N a6⟩
/-- AN INST'S TERMS -/
theorem t_iterm (H : TeB σ n fn mt ab ins nm con fam cnm) {i t : Nat} {d : INs} {es : List Et} {od : Option Dc} (hi : i < 20) (I : InsA σ n fn mt ab ins nm con fam cnm B i d es od) (S : SkT σ t) (e856 : gs σ 856 = 0) (h648 : (i : Int) < gs σ 648) (ht : t + (tmB (insB nm con fam cnm ab ins i d es od)).length < 1000000000) : ∃ σ', T_sayProgram_117s ((i : Int), σ) = some (.inl (((i + 1 : Nat) : Int), σ')) ∧ TmsK σ (insB nm con fam cnm ab ins i d es od) σ' := by
  obtain ⟨P, A, hN, ⟨e678, h4, hX⟩, hA⟩ := id I
  have l8 : ab.length ≤ 8 := H.1.2.1.1.1
  obtain ⟨⟨p1, p1'⟩, _⟩ := id P
  unfold insB at ht ⊢
  rw [tmB_app, List.length_append] at ht
  obtain ⟨σ1, a1, a2⟩ := t_lloop H hi P A hN e678 h4 hX es 0 σ t rfl (Nat.zero_le _) (fr_refl _ _ _) S e856 (by omega)
  have F1 := a2.1.2.2.2.1
  obtain ⟨t1, S1, t1a, t1b⟩ := TmsK_t S a2
  have a1' : om_loop (T_sayProgram_127s (i : Int)) (0, σ) = some σ1 := a1
  have ab1 : ∀ o, ab[d.1]? = some o → ga σ 670 d.1 = oI o := fun o eo => (H.1.2.1.1.2 d.1 o eo).1
  have st : ∀ o, ab[d.1]? = some o → T_sayProgram_117s ((i : Int), σ) = if oI o ≠ (-1) then ((T_begins_2 (w32 (104 + (i : Int))) σ1).bind fun p2 => (T_sayHead (i : Int) p2).bind fun p3 => (T_head (i : Int) p3).bind fun p4 => (T_sayDictionary (oI o) p4.1 p4.2).bind fun p5 => (T_endsTerm (w32 (104 + (i : Int))) p5).bind fun p6 => some (.inl (((i + 1 : Nat) : Int), p6))) else some (.inl (((i + 1 : Nat) : Int), σ1)) := fun o eo => by
    unfold T_sayProgram_117s
    simp only
    rw [if_neg (by omega), a1', Option.bind_some, show ((i : Int)).toNat = i by omega, F1.2 694 (by decide), p1, if_pos (by omega), show ((d.1 : Int)).toNat = d.1 by omega, F1.2 670 (by decide), ab1 o eo, w32_s (x := (i : Int) + 1) (by omega) (by omega)]
    rfl
  rcases hA with ⟨e0, eo⟩ | ⟨c, D, e0, eo, dk, dt, gh, qh⟩
  · refine ⟨σ1, ?_, ?_⟩
    · rw [st none e0, if_neg (fun z => z rfl)]
    · rw [eo]
      show TmsK σ (lnsB nm con fam cnm ab ins d i 0 es ++ []) σ1
      rw [List.append_nil]
      exact a2
  · rw [eo] at ht ⊢
    have eb : tmB (Option.elim (some D) [] (fun D => [(104 + i, dcB nm con fam cnm ab ins (gvI d) d.2.2.1 D)])) = dcB nm con fam cnm ab ins (gvI d) d.2.2.1 D := by
      unfold tmB
      simp
    rw [eb] at ht
    have N1 := eqN_P F1
    obtain ⟨P1, A1, hN1, _⟩ := InsA_P F1 I
    obtain ⟨σ2, b1, b2⟩ := t_aterm (TeB_P F1 H) hi P1 A1 hN1 e0 (dcK_mono (fun X hX => QN_N N1 hX) dk) dt ⟨gh.1, gh.2.1, gh.2.2.1, tOn_N N1 gh.2.2.2⟩ (QN_N N1 qh) S1 (by omega)
    refine ⟨σ2, ?_, ?_⟩
    · rw [st (some c) e0, if_pos (show (oI (some c)) ≠ -1 by show (c : Int) ≠ -1; omega)]
      exact b1
    · refine TmsK_app a2 (TmsK_one b2) (fun k hk hk2 => ?_)
      have h1 : k = 104 + i := by simpa using hk2
      have := lnsB_k hk
      omega
/-- what is known of a function -/
def FnsA (σ : tS) (n : Nat) (fn : List (List Nat × List GVs × Ty)) (mt : List (Option (Nat × Nat × Ty))) (ab : List (Option Nat)) (ins : List INs) (nm con fam cnm : Nat → List Int) (B : Nat) (f : Nat) (x : List Nat × List GVs × Ty) (e : Et) : Prop := ∃ w dd v : Nat, FnT σ n f w x ∧ GvA σ fn mt ab ins nm con fam cnm B x.2.1 ∧ (∀ w ∈ x.1, w < 2100 ∧ nmT σ w (nm w)) ∧ (ga σ 730 f = (dd : Int) ∧ dd < 700) ∧ ga σ 622 dd = (v : Int) ∧ ExO σ n (fn, mt, ab, ins, x.2.1) nm con fam e v
theorem FnsA_P {f : Nat} {x : List Nat × List GVs × Ty} {e : Et} (F : fr WPS WPA σ τ) (H : FnsA σ n fn mt ab ins nm con fam cnm B f x e) : FnsA τ n fn mt ab ins nm con fam cnm B f x e := by
  obtain ⟨w, dd, v, h1, h2, h3, ⟨h4, h5⟩, h6, h7⟩ := H
  have N := eqN_P F
  exact ⟨w, dd, v, FnT_keepA (fun a ha i => F.2 a ((by decide : ∀ a ∈ [734, 738, 742, 746, 750, 754, 758, 762], a ∉ WPA) a ha) i) (tx_N N) h1, GvA_N N h2, fun w hw => ⟨(h3 w hw).1, nmT_N N (h3 w hw).2⟩, ⟨by rw [F.2 730 (by decide)]; exact h4, h5⟩, by rw [F.2 622 (by decide)]; exact h6, ExO_N N h7⟩
/-- the terms of functions -/
def fnsB (nm con fam cnm : Nat → List Int) (ab : List (Option Nat)) (ins : List INs) : Nat → List ((List Nat × List GVs × Ty) × Et) → List (Nat × List Int)
  | _, [] => []
  | f, p :: l => (f, fnB nm con fam cnm ab ins p.1.2.1 p.1.1 p.2) :: fnsB nm con fam cnm ab ins (f + 1) l
theorem fnsB_k {k : Nat} : ∀ {l : List ((List Nat × List GVs × Ty) × Et)} {f : Nat}, k ∈ (fnsB nm con fam cnm ab ins f l).map Prod.fst → f ≤ k ∧ k < f + l.length
  | [], m, h => by cases h
  | e :: l, m, h => by
    rcases List.mem_cons.mp h with h | h
    · rw [List.length_cons]
      have h' : k = m := h
      omega
    · have := fnsB_k h
      rw [List.length_cons]
      omega
theorem tmB_c {p : Nat × List Int} {l : List (Nat × List Int)} : tmB (p :: l) = p.2 ++ tmB l := by unfold tmB; rw [List.map_cons, List.flatten_cons]
theorem t_floop (H : TeB σ n fn mt ab ins nm con fam cnm) {fs : List ((List Nat × List GVs × Ty) × Et)} (h24 : fs.length ≤ 24) (e652 : gs σ 652 = (fs.length : Int)) (hF : ∀ (f : Nat) (p : (List Nat × List GVs × Ty) × Et), fs[f]? = some p → FnsA σ n fn mt ab ins nm con fam cnm B f p.1 p.2) : ∀ (l : List ((List Nat × List GVs × Ty) × Et)) (f : Nat) (σ1 : tS) (t : Nat), fs.drop f = l → f ≤ fs.length → fr WPS WPA σ σ1 → SkT σ1 t → (l ≠ [] → gs σ1 856 = 0) → t + (tmB (fnsB nm con fam cnm ab ins f l)).length < 1000000000 → ∃ σ', om_loop T_sayProgram_35s ((f : Int), σ1) = some σ' ∧ TmsK σ1 (fnsB nm con fam cnm ab ins f l) σ'
  | [], f, σ1, t, el, hm, F, S, e856, ht => by
    have kl : fs.length ≤ f := List.drop_eq_nil_iff.mp el
    refine ⟨σ1, om_loop_out ?_, TmsK_nil⟩
    unfold T_sayProgram_35s
    simp only
    rw [F.1 652 (by decide), e652, if_pos (by omega)]
  | p :: l, f, σ1, t, el, hm, F, S, e856, ht => by
    have kl : f < fs.length := Classical.byContradiction (fun z => by
      rw [List.drop_eq_nil_iff.mpr (by omega)] at el
      cases el)
    have ek := List.drop_eq_getElem_cons kl
    rw [el] at ek
    injection ek with ek1 ek2
    obtain ⟨w, dd, v, h1, h2, h3, h4, h6, h7⟩ := FnsA_P F (hF f p (by rw [List.getElem?_eq_getElem kl, ek1]))
    have eB : tmB (fnsB nm con fam cnm ab ins f (p :: l)) = fnB nm con fam cnm ab ins p.1.2.1 p.1.1 p.2 ++ tmB (fnsB nm con fam cnm ab ins (f + 1) l) := tmB_c
    rw [eB, List.length_append] at ht
    obtain ⟨σ2, a1, a2⟩ := t_fterm (TeB_P F H) (by omega) h1 h2 h3 h4 h6 h7 S (e856 (by intro z; cases z)) (by rw [F.1 652 (by decide), e652]; omega) (by omega)
    have K2 := TmsK_one a2
    obtain ⟨t2, S2, t2a, t2b⟩ := SyP_t S a2.1
    have F2 := fr_trans F a2.1.2.2.2.1
    have e2 : l ≠ [] → gs σ2 856 = 0 := fun _ => by rw [a2.1.2.2.2.2]; exact e856 (by intro z; cases z)
    obtain ⟨σ3, b1, b2⟩ := t_floop H h24 e652 hF l (f + 1) σ2 t2 ek2.symm (by omega) F2 S2 e2 (by omega)
    refine ⟨σ3, by rw [om_loop_in a1]; exact b1, ?_⟩
    refine TmsK_app K2 b2 (fun k hk hk2 => ?_)
    have h1 : k = f := by simpa using hk
    have := fnsB_k hk2
    omega
/-- the terms of insts -/
def inssB (nm con fam cnm : Nat → List Int) (ab : List (Option Nat)) (ins : List INs) : Nat → List (INs × List Et × Option Dc) → List (Nat × List Int)
  | _, [] => []
  | i, p :: l => insB nm con fam cnm ab ins i p.1 p.2.1 p.2.2 ++ inssB nm con fam cnm ab ins (i + 1) l
theorem insB_k {i k : Nat} {d : INs} {es : List Et} {od : Option Dc} (h : k ∈ (insB nm con fam cnm ab ins i d es od).map Prod.fst) : (24 + 4 * i ≤ k ∧ k < 24 + 4 * i + es.length) ∨ k = 104 + i := by
  unfold insB at h
  rw [List.map_append] at h
  rcases List.mem_append.mp h with h | h
  · have := lnsB_k h
    exact .inl (by omega)
  · cases od with
    | none => cases h
    | some D => exact .inr (by simpa using h)
theorem inssB_k {k : Nat} : ∀ {l : List (INs × List Et × Option Dc)} {i : Nat}, (∀ p ∈ l, p.2.1.length ≤ 4) → i + l.length ≤ 20 → k ∈ (inssB nm con fam cnm ab ins i l).map Prod.fst → (24 + 4 * i ≤ k ∧ k < 104) ∨ 104 + i ≤ k
  | [], m, _, _, h => by cases h
  | p :: l, m, h4, h20, h => by
    rw [List.length_cons] at h20
    have h' : k ∈ (insB nm con fam cnm ab ins m p.1 p.2.1 p.2.2 ++ inssB nm con fam cnm ab ins (m + 1) l).map Prod.fst := h
    rw [List.map_append] at h'
    have p4 := h4 p (by simp)
    rcases List.mem_append.mp h' with h' | h'
    · have := insB_k h'
      omega
    · have := inssB_k (fun p hp => h4 p (by simp [hp])) (by omega) h'
      omega
theorem t_iloop (H : TeB σ n fn mt ab ins nm con fam cnm) {fs : List (INs × List Et × Option Dc)} (h20 : fs.length ≤ 20) (e648 : gs σ 648 = (fs.length : Int)) (hF : ∀ (f : Nat) (p : INs × List Et × Option Dc), fs[f]? = some p → InsA σ n fn mt ab ins nm con fam cnm B f p.1 p.2.1 p.2.2) : ∀ (l : List (INs × List Et × Option Dc)) (f : Nat) (σ1 : tS) (t : Nat), fs.drop f = l → f ≤ fs.length → fr WPS WPA σ σ1 → SkT σ1 t → (l ≠ [] → gs σ1 856 = 0) → t + (tmB (inssB nm con fam cnm ab ins f l)).length < 1000000000 → ∃ σ', om_loop T_sayProgram_117s ((f : Int), σ1) = some σ' ∧ TmsK σ1 (inssB nm con fam cnm ab ins f l) σ'
  | [], f, σ1, t, el, hm, F, S, e856, ht => by
    have kl : fs.length ≤ f := List.drop_eq_nil_iff.mp el
    refine ⟨σ1, om_loop_out ?_, TmsK_nil⟩
    unfold T_sayProgram_117s
    simp only
    rw [F.1 648 (by decide), e648, if_pos (by omega)]
  | p :: l, f, σ1, t, el, hm, F, S, e856, ht => by
    have kl : f < fs.length := Classical.byContradiction (fun z => by
      rw [List.drop_eq_nil_iff.mpr (by omega)] at el
      cases el)
    have ek := List.drop_eq_getElem_cons kl
    rw [el] at ek
    injection ek with ek1 ek2
    have I := hF f p (by rw [List.getElem?_eq_getElem kl, ek1])
    have eB : tmB (inssB nm con fam cnm ab ins f (p :: l)) = tmB (insB nm con fam cnm ab ins f p.1 p.2.1 p.2.2) ++ tmB (inssB nm con fam cnm ab ins (f + 1) l) := tmB_app
    rw [eB, List.length_append] at ht
    obtain ⟨σ2, a1, a2⟩ := t_iterm (TeB_P F H) (by omega) (InsA_P F I) S (e856 (by intro z; cases z)) (by rw [F.1 648 (by decide), e648]; omega) (by omega)
    obtain ⟨t2, S2, t2a, t2b⟩ := TmsK_t S a2
    have F2 := fr_trans F a2.1.2.2.2.1
    have e2 : l ≠ [] → gs σ2 856 = 0 := fun _ => by rw [a2.1.2.2.2.2]; exact e856 (by intro z; cases z)
    obtain ⟨σ3, b1, b2⟩ := t_iloop H h20 e648 hF l (f + 1) σ2 t2 ek2.symm (by omega) F2 S2 e2 (by omega)
    refine ⟨σ3, by rw [om_loop_in a1]; exact b1, ?_⟩
    refine TmsK_app a2 b2 (fun k hk hk2 => ?_)
    have k1 := insB_k hk
    have i4 := I.2.2.2.1.2.1
    have ll := congrArg List.length ek2
    rw [List.length_drop] at ll
    have k2 := inssB_k (fun p' hp' => by
      have hm' : p' ∈ fs := by
        rw [ek2] at hp'
        exact List.mem_of_mem_drop hp'
      obtain ⟨j, hj, ej⟩ := List.getElem_of_mem hm'
      exact (hF j p' (by rw [List.getElem?_eq_getElem hj, ej])).2.2.2.1.2.1) (by omega) hk2
    omega
/-- sizes are cleared -/
theorem t_14s : ∀ (d k : Nat) (σ1 : tS), k + d = 125 → fr [] [902] σ σ1 → (∀ i, i < k → ga σ1 902 i = -1) → ∃ σ', om_loop T_sayProgram_14s ((k : Int), σ1) = some σ' ∧ fr [] [902] σ σ' ∧ ∀ i, i < 125 → ga σ' 902 i = -1
  | 0, k, σ1, e, F, H => by
    refine ⟨σ1, om_loop_out ?_, F, fun i hi => H i (by omega)⟩
    unfold T_sayProgram_14s
    simp only
    rw [if_pos (by omega)]
  | d + 1, k, σ1, e, F, H => by
    have st : T_sayProgram_14s ((k : Int), σ1) = some (.inl (((k + 1 : Nat) : Int), ua σ1 902 k (-1))) := by
      unfold T_sayProgram_14s
      simp only
      rw [if_neg (by omega), if_pos (by omega), w32_s (by omega) (by omega)]
      rfl
    obtain ⟨σ', a1, a2, a3⟩ := t_14s d (k + 1) (ua σ1 902 k (-1)) (by omega) (fr_ua F (by simp)) (fun i hi => by
      rw [ga_ua]
      by_cases c : i = k
      · rw [if_pos ⟨rfl, c⟩]
      · rw [if_neg (fun z => c z.2)]
        exact H i (by omega))
    exact ⟨σ', by rw [om_loop_in st]; exact a1, a2, a3⟩
/-- A PROGRAM IS SAID -/
theorem t_sayProgram (H : TeB σ n fn mt ab ins nm con fam cnm) {fs : List ((List Nat × List GVs × Ty) × Et)} {is : List (INs × List Et × Option Dc)} (h24 : fs.length ≤ 24) (h20 : is.length ≤ 20) (e652 : gs σ 652 = (fs.length : Int)) (e648 : gs σ 648 = (is.length : Int)) (hF : ∀ (f : Nat) (p : (List Nat × List GVs × Ty) × Et), fs[f]? = some p → FnsA σ n fn mt ab ins nm con fam cnm B f p.1 p.2) (hI : ∀ (f : Nat) (p : INs × List Et × Option Dc), is[f]? = some p → InsA σ n fn mt ab ins nm con fam cnm B f p.1 p.2.1 p.2.2) (e856 : fs ≠ [] ∨ is ≠ [] → gs σ 856 = 0) (hT : (tmB (fnsB nm con fam cnm ab ins 0 fs ++ inssB nm con fam cnm ab ins 0 is)).length < 1000000000) (f0 : gs σ 452 = 0) : ∃ σa σ', TmsK σa (fnsB nm con fam cnm ab ins 0 fs ++ inssB nm con fam cnm ab ins 0 is) σ' ∧ (gs σa 904 = 0 ∧ gs σa 908 = 60000 ∧ (∀ i, i < 125 → ga σa 902 i = -1) ∧ fr [904, 908] [902] σ σa) ∧ T_sayProgram σ = if (tmB (fnsB nm con fam cnm ab ins 0 fs ++ inssB nm con fam cnm ab ins 0 is)).length ≤ 60000 then some σ' else some (us (us σ' 452 8) 456 (gs σ' 420)) := by
  obtain ⟨σa, a1, a2, a3⟩ := t_14s (σ := us (us σ 904 0) 908 60000) 125 0 _ (by omega) (fr_refl _ _ _) (fun i hi => by omega)
  have g4 : gs σa 904 = 0 := by rw [a2.1 904 (by simp), gs_us, if_neg (by decide), gs_us, if_pos rfl]
  have g8 : gs σa 908 = 60000 := by rw [a2.1 908 (by simp), gs_us, if_pos rfl]
  have Fa : fr [904, 908] [902] σ σa := fr_trans (fr_us (fr_us (fr_refl _ _ _) (by simp)) (by simp)) (fr_sub a2 (by simp) (by simp))
  have FP : fr (908 :: WPS) WPA σ σa := fr_sub Fa (by decide) (by decide)
  have Sa : SkT σa 0 := ⟨g4, by rw [g8]; decide⟩
  -- what is known stays
  have keep : eqN σ σa := fun f hf i => Fa.2 f ((by decide : ∀ f ∈ TNA, f ∉ [902]) f hf) i
  have Ha : TeB σa n fn mt ab ins nm con fam cnm := by
    obtain ⟨⟨h1, h2⟩, h3, h4, h5, h6, h7⟩ := H
    exact ⟨⟨TyS_same (Fa.1 532 (by decide)) (fun g hg i => Fa.2 g ((by decide : ∀ g ∈ TYA, g ∉ [902]) g hg) i) h1, JT0_keep (fun f hf => Fa.1 f ((by decide : ∀ f ∈ JTSc, f ∉ [904, 908]) f hf)) (fun f hf i => Fa.2 f ((by decide : ∀ f ∈ JTAr, f ∉ [902]) f hf) i) (tx_N keep) h2⟩, h3, fun d hd => tOn_N keep (h4 d hd), fun k hk => clN_N keep (h5 k hk), fun f hf g hg => ⟨(h6 f hf g hg).1, fun w => ⟨tOn_N keep ((h6 f hf g hg).2 w).1, hdO_N keep ((h6 f hf g hg).2 w).2⟩⟩, h7⟩
  have hFa : ∀ (f : Nat) (p : (List Nat × List GVs × Ty) × Et), fs[f]? = some p → FnsA σa n fn mt ab ins nm con fam cnm B f p.1 p.2 := fun f p ep => by
    obtain ⟨w, dd, v, h1, h2, h3, ⟨h4, h5⟩, h6, h7⟩ := hF f p ep
    exact ⟨w, dd, v, FnT_keepA (fun a ha i => Fa.2 a ((by decide : ∀ a ∈ [734, 738, 742, 746, 750, 754, 758, 762], a ∉ [902]) a ha) i) (tx_N keep) h1, GvA_N keep h2, fun w hw => ⟨(h3 w hw).1, nmT_N keep (h3 w hw).2⟩, ⟨by rw [Fa.2 730 (by decide)]; exact h4, h5⟩, by rw [Fa.2 622 (by decide)]; exact h6, ExO_N keep h7⟩
  have hIa : ∀ (f : Nat) (p : INs × List Et × Option Dc), is[f]? = some p → InsA σa n fn mt ab ins nm con fam cnm B f p.1 p.2.1 p.2.2 := fun f p ep => by
    obtain ⟨h1, h2, h3, ⟨h4, h5, h6⟩, h7⟩ := hI f p ep
    refine ⟨InTw_keep (fun a ha i => Fa.2 a ((by decide : ∀ a ∈ [694, 698, 702, 706, 710, 714, 718, 722], a ∉ [902]) a ha) i) (tx_N keep) h1, GvA_N keep h2, fun w hw => ⟨(h3 w hw).1, nmT_N keep (h3 w hw).2⟩, ⟨by rw [Fa.2 678 (by decide)]; exact h4, h5, fun m e em => ?_⟩, ?_⟩
    · obtain ⟨v, v1, v2⟩ := h6 m e em
      exact ⟨v, by rw [Fa.2 726 (by decide)]; exact v1, ExO_N keep v2⟩
    · rcases h7 with h | ⟨c, D, a1, a2, a3, a4, a5, a6⟩
      · exact .inl h
      · exact .inr ⟨c, D, a1, a2, dcK_mono (fun X hX => QN_N keep hX) a3, a4, ⟨a5.1, a5.2.1, a5.2.2.1, tOn_N keep a5.2.2.2⟩, QN_N keep a6⟩
  rw [tmB_app, List.length_append] at hT
  obtain ⟨σ1, b1, b2⟩ := t_floop Ha h24 (by rw [Fa.1 652 (by decide)]; exact e652) hFa fs 0 σa 0 rfl (Nat.zero_le _) (fr_refl _ _ _) Sa (fun z => by rw [Fa.1 856 (by decide)]; exact e856 (.inl z)) (by omega)
  have F1 := b2.1.2.2.2.1
  obtain ⟨t1, S1, t1a, t1b⟩ := TmsK_t Sa b2
  obtain ⟨σ2, c1, c2⟩ := t_iloop Ha h20 (by rw [Fa.1 648 (by decide)]; exact e648) hIa is 0 σ1 t1 rfl (Nat.zero_le _) F1 S1 (fun z => by rw [b2.1.2.2.2.2, Fa.1 856 (by decide)]; exact e856 (.inr z)) (by omega)
  have K := TmsK_app b2 c2 (fun k hk hk2 => by
    have k1 := fnsB_k hk
    have k2 := inssB_k (fun p hp => by
      obtain ⟨j, hj, ej⟩ := List.getElem_of_mem hp
      exact (hIa j p (by rw [List.getElem?_eq_getElem hj, ej])).2.2.2.1.2.1) (by omega) hk2
    omega)
  refine ⟨σa, σ2, K, ⟨g4, g8, a3, Fa⟩, ?_⟩
  have a1' : om_loop T_sayProgram_14s (0, us (us σ 904 0) 908 60000) = some σa := a1
  have b1' : om_loop T_sayProgram_35s (0, σa) = some σ1 := b1
  have c1' : om_loop T_sayProgram_117s (0, σ1) = some σ2 := c1
  have e8 : gs σ2 908 = 60000 := by rw [K.1.2.2.2.1.1 908 (by decide)]; exact g8
  unfold T_sayProgram
  rw [a1', Option.bind_some, b1', Option.bind_some, c1', Option.bind_some, e8]
  by_cases q : (tmB (fnsB nm con fam cnm ab ins 0 fs ++ inssB nm con fam cnm ab ins 0 is)).length ≤ 60000
  · have e4 := (K.1.1 (by rw [g4, g8]; omega)).2
    rw [if_pos q, if_pos (by rw [e4, g4]; omega)]
  · have e4 := K.1.2.1 (by rw [g4, g8]; omega)
    rw [g8] at e4
    rw [if_neg q, if_neg (by omega)]
    unfold T_fails
    rw [if_pos (by rw [K.1.2.2.2.1.1 452 (by decide), Fa.1 452 (by decide)]; exact f0)]
    rfl
end LPG
