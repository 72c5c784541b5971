set_option maxRecDepth 100000
/-! THE TWIN'S MACHINE: dictionaries are put together -/
/-- the program's things in the twin, for putting dictionaries together -/
def DcP (σ0 : tS) (n : Nat) (M : MPg) : Prop := DcS σ0 n M ∧ (∀ (f : Nat) (x : List Nat × List GVs × Ty), M.1[f]? = some x → ∃ w, FnT σ0 n f w x) ∧ (∀ (i : Nat) (d : INs), M.2.2.2[i]? = some d → InTw σ0 n M.2.2.1.length i d) ∧ M.1.length ≤ 24 ∧ PgO M.2.2.1 M.2.2.2 ∧ (∀ (i : Nat) (d : INs) (c' : Nat), M.2.2.2[i]? = some d → M.2.2.1[d.1]? = some (some c') → QN σ0 n (hdI d))
/-- entries below stay -/
def eBl (p : Nat) (σ τ : tS) : Prop := (∀ a ∈ [1054, 1058, 1062, 1066, 1070, 1074, 1078], ∀ q, q < p → ga τ a q = ga σ a q) ∧ ∀ q, q < 4 * p → ga τ 1082 q = ga σ 1082 q
/-- what came of it: x cells -/
def DcO (M : MPg) (σ : tS) (p c0 x : Nat) (T : Ty) (c : Nat) (got : Int) (τ : tS) : Prop := fr DFS DFA σ τ ∧ mGr σ τ ∧ gs τ 1084 = (p : Int) ∧ eBl p σ τ ∧ ((c0 + x ≤ 4000 ∧ mCt τ (c0 + x) ∧ gs τ 1000 = 1 ∧ dcW M.2.2.2 τ T c got) ∨ (4000 < c0 + x ∧ got = -1 ∧ gs τ 1000 = 4 ∧ gs τ 1008 = 4000))
/-- where putting together goes on -/
def DcB (σ0 : tS) (n : Nat) (σ : tS) (p c0 : Nat) : Prop := fr WMS WMA σ0 σ ∧ mCt σ c0 ∧ gs σ 1000 = 1 ∧ gs σ 1084 = (p : Int)
/-- A DICTIONARY IS PUT TOGETHER: of a class for a type that is worked out, by what is given; h: so many more may wait -/
def EvT (σ0 : tS) (n : Nat) (M : MPg) (gv : List GVs) (θ : Nat → Ty) (o c : Nat) (u : Ty) (x h : Nat) : Prop := ∀ (σ : tS) (p c0 : Nat) (got t row : Int), DcB σ0 n σ p c0 → GVT σ n gv → p + h ≤ 16000 → tyT σ n u t → rTw M.2.2.2 σ gv θ row → ∃ σ1 got' σ', T_begins (c : Int) t (owT o) row σ = some σ1 ∧ om_loop T_dictionaryOut_20s (got, 0, σ1) = om_loop T_dictionaryOut_20s (got', 1, σ') ∧ DcO M σ p c0 x (sem M.2.2.2 θ u) c got' σ'
section LTD
variable {M : MPg} {σ0 σ τ υ : tS} {n : Nat} {gv : List GVs} {θ : Nat → Ty}
theorem eBl_trans {p : Nat} (A : eBl p σ τ) (B : eBl p τ υ) : eBl p σ υ := ⟨fun a ha q hq => (B.1 a ha q hq).trans (A.1 a ha q hq), fun q hq => (B.2 q hq).trans (A.2 q hq)⟩
theorem eBl_le {p p' : Nat} (h : p ≤ p') (A : eBl p' σ τ) : eBl p σ τ := ⟨fun a ha q hq => A.1 a ha q (by omega), fun q hq => A.2 q (by omega)⟩
theorem eBl_fr {p : Nat} {fs as : List Nat} (F : fr fs as σ τ) (h : ∀ f ∈ [1054, 1058, 1062, 1066, 1070, 1074, 1078, 1082], f ∉ as) : eBl p σ τ := ⟨fun a ha q _ => F.2 a (h a (by simp only [List.mem_cons, List.not_mem_nil, or_false] at ha ⊢; omega)) q, fun q _ => F.2 1082 (h 1082 (by decide)) q⟩
theorem dcB_fr {fs as : List Nat} {p c0 : Nat} (H : DcB σ0 n σ p c0) (F : fr fs as σ τ) (h1 : ∀ f ∈ fs, f ∈ WMS) (h2 : ∀ f ∈ as, f ∈ WMA) (h3 : ∀ f ∈ [924, 952, 964, 1008, 1000, 1084], f ∉ fs) : DcB σ0 n τ p c0 := ⟨fr_trans H.1 (fr_sub F h1 h2), mCt_fr F (fun f hf => h3 f (by simp only [List.mem_cons, List.not_mem_nil, or_false] at hf ⊢; omega)) H.2.1, by rw [F.1 1000 (h3 _ (by decide))]; exact H.2.2.1, by rw [F.1 1084 (h3 _ (by decide))]; exact H.2.2.2⟩
theorem hdN_nf (ns : List Nat) (j : Nat) : thB (hdN ns j) = false ∧ tszW (hdN ns j) ≤ 1 ∧ 0 ≤ tszW (hdN ns j) ∧ tsz (hdN ns j) ≤ 1 := by
  unfold hdN
  cases ns[j]? with
  | none => exact ⟨rfl, by decide, by decide, by decide⟩
  | some w =>
    have e : tszW (tnd 0 w .leaf .leaf) = 1 := rfl
    have e2 : tsz (tnd 0 w .leaf .leaf) = 1 := rfl
    refine ⟨rfl, ?_, ?_, ?_⟩
    · rw [e]; decide
    · rw [e]; decide
    · rw [e2]; decide
theorem hdI_z3 (d : INs) : tsz (hdI d) ≤ 3 := by
  have a1 := hdN_nf d.2.2.1 0
  have a2 := hdN_nf d.2.2.1 1
  show 1 + tsz (hdN d.2.2.1 0) + tsz (hdN d.2.2.1 1) ≤ 3
  omega
theorem hdI_nf (d : INs) : thB (hdI d) = false ∧ tszW (hdI d) ≤ 60 := by
  refine ⟨?_, ?_⟩
  · show ((1 : Nat) == 2 || thB (hdN d.2.2.1 0) || thB (hdN d.2.2.1 1)) = false
    rw [(hdN_nf _ _).1, (hdN_nf _ _).1]; rfl
  · have := hdI_z3 d
    rw [tszW_eq (by omega)]
    omega
theorem kn_nf {ins : List INs} {Q : Ty → Prop} {T : Ty} (h : thB T = false) (z : tszW T ≤ 60) : knT ins gv Q 130 T T := ⟨[], 0, fun s => by rw [wk_nf (f := 129) h z, List.append_nil], fun X hX => absurd hX List.not_mem_nil⟩
theorem okF_nf {ins : List INs} : ∀ {T : Ty}, thB T = false → okF ins T
  | .leaf, _ => trivial
  | .inner k w u l r, h => by
    have h' : (k == 2 || thB l || thB r) = false := h
    rw [Bool.or_eq_false_iff, Bool.or_eq_false_iff] at h'
    exact ⟨fun z => by rw [z] at h'; exact absurd h'.1.1 (by decide), okF_nf h'.1.2, okF_nf h'.2⟩
theorem gvI_F' {ab : List (Option Nat)} {ins : List INs} (P : PgO ab ins) {d : INs} (dm : d ∈ ins) : gvF' ins (gvI d) := fun g hg gc => by
  obtain ⟨c, c1, c2⟩ := List.mem_map.mp hg
  have := P.2.2.2.2.2.1 d dm c c1
  rw [← c2] at gc
  exact absurd gc (by show ¬ 100 ≤ c.1; omega)
/-- a name's is there: so many steps above it -/
theorem ev_up (P : DcP σ0 n M) {c : Nat} {τw : Ty} (hw : wfT τw) (A : ∀ (c1 c' i : Nat) (d : INs), cHd M.2.2.2 τw c1 → iAt M.2.2.2 c1 τw = some (i, d) → M.2.2.1[c1]? = some (some c') → ∀ x, cA M.2.2.1 M.2.2.2 τw c1 = some x → EvT σ0 n M (gvI d) (thN d (tL τw) (tR' τw)) (100 + i) c' (hdI d) x (2 * hgt M.2.2.2 τw c1)) : ∀ (f k nn x : Nat), stpA M.2.2.1 f k c = some nn → cUp (cA M.2.2.1 M.2.2.2 τw) M.2.2.1 nn k = some x → ∀ (σ : tS) (p c0 : Nat) (got bk d0 : Int), DcB σ0 n σ (p + 1) c0 → (bk = 0 ∧ ga σ 1082 (4 * p) = d0 ∨ bk = 1 ∧ got = d0) → ga σ 1062 p = -1 → ga σ 1058 p = (k : Int) → ga σ 1054 p = (c : Int) → dcW M.2.2.2 σ τw k d0 → p + 1 + 2 * hgt M.2.2.2 τw k ≤ 16000 → ∃ got' σ', om_loop T_dictionaryOut_20s (got, bk, σ) = om_loop T_dictionaryOut_20s (got', 1, σ') ∧ DcO M σ p c0 x τw c got' σ'
  | 0, _, _, _, e, _, _, _, _, _, _, _, _, _, _, _, _, _, _ => by cases e
  | f + 1, k, nn, x, e, ex, σ, p, c0, got, bk, d0, B, hd, h62, h58, h54, hD, hp => by
    obtain ⟨⟨DS, hF, hI⟩, _⟩ := (⟨⟨P.1, P.2.1, P.2.2.1⟩, trivial⟩ : (DcS σ0 n M ∧ _ ∧ _) ∧ True)
    have S := tyS_M B.1 DS.1
    have Pg := pgt_M B.1 DS.2.1
    have ct := B.2.1
    have hgp : 1 ≤ hgt M.2.2.2 τw k := by
      cases τw with
      | leaf => exact hD.elim
      | inner a b u l r =>
        obtain ⟨_, _, i, d, _, _, _, h3, h4, _⟩ := hD
        rw [hgt_in (k := a) (u := u) (l := l) (r := r) h3 h4]
        omega
    -- the step, by what is there
    have st0 : T_dictionaryOut_20s (got, bk, σ) = T_dictionaryOut_69 got (p : Int) d0 σ := by
      unfold T_dictionaryOut_20s
      simp only
      rw [B.2.2.2, if_neg (by omega), show w32 (((p + 1 : Nat) : Int) - 1) = (p : Int) by rw [w32_s (by omega) (by omega)]; omega, if_pos (by omega), show ((p : Int)).toNat = p by omega, h62, if_neg (fun z => z rfl)]
      rcases hd with ⟨b0, e0⟩ | ⟨b1, e1⟩
      · rw [if_pos b0, w32_s (by omega) (by omega), if_pos (by omega), show (4 * (p : Int)).toNat = 4 * p by omega, e0]
      · rw [if_neg (by omega), e1]
    unfold stpA at e
    by_cases q : k = c
    · rw [if_pos q] at e
      have en : nn = 0 := (Option.some.inj e).symm
      rw [en] at ex
      have ex0 : x = 0 := (Option.some.inj ex).symm
      have st : T_dictionaryOut_20s (got, bk, σ) = some (.inl (d0, 1, us σ 1084 (p : Int))) := by
        rw [st0]
        unfold T_dictionaryOut_69
        rw [if_pos (by omega), show ((p : Int)).toNat = p by omega, h58, h54, if_pos (by omega)]
        unfold T_dictionaryOut_99
        rw [if_neg (by decide), B.2.2.2, show w32 (((p + 1 : Nat) : Int) - 1) = (p : Int) by rw [w32_s (by omega) (by omega)]; omega]
      have F1 : fr [1084] [] σ (us σ 1084 (p : Int)) := fr_one
      have G1 : mGr σ (us σ 1084 (p : Int)) := mGr_o F1 (by decide) (by decide)
      refine ⟨d0, us σ 1084 (p : Int), om_loop_in st, fr_sub F1 (by decide) (by decide), G1, rfl, eBl_fr F1 (by simp), .inl ⟨by have := ct.2.2.2; omega, by rw [ex0, Nat.add_zero]; exact mCt_fr F1 (by decide) ct, B.2.2.1, by rw [← q]; exact dcW_gr G1 hD⟩⟩
    · rw [if_neg q] at e
      cases q2 : M.2.2.1[k]? with
      | none => rw [q2] at e; cases e
      | some oo =>
      cases oo with
      | none => rw [q2] at e; cases e
      | some k' =>
      rw [q2] at e
      obtain ⟨mm, em, e2⟩ := Option.map_eq_some_iff.mp e
      rw [← e2] at ex
      have ex' : (cA M.2.2.1 M.2.2.2 τw k).bind (fun x => (M.2.2.1[k]?).bind fun o => o.bind fun c' => (cUp (cA M.2.2.1 M.2.2.2 τw) M.2.2.1 mm c').map fun y => x + y) = some x := ex
      obtain ⟨x1, hx1, ex2⟩ := Option.bind_eq_some_iff.mp ex'
      rw [q2, Option.bind_some, Option.bind_some] at ex2
      obtain ⟨x2, hx2, ex3⟩ := Option.map_eq_some_iff.mp ex2
      have hh := dcW_had hD
      obtain ⟨i, d, uu, i1, i2, i3, ⟨i4, i4'⟩, i5, i6⟩ := iAt_had hh
      have hu := hgt_up P.2.2.2.2.1 hw k k' hh q2
      have k8 : k < M.2.2.1.length := (List.getElem?_eq_some_iff.mp q2).1
      have c8 := Pg.1.1
      have i20 : i < M.2.2.2.length := (List.getElem?_eq_some_iff.mp i3).1
      have l20 := Pg.2.2.1
      -- the dictionary that is there
      obtain ⟨kd0, js, jd1, jd2, jd3, jd4, jd5⟩ : ∃ (kd0 : Nat) (js : Nat → Int), d0 = (kd0 : Int) ∧ (kd0 : Int) < gs σ 964 ∧ ga σ 958 kd0 = (i : Int) ∧ ga σ 962 kd0 = rowN (js 0) (js 1) (js 2) (js 3) ∧ ((∀ j, -1 ≤ js j ∧ js j < (kd0 : Int)) ∧ ∀ (j : Nat) (p : Nat × Nat), d.2.2.2.1[j]? = some p → (p.2 = 0 → dcW M.2.2.2 σ (tL τw) p.1 (js j)) ∧ (p.2 ≠ 0 → dcW M.2.2.2 σ (tR' τw) p.1 (js j))) := by
        cases τw with
        | leaf => exact hD.elim
        | inner a b u l r =>
          obtain ⟨_, kd0, i', d', js, h1, h2, h3, h4, h5, h6, h7, h8⟩ := hD
          have ei : i' = i := Option.some.inj (h3.symm.trans i2)
          rw [ei] at h4 h5
          have ed : d' = d := Option.some.inj (h4.symm.trans i3)
          rw [ed] at h8
          exact ⟨kd0, js, h1, h2, h5, h7, h6, h8⟩
      have kd4 : kd0 < 4000 := by have := ct.1; have := ct.2.1; have := ct.2.2.2; omega
      -- by its inst's own ones
      obtain ⟨σa, ea⟩ : ∃ σa, σa = ua σ 1058 p (k' : Int) := ⟨_, rfl⟩
      have Fa : fr [] [1058] σ σa := by rw [ea]; exact fr_ua (fr_refl _ _ _) (by decide)
      have Ba := dcB_fr B Fa (by simp) (by decide) (by simp)
      obtain ⟨σb, b1, b2, b3⟩ := t_byO DS Ba.1 hF hI (o := 100 + i) (.inr (.inl ⟨by omega, by omega⟩)) P.2.2.2.1
      have eo : owT (100 + i) = ((100 + i : Nat) : Int) := by unfold owT; rw [if_pos (by omega)]
      rw [eo] at b1
      have eg : gvW M (100 + i) = gvI d := by
        unfold gvW
        rw [if_neg (by omega), if_pos (by omega), show 100 + i - 100 = i by omega, i3]; rfl
      rw [eg] at b3
      have Bb := dcB_fr Ba b2 (by decide) (by decide) (by decide)
      have Sb := tyS_M Bb.1 DS.1
      -- the head
      have iwb : InTw σb n M.2.2.1.length i d := InTw_keep (fun f hf i => Bb.1.2 f (fun z => by
        simp only [List.mem_cons, List.not_mem_nil, or_false] at hf z
        omega) i) (tx_M Bb.1) (hI i d i3)
      obtain ⟨t0, ht0⟩ := P.2.2.2.2.2 i d k' i3 (by rw [i4]; exact q2)
      have ht0b : tyT σb n (hdI d) t0 := tyT_mono (tx_M Bb.1) ht0
      have hdh : T_head (i : Int) σb = some (t0, σb) := t_hdI2 (by omega) Sb (by have := DS.2.2; omega) iwb ht0b
      obtain ⟨hth, htz⟩ := hdI_nf d
      obtain ⟨t1, σc, o1, o2, o3, _⟩ := t_outM DS Bb.1 b3 P.2.2.2.2.1.2.2.1 (gvI_F' P.2.2.2.2.1 (List.mem_of_getElem? i3)) (kn_nf (Q := QN σ0 n) hth htz) ht0b (fun z => by cases z) (okF_nf hth) (by
        have := tszW_eq (T := hdI d) (by have := hdI_z3 d; omega)
        have := hdI_z3 d
        omega)
      have Bc := dcB_fr Bb o2 (by decide) (by decide) (by decide)
      have Vc : GVT σc n (gvI d) := GVT_f2 (o2.1 792 (by decide)) (fun f hf i => o2.2 f (by simp only [List.mem_cons, List.not_mem_nil, or_false] at hf ⊢; omega) i) (tx_M (fr_sub o2 (by decide) (by decide))) b3
      have Fac : fr DFS DFA σ σc := fr_trans (fr_sub Fa (by simp) (by decide)) (fr_trans (fr_sub b2 (by decide) (by decide)) (fr_sub o2 (by decide) (by decide)))
      have Gac : mGr σ σc := mGr_trans (mGr_o Fa (by simp) (by decide)) (mGr_trans (mGr_o b2 (by decide) (by decide)) (mGr_o o2 (by decide) (by decide)))
      have g64 : gs σc 964 = gs σ 964 := by rw [o2.1 964 (by decide), b2.1 964 (by decide), Fa.1 964 (by simp)]
      have rc : rTw M.2.2.2 σc (gvI d) (thN d (tL τw) (tR' τw)) (ga σ 962 kd0) := by
        refine ⟨js, fun j => ⟨(jd5.1 j).1, by have := (jd5.1 j).2; omega⟩, jd4, fun j g ej _ => ?_⟩
        have ej' : (d.2.2.2.1.map (fun c => (c.1, d.2.2.1.getD c.2 0, (.leaf : Ty))))[j]? = some g := ej
        rw [List.getElem?_map] at ej'
        obtain ⟨cd, c1, c2⟩ := Option.map_eq_some_iff.mp ej'
        have dm := List.mem_of_getElem? i3
        have ci := ((P.2.2.2.2.1.2.2.2.1 d dm).2.2 cd (List.mem_of_getElem? c1)).1
        rw [← c2]
        show dcW M.2.2.2 σc (thN d (tL τw) (tR' τw) (d.2.2.1.getD cd.2 0)) cd.1 (js j)
        rw [thN_at (P.2.2.2.2.1.1 d dm).1 ci]
        obtain ⟨z1, z2⟩ := jd5.2 j cd c1
        split
        · rename_i z; exact dcW_gr Gac (z1 z)
        · rename_i z; exact dcW_gr Gac (z2 z)
      obtain ⟨σd, got', σ', f1, f2, f3⟩ := A k k' i d hh i1 q2 x1 hx1 σc (p + 1) c0 got t1 (ga σ 962 kd0) Bc Vc (by omega) o3 rc
      have wf : wfT (.inner 1 d.2.1 uu (tL τw) (tR' τw)) := by rw [← i5]; exact hw
      rw [hdI_sem (P.2.2.2.2.1.1 d (List.mem_of_getElem? i3)).1 (P.2.2.2.2.1.2.2.2.2.1 d (List.mem_of_getElem? i3)) wf, ← i5] at f3
      have st : T_dictionaryOut_20s (got, bk, σ) = some (.inl (got, 0, σd)) := by
        rw [st0]
        unfold T_dictionaryOut_69
        rw [if_pos (by omega), show ((p : Int)).toNat = p by omega, h58, h54, if_neg (by omega), if_pos (by omega)]
        unfold T_dictionaryOut_99
        rw [if_pos rfl, show ((p : Int)).toNat = p by omega, h58, jd1, if_pos ⟨by omega, by omega, by omega, by omega, by omega, by omega⟩, show ((k : Int)).toNat = k by omega, show ((kd0 : Int)).toNat = kd0 by omega, jd3]
        have e70 : ga σ 670 k = (k' : Int) := (Pg.1.2 k _ q2).1
        rw [e70, w32_s (x := 100 + (i : Int)) (by omega) (by omega), show 100 + (i : Int) = ((100 + i : Nat) : Int) by omega, ← ea, b1, Option.bind_some, if_pos (by omega)]
        have e58 : ga σb 958 kd0 = (i : Int) := by rw [b2.2 958 (by decide), Fa.2 958 (by decide)]; exact jd3
        have e58c : ga σc 958 kd0 = (i : Int) := by rw [o2.2 958 (by decide)]; exact e58
        have e62c : ga σc 962 kd0 = ga σ 962 kd0 := by rw [o2.2 962 (by decide), b2.2 962 (by decide), Fa.2 962 (by decide)]
        rw [e58, hdh, Option.bind_some]
        simp only
        rw [o1, Option.bind_some, if_pos (by omega), e58c, e62c, w32_s (x := 100 + (i : Int)) (by omega) (by omega), show 100 + (i : Int) = ((100 + i : Nat) : Int) by omega, ← eo, f1, Option.bind_some]
      obtain ⟨g1, g2, g3, g4, g5⟩ := f3
      have Fd : fr DFS DFA σ σ' := fr_trans Fac g1
      have Gd : mGr σ σ' := mGr_trans Gac g2
      have at' : ∀ a ∈ [1054, 1062], ga σ' a p = ga σ a p := fun a ha => by
        rw [g4.1 a (by simp only [List.mem_cons, List.not_mem_nil, or_false] at ha ⊢; omega) p (by omega), o2.2 a (by simp only [List.mem_cons, List.not_mem_nil, or_false] at ha ⊢; omega), b2.2 a (by simp only [List.mem_cons, List.not_mem_nil, or_false] at ha ⊢; omega), Fa.2 a (by simp only [List.mem_cons, List.not_mem_nil, or_false] at ha ⊢; omega)]
      have at58 : ga σ' 1058 p = (k' : Int) := by
        rw [g4.1 1058 (by decide) p (by omega), o2.2 1058 (by decide), b2.2 1058 (by decide), ea]
        simp [ga_ua]
      have bl : eBl p σ σ' := by
        refine eBl_trans (⟨fun a _ q hq => ?_, fun q _ => Fa.2 1082 (by decide) q⟩ : eBl p σ σa) (eBl_trans (eBl_fr b2 (by decide)) (eBl_trans (eBl_fr o2 (by decide)) (eBl_le (by omega) g4)))
        rw [ea, ga_ua, if_neg (by omega)]
      rcases g5 with ⟨h1, h2, h3, h4⟩ | ⟨h1, h2, h3, h4⟩
      · have B' : DcB σ0 n σ' (p + 1) (c0 + x1) := ⟨fr_trans B.1 (fr_DM Fd), h2, h3, g3⟩
        obtain ⟨got2, σ2, r1, r2⟩ := ev_up P hw A f k' mm x2 em hx2 σ' p (c0 + x1) got' 1 got' B' (.inr ⟨rfl, rfl⟩) (by rw [at' 1062 (by decide)]; exact h62) at58 (by rw [at' 1054 (by decide)]; exact h54) h4 (by have := hu.2; omega)
        obtain ⟨s1, s2, s3, s4, s5⟩ := r2
        refine ⟨got2, σ2, by rw [om_loop_in st, f2, r1], fr_trans Fd s1, mGr_trans Gd s2, s3, eBl_trans bl s4, ?_⟩
        rw [← ex3, ← Nat.add_assoc]
        exact s5
      · have st2 : T_dictionaryOut_20s (got', 1, σ') = some (.inl (-1, 1, us σ' 1084 (p : Int))) := by
          unfold T_dictionaryOut_20s
          simp only
          rw [g3, if_neg (by omega), show w32 (((p + 1 : Nat) : Int) - 1) = (p : Int) by rw [w32_s (by omega) (by omega)]; omega, if_pos (by omega), show ((p : Int)).toNat = p by omega, at' 1062 (by decide), h62, if_neg (fun z => z rfl), if_neg (by decide), h2]
          unfold T_dictionaryOut_69
          rw [if_pos (by omega), show ((p : Int)).toNat = p by omega]
          have fin : T_dictionaryOut_99 (-1) (p : Int) (-1) 1 σ' = some (.inl (-1, 1, us σ' 1084 (p : Int))) := by
            unfold T_dictionaryOut_99
            rw [if_neg (by decide), g3, show w32 (((p + 1 : Nat) : Int) - 1) = (p : Int) by rw [w32_s (by omega) (by omega)]; omega]
          rw [fin]
          split
          · rfl
          · rw [if_neg (fun z => z rfl)]
        have F1 : fr [1084] [] σ' (us σ' 1084 (p : Int)) := fr_one
        have G1 : mGr σ' (us σ' 1084 (p : Int)) := mGr_o F1 (by decide) (by decide)
        refine ⟨-1, us σ' 1084 (p : Int), by rw [om_loop_in st, f2, om_loop_in st2], fr_trans Fd (fr_sub F1 (by decide) (by decide)), mGr_trans Gd G1, rfl, eBl_trans bl (eBl_fr F1 (by simp)), .inr ⟨by omega, rfl, h3, h4⟩⟩
end LTD
