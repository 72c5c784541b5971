set_option maxRecDepth 100000
/-! LOADING, in both -/
theorem t_cpL {S : List Int} (hS : S.length ≤ 2000) (hb : ∀ x ∈ S, -128 ≤ x ∧ x ≤ 127) : ∀ (d k : Nat) (σ : tS), k + d = S.length → (∀ (i : Nat) (x : Int), S[i]? = some x → ga σ 402 i = x) → (∀ (i : Nat) (x : Int), i < k → S[i]? = some x → ga σ 410 i = x) → ∃ τ, om_loop (T_load_61s (S.length : Int)) ((k : Int), σ) = some τ ∧ fr [] [410] σ τ ∧ ∀ (i : Nat) (x : Int), S[i]? = some x → ga τ 410 i = x
  | 0, k, σ, e, H, B => by
    refine ⟨σ, om_loop_out ?_, fr_refl _ _ _, fun i x ex => B i x (by have := (List.getElem?_eq_some_iff.mp ex).1; omega) ex⟩
    unfold T_load_61s
    simp only
    rw [if_pos (by omega)]
  | d + 1, k, σ, e, H, B => by
    have hk : k < S.length := by omega
    have ek : S[k]? = some S[k] := List.getElem?_eq_getElem hk
    have bk := hb S[k] (List.getElem_mem hk)
    have st : T_load_61s (S.length : Int) ((k : Int), σ) = some (.inl (((k + 1 : Nat) : Int), ua σ 410 k S[k])) := by
      unfold T_load_61s
      simp only
      rw [if_neg (by omega), if_pos ⟨by omega, by omega⟩, show ((k : Int)).toNat = k by omega, H k _ ek, b8_id bk.1 bk.2, w32_s (by omega) (by omega)]
      rfl
    obtain ⟨τ, a1, a2, a3⟩ := t_cpL hS hb d (k + 1) (ua σ 410 k S[k]) (by omega) (fun i x ex => by rw [ga_ua, if_neg (fun z => absurd z.1 (by decide))]; exact H i x ex) (fun i x hi ex => by
      rw [ga_ua]
      by_cases c : i = k
      · rw [if_pos ⟨rfl, c⟩]
        rw [c, ek] at ex
        exact Option.some.inj ex
      · rw [if_neg (fun z => c z.2)]
        exact B i x (by omega) ex)
    exact ⟨τ, by rw [om_loop_in st]; exact a1, fr_trans (fr_ua (fr_refl _ _ _) (by decide)) a2, a3⟩
/-- how many functions -/
theorem PrT_652 {G : om_G} {A : Nat} {S : List Int} {m : Nat} {N : List (List Int)} {pr tb z0 Lp l0 pv te s tm : Nat} {OldL : Nat → Prop} {fl0 : List Nat} {h' h2 : om_H} {σe : tS} (J : PrT G A S m N pr tb z0 Lp l0 pv te s tm OldL fl0 h' h2 σe) : gs σe 652 = ((ll h2 (fR h2 90 pr)).length : Int) ∧ kd h2 (fR h2 90 pr) = 42 ∧ kd h2 pr = 2 := by
  obtain ⟨cs, fo, mo, K, F, Ms, hr, σr, M, qs, ps, rs, h, ul, fl, τ, n, cl, il, fl', us2, fs2, Dk2, ds2, dm2, n', lo, l, Sl', ess, s0, s', σ', σa, σ2, fs, is, ⟨D, TR, L, _⟩, ⟨P2, KM2⟩, _, _, _, a1, a2, _, e⟩ := J
  obtain ⟨⟨R, X, Xf, O, Og⟩, _, _, _, ⟨_, _, _, Fr, _⟩, ⟨sl0, n0, hSk, t0, tS', _⟩, ⟨_, _, _, Pr⟩, _⟩ := D
  obtain ⟨⟨kp, lp, _⟩, _, s90, l90, k90, n90, _⟩ := Pr
  have ep := KM_eq TR.2.2.2.1 TR.2.2.2.2.1 KM2 lp (by omega)
  have e90 : fR h2 90 pr = fR h' 90 pr := ep.2.2.1 90
  have eL := KM_ll TR.2.2.2.1 TR.2.2.2.2.1 KM2 l90 k90 (fun z => tS' (by rw [← z]; exact sl0 _ s90)) (fun z => n0 (by have w := s90; rw [z] at w; exact w))
  have Ff : cntS F F.length = F.length := cntS_full (fun f hf => by
    have ex : fl'[f]? = some (fl'[f]'(by rw [Xf.1]; exact hf)) := List.getElem?_eq_getElem _
    obtain ⟨_, _, _, _, ⟨_, ⟨L, _, e⟩, _⟩, _⟩ := Xf.2 f _ ex
    exact ⟨L, e⟩)
  refine ⟨?_, by rw [e90, KM2.1.2.2.1 _ l90]; exact k90, by rw [ep.1]; exact kp⟩
  have g1 : gs σe 652 = gs σ2 652 := by rw [e]; rfl
  rw [g1, a1.1.2.2.2.1.1 652 (by decide), a2.2.2.2.1 652 (by decide), Fr.1 652 (by decide), R.1.2.2.2.2.2.2.2.2.2.2.1, Ff, e90, eL.2.2.2.2.2.2.1, n90]
section LLD
variable {G : om_G} {h : om_H} {σ : tS} {m0 T p B tb : Nat} {ts : List Nat} {Dk OldL : Nat → Prop} {ds : List Nat} {dm l0 pv Lp te s tm : Nat} {S : List Int} {i : Nat}
/-- what is written of the twin behind a right program -/
abbrev LDS : List Nat := [460, 464, 424, 443, 447, 1000]
/-- LOADING -/
theorem load_both (hG : om_okG G) (hI : intO G) (wo : whyO G) (I : LdI G h m0 T p B tb ts Dk OldL ds dm l0 pv Lp te s tm) (hS : S.length ≤ 1300) (hb : ∀ x ∈ S, -128 ≤ x ∧ x ≤ 127) (hT : ∀ (i : Nat) (x : Int), S[i]? = some x → aI h T i = x) (hX : kd h (fR h 14 m0) = 54 ∧ an h (fR h 14 m0) = 2) (hi : fI h 20 m0 = (i : Int) ∧ i ≤ 1) (ep : aR h (fR h 14 m0) (1 - i) = p) (hn : (S.length : Int) ≤ fI h 8 m0) (e416 : gs σ 416 = fI h 8 m0) (hTt : ∀ (i : Nat) (x : Int), S[i]? = some x → ga σ 402 i = x) (NB : NodB σ) (m00 : m0 ≠ 0) : ∃ (h0 h2 h' : om_H) (v : Int) (σe : tS), PS0 G h0 m0 p tb (hz h) B S (fun a => ∃ f ∈ PFs, a = fR h f p) OldL ts Dk ds l0 pv Lp te s tm ∧ ((Cst G h0 (hz h) S 0 0 ∧ fR h0 1122 (hz h) = B) ∧ PL G h0 p (hz h) (fun a => ∃ f ∈ PFs, a = fR h f p) ∧ (∀ f ∈ PFs, ll h0 (fR h0 f p) = [])) ∧ ((hz h0 = hz h + 1 ∧ hu h0 = hu h + 8) ∧ (∀ a, a < hz h → kd h0 a = kd h a) ∧ (fI h0 8 m0 = 0 ∧ (∀ f, f ≠ 8 → fI h0 f m0 = fI h f m0) ∧ ∀ f, fR h0 f m0 = fR h f m0) ∧ (∀ f, fR h0 f p = fR h f p) ∧ ∀ a, a < hz h → a ≠ m0 → a ≠ B → a ≠ tb → a ≠ fR h 134 tb → (∀ f ∈ PFs, a ≠ fR h f p) → eqA a h h0) ∧ oFr (fun a => wLd h0 p tb (hz h) (fun a => ∃ f ∈ PFs, a = fR h f p) ts Dk OldL a ∨ a = l0 ∨ a = pv ∨ a = Lp ∨ a = s ∨ a = tm ∨ kd h0 a = 39) h0 h2 ∧ (fr PTS PTA (us (us (us σ 396 0) 416 0) 451 1) σe ∧ NodB σe) ∧ C_0_load G m0 (S.length : Int) h = some (v, h') ∧ ((∃ (k q : Int) (a : Nat), v = -1 ∧ (gs σe 452 = k ∧ k ≠ 0 ∧ gs σe 456 = q) ∧ cRun G m0 p (hz h) (S.length : Int) h0 = some (.inl a, h2) ∧ h' = sI (sI (sI h2 39 m0 1) 40 m0 k) 44 m0 q ∧ T_load (S.length : Int) σ = (T_again 1 σe).bind fun p3 => some (-1, p3)) ∨ (∃ (m : Nat) (N : List (List Int)) (h1 : om_H) (σ' : tS), cRun G m0 p (hz h) (S.length : Int) h0 = some (.inr (), h2) ∧ PrT G B S m N p tb (hz h0) Lp l0 pv te s tm OldL ts h1 h2 σe ∧ h' = sI (sI (sI (sI (sI (sI h2 39 m0 1) 40 m0 0) 44 m0 (-1)) 20 m0 ((1 - i : Nat) : Int)) 31 m0 1) 35 m0 0 ∧ T_load (S.length : Int) σ = some (v, σ') ∧ fr LDS [410] σe σ' ∧ (∀ (i : Nat) (x : Int), S[i]? = some x → ga σ' 410 i = x) ∧ (gs σ' 460 = 0 ∧ gs σ' 464 = -1 ∧ gs σ' 424 = (S.length : Int) ∧ gs σ' 443 = 1 ∧ gs σ' 447 = 0 ∧ gs σ' 1000 = 0))) := by
  obtain ⟨h0, c1, C0, ⟨Ct, eA⟩, PL0, PC0, ⟨Z0, U0⟩, kk, im, rp, old⟩ := c_load I (by omega) hb hT hX hi ep hn
  obtain ⟨σs, eσ⟩ : ∃ σs, σs = us (us (us σ 396 0) 416 0) 451 1 := ⟨_, rfl⟩
  obtain ⟨v, σe, r, h2, x1, x2, FR, Ft, x3⟩ := prog_both (σ := σs) (f1 := 402) hG hI wo twi_402 (by decide) (by decide) hS hb (fun i x ex => by rw [eσ]; exact hTt i x ex) (fun i => by rw [eσ]; exact NB i) C0 Ct eA PL0 PC0
  have lm := I.1.2.2
  have km := I.1.2.1
  have km2 : kd h2 m0 = 1 := by rw [FR.2.1 m0 (by omega), kk m0 lm]; exact km
  have tl : T_load (S.length : Int) σ = if v ≠ 0 then (om_loop (T_load_61s (S.length : Int)) (0, us (us σe 460 0) 464 (-1))).bind fun y2 => some (gs y2 652, us (us (us (us y2 424 (S.length : Int)) 443 1) 447 0) 1000 0) else (T_again 1 σe).bind fun p3 => some (-1, p3) := by
    unfold T_load
    rw [if_neg (by omega), if_pos (by rw [gs_us, if_neg (by decide), e416]; exact hn), ← eσ, x1, Option.bind_some]
  rcases x3 with ⟨k, q, a, v0, ⟨g1, g2, g3⟩, er, fl⟩ | ⟨v1, er, g0, m, N, h1, J⟩
  · refine ⟨h0, h2, _, -1, σe, C0, ⟨⟨Ct, eA⟩, PL0, PC0⟩, ⟨⟨Z0, U0⟩, kk, im, rp, old⟩, FR, by rw [← eσ]; exact Ft, ?_, .inl ⟨k, q, a, rfl, ⟨g1, g2, g3⟩, by rw [x2, er], rfl, ?_⟩⟩
    · rw [c1, (ldX_run x2).1 a er fl.1, ld_fault km2 fl]
    · rw [tl, if_neg (fun z => z v0)]
  · obtain ⟨p1, p2, p3⟩ := PrT_652 J
    have e20 : fI h2 20 m0 = (i : Int) := by
      have e := FR.2.2.1 m0 (by omega) (fun w => ?_) (by rw [kk m0 lm, km]; decide)
      · rw [e.2.1, im.2.1 20 (by decide)]; exact hi.1
      · have k0 : kd h0 m0 = 1 := by rw [kk m0 lm]; exact km
        rcases w with w | w | w | w | w | w | w
        · rcases w with w | ⟨f, hf, w⟩ | w
          · omega
          · have := (C0.2.2.1.2.2 m0 (C0.2.2.1.2.1 m0 ⟨f, hf, w⟩)).2; omega
          · rcases w with w | w | w | w | w | w | w | w
            · have := C0.2.2.2.2.2.2.2.2.2.2; rw [← w] at this; omega
            · have := (TB_3 (C0.2.1.2.1 [] (fun _ => 0))).1; rw [← w] at this; omega
            · have := (C0.2.1.2.1 [] (fun _ => 0)).1.2.1.2.1.2.1; rw [← w] at this; omega
            · have := (C0.2.1.2.1 [] (fun _ => 0)).2.1.2.2.2.2 m0 (by simpa using w); omega
            · have := (C0.2.2.2.1.1.2.2.2.2.2.1 m0 w).1.2.2; omega
            · omega
            · omega
            · exact m00 w
        · have := C0.2.2.2.2.2.1.1.1; rw [← w] at this; omega
        · have := C0.2.2.2.2.2.1.2.1.1.1; rw [← w] at this; omega
        · have := (C0.2.2.1.2.2 Lp C0.2.2.2.2.1.1).2; rw [← w] at this; omega
        · have := C0.2.2.2.2.2.1.2.2.2.2.1; rw [← w] at this; omega
        · have := C0.2.2.2.2.2.2.2.2.1.2; rw [← w] at this; omega
        · omega
    obtain ⟨y2, b1, b2, b3⟩ := t_cpL (S := S) (by omega) hb S.length 0 (us (us σe 460 0) 464 (-1)) (by omega) (fun j x ex => by
      show ga σe 402 j = x
      rw [Ft.1.2 402 (by decide), eσ]
      exact hTt j x ex) (fun j x hj _ => absurd hj (Nat.not_lt_zero _))
    have b1' : om_loop (T_load_61s (S.length : Int)) (0, us (us σe 460 0) 464 (-1)) = some y2 := b1
    have F1 : fr LDS [410] σe y2 := fr_trans (fr_us (fr_us (fr_refl _ _ _) (by decide)) (by decide)) (fr_mono b2 (fun f hf => absurd hf List.not_mem_nil) (fun f hf => hf))
    have g652 : gs y2 652 = gs σe 652 := F1.1 652 (by decide)
    have g460 : gs y2 460 = 0 := by rw [b2.1 460 List.not_mem_nil, gs_us, if_neg (by decide), gs_us, if_pos rfl]
    have g464 : gs y2 464 = -1 := by rw [b2.1 464 List.not_mem_nil, gs_us, if_pos rfl]
    refine ⟨h0, h2, _, ((ll h2 (fR h2 90 p)).length : Int), σe, C0, ⟨⟨Ct, eA⟩, PL0, PC0⟩, ⟨⟨Z0, U0⟩, kk, im, rp, old⟩, FR, by rw [← eσ]; exact Ft, ?_, .inr ⟨m, N, h1, us (us (us (us y2 424 (S.length : Int)) 443 1) 447 0) 1000 0, by rw [x2, er], J, rfl, ?_, fr_us (fr_us (fr_us (fr_us F1 (by decide)) (by decide)) (by decide)) (by decide), b3, ⟨g460, g464, rfl, rfl, rfl, rfl⟩⟩⟩
    · rw [c1, (ldX_run x2).2 er, ld_right km2 p3 p2 ⟨e20, hi.2⟩]
    · rw [tl, if_pos (by rw [v1]; decide), b1', Option.bind_some, g652, p1]
end LLD
