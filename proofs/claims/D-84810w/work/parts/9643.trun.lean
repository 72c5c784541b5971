set_option maxRecDepth 100000
/-! THE TWIN'S MACHINE RUNS -/
/-- n steps, st were made -/
def prn (M : MPg) (B : MBd) : Nat → MS → Nat → (MS × Nat) ⊕ (MF × Nat)
  | 0, s, st => .inl (s, st)
  | n + 1, s, st => (pstp M B s).elim (fun s' => prn M B n s' (st + 1)) (fun f => .inr (f, st + 1))
/-- what is shown -/
def ShW (σ : tS) (L : List Int) : Prop := gs σ 1012 = ((min 400 L.length : Nat) : Int) ∧ ∀ (i : Nat) (x : Int), L[i]? = some x → i < 400 → ga σ 1018 i = b8 (b8 x)
/-- it runs -/
def mRu (σ0 : tS) (n : Nat) (M : MPg) (rg : Nat → Nat × Nat) (σ : tS) (s : MS) (st : Nat) : Prop := mTw σ0 n M rg σ s ∧ chM σ0 n M rg σ ∧ sTy M s ∧ gs σ 1004 = (st : Int) ∧ gs σ 1012 = 0
/-- it has ended -/
def mEn (σ0 σ : tS) (f : MF) (st : Nat) : Prop := (fr WMS WMA σ0 σ ∧ gs σ 1000 = (f.1 : Int) ∧ gs σ 1008 = (f.2.2.1 : Int) ∧ gs σ 996 = (f.2.2.2 : Int) ∧ gs σ 1004 = (st : Int)) ∧ (f.1 = 2 ∨ f.1 = 3 ∨ f.1 = 4) ∧ (f.1 = 2 → ShW σ (shB f.2.1 true)) ∧ (f.1 ≠ 2 → ShW σ [])
/-- what a step may write in all -/
abbrev RWS : List Nat := 1004 :: 1012 :: SWS
abbrev RWA : List Nat := 1018 :: SWA
section LRU
variable {M : MPg} {B : MBd} {rg : Nat → Nat × Nat} {σ0 σ τ : tS} {n : Nat}
theorem put1S_at {x : Int} {c : Nat} (S : ShT σ c) (h : c < 400) : (∀ i, i ≠ c → ga (put1S x σ) 1018 i = ga σ 1018 i) ∧ ga (put1S x σ) 1018 c = b8 (b8 x) := by
  have e : put1S x σ = us (ua σ 1018 c (b8 (b8 x))) 1012 ((c : Int) + 1) := by
    unfold put1S
    rw [S.1, if_neg (by omega), show ((c : Int)).toNat = c by omega]
  rw [e]
  exact ⟨fun i hi => by rw [ga_us, ga_ua, if_neg (fun z => hi z.2)], by rw [ga_us, ga_ua, if_pos ⟨rfl, rfl⟩]⟩
theorem putSL_at : ∀ {L : List Int} {σ : tS} {c : Nat}, ShT σ c → (∀ i, i < c → ga (putSL L σ) 1018 i = ga σ 1018 i) ∧ ∀ (i : Nat) (x : Int), L[i]? = some x → c + i < 400 → ga (putSL L σ) 1018 (c + i) = b8 (b8 x)
  | [], σ, c, S => ⟨fun _ _ => rfl, fun i x e => by cases e⟩
  | y :: L, σ, c, S => by
    by_cases q : c < 400
    · obtain ⟨a1, a2⟩ := put1S_at (x := y) S q
      have S1 := put1S_t (x := y) S
      rw [show min 400 (c + 1) = c + 1 by omega] at S1
      obtain ⟨b1, b2⟩ := putSL_at (L := L) S1
      refine ⟨fun i hi => (b1 i (by omega)).trans (a1 i (by omega)), fun i x e hi => ?_⟩
      cases i with
      | zero =>
        have e' : y = x := Option.some.inj e
        rw [← e']
        exact (b1 c (by omega)).trans a2
      | succ i =>
        have := b2 i x e (by omega)
        rw [show c + 1 + i = c + (i + 1) by omega] at this
        exact this
    · have e : gs σ 1012 = 400 := by have := S.1; have := S.2; omega
      rw [putSL_full e]
      exact ⟨fun _ _ => rfl, fun i x _ hi => by omega⟩
theorem sh_shw {L : List Int} (h : gs σ 1012 = 0) : ShW (putSL L σ) L := by
  have S : ShT σ 0 := ⟨h, by decide⟩
  refine ⟨?_, fun i x e hi => ?_⟩
  · rw [(putSL_t (L := L) S).1, Nat.zero_add]
  · have := (putSL_at (L := L) S).2 i x e (by omega)
    rw [Nat.zero_add] at this
    exact this
theorem mTw_4 {s : MS} {x : Int} (H : mTw σ0 n M rg σ s) : mTw σ0 n M rg (us σ 1004 x) s := by
  obtain ⟨h1, h2, h3, h4, h5⟩ := H
  have F : fr [1004] [] σ (us σ 1004 x) := fr_us (fr_refl _ _ _) (by decide)
  have G : mGr σ (us σ 1004 x) := mGr_fr F (by decide) (by decide)
  exact ⟨md_grow h1 F (by decide) (by decide) (by decide) (by decide) G (mCt_fr F (by decide) h1.2.1), h2, vTw_gr G h3, h4, rTw_gr G h5⟩
set_option maxHeartbeats 1000000 in
/-- ONE STEP OF A RUN -/
theorem t_run1 (S : MtS σ0 n M rg B) (Bo : bTy M B) {s : MS} {st : Nat} (H : mRu σ0 n M rg σ s st) (hst : st < 2000000000) : ∃ σ', T_step (gs σ 1020) (us σ 1004 (w32 (gs σ 1004 + 1))) = some σ' ∧ fr RWS RWA σ σ' ∧ (∀ s', pstp M B s = .inl s' → mRu σ0 n M rg σ' s' (st + 1)) ∧ ∀ f, pstp M B s = .inr f → mEn σ0 σ' f (st + 1) := by
  obtain ⟨h1, h2, h3, h4, h5⟩ := H
  have ew : w32 (gs σ 1004 + 1) = ((st + 1 : Nat) : Int) := by rw [h4, w32_s (by omega) (by omega)]; omega
  rw [ew]
  have F : fr [1004] [] σ (us σ 1004 ((st + 1 : Nat) : Int)) := fr_us (fr_refl _ _ _) (by decide)
  have F' : fr RWS RWA σ (us σ 1004 ((st + 1 : Nat) : Int)) := fr_sub F (by decide) (by decide)
  have c2 : chM σ0 n M rg (us σ 1004 ((st + 1 : Nat) : Int)) := chM_fr F (by decide) (by decide) (tx_M (fr_sub F (by decide) (by decide))) h2
  have R := t_stepM S (mTw_4 (x := ((st + 1 : Nat) : Int)) h1) h3 c2
  have ok := pstp_ok S.1.2.1 Bo h3
  have e20 : gs (us σ 1004 ((st + 1 : Nat) : Int)) 1020 = gs σ 1020 := rfl
  rw [e20] at R
  have e04 : gs (us σ 1004 ((st + 1 : Nat) : Int)) 1004 = ((st + 1 : Nat) : Int) := rfl
  have e12 : gs (us σ 1004 ((st + 1 : Nat) : Int)) 1012 = 0 := h5
  generalize us σ 1004 ((st + 1 : Nat) : Int) = Z at R F' e04 e12 ⊢
  cases hp : pstp M B s with
  | inl s' =>
    rw [hp] at R ok
    obtain ⟨σ', r1, r2, r3, r4⟩ := R
    refine ⟨σ', r1, fr_trans F' (fr_sub r4 (by decide) (by decide)), fun s2 e => ?_, fun f e => by cases e⟩
    cases e
    exact ⟨r2, r3, ok, by rw [r4.1 1004 (by decide)]; exact e04, by rw [r4.1 1012 (by decide)]; exact e12⟩
  | inr f =>
    rw [hp] at R ok
    rcases R with ⟨f2, x, σ1, r1, ⟨d1, d2, d3, d4, d5, d6⟩, r3⟩ | ⟨f2, σ', r1, ⟨d1, d2, d3, d4⟩, r3⟩
    · obtain ⟨ty, hv⟩ : ∃ ty, vT M f.2.1 (.inl ty) := by
        rcases ok with o | o | o
        · exact o.2
        · omega
        · omega
      have F1 : fr [1000] [] σ1 (us σ1 1000 2) := fr_us (fr_refl _ _ _) (by decide)
      have z12 : gs (us σ1 1000 2) 1012 = 0 := by
        show gs σ1 1012 = 0
        rw [r3.1 1012 (by decide)]; exact e12
      have sw := t_showM hv (vTw_gr (mGr_fr F1 (by decide) (by decide)) d6) (show gs σ1 952 ≤ 4000 by have := d2.1; have := d2.2.1; have := d2.2.2.2; omega) z12
      rw [sw] at r1
      have P : fr [1012] [1018] (us σ1 1000 2) (putSL (shB f.2.1 true) (us σ1 1000 2)) := putSL_fr
      refine ⟨_, r1, fr_trans F' (fr_trans (fr_sub r3 (by decide) (by decide)) (fr_trans (fr_sub F1 (by decide) (by decide)) (fr_sub P (by decide) (by decide)))), fun s2 e => (by cases e), fun f' e => ?_⟩
      cases e
      refine ⟨⟨fr_trans d1 (fr_trans (fr_sub F1 (by decide) (by decide)) (fr_sub P (by decide) (by decide))), ?_, ?_, ?_, ?_⟩, .inl f2, fun _ => sh_shw z12, fun z => (z f2).elim⟩
      · rw [P.1 1000 (by decide), f2]; rfl
      · rw [P.1 1008 (by decide)]; exact d2.2.2.1
      · rw [P.1 996 (by decide)]; exact d3
      · rw [P.1 1004 (by decide)]
        show gs σ1 1004 = _
        rw [r3.1 1004 (by decide)]; exact e04
    · refine ⟨σ', r1, fr_trans F' (fr_sub r3 (by decide) (by decide)), fun s2 e => (by cases e), fun f' e => ?_⟩
      cases e
      refine ⟨⟨d1, d2, d3, d4, by rw [r3.1 1004 (by decide)]; exact e04⟩, ?_, fun z => (f2 z).elim, fun _ => ⟨by rw [r3.1 1012 (by decide)]; exact e12, fun i x e => by cases e⟩⟩
      rcases ok with o | o | o
      · exact (f2 o.1).elim
      · exact .inr (.inl o)
      · exact .inr (.inr o)
theorem prn_s {m : Nat} {s : MS} {st : Nat} : prn M B (m + 1) s st = (pstp M B s).elim (fun s' => prn M B m s' (st + 1)) (fun f => .inr (f, st + 1)) := rfl
/-- THE LOOP -/
theorem t_run27 (S : MtS σ0 n M rg B) (Bo : bTy M B) {q : Nat} (hq : q ≤ 20000) : ∀ (m i : Nat) (σ : tS) (s : MS) (st : Nat), i + m = q → mRu σ0 n M rg σ s st → st + m < 2000000000 → ∃ σ', om_loop (T_run_27s (q : Int)) ((i : Int), σ) = some σ' ∧ fr RWS RWA σ σ' ∧ (∀ s' st', prn M B m s st = .inl (s', st') → mRu σ0 n M rg σ' s' st') ∧ ∀ f st', prn M B m s st = .inr (f, st') → mEn σ0 σ' f st'
  | 0, i, σ, s, st, e, H, _ => by
    refine ⟨σ, om_loop_out ?_, fr_refl _ _ _, fun s' st' z => ?_, fun f st' z => by cases z⟩
    · unfold T_run_27s
      simp only
      rw [if_pos (by omega)]
    · cases z
      exact H
  | m + 1, i, σ, s, st, e, H, hs => by
    obtain ⟨σ1, r1, r2, r3, r4⟩ := t_run1 S Bo H (by omega)
    have one : gs σ 1000 = 1 := H.1.1.2.2.2.2.1
    have stp : T_run_27s (q : Int) ((i : Int), σ) = some (.inl (((i + 1 : Nat) : Int), σ1)) := by
      unfold T_run_27s
      simp only
      rw [if_neg (by omega), if_neg (fun z => z one), r1, Option.bind_some, w32_s (by omega) (by omega)]
      rfl
    rw [om_loop_in stp, prn_s]
    cases hp : pstp M B s with
    | inl s1 =>
      obtain ⟨σ', q1, q2, q3, q4⟩ := t_run27 S Bo hq m (i + 1) σ1 s1 (st + 1) (by omega) (r3 s1 hp) (by omega)
      exact ⟨σ', q1, fr_trans r2 q2, q3, q4⟩
    | inr f =>
      have E := r4 f hp
      refine ⟨σ1, om_loop_out ?_, r2, fun s' st' z => (by cases z), fun f' st' z => ?_⟩
      · unfold T_run_27s
        simp only
        by_cases w : (q : Int) ≤ ((i + 1 : Nat) : Int)
        · rw [if_pos w]
        · rw [if_neg w, if_pos (by have := E.1.2.1; have := E.2.1; omega)]
      · have z' : f = f' ∧ st + 1 = st' := by
          have : (Sum.inr (f, st + 1) : (MS × Nat) ⊕ (MF × Nat)) = .inr (f', st') := z
          injection this with h
          injection h with h1 h2
          exact ⟨h1, h2⟩
        rw [← z'.1, ← z'.2]
        exact E
theorem mEn_0 {f : MF} {st : Nat} (E : mEn σ0 σ f st) : mEn σ0 (us σ 992 0) f st := by
  obtain ⟨⟨e1, e2, e3, e4, e5⟩, e6, e7, e8⟩ := E
  exact ⟨⟨fr_us e1 (by decide), e2, e3, e4, e5⟩, e6, e7, e8⟩
end LRU
