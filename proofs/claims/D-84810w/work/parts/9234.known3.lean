set_option maxRecDepth 100000
/-! TYPES BECOME KNOWN ALIKE: greats with parts, arrows; all -/
/-- the type that the component makes of a great and two parts -/
def finT (K : KT) (L : List Int) (T0 T1 : Ty) : Ty := match cnI L with
  | some c => tnd 1 c (if pN c = 0 then .leaf else T0) (if pN c ≤ 1 then .leaf else T1)
  | none => match FI Prod.snd L K with
    | none => tnd 1 0 .leaf .leaf
    | some f => match T0 with
      | .leaf => tnd 1 0 .leaf .leaf
      | .inner k w u l r => tnd 2 f (.inner k w u l r) .leaf
/-- what a great stands for: kind and which -/
def gK (K : KT) (L : List Int) : Option (Nat × Nat) := match cnI L with | some c => some (1, c) | none => (FI Prod.snd L K).map (fun f => (2, f))
theorem gK_sh {K : KT} {L : List Int} {kk x p : Nat} (e : gK K L = some (kk, x)) (e2 : gW K L = some p) : (kk = 1 ∧ x ≤ 3 ∧ p = pN x) ∨ (kk = 2 ∧ p = 1) := by
  unfold gK at e
  unfold gW at e2
  cases q : cnI L with
  | some c =>
    rw [q] at e e2
    have h1 := Option.some.inj e
    have h2 := Option.some.inj e2
    have c3 : c ≤ 3 := by
      unfold cnI at q
      repeat' split at q
      all_goals first | (have := Option.some.inj q; omega) | cases q
    injection h1 with h3 h4
    exact .inl ⟨h3.symm, by omega, by rw [← h4]; exact h2.symm⟩
  | none =>
    rw [q] at e e2
    cases q2 : FI Prod.snd L K with
    | none => rw [q2] at e; cases e
    | some f =>
      rw [q2] at e e2
      have h1 := Option.some.inj e
      have h2 := Option.some.inj e2
      injection h1 with h3 h4
      exact .inr ⟨h3.symm, h2.symm⟩
theorem FI_at {α : Type} {g : α → Option (List Int)} {L : List Int} : ∀ {K : List α} {i : Nat} {k : α}, FI g L K = some i → K[i]? = some k → g k = some L
  | [], _, _, h, _ => by cases h
  | x :: K, i, k, h, e => by
    unfold FI at h
    split at h
    · rename_i c
      rw [← Option.some.inj h] at e
      rw [← Option.some.inj e]; exact c
    · cases q : FI g L K with
      | none => rw [q] at h; cases h
      | some j =>
        rw [q] at h
        have e1 : j + 1 = i := Option.some.inj h
        rw [← e1] at e
        exact FI_at q e
theorem gK_fm {K : KT} {L : List Int} {kk x : Nat} (e : gK K L = some (kk, x)) (k2 : kk = 2) : ∃ (o : Option (List Int)) (L : List Int), K[x]? = some (o, some L) := by
  unfold gK at e
  cases q : cnI L with
  | some c =>
    rw [q] at e
    injection Option.some.inj e with h3 h4
    omega
  | none =>
    rw [q] at e
    cases q2 : FI Prod.snd L K with
    | none => rw [q2] at e; cases e
    | some f =>
      rw [q2] at e
      injection Option.some.inj e with h3 h4
      have lt := FI_lt q2
      have ek : K[f]? = some K[f] := List.getElem?_eq_getElem lt
      have := FI_at q2 ek
      rw [← h4]
      exact ⟨K[f].1, L, by rw [ek]; congr 1; exact Prod.ext rfl this⟩
/-- the parts' numbers have the form -/
theorem ts_sh {ts : List Int} (an : ∀ t ∈ ts, t ≠ -1) : (ts.getD 0 (-1) = -1 ↔ ts.length = 0) ∧ (ts.getD 1 (-1) = -1 ↔ ts.length ≤ 1) := by
  rcases ts with _ | ⟨a, _ | ⟨b, l⟩⟩
  · simp
  · have := an a (by simp)
    simp [this]
  · have := an a (by simp)
    have := an b (by simp)
    simp_all
section LK3
variable {G : om_G} {A : Nat} {S : List Int} {b m : Nat} {N : List (List Int)} {cs : List Nat} {K : KT} {pr Ln : Nat} {Ls : List (List Int)} {sc : List Nat} {tb : Nat} {rest : List (Nat × List Nat)}
variable {h h' : om_H} {us fs us' fs' : List Nat} {σ τ : tS} {n n' q lo hi alo ahi : Nat} {X : Int} {rT : Int → tS → Option (Int × tS)} {rC : Nat → Nat → Nat → Nat → om_H → Option (Nat × om_H)} {L : List Int}
theorem fin_C {y0 y1 : Nat} {T0 T1 : Ty} (H : KC G A S N cs K pr Ln Ls tb rest h us fs) (A0 : tyC h N (clF cs) (UU us rest) T0 y0) (A1 : tyC h N (clF cs) (UU us rest) T1 y1) (hn : tl us fs ≤ 149000) : ∃ x h' us' fs', finC G rC tb (oI (cnI L)) (clA cs (FI Prod.snd L K)) y0 y1 h = some (x, h') ∧ SC G A S N cs K pr Ln Ls tb rest h us fs h' us' fs' 1 2147483647 ∧ tyC h' N (clF cs) (UU us' rest) (finT K L T0 T1) x ∧ x ≠ 0 := by
  have t3 := (TB_3 H.1.1).1
  have cn : ∀ (c a a' : Nat) (l r : Ty), tyC h N (clF cs) (UU us rest) l a → tyC h N (clF cs) (UU us rest) r a' → ∃ x h' us' fs', C_2_con G tb (c : Int) a a' h = some (x, h') ∧ SC G A S N cs K pr Ln Ls tb rest h us fs h' us' fs' 1 2147483647 ∧ tyC h' N (clF cs) (UU us' rest) (tnd 1 c l r) x ∧ x ≠ 0 := by
    intro c a a' l r c1 c2
    obtain ⟨x, h', us', fs', e1, e2, e3, e4⟩ := SC_get (k := 1) (w := c) (con := (c : Int)) (nm := 0) (fam := 0) H (.inr (.inl ⟨rfl, rfl, rfl, rfl⟩)) c1 c2 hn
    exact ⟨x, h', us', fs', c_con t3 e1, e2, e3, e4⟩
  have i0 : ∃ x h' us' fs', C_1_typeOf_267 G rC tb h = some (x, h') ∧ SC G A S N cs K pr Ln Ls tb rest h us fs h' us' fs' 1 2147483647 ∧ tyC h' N (clF cs) (UU us' rest) (tnd 1 0 .leaf .leaf) x ∧ x ≠ 0 := by
    obtain ⟨x, h', us', fs', e1, e2⟩ := cn 0 0 0 .leaf .leaf rfl rfl
    refine ⟨x, h', us', fs', ?_, e2⟩
    unfold C_1_typeOf_267
    rw [gd_pos t3, show C_2_con G tb 0 0 0 h = some (x, h') from e1]
    rfl
  unfold finC finT
  cases qc : cnI L with
  | some c =>
    have c3 := cnI_le qc
    rw [if_pos (show (0 : Int) ≤ oI (some c) by show (0 : Int) ≤ (c : Int); omega), show C_0_partsOf G (oI (some c)) h = some ((pN c : Nat) : Int) from c_pN c3, Option.bind_some]
    have e303 : ∀ (s2 : Nat) (l : Ty), tyC h N (clF cs) (UU us rest) l s2 → ∃ x h' us' fs', C_1_typeOf_303 G rC (oI (some c)) y1 tb (oI (some c)) s2 h = some (x, h') ∧ SC G A S N cs K pr Ln Ls tb rest h us fs h' us' fs' 1 2147483647 ∧ tyC h' N (clF cs) (UU us' rest) (tnd 1 c l (if pN c ≤ 1 then .leaf else T1)) x ∧ x ≠ 0 := by
      intro s2 l cl
      have k318 : ∀ (s3 : Nat) (r : Ty), tyC h N (clF cs) (UU us rest) r s3 → ∃ x h' us' fs', C_1_typeOf_318 G rC tb (oI (some c)) s2 s3 h = some (x, h') ∧ SC G A S N cs K pr Ln Ls tb rest h us fs h' us' fs' 1 2147483647 ∧ tyC h' N (clF cs) (UU us' rest) (tnd 1 c l r) x ∧ x ≠ 0 := by
        intro s3 r cr
        obtain ⟨x, h', us', fs', e1, e2⟩ := cn c s2 s3 l r cl cr
        refine ⟨x, h', us', fs', ?_, e2⟩
        unfold C_1_typeOf_318
        rw [gd_pos t3, show C_2_con G tb (oI (some c)) s2 s3 h = some (x, h') from e1]
        rfl
      unfold C_1_typeOf_303
      rw [show C_0_partsOf G (oI (some c)) h = some ((pN c : Nat) : Int) from c_pN c3, Option.bind_some]
      by_cases z : pN c ≤ 1
      · rw [if_pos (by omega), if_pos z]
        exact k318 0 .leaf rfl
      · rw [if_neg (by omega), if_neg z]
        exact k318 y1 T1 A1
    by_cases z : pN c = 0
    · rw [if_pos (by omega)]
      simp only [if_pos z]
      exact e303 0 .leaf rfl
    · rw [if_neg (by omega)]
      simp only [if_neg z]
      exact e303 y0 T0 A0
  | none =>
    rw [if_neg (show ¬ (0 : Int) ≤ oI none by show ¬ (0 : Int) ≤ -1; omega)]
    cases qf : FI Prod.snd L K with
    | none =>
      rw [if_pos (show clA cs none = 0 from rfl)]
      exact i0
    | some f =>
      obtain ⟨d1, d2, d3, d4, d5⟩ := clA_some H.2.2.1.1 qf
      rw [qf] at d1
      rw [if_neg (by rw [d1]; exact d2)]
      rcases T0 with ⟨k, w, u, l, r⟩ | _
      · have y00 : y0 ≠ 0 := A0.1.2.1
        rw [if_pos y00, gd_pos t3]
        obtain ⟨x, h', us', fs', e1, e2, e3, e4⟩ := SC_get (k := 2) (w := f) (con := 0) (nm := 0) (fam := clF cs f) (a := y0) (a' := 0) (r := .leaf) H (.inr (.inr (.inl ⟨rfl, rfl, rfl, d2, d3, rfl, d4, d5⟩))) A0 rfl hn
        refine ⟨x, h', us', fs', ?_, e2, e3, e4⟩
        rw [d1, c_family t3 e1]
        rfl
      · rw [if_neg (fun z => z A0)]
        exact i0
/-- a great in the twin, its parts being gone through -/
theorem con_T0 {w : Nat} {c o u al : Int} {tok : Int} (g : GL σ N K) (hw : N[w]? = some L) : (gK K L = none → gW K L = none ∧ (if ga σ 630 w = 1 then T_known_234 rT tok (ga σ 630 w) (ga σ 634 w) c o u al τ else if ga σ 630 w ≠ 3 then T_known_253 rT tok τ else T_known_234 rT tok (ga σ 630 w) (ga σ 634 w) c o u al τ) = T_known_253 rT tok τ) ∧ (∀ k x, gK K L = some (k, x) → (k = 1 ∨ k = 2) ∧ ∃ p, gW K L = some p ∧ p ≤ 2 ∧ (if ga σ 630 w = 1 then T_known_234 rT tok (ga σ 630 w) (ga σ 634 w) c o u al τ else if ga σ 630 w ≠ 3 then T_known_253 rT tok τ else T_known_234 rT tok (ga σ 630 w) (ga σ 634 w) c o u al τ) = if c = (p : Int) then (if al = 0 then some (-1, τ) else T_aType (k : Int) (x : Int) o u τ) else T_known_253 rT tok τ) := by
  have b2 : ∀ y : Option (Int × tS), (y.bind fun p1 => some (p1.1, p1.2)) = y := by intro y; cases y <;> rfl
  obtain ⟨wl, g⟩ := g w L hw
  unfold gK gW
  rcases g with ⟨g1, g2, g3, g4⟩ | ⟨x, g1, g2, g3, g4, g5, g6⟩ | ⟨x, g1, g2, g3, g4, g5, g6⟩ | ⟨x, g1, g2, g3, g4, g5, g6⟩
  · rw [g2, g4]
    refine ⟨fun _ => ⟨rfl, ?_⟩, fun k x e => by cases e⟩
    rw [g1, if_neg (by decide), if_pos (by decide)]
  · rw [g4]
    refine ⟨fun e => (by cases e), fun k y e => ?_⟩
    obtain ⟨e1, e2⟩ := Prod.mk.inj (Option.some.inj e)
    subst e1; subst e2
    refine ⟨.inl rfl, pN x, rfl, by unfold pN; split <;> omega, ?_⟩
    rw [g1, if_pos rfl, g2]
    unfold T_known_234
    rw [if_pos (by decide), t_pN g3, Option.bind_some]
    unfold T_known_250
    by_cases z : c = ((pN x : Nat) : Int)
    · rw [if_pos z, if_pos z]
      by_cases y : al = 0
      · rw [if_pos y, if_pos y]
      · rw [if_neg y, if_neg y, if_pos (by decide)]
        unfold T_known_277
        exact b2 _
    · rw [if_neg z, if_neg z]
  · rw [g4, g6]
    refine ⟨fun _ => ⟨rfl, ?_⟩, fun k x e => by cases e⟩
    rw [g1, if_neg (by decide), if_pos (by decide)]
  · rw [g4, g6]
    refine ⟨fun e => (by cases e), fun k y e => ?_⟩
    obtain ⟨e1, e2⟩ := Prod.mk.inj (Option.some.inj e)
    subst e1; subst e2
    refine ⟨.inr rfl, 1, rfl, by omega, ?_⟩
    rw [g1, if_neg (by decide), if_neg (by decide), g2]
    unfold T_known_234
    rw [if_neg (by decide)]
    unfold T_known_250
    by_cases z : c = ((1 : Nat) : Int)
    · rw [if_pos (show c = 1 from z), if_pos z]
      by_cases y : al = 0
      · rw [if_pos y, if_pos y]
      · rw [if_neg y, if_neg y, if_neg (by decide)]
        unfold T_known_277
        exact b2 _
    · rw [if_neg (show ¬ c = 1 from z), if_neg z]
/-- the row of four at two parts at most -/
theorem accF_2 {ts : List Int} (hl : ts.length ≤ 2) : accF ts (0, -1, -1, 1) = ((ts.length : Int), ts.getD 0 (-1), ts.getD 1 (-1), (accF ts (0, -1, -1, 1)).2.2.2) ∧ ((accF ts (0, -1, -1, 1)).2.2.2 = 0 ↔ ∃ t ∈ ts, t = -1) := by
  match ts, hl with
  | [], _ => exact ⟨rfl, by simp [accF]⟩
  | [t], _ =>
    refine ⟨by simp [accF], ?_⟩
    simp only [accF]
    by_cases z : t = -1
    · simp [z]
    · simp [z]
  | [t, u], _ =>
    refine ⟨by simp [accF], ?_⟩
    simp only [accF]
    by_cases z : t = -1
    · simp [z]
    · by_cases y : u = -1
      · simp [z, y]
      · simp [z, y]
        exact ⟨fun q => z q.symm, fun q => y q.symm⟩
  | _ :: _ :: _ :: _, hl => exact absurd hl (by simp)
theorem finT_ok {k x p : Nat} {T0 T1 : Ty} (e : gK K L = some (k, x)) (w : gW K L = some p) (h0 : p = 0 → T0 = .leaf) (h0' : p ≠ 0 → T0 ≠ .leaf) (h1 : p ≤ 1 → T1 = .leaf) : finT K L T0 T1 = tnd k x T0 T1 := by
  unfold gK at e
  unfold gW at w
  unfold finT
  cases qc : cnI L with
  | some c =>
    rw [qc] at e w
    obtain ⟨e1, e2⟩ := Prod.mk.inj (Option.some.inj e)
    have w' : pN c = p := Option.some.inj w
    subst e1; subst e2
    simp only
    rw [w']
    by_cases z : p = 0
    · rw [if_pos z, if_pos (by omega), h0 z, h1 (by omega)]
    · rw [if_neg z]
      by_cases y : p ≤ 1
      · rw [if_pos y, h1 y]
      · rw [if_neg y]
  | none =>
    rw [qc] at e w
    cases qf : FI Prod.snd L K with
    | none => rw [qf] at e; cases e
    | some f =>
      rw [qf] at e w
      obtain ⟨e1, e2⟩ := Prod.mk.inj (Option.some.inj e)
      have w' : 1 = p := Option.some.inj w
      subst e1; subst e2
      simp only
      rw [h1 (by omega)]
      rcases T0 with ⟨k, w, u, l, r⟩ | _
      · rfl
      · exact absurd rfl (h0' (by omega))
end LK3
