set_option maxRecDepth 100000
/-! TYPES BECOME KNOWN ALIKE: names, greats, arrows -/
section LK2
variable {G : om_G} {A : Nat} {S : List Int} {b m : Nat} {N : List (List Int)} {cs : List Nat} {K : KT} {pr Ln : Nat} {Ls : List (List Int)} {sc : List Nat} {tb : Nat} {rest : List (Nat × List Nat)}
variable {h h' : om_H} {us fs us' fs' : List Nat} {σ τ : tS} {n n' q lo hi alo ahi : Nat} {X : Int} {rT : Int → tS → Option (Int × tS)} {rC : Nat → Nat → Nat → Nat → om_H → Option (Nat × om_H)}
theorem KC_nD (H : KC G A S N cs K pr Ln Ls tb rest h us fs) {y : Nat} (c : kd h y ≠ 2 ∧ kd h y ≠ 3 ∧ kd h y ≠ 34 ∧ kd h y ≠ 56 ∧ kd h y ≠ 42) : ¬ (DT h tb fs y ∨ y = pr) := by
  obtain ⟨⟨a1, a3⟩, ⟨b2, b3⟩, ⟨c1, c3, c4⟩, ⟨e1, e3⟩⟩ := H
  intro z
  rcases z with z | z
  · exact nDT a1 ⟨c.2.1, c.2.2.1, c.2.2.2.1⟩ (fun q => by have p := a1.2.1.1.2.1; rw [← q] at p; exact c.2.2.2.2 p) z
  · rw [z] at c; exact c.1 c1.1.1
theorem SC_eq (H : KC G A S N cs K pr Ln Ls tb rest h us fs) (C : SC G A S N cs K pr Ln Ls tb rest h us fs h' us' fs' q X) {y : Nat} (lt : y < hz h) (c : kd h y ≠ 2 ∧ kd h y ≠ 3 ∧ kd h y ≠ 34 ∧ kd h y ≠ 56 ∧ kd h y ≠ 42) : eqA y h h' := C.2.1.1.2.2.2 y lt (KC_nD H c)
theorem SC_trees (C : SC G A S N cs K pr Ln Ls tb rest h us fs h' us' fs' q X) {T : Ty} {y : Nat} (c : tyC h N (clF cs) (UU us rest) T y) : tyC h' N (clF cs) (UU us' rest) T y := C.2.1.2.2.2.2.2.1 T y c
theorem SC_len (C : SC G A S N cs K pr Ln Ls tb rest h us fs h' us' fs' q X) : tl us' fs' ≤ tl us fs + q := C.2.1.2.2.2.1
theorem c_79 {a w : Nat} {L : List Int} (H : KC G A S N cs K pr Ln Ls tb rest h us fs) (k20 : kd h a = 20) (w0 : fR h 1266 a ≠ 0) (lt : fR h 1266 a < hz h) (lt2 : fR h 1186 (fR h 1266 a) < hz h) (W : wb h (fR h 1266 a) L) (hw : N[w]? = some L) (hn : tl us fs ≤ 149000) : ∃ x h' us' fs', C_1_typeOf_79 G rC a tb h = some (x, h') ∧ SC G A S N cs K pr Ln Ls tb rest h us fs h' us' fs' 1 2147483647 ∧ tyC h' N (clF cs) (UU us' rest) (tnd 0 w .leaf .leaf) x ∧ x ≠ 0 := by
  have t3 := (TB_3 H.1.1).1
  obtain ⟨x, h', us', fs', e1, e2, e3, e4⟩ := SC_get (k := 0) (w := w) (con := 0) (nm := fR h 1266 a) (fam := 0) (a := 0) (a' := 0) (l := .leaf) (r := .leaf) H (.inl ⟨rfl, rfl, rfl, w0, ⟨lt, lt2⟩, L, hw, W⟩) rfl rfl hn
  refine ⟨x, h', us', fs', ?_, e2, e3, e4⟩
  unfold C_1_typeOf_79
  rw [gd_pos ⟨k20, t3⟩, c_nameT t3 e1]
  rfl
/-- a name, in the component -/
theorem name_C {a j w : Nat} (H : KC G A S N cs K pr Ln Ls tb rest h us fs) (k20 : kd h a = 20) (la : a < hz h) (w0 : fR h 1266 a ≠ 0) (lt : fR h 1266 a < hz h) (W : wd h A S (fR h 1266 a) j) (g0 : fI h 1271 a = 0) (hw : N[w]? = some (tokw S j)) (hn : tl us fs ≤ 149000) : ∃ x h' us' fs', C_1_typeOfB G rC pr a Ln tb h = some (x, h') ∧ SC G A S N cs K pr Ln Ls tb rest h us fs h' us' fs' 1 (if tokw S j ∈ Ls then 2147483647 else (tokq S j : Int)) ∧ tyC h' N (clF cs) (UU us' rest) (tnd 0 w .leaf .leaf) x ∧ x ≠ 0 := by
  have wb1 := wd_wb H.2.1.1 W
  have lA : fR h 1186 (fR h 1266 a) < hz h := by rw [W.2.1]; exact H.2.1.2
  have am := c_isAmong (G := G) H.2.2.2.1 wb1
  unfold C_1_typeOfB
  rw [gd_pos k20, if_pos w0, gd_pos k20, if_neg (fun z => z g0), gd_pos k20, am, Option.bind_some]
  by_cases c : tokw S j ∈ Ls
  · rw [if_pos c, if_pos (by decide), if_pos c]
    exact c_79 H k20 w0 lt lA wb1 hw hn
  · rw [if_neg c, if_neg (by decide), if_neg c, gd_pos ⟨k20, W.1, H.2.2.1.1.1.1⟩, W.2.2.1]
    obtain ⟨h1, f1, f2⟩ := SC_rule H (tokq S j : Int)
    rw [f1, Option.bind_some]
    have ea := SC_eq H f2 la (by rw [k20]; decide)
    have ew := SC_eq H f2 lt (by rw [W.1]; decide)
    have X := f2.2.1.1
    have W1 : wd h1 A S (fR h1 1266 a) j := by
      rw [ea.2.2.1]
      exact ⟨by rw [ew.1]; exact W.1, by rw [ew.2.2.1]; exact W.2.1, by rw [ew.2.1]; exact W.2.2.1, by rw [ew.2.1]; exact W.2.2.2⟩
    have wb2 := wd_wb f2.1.2.1.1 W1
    obtain ⟨x, h', us', fs', e1, e2, e3, e4⟩ := c_79 (rC := rC) f2.1 (by rw [ea.1]; exact k20) (by rw [ea.2.2.1]; exact w0) (by rw [ea.2.2.1]; have := X.1; omega) (by rw [W1.2.1]; exact f2.1.2.1.2) wb2 hw hn
    have e5 := SC_trans f2 e2
    rw [show min (tokq S j : Int) 2147483647 = (tokq S j : Int) by have := tok_le S j; have := H.2.1.1.2.2.1; omega] at e5
    exact ⟨x, h', us', fs', e1, e5, e3, e4⟩
theorem t_47 {j w : Nat} (H : KU S b m N K sc σ n) (e : T_nameAt ((b + j : Nat) : Int) σ = some (w : Int)) (hn : n < 126000) : ∃ t τ n', T_known_47 rT ((b + j : Nat) : Int) σ = some (t, τ) ∧ ST S b m N K sc σ n τ n' 1 2147483647 ∧ tyT τ n' (tnd 0 w .leaf .leaf) t := by
  obtain ⟨t, τ, n', e1, e2, e3⟩ := ST_get (k := 0) (w := w) (o := -1) (v := -1) (l := .leaf) (r := .leaf) H (by decide) rfl rfl hn (.inl ⟨rfl, rfl, rfl⟩) (fun z => by omega)
  refine ⟨t, τ, n', ?_, e2, e3⟩
  unfold T_known_47
  rw [e, Option.bind_some, show T_aType 0 (w : Int) (-1) (-1) σ = some (t, τ) from e1]
  rfl
/-- a name, in the twin -/
theorem name_T {v j : Nat} (H : KU S b m N K sc σ n) (hS : S.length ≤ 2000) (hv : v < 8400) (k0 : ga σ 538 v = 0) (tk : ga σ 542 v = ((b + j : Nat) : Int)) (k2 : tokk S j = 2) (hn : n < 126000) : ∃ w : Nat, N[w]? = some (tokw S j) ∧ j < m ∧ ∃ t τ n', T_knownB rT (v : Int) σ = some (t, τ) ∧ ST S b m N K sc σ n τ n' 1 (if w ∈ sc then 2147483647 else (tokq S j : Int)) ∧ tyT τ n' (tnd 0 w .leaf .leaf) t := by
  obtain ⟨w, w1, w2, w3⟩ := t_nameAt H.2.1 (.inl k2)
  refine ⟨w, w2, w3, ?_⟩
  have t1 := (H.2.1.1 j (by omega)).1
  have bm := H.2.1.2.1
  have sc1 := t_inScope H.2.2.2.1 w
  unfold T_knownB
  rw [if_pos (by omega), show ((v : Int)).toNat = v by omega, k0, if_neg (fun z => z rfl), tk, if_pos (by omega), show (((b + j : Nat) : Int)).toNat = b + j by omega, t1, if_pos k2, w1, Option.bind_some, sc1, Option.bind_some]
  by_cases c : w ∈ sc
  · rw [if_pos c, if_pos (by omega), if_pos c]
    exact t_47 H w1 hn
  · rw [if_neg c, if_neg (fun z => z rfl), if_neg c]
    obtain ⟨τ, e1, e2⟩ := ST_breaks H (j := j) (by omega) hS
    rw [e1, Option.bind_some]
    have w1' : T_nameAt ((b + j : Nat) : Int) τ = some (w : Int) := by
      unfold T_nameAt at w1 ⊢
      rw [ga_ST e2 (by decide)]
      exact w1
    obtain ⟨t, υ, n', f1, f2, f3⟩ := t_47 (rT := rT) e2.1 w1' hn
    have e5 := ST_trans e2 f2
    rw [show min (tokq S j : Int) 2147483647 = (tokq S j : Int) by have := tok_le S j; omega] at e5
    exact ⟨t, υ, n', f1, e5, f3⟩
/-- how many parts a constructor has -/
def pN (c : Nat) : Nat := if 2 ≤ c then c - 1 else 0
theorem c_pN {c : Nat} (hc : c ≤ 3) : C_0_partsOf G (c : Int) h = some ((pN c : Nat) : Int) := by
  unfold C_0_partsOf pN
  by_cases z : 2 ≤ c
  · rw [if_pos (by omega), if_pos z, w32_s (by omega) (by omega)]
    congr 1; omega
  · rw [if_neg (by omega), if_neg z]; rfl
theorem t_pN {c : Nat} (hc : c ≤ 3) : T_partsOf (c : Int) = some ((pN c : Nat) : Int) := by
  unfold T_partsOf pN
  by_cases z : 2 ≤ c
  · rw [if_pos (by omega), if_pos z, w32_s (by omega) (by omega)]
    congr 1; omega
  · rw [if_neg (by omega), if_neg z]; rfl
theorem cnI_le {L : List Int} {c : Nat} (e : cnI L = some c) : c ≤ 3 := by
  unfold cnI at e
  split at e
  · have := Option.some.inj e; omega
  · split at e
    · have := Option.some.inj e; omega
    · split at e
      · have := Option.some.inj e; omega
      · split at e
        · have := Option.some.inj e; omega
        · cases e
/-- how many parts a great wants; none: it stands for no type -/
def gW (K : KT) (L : List Int) : Option Nat := match cnI L with | some c => some (pN c) | none => (FI Prod.snd L K).elim none (fun _ => some 1)
theorem clA_some {L : List Int} {f : Nat} (C : CLS h pr cs K) (e : FI Prod.snd L K = some f) : clA cs (FI Prod.snd L K) = clF cs f ∧ clF cs f ≠ 0 ∧ clF cs f < hz h ∧ kd h (clF cs f) = 18 ∧ fI h 1200 (clF cs f) = (f : Int) := by
  obtain ⟨c1, c2, c3, c4, c5⟩ := C
  have fl := FI_lt e
  have ec : cs[f]? = some cs[f] := List.getElem?_eq_getElem (by omega)
  have ek : K[f]? = some K[f] := List.getElem?_eq_getElem fl
  obtain ⟨d1, _⟩ := c5 f _ _ ec ek
  have e2 : clF cs f = cs[f] := by
    unfold clF
    rw [List.getD_eq_getElem?_getD, ec]; rfl
  rw [e]
  refine ⟨rfl, ?_⟩
  rw [e2]
  exact d1
/-- a great: first what it stands for -/
theorem con_C0 {a j : Nat} {xs : List Nat} (H : KC G A S N cs K pr Ln Ls tb rest h us fs) (k20 : kd h a = 20) (w0 : fR h 1266 a ≠ 0) (W : wd h A S (fR h 1266 a) j) (g1 : fI h 1271 a = 1) (kL : kd h (fR h 1274 a) = 42) (eL : ll h (fR h 1274 a) = xs) (hx : xs.length ≤ 9000) : C_1_typeOfB G rC pr a Ln tb h = if gW K (tokw S j) = some xs.length then C_1_typeOf_156 G rC pr a Ln tb (oI (cnI (tokw S j))) (clA cs (FI Prod.snd (tokw S j) K)) (xs.length : Int) h else (C_1_rule G pr (tokq S j : Int) h).bind fun p1 => C_1_typeOf_156 G rC pr a Ln tb (oI (cnI (tokw S j))) (clA cs (FI Prod.snd (tokw S j) K)) (xs.length : Int) p1 := by
  have wb1 := wd_wb H.2.1.1 W
  have k2 := H.2.2.1.1.1.1
  have e1 := c_conOf (G := G) wb1
  have e2 := c_familyOf (G := G) H.2.2.1.1 wb1
  have e3 : P_J2_size G (fR h 1274 a) h = some ((xs.length : Nat) : Int) := by unfold P_J2_size; rw [gd_pos kL, eL]
  have e145 : C_1_typeOf_145 G rC pr a Ln tb (oI (cnI (tokw S j))) (clA cs (FI Prod.snd (tokw S j) K)) (xs.length : Int) h = (C_1_rule G pr (tokq S j : Int) h).bind fun p1 => C_1_typeOf_156 G rC pr a Ln tb (oI (cnI (tokw S j))) (clA cs (FI Prod.snd (tokw S j) K)) (xs.length : Int) p1 := by
    unfold C_1_typeOf_145
    rw [gd_pos ⟨k20, W.1, k2⟩, W.2.2.1]
  have e142 : ∀ s : Nat, C_1_typeOf_142 G rC pr a Ln tb (oI (cnI (tokw S j))) (clA cs (FI Prod.snd (tokw S j) K)) (xs.length : Int) (xs.length : Int) (s : Int) h = if (some s : Option Nat) = some xs.length then C_1_typeOf_156 G rC pr a Ln tb (oI (cnI (tokw S j))) (clA cs (FI Prod.snd (tokw S j) K)) (xs.length : Int) h else (C_1_rule G pr (tokq S j : Int) h).bind fun p1 => C_1_typeOf_156 G rC pr a Ln tb (oI (cnI (tokw S j))) (clA cs (FI Prod.snd (tokw S j) K)) (xs.length : Int) p1 := by
    intro s
    unfold C_1_typeOf_142
    by_cases z : s = xs.length
    · rw [if_pos (by omega), if_pos (by rw [z])]
    · rw [if_neg (by omega), if_neg (fun q => z (Option.some.inj q)), e145]
  unfold C_1_typeOfB
  rw [gd_pos k20, if_pos w0, gd_pos k20, if_pos (by rw [g1]; decide), gd_pos k20, e1, Option.bind_some, gd_pos ⟨k20, k2⟩, e2, Option.bind_some, gd_pos ⟨k20, kL⟩, e3, Option.bind_some]
  cases qc : cnI (tokw S j) with
  | some c =>
    have c3 := cnI_le qc
    rw [qc] at e142
    rw [if_pos (show (0 : Int) ≤ oI (some c) by show (0 : Int) ≤ (c : Int); omega)]
    unfold C_1_typeOf_126
    rw [if_pos (show (0 : Int) ≤ oI (some c) by show (0 : Int) ≤ (c : Int); omega), show C_0_partsOf G (oI (some c)) h = some ((pN c : Nat) : Int) from c_pN c3, Option.bind_some, e142 (pN c)]
    unfold gW
    rw [qc]
  | none =>
    rw [qc] at e142 e145
    rw [if_neg (show ¬ (0 : Int) ≤ oI none by show ¬ (0 : Int) ≤ -1; omega)]
    cases qf : FI Prod.snd (tokw S j) K with
    | none =>
      rw [qf] at e145
      rw [if_pos (show clA cs none = 0 from rfl), e145]
      unfold gW
      rw [qc, qf, if_neg (by simp)]
    | some f =>
      obtain ⟨d1, d2, d3, d4, d5⟩ := clA_some H.2.2.1.1 qf
      rw [qf] at e142 d1
      rw [if_neg (by rw [d1]; exact d2)]
      unfold C_1_typeOf_126
      rw [if_neg (show ¬ (0 : Int) ≤ oI none by show ¬ (0 : Int) ≤ -1; omega), show (1 : Int) = ((1 : Nat) : Int) from rfl, e142 1]
      unfold gW
      rw [qc, qf]
      rfl
end LK2
