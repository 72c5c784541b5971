set_option maxRecDepth 100000
/-! EXS BECOME KNOWN ALIKE -/
/-- what comes of an ex -/
def EKp (G : om_G) (A : Nat) (S : List Int) (b m : Nat) (N : List (List Int)) (cs : List Nat) (K : KT) (pr Ln : Nat) (Ls : List (List Int)) (sc : List Nat) (tb : Nat) (rest : List (Nat × List Nat)) (fo : List Nat) (F : FT) (mo : List (List Nat)) (Ms : List FT) (rs so Lb z0 kT k lo hi alo ahi a v : Nat) (h : om_H) (us fs : List Nat) (σ : tS) (n : Nat) (bLs : List (List Int)) (bd : List Nat) (sp : Nat) (V : Option om_H) : Prop :=
  ∃ (τ : tS) (n' : Nat) (h' : om_H) (us' fs' : List Nat) (XC XT : Int), DN (T_exKnownD kT) v σ τ sp ∧ V = some h' ∧ SE G A S N cs K pr Ln Ls tb rest fo F mo Ms rs so Lb bLs alo ahi h us fs h' us' fs' (hi - lo) XC ∧ SU S b m N K sc F Ms bd sp lo hi σ n τ n' (hi - lo) XT ∧ brkE S b m σ lo hi XC ∧ brkE S b m σ lo hi XT ∧ (scA N sc Ls → XC = XT ∧ (XC = 2147483647 → XS G A S b h' τ (Psi1 S b N cs rest fo F mo Ms z0 h' us' τ n') k bLs.length lo hi alo ahi a v))
/-- exs become known, for all states -/
def EA (G : om_G) (A : Nat) (S : List Int) (b m : Nat) (N : List (List Int)) (cs : List Nat) (K : KT) (pr Ln : Nat) (Ls : List (List Int)) (sc : List Nat) (tb : Nat) (rest : List (Nat × List Nat)) (fo : List Nat) (F : FT) (mo : List (List Nat)) (Ms : List FT) (rs so Lb z0 k : Nat) : Prop :=
  ∀ (kT kC : Nat), k ≤ kT + 1 → k < kC → ∀ (lo hi alo ahi a v : Nat) (h : om_H) (us fs : List Nat) (σ : tS) (n : Nat) (bLs : List (List Int)) (bd : List Nat) (sp : Nat), EC G A S N cs K pr Ln Ls tb rest fo F mo Ms rs so Lb h us fs bLs → EU S b m N K sc F Ms σ n bd sp → bdL N bd bLs → X0 G A S b h σ k lo hi alo ahi a v → ER S lo hi alo ahi pr tb Lb h us fs n sp → (z0 ≤ hz h ∧ fR h 122 tb < z0 ∧ Lb < z0) → bLs.length + 2 * k ≤ 600 → EKp G A S b m N cs K pr Ln Ls sc tb rest fo F mo Ms rs so Lb z0 kT k lo hi alo ahi a v h us fs σ n bLs bd sp (C_35_exD G kC rs a h)
section LEA
variable {G : om_G} {A : Nat} {S : List Int} {b m : Nat} {N : List (List Int)} {cs : List Nat} {K : KT} {pr Ln : Nat} {Ls : List (List Int)} {sc : List Nat} {tb : Nat} {rest : List (Nat × List Nat)} {fo : List Nat} {F : FT} {mo : List (List Nat)} {Ms : List FT} {rs so Lb : Nat} {bLs : List (List Int)} {bd : List Nat} {z0 : Nat}
variable {h h' : om_H} {us fs us' fs' : List Nat} {σ τ : tS} {n n' q lo hi alo ahi sp a v k kT kC : Nat} {X XC XT : Int} {L : List Int} {rC : Nat → Nat → om_H → Option om_H}
/-- a part of an ex -/
theorem EA_child (IH : EA G A S b m N cs K pr Ln Ls sc tb rest fo F mo Ms rs so Lb z0 k) (h1 : k ≤ kT) (h2 : k < kC) (H : EC G A S N cs K pr Ln Ls tb rest fo F mo Ms rs so Lb h us fs bLs) (HU : EU S b m N K sc F Ms σ n bd sp) (B : bdL N bd bLs) (W : X0 G A S b h σ k lo hi alo ahi a v) (R : ER S lo hi alo ahi pr tb Lb h us fs n sp) (Z : z0 ≤ hz h ∧ fR h 122 tb < z0 ∧ Lb < z0) (hl : bLs.length + 2 * k ≤ 600) : ∃ (τ : tS) (n' : Nat) (h' : om_H) (us' fs' : List Nat) (XC XT : Int), T_exKnownD kT (v : Int) σ = some τ ∧ C_35_exD G kC rs a h = some h' ∧ SE G A S N cs K pr Ln Ls tb rest fo F mo Ms rs so Lb bLs alo ahi h us fs h' us' fs' (hi - lo) XC ∧ SU S b m N K sc F Ms bd sp lo hi σ n τ n' (hi - lo) XT ∧ brkE S b m σ lo hi XC ∧ brkE S b m σ lo hi XT ∧ (scA N sc Ls → XC = XT ∧ (XC = 2147483647 → XS G A S b h' τ (Psi1 S b N cs rest fo F mo Ms z0 h' us' τ n') k bLs.length lo hi alo ahi a v)) := by
  have k0 : k ≠ 0 := fun z => by rw [z] at W; exact W
  obtain ⟨kT', e⟩ : ∃ kT', kT = kT' + 1 := ⟨kT - 1, by omega⟩
  obtain ⟨τ, n', h', us', fs', XC, XT, e1, e2, e3, e4, e5, e6, e7⟩ := IH kT' kC (by omega) h2 lo hi alo ahi a v h us fs σ n bLs bd sp H HU B W R Z hl
  refine ⟨τ, n', h', us', fs', XC, XT, ?_, e2, e3, e4, e5, e6, e7⟩
  rw [e]
  exact DN_all e1 HU.2.2.1 e4.1.2.2.1
theorem Z_step (Z : z0 ≤ hz h ∧ fR h 122 tb < z0 ∧ Lb < z0) (C : SE G A S N cs K pr Ln Ls tb rest fo F mo Ms rs so Lb bLs alo ahi h us fs h' us' fs' q X) : z0 ≤ hz h' ∧ fR h' 122 tb < z0 ∧ Lb < z0 := ⟨Nat.le_trans Z.1 C.2.1.1.1, by rw [C.2.1.2.2.2.2.1.2]; exact Z.2.1, Z.2.2⟩
theorem bdL_app {w : Nat} (B : bdL N bd bLs) (e : N[w]? = some L) : bdL N (bd ++ [w]) (bLs ++ [L]) := by
  refine ⟨by simp [B.1], fun i x M hx hM => ?_⟩
  rcases Nat.lt_or_ge i bd.length with z | z
  · rw [List.getElem?_append_left z] at hx
    rw [List.getElem?_append_left (by rw [← B.1]; exact z)] at hM
    exact B.2 i x M hx hM
  · have il := (List.getElem?_eq_some_iff.mp hx).1
    have ie : i = bd.length := by simp at il; omega
    rw [ie, List.getElem?_append_right (Nat.le_refl _), Nat.sub_self] at hx
    rw [ie, List.getElem?_append_right (by rw [B.1]; exact Nat.le_refl _), B.1, Nat.sub_self] at hM
    simp at hx hM
    rw [← hx, ← hM]
    exact e
theorem exB_29 (x : ∃ k ∈ om_exk, kd h a = k + 1) (k1 : kd h a = 29) : C_35_exB G rC rs a h = some h := by
  unfold C_35_exB
  rw [gd_pos x, if_pos (by omega), gd_pos x, if_pos (by omega), gd_pos x, if_pos (by omega), gd_pos x, if_pos (by omega), gd_pos x, if_pos (by omega), gd_pos x, if_pos (by omega), gd_pos x, if_pos (by omega)]
theorem exB_28 (x : ∃ k ∈ om_exk, kd h a = k + 1) (k1 : kd h a = 28) (k2 : kd h rs = 35) : C_35_exB G rC rs a h = C_35_name G rs a h := by
  unfold C_35_exB
  rw [gd_pos x, if_neg (fun z => z k1), gd_pos ⟨.inr k1, k2⟩]
  cases C_35_name G rs a h <;> rfl
theorem exB_24 (x : ∃ k ∈ om_exk, kd h a = k + 1) (k1 : kd h a = 24) (k2 : kd h rs = 35) : C_35_exB G rC rs a h = (C_35_type G rs (fR h 1390 a) h).bind fun p12 => gd (kd p12.2 a = 24 ∧ kd p12.2 a = 24 ∧ kd p12.2 rs = 35) (C_35_inside G rC rs (fR p12.2 1386 a) (fR p12.2 1398 a) (sR p12.2 1394 a p12.1)) := by
  unfold C_35_exB
  rw [gd_pos x, if_pos (by omega), gd_pos x, if_neg (fun z => z k1), gd_pos ⟨.inr k1, k1, k2⟩]
  cases C_35_type G rs (fR h 1390 a) h with
  | none => rfl
  | some p =>
    show gd _ _ = gd _ _
    unfold gd
    split
    · cases C_35_inside G rC rs (fR p.2 1386 a) (fR p.2 1398 a) (sR p.2 1394 a p.1) <;> rfl
    · rfl
theorem exB_25 (x : ∃ k ∈ om_exk, kd h a = k + 1) (k1 : kd h a = 25) (k2 : kd h rs = 35) : C_35_exB G rC rs a h = (C_35_type G rs (fR h 1406 a) h).bind fun p9 => gd (kd p9.2 a = 25 ∧ kd p9.2 a = 25 ∧ kd p9.2 rs = 35) ((rC rs (fR p9.2 1414 a) (sR p9.2 1410 a p9.1)).bind fun p10 => gd (kd p10 a = 25 ∧ kd p10 rs = 35) ((C_35_inside G rC rs (fR p10 1402 a) (fR p10 1418 a) p10).bind fun p11 => some p11)) := by
  unfold C_35_exB
  rw [gd_pos x, if_pos (by omega), gd_pos x, if_pos (by omega), gd_pos x, if_neg (fun z => z k1), gd_pos ⟨.inr k1, k1, k2⟩]
theorem exB_26 (x : ∃ k ∈ om_exk, kd h a = k + 1) (k1 : kd h a = 26) (k2 : kd h rs = 35) : C_35_exB G rC rs a h = (rC rs (fR h 1422 a) h).bind fun p6 => gd (kd p6 a = 26 ∧ kd p6 rs = 35) ((rC rs (fR p6 1426 a) p6).bind fun p7 => gd (kd p7 a = 26 ∧ kd p7 rs = 35) ((rC rs (fR p7 1430 a) p7).bind fun p8 => some p8)) := by
  unfold C_35_exB
  rw [gd_pos x, if_pos (by omega), gd_pos x, if_pos (by omega), gd_pos x, if_pos (by omega), gd_pos x, if_neg (fun z => z k1), gd_pos ⟨.inr k1, k1, k2⟩]
theorem exB_27 (x : ∃ k ∈ om_exk, kd h a = k + 1) (k1 : kd h a = 27) (k2 : kd h rs = 35) : C_35_exB G rC rs a h = C_35_cases G rC rs a h := by
  unfold C_35_exB
  rw [gd_pos x, if_pos (by omega), gd_pos x, if_pos (by omega), gd_pos x, if_pos (by omega), gd_pos x, if_pos (by omega), gd_pos x, if_neg (fun z => z k1), gd_pos ⟨.inr k1, k2⟩]
  cases C_35_cases G rC rs a h <;> rfl
theorem exB_30 (x : ∃ k ∈ om_exk, kd h a = k + 1) (k1 : kd h a = 30) (k2 : kd h rs = 35) : C_35_exB G rC rs a h = (rC rs (fR h 1490 a) h).bind fun p3 => (om_loop (C_35_ex_202s G rC rs a) (0, p3)).bind (Sum.elim (fun v4 => some v4) (fun v4 => some v4)) := by
  unfold C_35_exB
  rw [gd_pos x, if_pos (by omega), gd_pos x, if_pos (by omega), gd_pos x, if_pos (by omega), gd_pos x, if_pos (by omega), gd_pos x, if_pos (by omega), gd_pos x, if_neg (fun z => z k1), gd_pos ⟨.inr k1, k1, k2⟩]
theorem exB_32 (x : ∃ k ∈ om_exk, kd h a = k + 1) (k1 : kd h a = 32) (k2 : kd h rs = 35) : C_35_exB G rC rs a h = (rC rs (fR h 1518 a) h).bind fun p1 => om_loop (C_35_ex_305s G rC rs a) (0, p1) := by
  unfold C_35_exB
  rw [gd_pos x, if_pos (by omega), gd_pos x, if_pos (by omega), gd_pos x, if_pos (by omega), gd_pos x, if_pos (by omega), gd_pos x, if_pos (by omega), gd_pos x, if_pos (by omega), gd_pos x, if_neg (fun z => z k1), gd_pos ⟨.inr k1, k1, k2⟩]
  cases rC rs (fR h 1518 a) h with
  | none => rfl
  | some p =>
    show (om_loop (C_35_ex_305s G rC rs a) (0, p)).bind _ = om_loop (C_35_ex_305s G rC rs a) (0, p)
    cases om_loop (C_35_ex_305s G rC rs a) (0, p) <;> rfl
end LEA
