set_option maxRecDepth 100000
/-! ALL THAT IS TOLD IS OF SMALL BYTES -/
def bOk (L : List Int) : Prop := ∀ x ∈ L, -128 ≤ x ∧ x ≤ 127
def oOk (p : Option (List Int)) : Prop := ∀ L, p = some L → bOk L
def nOk (nm con fam cnm : Nat → List Int) : Prop := ∀ w, bOk (nm w) ∧ bOk (con w) ∧ bOk (fam w) ∧ bOk (cnm w)
theorem bOk_nil : bOk [] := fun x hx => absurd hx List.not_mem_nil
theorem bOk_app {L M : List Int} (a : bOk L) (b : bOk M) : bOk (L ++ M) := fun x hx => (List.mem_append.mp hx).elim (a x) (b x)
theorem bOk_c {x : Int} {L : List Int} (h : -128 ≤ x ∧ x ≤ 127) (a : bOk L) : bOk (x :: L) := fun y hy => (List.mem_cons.mp hy).elim (fun e => by rw [e]; exact h) (a y)
theorem bOk_i {p : Prop} [Decidable p] {L M : List Int} (a : bOk L) (b : bOk M) : bOk (if p then L else M) := by
  split
  · exact a
  · exact b
theorem bOk_fl {Ls : List (List Int)} (h : ∀ L ∈ Ls, bOk L) : bOk Ls.flatten := fun x hx => by
  obtain ⟨L, hL, hxL⟩ := List.mem_flatten.mp hx
  exact h L hL x hxL
theorem oOk_g {p : Option (List Int)} {d : List Int} (a : oOk p) (b : bOk d) : bOk (p.getD d) := by
  cases q : p with
  | none => exact b
  | some L => exact a L q
theorem bOk_num : ∀ (f v : Nat), bOk (numBD f v)
  | 0, _ => bOk_nil
  | f + 1, v => by
    unfold numBD
    have m := Nat.mod_lt v (show 0 < 10 by decide)
    have d : bOk [((48 + v % 10 : Nat) : Int)] := bOk_c ⟨by omega, by omega⟩ bOk_nil
    exact bOk_i d (bOk_app (bOk_num f (v / 10)) d)
section LBR
variable {nm con fam cnm : Nat → List Int} {ab : List (Option Nat)} {ins : List INs} {gv : List GVs}
theorem bOk_hd (h : nOk nm con fam cnm) {k w : Nat} : bOk (hdB nm con fam k w) := bOk_i (h w).1 (bOk_i (h w).2.1 (h w).2.2.1)
theorem bOk_ty (h : nOk nm con fam cnm) : ∀ T : Ty, bOk (tyB nm con fam T)
  | .leaf => bOk_nil
  | .inner k w u l r => by
    unfold tyB
    exact bOk_i (bOk_app (bOk_app (bOk_app (bOk_c (by decide) (bOk_ty h l)) (bOk_c (by decide) (bOk_c (by decide) bOk_nil))) (bOk_ty h r)) (bOk_c (by decide) bOk_nil)) (bOk_app (bOk_hd h) (bOk_i bOk_nil (bOk_app (bOk_app (bOk_c (by decide) (bOk_ty h l)) (bOk_i bOk_nil (bOk_c (by decide) (bOk_ty h r)))) (bOk_c (by decide) bOk_nil))))
theorem bOk_prt (h : nOk nm con fam cnm) (T : Ty) : bOk (prtB nm con fam T) := by
  cases T with
  | leaf => exact bOk_nil
  | inner k w u l r =>
    unfold prtB
    exact bOk_i bOk_nil (bOk_app (bOk_app (bOk_c (by decide) (bOk_ty h l)) (bOk_i bOk_nil (bOk_c (by decide) (bOk_ty h r)))) (bOk_c (by decide) bOk_nil))
theorem bOk_alt (h : nOk nm con fam cnm) (T : Ty) : bOk (altB nm con fam T) := bOk_app (bOk_c (by decide) (bOk_ty h T)) (bOk_c (by decide) bOk_nil)
theorem bOk_go (h : nOk nm con fam cnm) {b : Nat} {u : Ty} : bOk (goB nm con fam b u) := by
  unfold goB
  exact bOk_i (bOk_app (bOk_c (by decide) (bOk_num 12 b)) (bOk_prt h _)) (bOk_c (by decide) (bOk_num 12 _))
theorem oOk_thn {p q : Option (List Int)} (a : oOk p) (b : oOk q) : oOk (thnB p q) := by
  cases p with
  | none => exact b
  | some x =>
    cases q with
    | none => exact a
    | some y =>
      intro L e
      have e' : 40 :: x ++ [59] ++ y ++ [41] = L := Option.some.inj e
      rw [← e']
      exact bOk_app (bOk_app (bOk_app (bOk_c (by decide) (a x rfl)) (bOk_c (by decide) bOk_nil)) (b y rfl)) (bOk_c (by decide) bOk_nil)
theorem bOk_wp (h : nOk nm con fam cnm) {w : Ty → Option (List Int)} (hw : ∀ T, oOk (w T)) (T : Ty) : bOk (wpB nm con fam w T) := by
  cases T with
  | leaf => exact bOk_nil
  | inner k x u l r =>
    unfold wpB
    exact bOk_app (bOk_app (bOk_app (bOk_i bOk_nil (bOk_hd h)) (bOk_c (by decide) (oOk_g (hw l) (bOk_alt h l)))) (bOk_i bOk_nil (bOk_app (bOk_i (bOk_c (by decide) (bOk_c (by decide) bOk_nil)) (bOk_c (by decide) bOk_nil)) (oOk_g (hw r) (bOk_alt h r))))) (bOk_c (by decide) bOk_nil)
theorem oOk_none : oOk none := fun L e => by cases e
theorem oOk_some {L : List Int} (h : bOk L) : oOk (some L) := fun M e => by rw [← Option.some.inj e]; exact h
theorem oOk_i {p : Prop} [Decidable p] {a b : Option (List Int)} (x : oOk a) (y : oOk b) : oOk (if p then a else b) := by
  split
  · exact x
  · exact y
theorem oOk_why (h : nOk nm con fam cnm) : ∀ (f : Nat) (T : Ty), oOk (whyB nm con fam ins gv f T)
  | 0, T => oOk_none
  | f + 1, T => by
    have w1 : oOk (if tyE (innT ins gv T) T = true then none else some (wpB nm con fam (whyB nm con fam ins gv f) T)) := oOk_i oOk_none (oOk_some (bOk_wp h (fun U => oOk_why h f U) T))
    unfold whyB
    cases gby ins gv (innT ins gv T) with
    | none => exact w1
    | some b => exact oOk_thn (oOk_thn w1 (oOk_some (bOk_go h))) (oOk_why h f _)
theorem bOk_one (h : nOk nm con fam cnm) {T U : Ty} : bOk (oneB nm con fam ins gv T U) := by
  unfold oneB
  refine bOk_i (bOk_alt h T) (oOk_g (oOk_thn (oOk_why h 130 T) (fun L e => ?_)) bOk_nil)
  cases q : whyB nm con fam ins gv 130 U with
  | none => rw [q] at e; cases e
  | some M =>
    rw [q] at e
    have e' : 126 :: M = L := Option.some.inj e
    rw [← e']
    exact bOk_c (by decide) (oOk_why h 130 U M q)
theorem bOk_gv (h : nOk nm con fam cnm) {g1 j : Nat} : ∀ n : Nat, bOk (gvBy cnm ab g1 j n)
  | 0 => bOk_c (by decide) (bOk_num 12 j)
  | n + 1 => by
    unfold gvBy
    exact bOk_app (bOk_app (bOk_app (h _).2.2.2 (bOk_c (by decide) (bOk_c (by decide) bOk_nil))) (bOk_gv h n)) (bOk_c (by decide) bOk_nil)
theorem bOk_com : ∀ {l : List (List Int)}, (∀ L ∈ l, bOk L) → bOk (comB l)
  | [], _ => bOk_nil
  | [a], h => h a List.mem_cons_self
  | a :: b :: l, h => by
    unfold comB
    exact bOk_app (bOk_app (h a List.mem_cons_self) (bOk_c (by decide) bOk_nil)) (bOk_com (fun L hL => h L (List.mem_cons_of_mem _ hL)))
theorem bOk_dcs (h : nOk nm con fam cnm) : ∀ (D : Dc), ∀ L ∈ dcsB nm con fam cnm ab ins gv D, bOk L
  | .leaf, L, hL => absurd hL List.not_mem_nil
  | .inner t a u cs nx, L, hL => by
    have hc := bOk_dcs h cs
    have hn := bOk_dcs h nx
    have core : bOk (if t = 0 then (gv[a.1]?).elim [] (fun g => gvBy cnm ab g.1 a.1 a.2.1) else 105 :: numB a.1 ++ prtB nm con fam a.2.2.1 ++ (match dcsB nm con fam cnm ab ins gv cs with | [] => [] | l => 123 :: comB l ++ [125])) := by
      refine bOk_i ?_ (bOk_app (bOk_app (bOk_c (by decide) (bOk_num 12 _)) (bOk_prt h _)) ?_)
      · cases gv[a.1]? with
        | none => exact bOk_nil
        | some g => exact bOk_gv h _
      · cases q : dcsB nm con fam cnm ab ins gv cs with
        | nil => exact bOk_nil
        | cons x l => exact bOk_app (bOk_c (by decide) (bOk_com (fun M hM => hc M (by rw [q]; exact hM)))) (bOk_c (by decide) bOk_nil)
    unfold dcsB at hL
    rcases List.mem_cons.mp hL with e | e
    · rw [e]
      exact bOk_i (bOk_one h) (bOk_i core (bOk_app (bOk_app (bOk_app (bOk_app (bOk_app (bOk_c (by decide) core) (bOk_c (by decide) (bOk_c (by decide) bOk_nil))) (h _).2.2.2) (bOk_c (by decide) bOk_nil)) (bOk_one h)) (bOk_c (by decide) (bOk_c (by decide) bOk_nil))))
    · exact hn L e
theorem bOk_ev (h : nOk nm con fam cnm) {D : Dc} : bOk (evB nm con fam cnm ab ins gv D) := by
  unfold evB
  cases q : (dcsB nm con fam cnm ab ins gv D)[0]? with
  | none => exact bOk_nil
  | some L => exact bOk_dcs h D L (List.mem_of_getElem? q)
theorem bOk_nm (h : nOk nm con fam cnm) {lb : XL} {ev : List Dc} : bOk (nmB nm con fam cnm ab ins gv lb ev) := by
  unfold nmB
  refine bOk_app (bOk_app (h _).1 (bOk_fl (fun L hL => ?_))) (bOk_fl (fun L hL => ?_))
  · obtain ⟨p, _, e⟩ := List.mem_map.mp hL
    rw [← e]
    exact bOk_app (bOk_c (by decide) (bOk_ty h _)) (bOk_c (by decide) bOk_nil)
  · obtain ⟨D, _, e⟩ := List.mem_map.mp hL
    rw [← e]
    exact bOk_app (bOk_c (by decide) (bOk_ev h)) (bOk_c (by decide) bOk_nil)
/-- signs of an ex are small -/
def eSg : Et → Prop
  | .leaf => True
  | .inner t a _ l r => (t = 18 → a.1.2.1 ≤ 127) ∧ (t ≠ 10 → t ≠ 11 → eSg l) ∧ (t ≠ 10 → t ≠ 11 → t ≠ 13 → t ≠ 14 → eSg r)
theorem bOk_ex (h : nOk nm con fam cnm) : ∀ (e : Et), eSg e → ∀ sep, bOk sep → bOk (exB nm con fam cnm ab ins gv e sep)
  | .leaf, _, sep, _ => by unfold exB; exact bOk_nil
  | .inner t a u l r, ⟨s1, s2, s3⟩, sep, hs => by
    have L : t ≠ 10 → t ≠ 11 → ∀ sep, bOk sep → bOk (exB nm con fam cnm ab ins gv l sep) := fun n1 n2 => bOk_ex h l (s2 n1 n2)
    have R : t ≠ 10 → t ≠ 11 → t ≠ 13 → t ≠ 14 → ∀ sep, bOk sep → bOk (exB nm con fam cnm ab ins gv r sep) := fun n1 n2 n3 n4 => bOk_ex h r (s3 n1 n2 n3 n4)
    have lit : ∀ M : List Int, (∀ x ∈ M, -128 ≤ x ∧ x ≤ 127) → bOk M := fun M hM => hM
    unfold exB
    by_cases t0 : t = 0
    · rw [if_pos t0]
      exact bOk_app (bOk_app (L (by omega) (by omega) [] bOk_nil) hs) (R (by omega) (by omega) (by omega) (by omega) [] bOk_nil)
    rw [if_neg t0]
    refine bOk_app (bOk_app (bOk_i bOk_nil (bOk_c (by decide) bOk_nil)) ?_) (bOk_i bOk_nil (bOk_app (bOk_app (bOk_c (by decide) (bOk_c (by decide) bOk_nil)) (bOk_one h)) (bOk_c (by decide) bOk_nil)))
    by_cases t10 : t = 10
    · rw [if_pos t10]; exact bOk_nm h
    rw [if_neg t10]
    by_cases t11 : t = 11
    · rw [if_pos t11]; exact bOk_num 12 _
    rw [if_neg t11]
    by_cases t12 : t = 12
    · rw [if_pos t12]
      exact bOk_app (bOk_app (bOk_app (bOk_c (by decide) (L t10 t11 [] bOk_nil)) (bOk_c (by decide) bOk_nil)) (R t10 t11 (by omega) (by omega) [] bOk_nil)) (bOk_c (by decide) bOk_nil)
    rw [if_neg t12]
    by_cases t14 : t = 14
    · rw [if_pos t14]
      exact bOk_app (bOk_app (bOk_app (bOk_app (bOk_c (by decide) (h _).1) (bOk_c (by decide) bOk_nil)) (bOk_ty h _)) (bOk_c (by decide) bOk_nil)) (L t10 t11 [] bOk_nil)
    rw [if_neg t14]
    by_cases t13 : t = 13
    · rw [if_neg (by omega), if_neg (by omega), if_neg (by omega), if_neg (by omega)]; exact bOk_nil
    have R' := R t10 t11 t13 t14
    by_cases t15 : t = 15
    · rw [if_pos t15]
      exact bOk_app (bOk_app (bOk_app (bOk_app (bOk_app (bOk_app (bOk_app (lit _ (by decide)) (h _).1) (lit _ (by decide))) (bOk_ty h _)) (lit _ (by decide))) (L t10 t11 [] bOk_nil)) (lit _ (by decide))) (R' [] bOk_nil)
    rw [if_neg t15]
    by_cases t16 : t = 16
    · rw [if_pos t16]
      exact bOk_app (bOk_app (bOk_app (lit _ (by decide)) (L t10 t11 [] bOk_nil)) (lit _ (by decide))) (R' _ (lit _ (by decide)))
    rw [if_neg t16]
    by_cases t17 : t = 17
    · rw [if_pos t17]
      exact bOk_app (bOk_app (bOk_app (bOk_app (lit _ (by decide)) (L t10 t11 [] bOk_nil)) (lit _ (by decide))) (R' _ (bOk_app (bOk_app (bOk_app (bOk_app (lit _ (by decide)) (h _).1) (lit _ (by decide))) (h _).1) (lit _ (by decide))))) (lit _ (by decide))
    rw [if_neg t17]
    by_cases t18 : t = 18
    · rw [if_pos t18]
      have sg : bOk (sgB a.1.2.1) := by
        have := s1 t18
        unfold sgB
        exact bOk_i (lit _ (by decide)) (bOk_c ⟨by omega, by omega⟩ bOk_nil)
      exact bOk_app (bOk_app (bOk_app (bOk_c (by decide) (L t10 t11 [] bOk_nil)) sg) (R' [] bOk_nil)) (bOk_c (by decide) bOk_nil)
    · rw [if_neg t18]; exact bOk_nil
theorem bOk_all (h : nOk nm con fam cnm) {ns : List Nat} : bOk (allB nm ns) := by
  unfold allB
  refine bOk_fl (fun L hL => ?_)
  obtain ⟨w, _, e⟩ := List.mem_map.mp hL
  rw [← e]
  exact bOk_app (bOk_app (bOk_c (by decide) (bOk_c (by decide) bOk_nil)) (h w).1) (bOk_c (by decide) bOk_nil)
theorem bOk_giv (h : nOk nm con fam cnm) : ∀ (l : List GVs) (k : Nat), bOk (givB nm con fam cnm k l)
  | [], _ => bOk_nil
  | g :: l, k => by
    unfold givB
    refine bOk_app (bOk_app (bOk_app (bOk_app (bOk_app (bOk_app (bOk_app (bOk_app (bOk_app (bOk_c (by decide) (bOk_c ?_ bOk_nil)) (bOk_num 12 k)) (bOk_c (by decide) bOk_nil)) (bOk_i (h _).2.2.2 (h _).2.2.1)) (bOk_c (by decide) bOk_nil)) (h _).1) (bOk_c (by decide) bOk_nil)) (bOk_i bOk_nil (bOk_c (by decide) (bOk_ty h _)))) (bOk_c (by decide) bOk_nil)) (bOk_giv h l (k + 1))
    split
    · decide
    · decide
end LBR
