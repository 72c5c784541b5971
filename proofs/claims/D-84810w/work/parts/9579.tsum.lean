set_option maxRecDepth 100000
/-! HOW LONG ALL TERMS ARE -/
theorem sum_le : ∀ {a b : List Nat} {c : Nat}, a.length = b.length → (∀ (i x y : Nat), a[i]? = some x → b[i]? = some y → x ≤ y + c) → a.sum ≤ b.sum + c * a.length
  | [], [], _, _, _ => Nat.zero_le _
  | [], _ :: _, _, h, _ => by cases h
  | _ :: _, [], _, h, _ => by cases h
  | x :: a, y :: b, c, h, H => by
    have i1 := sum_le (a := a) (b := b) (c := c) (by simpa using h) (fun i x y e1 e2 => H (i + 1) x y e1 e2)
    have i2 := H 0 x y rfl rfl
    rw [List.sum_cons, List.sum_cons, List.length_cons, Nat.mul_add]
    omega
theorem mem_sum : ∀ {l : List Nat} {x : Nat}, x ∈ l → x ≤ l.sum
  | [], _, h => absurd h List.not_mem_nil
  | a :: l, x, h => by
    rw [List.sum_cons]
    rcases List.mem_cons.mp h with h | h
    · omega
    · have := mem_sum h
      omega
section LTS
variable {nm con fam cnm : Nat → List Int} {ab : List (Option Nat)} {ins : List INs}
theorem allB_len (L : lt10 nm con fam cnm) : ∀ (ns : List Nat), (allB nm ns).length ≤ 13 * ns.length
  | [] => Nat.zero_le _
  | w :: l => by
    have i1 := allB_len L l
    have i2 := (L w).1
    rw [allB_c]
    simp only [List.length_append, List.length_cons, List.length_nil]
    omega
theorem givB_ln (L : lt10 nm con fam cnm) : ∀ (l : List GVs) (k : Nat), (∀ g ∈ l, 100 ≤ g.1 → tsz g.2.2 ≤ 2700) → (givB nm con fam cnm k l).length ≤ 36000 * l.length
  | [], _, _ => Nat.zero_le _
  | g :: l, k, H => by
    have i1 := givB_ln L l (k + 1) (fun q hq => H q (List.mem_cons_of_mem _ hq))
    have n1 := numB_len (v := k)
    have n2 := (L g.2.1).1
    have n3 := (L g.1).2.2.2
    have n4 := (L (g.1 - 100)).2.2.1
    have t1 := tyB_len L g.2.2
    have t2 := H g List.mem_cons_self
    show ([92, if g.1 < 100 then 100 else 99] ++ numB k ++ [58] ++ (if g.1 < 100 then cnm g.1 else fam (g.1 - 100)) ++ [40] ++ nm g.2.1 ++ [41] ++ (if g.1 < 100 then [] else 126 :: tyB nm con fam g.2.2) ++ [46] ++ givB nm con fam cnm (k + 1) l).length ≤ _
    by_cases c : g.1 < 100
    · rw [if_pos c, if_pos c, if_pos c]
      simp only [List.length_append, List.length_cons, List.length_nil]
      omega
    · rw [if_neg c, if_neg c, if_neg c]
      have t3 := t2 (by omega)
      simp only [List.length_append, List.length_cons, List.length_nil]
      omega
/-- a term's head is short -/
theorem head_len (L : lt10 nm con fam cnm) {ns : List Nat} {gv : List GVs} (h1 : ns.length ≤ 4) (h2 : gv.length ≤ 4) (H : ∀ g ∈ gv, 100 ≤ g.1 → tsz g.2.2 ≤ 2700) : (allB nm ns).length + (givB nm con fam cnm 0 gv).length ≤ 150000 := by
  have a1 := allB_len L ns
  have a2 := givB_ln L gv 0 H
  omega
theorem fnB_len {gv : List GVs} {ns : List Nat} {e : Et} : (fnB nm con fam cnm ab ins gv ns e).length = (allB nm ns).length + (givB nm con fam cnm 0 gv).length + (exB nm con fam cnm ab ins gv e []).length := by
  unfold fnB
  rw [List.length_append, List.length_append]
theorem dcB_len {gv : List GVs} {ns : List Nat} {D : Dc} : (dcB nm con fam cnm ab ins gv ns D).length = (allB nm ns).length + (givB nm con fam cnm 0 gv).length + (evB nm con fam cnm ab ins gv D).length := by
  unfold dcB
  rw [List.length_append, List.length_append]
theorem fnsB_len : ∀ (l : List ((List Nat × List GVs × Ty) × Et)) (f : Nat), (tmB (fnsB nm con fam cnm ab ins f l)).length = (l.map (fun p => (fnB nm con fam cnm ab ins p.1.2.1 p.1.1 p.2).length)).sum
  | [], _ => rfl
  | p :: l, f => by
    have e : tmB (fnsB nm con fam cnm ab ins f (p :: l)) = fnB nm con fam cnm ab ins p.1.2.1 p.1.1 p.2 ++ tmB (fnsB nm con fam cnm ab ins (f + 1) l) := tmB_c
    rw [e, List.length_append, fnsB_len l (f + 1), List.map_cons, List.sum_cons]
theorem lnsB_len {d : INs} {i : Nat} : ∀ (l : List Et) (m : Nat), (tmB (lnsB nm con fam cnm ab ins d i m l)).length = (l.map (fun e => (lnTB nm con fam cnm ab ins d e).length)).sum
  | [], _ => rfl
  | e :: l, m => by
    have e1 : tmB (lnsB nm con fam cnm ab ins d i m (e :: l)) = lnTB nm con fam cnm ab ins d e ++ tmB (lnsB nm con fam cnm ab ins d i (m + 1) l) := tmB_c
    rw [e1, List.length_append, lnsB_len l (m + 1), List.map_cons, List.sum_cons]
theorem insB_len {i : Nat} {d : INs} {es : List Et} {od : Option Dc} : (tmB (insB nm con fam cnm ab ins i d es od)).length = (es.map (fun e => (lnTB nm con fam cnm ab ins d e).length)).sum + od.elim 0 (fun D => (dcB nm con fam cnm ab ins (gvI d) d.2.2.1 D).length) := by
  unfold insB
  rw [tmB_app, List.length_append, lnsB_len]
  cases od with
  | none => rfl
  | some D =>
    show _ + (tmB [(104 + i, dcB nm con fam cnm ab ins (gvI d) d.2.2.1 D)]).length = _
    rw [tmB_c, List.length_append]
    rfl
theorem inssB_len : ∀ (l : List (INs × List Et × Option Dc)) (i : Nat), (tmB (inssB nm con fam cnm ab ins i l)).length = (l.map (fun p => (p.2.1.map (fun e => (lnTB nm con fam cnm ab ins p.1 e).length)).sum + p.2.2.elim 0 (fun D => (dcB nm con fam cnm ab ins (gvI p.1) p.1.2.2.1 D).length))).sum
  | [], _ => rfl
  | p :: l, i => by
    have e1 : tmB (inssB nm con fam cnm ab ins i (p :: l)) = tmB (insB nm con fam cnm ab ins i p.1 p.2.1 p.2.2) ++ tmB (inssB nm con fam cnm ab ins (i + 1) l) := tmB_app
    rw [e1, List.length_append, inssB_len l (i + 1), List.map_cons, List.sum_cons, insB_len]
end LTS
theorem cntS_full {F : FT} (H : ∀ f, f < F.length → ∃ L, F[f]? = some (some L)) : cntS F F.length = F.length := by
  rw [cntS_all, List.filter_eq_self.mpr]
  intro a ha
  obtain ⟨i, hi, ei⟩ := List.getElem_of_mem ha
  obtain ⟨L, e⟩ := H i hi
  rw [List.getElem?_eq_getElem hi, ei] at e
  rw [Option.some.inj e]
  rfl
