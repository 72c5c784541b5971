set_option maxRecDepth 100000
/-! ROOM FOR JUDGING: how many types and dictionaries all jobs may make -/
def fn4 (E : JE) : Prop := ∀ f ∈ E.1, f.2.1.length ≤ 4
section LRM0
variable {E : JE}
theorem jCg_le : ∀ l : List GVs, jCg l ≤ 2 * l.length
  | [] => Nat.le_refl _
  | g :: l => by
    have := jCg_le l
    show (if g.1 < 100 then 0 else 2) + jCg l ≤ _
    rw [List.length_cons]
    split <;> omega
theorem jCk_le : ∀ l : List GVs, jCk l ≤ 2 * l.length
  | [] => Nat.le_refl _
  | g :: l => by
    have := jCk_le l
    show gCs g + jCk l ≤ _
    unfold gCs
    rw [List.length_cons]
    split <;> omega
theorem jC_68 (F : fn4 E) {lb : XL} : jC E lb ≤ 68 := by
  unfold jC
  split
  · cases e : E.1[lb.2.2.1]? with
    | none => exact Nat.zero_le _
    | some f =>
      have := F f (List.mem_of_getElem? e)
      have := jCg_le f.2.1
      show min 60 (tsz f.2.2) + jCg f.2.1 ≤ 68
      omega
  · split <;> omega
theorem jK_68 (F : fn4 E) {lb : XL} : jK E lb ≤ 68 := by
  unfold jK
  split
  · cases e : E.1[lb.2.2.1]? with
    | none => exact Nat.zero_le _
    | some f =>
      have := F f (List.mem_of_getElem? e)
      have := jCk_le f.2.1
      show min 60 (tsz f.2.2) + jCk f.2.1 ≤ 68
      omega
  · split <;> omega
theorem jct_le (F : fn4 E) : ∀ t : Xt, jct E t ≤ 68 * xU t + xnN t
  | .leaf => Nat.zero_le _
  | .inner t lb _ l r => by
    have h1 := jct_le F l
    have h2 := jct_le F r
    have h3 := jC_68 F (lb := lb)
    show (if t = 10 then (if lb.2.2.2.2.2 = [] then 0 else jC E lb) else if t = 14 then 1 else 0) + jct E l + jct E r ≤ 68 * ((if t = 10 ∧ lb.2.2.2.2.2 ≠ [] then 1 else 0) + xU l + xU r) + (1 + xnN l + xnN r)
    by_cases c : t = 10
    · rw [if_pos c]
      by_cases d : lb.2.2.2.2.2 = []
      · rw [if_pos d, if_neg (fun z => z.2 d)]; omega
      · rw [if_neg d, if_pos ⟨c, d⟩]; omega
    · rw [if_neg c, if_neg (show ¬ (t = 10 ∧ lb.2.2.2.2.2 ≠ []) from fun z => c z.1)]
      split <;> omega
theorem jcC_le (F : fn4 E) : ∀ t : Xt, jcC E t ≤ 68 * xU t + 4 * xnN t
  | .leaf => Nat.zero_le _
  | .inner t lb _ l r => by
    have h1 := jcC_le F l
    have h2 := jcC_le F r
    have h3 := jK_68 F (lb := lb)
    show (if t = 10 then nCs E lb else 4) + jcC E l + jcC E r ≤ 68 * ((if t = 10 ∧ lb.2.2.2.2.2 ≠ [] then 1 else 0) + xU l + xU r) + 4 * (1 + xnN l + xnN r)
    by_cases c : t = 10
    · rw [if_pos c]
      unfold nCs
      by_cases d : lb.2.2.2.2.2 = []
      · rw [if_pos d, if_neg (fun z => z.2 d)]; omega
      · rw [if_neg d, if_pos ⟨c, d⟩]; omega
    · rw [if_neg c, if_neg (fun z => c z.1)]
      omega
/-- names with @s, and lines -/
def lnU (l : List (LD × TD)) : Nat := (l.map (fun y => xU y.1.2.2.2.1 + 1)).sum
def jbU (j : JB) : Nat := if j.1 = 2 then xU j.2.2.2.1.2.2.1 else if j.1 = 6 then lnU j.2.2.2.2.2.2 else 0
def jsU (l : List JB) : Nat := (l.map jbU).sum
theorem jsU_c {j : JB} {l : List JB} : jsU (j :: l) = jbU j + jsU l := by unfold jsU; rw [List.map_cons, List.sum_cons]
theorem lnU_c {y : LD × TD} {l : List (LD × TD)} : lnU (y :: l) = xU y.1.2.2.2.1 + 1 + lnU l := by unfold lnU; rw [List.map_cons, List.sum_cons]
theorem lnC_le (F : fn4 E) : ∀ l : List (LD × TD), lnC E l ≤ 68 * lnU l + lnX (l.map Prod.fst) ∧ lnQ E (l.map Prod.fst) ≤ 68 * lnU l + 4 * lnX (l.map Prod.fst)
  | [] => ⟨Nat.zero_le _, Nat.zero_le _⟩
  | y :: l => by
    have h1 := lnC_le F l
    have h2 := jct_le F y.1.2.2.2.1
    have h3 := jcC_le F y.1.2.2.2.1
    rw [List.map_cons, lnC_c, lnU_c, lnX_c, lnQ_c]
    omega
end LRM0
section LRM1
variable {fn : List (List Nat × List GVs × Ty)} {mt : List (Option (Nat × Nat × Ty))} {ab : List (Option Nat)} {ins : List INs}
theorem jbC_le (F : ∀ f ∈ fn, f.2.1.length ≤ 4) {j : JB} : jbC fn mt ab ins j ≤ 68 * jbU j + jbX j ∧ jbQ fn mt ab ins j ≤ 68 * jbU j + 4 * jbX j := by
  unfold jbC jbQ jbU jbX
  by_cases c : j.1 = 2
  · rw [if_pos c, if_pos c, if_pos c, if_pos c]
    exact ⟨jct_le (E := (fn, mt, ab, ins, j.2.2.2.1.1)) F _, jcC_le (E := (fn, mt, ab, ins, j.2.2.2.1.1)) F _⟩
  · rw [if_neg c, if_neg c, if_neg c, if_neg c]
    by_cases d : j.1 = 6
    · rw [if_pos d, if_pos d, if_pos d, if_pos d]
      exact lnC_le (E := (fn, mt, ab, ins, gvI j.2.2.2.2.1)) F _
    · rw [if_neg d, if_neg d, if_neg d, if_neg d]
      exact ⟨Nat.zero_le _, Nat.zero_le _⟩
theorem jsC_le (F : ∀ f ∈ fn, f.2.1.length ≤ 4) : ∀ l : List JB, jsC fn mt ab ins l ≤ 68 * jsU l + jsX l ∧ jsQ fn mt ab ins l ≤ 68 * jsU l + 4 * jsX l
  | [] => ⟨Nat.zero_le _, Nat.zero_le _⟩
  | j :: l => by
    have h1 := jsC_le F l
    have h2 := jbC_le (mt := mt) (ab := ab) (ins := ins) F (j := j)
    rw [jsC_c, jsU_c, jsX_c, jsQ_c]
    omega
end LRM1
/-- lines, in order: what they cost -/
theorem lns_room {τ : tS} {B : Nat} : ∀ (ys : List (LD × TD)) (a : Nat), ys.Pairwise (fun y y' => y.2.1 < y'.2.2.2.1) → (∀ y ∈ ys, (a ≤ y.2.2.2.1 ∧ y.2.2.2.1 ≤ y.2.2.2.2.1 ∧ y.2.2.2.2.1 ≤ y.2.1 ∧ y.2.1 < B) ∧ ga τ 538 y.2.1 = 22 ∧ xnN y.1.2.2.2.1 ≤ 2 * (y.2.2.2.2.1 - y.2.2.2.1) ∧ xU y.1.2.2.2.1 + ctP τ y.2.2.2.1 ≤ ctP τ y.2.2.2.2.1) → a ≤ B → lnU ys + ctP τ a ≤ ctP τ B ∧ lnX (ys.map Prod.fst) + 2 * a + ys.length ≤ 2 * B
  | [], a, _, _, h => ⟨by show 0 + _ ≤ _; have := ctP_mono (σ := τ) h; omega, by show 0 + 2 * a + 0 ≤ _; omega⟩
  | y :: ys, a, pw, H, h => by
    obtain ⟨p1, p2⟩ := List.pairwise_cons.mp pw
    obtain ⟨⟨a1, a2, a3, a4⟩, a5, a6, a7⟩ := H y List.mem_cons_self
    obtain ⟨i1, i2⟩ := lns_room ys (y.2.1 + 1) p2 (fun y' hy' => ⟨⟨p1 y' hy', (H y' (List.mem_cons_of_mem _ hy')).1.2⟩, (H y' (List.mem_cons_of_mem _ hy')).2⟩) (by omega)
    have c1 : ctP τ (y.2.1 + 1) = ctP τ y.2.1 + 1 := by
      show ctP τ y.2.1 + (if (ga τ 538 y.2.1 = 10 ∧ ga τ 546 y.2.1 ≠ -1) ∨ ga τ 538 y.2.1 = 22 then 1 else 0) = _
      rw [if_pos (.inr a5)]
    have c2 := ctP_mono (σ := τ) a3
    have c3 := ctP_mono (σ := τ) a1
    rw [List.map_cons, lnU_c, lnX_c, List.length_cons]
    omega
section LRM2
variable {G : om_G} {A : Nat} {S : List Int} {b m : Nat} {N : List (List Int)} {pr tb z0 : Nat} {cs fo : List Nat} {mo : List (List Nat)} {K : KT} {F : FT} {Ms : List FT} {hr : om_H} {σr : tS} {M : Nat} {qs : List dcl} {ps : List PD} {rs : List (Nat × Nat × Nat × Nat)} {h : om_H} {ul fl : List Nat} {τ : tS} {n : Nat} {Sl Sl0 : Nat → Prop} {cl : List Cp} {il : List IX} {fl' : List FX} {H0 : Nat}
/-- one job: names with @s and lines; exs; lines -/
theorem dj_room {k : Nat} {j : JB} (H : DJ G S N cs fo mo ps rs h ul τ n Sl0 Sl cl il fl' H0 k j) {r : Nat × Nat × Nat × Nat} (er : rs[k]? = some r) (hr' : r.1 ≤ r.2.1) : jbU j + ctP τ r.1 ≤ ctP τ r.2.1 ∧ jbX j + 2 * r.1 ≤ 2 * r.2.1 ∧ jbN j + 2 * r.1 ≤ 2 * r.2.1 + 1 := by
  obtain ⟨p, r', ⟨ep, er', pk, _⟩, ⟨j1, _, _⟩, _, a2, a6, jn, f2, f6⟩ := H
  have rr : r' = r := Option.some.inj (er'.symm.trans er)
  subst rr
  have cm := ctP_mono (σ := τ) hr'
  unfold jbU jbX jbN
  by_cases c : j.1 = 2
  · rw [if_pos c, if_pos c, if_neg (show ¬ j.1 = 6 by omega)]
    have := f2 c
    omega
  · rw [if_neg c, if_neg c]
    by_cases d : j.1 = 6
    · rw [if_pos d, if_pos d, if_pos d]
      obtain ⟨g1, g2, g3⟩ := f6 d
      have L := lns_room (τ := τ) (B := r'.2.1) j.2.2.2.2.2.2 r'.1 g3 (fun y hy => by
        have t := XTg_in ((a6 d).2.2.2.1 y hy).1
        exact ⟨⟨(jn y hy).1, by omega, (g2 y hy).1.1, (g2 y hy).1.2⟩, (g2 y hy).2, (g1 y hy).1, (g1 y hy).2⟩) hr'
      omega
    · rw [if_neg d, if_neg d, if_neg d]
      omega
/-- all jobs -/
theorem djs_room (R : RA G A S b m N pr tb z0 cs fo mo K F Ms hr σr M qs ps rs h ul fl τ n) : ∀ (l : List JB) (k a : Nat), k + l.length = ps.length → (∀ i j, l[i]? = some j → DJ G S N cs fo mo ps rs h ul τ n Sl0 Sl cl il fl' H0 (k + i) j) → (∀ i r, rs[i]? = some r → k ≤ i → a ≤ r.1) → a ≤ M → jsU l + ctP τ a ≤ ctP τ M ∧ jsX l + 2 * a ≤ 2 * M ∧ jsN l + 2 * a ≤ 2 * M + l.length
  | [], k, a, _, _, _, h => ⟨by show 0 + _ ≤ _; have := ctP_mono (σ := τ) h; omega, by show 0 + 2 * a ≤ _; omega, by show 0 + 2 * a ≤ _; omega⟩
  | j :: l, k, a, e, H, ha, h => by
    have H0' := H 0 j rfl
    rw [Nat.add_zero] at H0'
    obtain ⟨p, r, ⟨ep, er, _⟩, _⟩ := id H0'
    have lp := R.2.1.2.2.1
    have hk : k < qs.length := by rw [List.length_cons] at e; omega
    have rg := (prR_at R.2.1.1 (List.getElem?_eq_getElem hk) er).1
    have D := dj_room H0' er rg.2.1
    obtain ⟨i1, i2, i3⟩ := djs_room R l (k + 1) r.2.1 (by rw [List.length_cons] at e; omega) (fun i j' e' => by
      have := H (i + 1) j' e'
      rw [show k + (i + 1) = k + 1 + i by omega] at this
      exact this) (fun i r' e' hi => (prR_ap R.2.1.1 er e' (by omega)).1) rg.2.2.1
    have := ha k r er (Nat.le_refl _)
    have := ctP_mono (σ := τ) this
    rw [jsU_c, jsX_c, jsN_c, List.length_cons]
    omega
end LRM2
