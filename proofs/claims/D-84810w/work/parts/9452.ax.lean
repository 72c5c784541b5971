set_option maxRecDepth 100000
/-! THE THIRD RULE: all insts, in both -/
/-- an inst: its declaration, object, row, the token of its class, its family's name, its lines (names, places) and their nodes -/
abbrev IX : Type := Nat × dcl × PD × (Nat × Nat × Nat × Nat) × INs × Nat × Option Nat × List (Nat × Nat) × List Nat
def InX (G : om_G) (A : Nat) (S : List Int) (b m : Nat) (N : List (List Int)) (pr tb z0 : Nat) (cs fo : List Nat) (mo : List (List Nat)) (K : KT) (F : FT) (Ms : List FT) (hr : om_H) (σr : tS) (M : Nat) (qs : List dcl) (ps : List PD) (rs : List (Nat × Nat × Nat × Nat)) (h : om_H) (ul fl : List Nat) (τ : tS) (n : Nat) (Sl : Nat → Prop) (f i : Nat) (q : dcl) (p : PD) (r : Nat × Nat × Nat × Nat) (d : INs) (jc : Nat) (fam : Option Nat) (lns : List (Nat × Nat)) (ns : List Nat) : Prop := (qs[i]? = some q ∧ ps[i]? = some p ∧ rs[i]? = some r ∧ p.1 = 6 ∧ (sAt S ps ([], [], [], [], [], 0) i).2.2.2.2.2 = f) ∧ (prgL hr qs (fun _ => []) 86)[f]? = some q.2.1 ∧ InTw τ n K.length f d ∧ InC h N (clF cs) (UU ul []) Sl d f q.2.1 ∧ (fI h 1304 q.2.1 = (d.2.1 : Int) ∧ tyC h N (clF cs) (UU ul []) (tnd 1 d.2.1 (hdN d.2.2.1 0) (hdN d.2.2.1 1)) (fR h 1318 q.2.1) ∧ (∀ c ∈ d.2.2.2.1, ∀ k, k < c.2 → d.2.2.1[k]? ≠ d.2.2.1[c.2]?) ∧ (d.2.2.2.2 ≠ .leaf → tyM d.2.2.2.2)) ∧ (ga τ 690 f = (i : Int) ∧ fI h 1276 q.2.1 = (tokq S p.2.1 : Int) ∧ 0 < fR h 162 (fR h 1286 q.2.1)) ∧ ((fR h 1290 q.2.1 < hz h ∧ kd h (fR h 1290 q.2.1) = 17 ∧ fI h 1188 (fR h 1290 q.2.1) = (tokq S jc : Int)) ∧ ga τ 578 i = ((b + jc : Nat) : Int) ∧ tokk S jc = 3) ∧ ((fam = none ∧ fR h 1298 q.2.1 = 0 ∧ fR h 1310 q.2.1 = 0 ∧ ga τ 610 i = -1 ∧ d.2.2.2.2 = .leaf) ∨ ∃ (w jf lo' hi' a1 a2 p' : Nat), fam = some w ∧ (fR h 1298 q.2.1 ≠ 0 ∧ fR h 1310 q.2.1 ≠ 0 ∧ wN h N w (fR h 1298 q.2.1)) ∧ ga τ 610 i = ((b + jf : Nat) : Int) ∧ (tokk S jf = 3 ∧ N[w]? = some (tokw S jf) ∧ FI Prod.snd (tokw S jf) K ≠ none) ∧ d.2.2.2.2 ≠ .leaf ∧ ga τ 614 i = (p' : Int) ∧ (hi' ≤ M ∧ z0 ≤ a1 ∧ a2 ≤ hz hr) ∧ WR A S b h τ 59 lo' hi' a1 a2 (fR h 1310 q.2.1) p' ∧ RdT S b K τ (fun w => w ∈ d.2.2.1) lo' hi' 59 p' d.2.2.2.2) ∧ (Sl (fR h 1326 q.2.1) ∧ fR h 1326 q.2.1 < hz h ∧ kd h (fR h 1326 q.2.1) = 42 ∧ (ll h (fR h 1326 q.2.1)).length = lns.length ∧ chain τ (ga τ 602 i) ns ∧ ns.length = lns.length ∧ lns.length ≤ 2700) ∧ (fR h 1322 q.2.1 < hz h ∧ kd h (fR h 1322 q.2.1) = 42 ∧ ll h (fR h 1322 q.2.1) = [] ∧ (HdL hr qs (fR h 1322 q.2.1) ∧ r.2.2.1 ≤ fR h 1322 q.2.1 ∧ fR h 1322 q.2.1 < r.2.2.2) ∧ (fR h 1334 q.2.1 = 0 ∧ r.2.2.1 ≤ fR h 1286 q.2.1 ∧ fR h 1286 q.2.1 < r.2.2.2 ∧ (r.2.2.1 ≤ q.2.1 ∧ q.2.1 < r.2.2.2) ∧ ∀ x ∈ ll h (fR h 1326 q.2.1), q.2.1 < x) ∧ (ll h (fR h 166 (fR h 1286 q.2.1))).Nodup ∧ ∀ x ∈ ll h (fR h 166 (fR h 1286 q.2.1)), (r.2.2.1 ≤ x ∧ x < r.2.2.2) ∧ fR h 1358 x = 0) ∧ ∀ (k x o : Nat) (y : Nat × Nat), (ll h (fR h 1326 q.2.1))[k]? = some x → ns[k]? = some o → lns[k]? = some y → LnR G A S b N cs fo F mo Ms r.1 r.2.2.1 (hz hr) r.2.1 r.2.2.2 h ul τ n (ll h (fR h 1326 q.2.1)) ns k x o y.1 y.2
/-- what is known of all classes and insts behind resolve -/
def AX (G : om_G) (A : Nat) (S : List Int) (b m : Nat) (N : List (List Int)) (pr tb z0 : Nat) (cs fo : List Nat) (mo : List (List Nat)) (K : KT) (F : FT) (Ms : List FT) (hr : om_H) (σr : tS) (M : Nat) (qs : List dcl) (ps : List PD) (rs : List (Nat × Nat × Nat × Nat)) (h : om_H) (ul fl : List Nat) (τ : tS) (n : Nat) (Sl : Nat → Prop) (cl : List Cp) (il : List IX) : Prop := (cl.length = K.length ∧ ∀ (c : Nat) (x : Cp), cl[c]? = some x → ClT τ n c x ∧ ClCo h N (clF cs) (UU ul []) Sl (moF mo) c x ∧ (∀ y ∈ x.2.2.2.2, tyM y.2) ∧ (∃ L1, N[x.1]? = some L1 ∧ ∃ o, K[c]? = some (some L1, o) ∧ ((x.2.2.2.1 = none ∧ o = none) ∨ ∃ w L2, x.2.2.2.1 = some w ∧ N[w]? = some L2 ∧ o = some L2)) ∧ (∀ k, aR h (fR h 1238 (clF cs c)) k = 0) ∧ ∀ y ∈ x.2.2.2.2, (∃ L, N[y.1]? = some L) ∧ nmIn [x.2.1] y.2) ∧ il.length = (pss S ps).2.2.2.2.2 ∧ ∀ (f : Nat) (x : IX), il[f]? = some x → f < 20 ∧ InX G A S b m N pr tb z0 cs fo mo K F Ms hr σr M qs ps rs h ul fl τ n Sl f x.1 x.2.1 x.2.2.1 x.2.2.2.1 x.2.2.2.2.1 x.2.2.2.2.2.1 x.2.2.2.2.2.2.1 x.2.2.2.2.2.2.2.1 x.2.2.2.2.2.2.2.2
section LTA
variable {G : om_G} {A : Nat} {S : List Int} {b m : Nat} {N : List (List Int)} {pr tb z0 : Nat} {cs fo : List Nat} {mo : List (List Nat)} {K : KT} {F : FT} {Ms : List FT} {hr : om_H} {σr : tS} {M : Nat} {qs : List dcl} {ps : List PD} {rs : List (Nat × Nat × Nat × Nat)} {h : om_H} {ul fl : List Nat} {τ : tS} {n : Nat} {Sl : Nat → Prop}
theorem AX_of (R : RA G A S b m N pr tb z0 cs fo mo K F Ms hr σr M qs ps rs h ul fl τ n) (hSl : ∀ y, z0 ≤ y → y < hz h → kd h y = 42 → ¬ HdL hr qs y → Sl y) : ∃ cl il, AX G A S b m N pr tb z0 cs fo mo K F Ms hr σr M qs ps rs h ul fl τ n Sl cl il := by
  obtain ⟨cl, c1, c2⟩ := lch (P := fun c (x : Cp) => ClT τ n c x ∧ ClCo h N (clF cs) (UU ul []) Sl (moF mo) c x ∧ (∀ y ∈ x.2.2.2.2, tyM y.2) ∧ (∃ L1, N[x.1]? = some L1 ∧ ∃ o, K[c]? = some (some L1, o) ∧ ((x.2.2.2.1 = none ∧ o = none) ∨ ∃ w L2, x.2.2.2.1 = some w ∧ N[w]? = some L2 ∧ o = some L2)) ∧ (∀ k, aR h (fR h 1238 (clF cs c)) k = 0) ∧ ∀ y ∈ x.2.2.2.2, (∃ L, N[y.1]? = some L) ∧ nmIn [x.2.1] y.2) K.length (fun c hc => cl_el R hSl hc)
  obtain ⟨il, i1, i2⟩ := lch (P := fun f (x : IX) => f < 20 ∧ InX G A S b m N pr tb z0 cs fo mo K F Ms hr σr M qs ps rs h ul fl τ n Sl f x.1 x.2.1 x.2.2.1 x.2.2.2.1 x.2.2.2.2.1 x.2.2.2.2.2.1 x.2.2.2.2.2.2.1 x.2.2.2.2.2.2.2.1 x.2.2.2.2.2.2.2.2) (pss S ps).2.2.2.2.2 (fun f hf => by
    obtain ⟨h20, i, q, p, r, d, jc, fam, lns, ns, H⟩ := in_el R hSl hf
    exact ⟨(i, q, p, r, d, jc, fam, lns, ns), h20, H⟩)
  exact ⟨cl, il, ⟨c1, c2⟩, i1, i2⟩
theorem mnl_emp {B : List Int} {y : Int} (h : ∀ x ∈ B, x ≤ 2000) (e : mnl y B = 2147483647) : B = [] := by
  cases B with
  | nil => rfl
  | cons x B =>
    have := (mnl_le (A := x :: B) (x := y)).2 x List.mem_cons_self
    have := h x List.mem_cons_self
    omega
theorem lnB_2000 {ms : List (Nat × Ty)} : ∀ {ls : List (Nat × Nat)} {k : Nat} {acc : List (Nat × Nat)}, (∀ l ∈ ls, l.2 ≤ 2000) → ∀ x ∈ lnB ms k acc ls, x ≤ 2000
  | [], _, _, _, x, hx => absurd hx List.not_mem_nil
  | l :: ls, k, acc, H, x, hx => by
    rcases List.mem_append.mp hx with hx | hx
    · cases g : lnG ms acc l.1 with
      | none =>
        rw [g] at hx
        have e : x = (l.2 : Int) := List.mem_singleton.mp hx
        have := H l List.mem_cons_self
        omega
      | some m => rw [g] at hx; exact absurd hx List.not_mem_nil
    · exact lnB_2000 (fun l hl => H l (List.mem_cons_of_mem _ hl)) x hx
theorem msB_2000 {acc : List (Nat × Nat)} {q : Int} (hq : q ≤ 2000) : ∀ {n : Nat}, ∀ x ∈ msB acc q n, x ≤ 2000
  | 0, x, hx => absurd hx List.not_mem_nil
  | n + 1, x, hx => by
    rcases List.mem_append.mp hx with hx | hx
    · exact msB_2000 hq x hx
    · split at hx
      · exact absurd hx List.not_mem_nil
      · rw [List.mem_singleton.mp hx]; exact hq
/-- a token's things in the twin -/
theorem TT_tok {σ : tS} (T : TT σ N S b m) (nd : ndN N) {j w : Nat} (tk : tokk S j = 2 ∨ tokk S j = 3) (e : N[w]? = some (tokw S j)) : b + j < 4100 ∧ ga σ 482 (b + j) = (w : Int) ∧ ga σ 474 (b + j) = (tokq S j : Int) := by
  obtain ⟨w', n1, n2, n3⟩ := t_nameAt T tk
  have ew : w' = w := nd _ _ _ n2 e
  subst ew
  unfold T_nameAt at n1
  have lt : 0 ≤ ((b + j : Nat) : Int) ∧ ((b + j : Nat) : Int) < 4100 := Decidable.byContradiction (fun z => by rw [if_neg z] at n1; cases n1)
  rw [if_pos lt] at n1
  refine ⟨by omega, Option.some.inj n1, (T.1 j (by omega)).2.1⟩
theorem tF_hT {I W : Nat → Prop} {h1 : om_H} (A : tF pr I W h h1) : hT (fun y => y = pr ∨ I y ∨ W y) h h1 := ⟨A.1.1, A.1.2, fun a ha => (A.2 a ha).1, fun a ha hn => by
  obtain ⟨c1, c2, c3, c4, c5, c6, c7, c8⟩ := A.2 a ha
  exact ⟨c1, fun g => c2 g (fun z => hn (.inl z.2)), fun g => c3 g (fun z => hn (.inr (.inl z.2))), c4, c5, c6 (fun z => hn (.inr (.inr z))), c7, c8⟩⟩
end LTA
