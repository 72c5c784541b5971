set_option maxRecDepth 100000
/-! WHAT WAS JUDGED CAN BE TOLD, in the component: dictionaries -/
section LDK
variable {G : om_G} {h0 : om_H} {N : List (List Int)} {cl : Nat → Nat} {U Lv : Nat → Prop} {ins : List INs} {gv : List GVs} {ab : List (Option Nat)} {io : Nat → Nat} {nm con fam cnm : Nat → List Int} {B : Nat} {Q Q' : Ty → Prop}
theorem subT_tyC : ∀ {T X : Ty} {a : Nat}, subT X T → tyC h0 N cl U T a → QC h0 N cl U X
  | .leaf, X, a, h, c => by
    have e : X = .leaf := h
    rw [e]; exact ⟨a, c⟩
  | .inner k w u l r, X, a, h, c => by
    obtain ⟨c0, c1, c2, c3, c4, c5, c6⟩ := id c
    rcases h with h | h | h
    · rw [h]; exact ⟨a, c⟩
    · exact subT_tyC h c4
    · exact subT_tyC h c5
/-- what is worked out is in normal form -/
theorem knT_nf {f : Nat} {T u : Ty} (kn : knT ins gv Q f T u) : ∃ b, b ≤ 20 ∧ nmf ins gv u b ∧ tszW u ≤ 60 := by
  by_cases th : thB T = true
  · obtain ⟨D, bg, hw, _⟩ := kn
    have e := hw (0, 0, [])
    have hb : bg < 20 := by
      cases f with
      | zero => cases e
      | succ f => exact Classical.byContradiction (fun q => by
        rw [wk_f, if_pos th, if_pos (by omega)] at e
        cases e)
    have nf := wk_nmf (c := 1) (Nat.le_refl _) (by omega) e
    rw [if_neg (by decide)] at nf
    exact ⟨20 - bg, by omega, nf⟩
  · have eu := knT_no kn th
    obtain ⟨D, bg, hw, _⟩ := kn
    have e := hw (0, 0, [])
    cases f with
    | zero => cases e
    | succ f =>
      rw [wk_f, if_neg th] at e
      obtain ⟨_, _, fit⟩ := fitO_some (Option.some.inj e)
      refine ⟨0, by omega, ?_, by rw [eu]; exact fit⟩
      rw [eu]
      cases T with
      | leaf => trivial
      | inner k w x l r => exact Bool.eq_false_iff.mpr th
theorem knT_selfC {f : Nat} {T u : Ty} {a : Nat} (kn : knT ins gv Q f T u) (cu : tyC h0 N cl U u a) : knT ins gv (QC h0 N cl U) 130 u u := by
  obtain ⟨b, hb, nf, fit⟩ := knT_nf kn
  obtain ⟨D, d1, d2⟩ := nmf_wk (c := 1) (Nat.le_refl _) (f := 130) (bg := 0) nf fit (.inr (by omega)) (by omega)
  exact ⟨D, 0, d2, fun X hX => subT_tyC (d1 X hX) cu⟩
theorem knT_fun {T u u' : Ty} (kn : knT ins gv Q 130 T u) (kn' : knT ins gv Q' 130 T u') : u' = u := by
  obtain ⟨D, d, _⟩ := knT_130 (Nat.le_refl _) kn
  obtain ⟨D', d', _⟩ := knT_130 (Nat.le_refl _) kn'
  have e := (d' (0, 0, [])).symm.trans (d (0, 0, []))
  injection Option.some.inj (Option.some.inj e) with e1 e2
/-- its parts are worked out -/
theorem part_id {f k w : Nat} {x : Unit} {T l r X u' : Ty} (kn : knT ins gv Q f T (.inner k w x l r)) (hX : X = l ∨ X = r) (hne : X ≠ .leaf) (kn' : knT ins gv Q' 130 X u') : u' = X := by
  obtain ⟨b, hb, nf, _⟩ := knT_nf kn
  by_cases th : thB (.inner k w x l r) = true
  · cases b with
    | zero =>
      have nf' : thB (.inner k w x l r) = false := nf
      rw [th] at nf'
      cases nf'
    | succ b =>
      obtain ⟨_, n1, n2, n3, n4⟩ := nf th
      have hx : nmf ins gv X b ∧ tszW X ≤ 60 := by
        rcases hX with z | z
        · subst z; exact ⟨n3, n1 hne⟩
        · subst z; exact ⟨n4, n2 hne⟩
      obtain ⟨D, _, d2⟩ := nmf_wk (c := 1) (Nat.le_refl _) (f := 130) (bg := 0) hx.1 hx.2 (.inr (by omega)) (by omega)
      exact knT_fun (Q := fun _ => True) ⟨D, 0, d2, fun _ _ => trivial⟩ kn'
  · refine knT_no kn' (fun z => th ?_)
    show (k == 2 || thB l || thB r) = true
    rcases hX with y | y
    · rw [← y, z]; simp
    · rw [← y, z]; simp
/-- no proofs for what is worked out -/
theorem nP_nf {f : Nat} {T u : Ty} (hf : f ≤ 130) (kn : knT ins gv Q f T u) (n : Nat) : nP ins gv n u = 0 := by
  cases n with
  | zero => rfl
  | succ n =>
    have e := why_nf (nm := fun _ => []) (con := fun _ => []) (fam := fun _ => []) (f2 := 1) hf kn
    rw [whyB_s] at e
    rw [nP_s]
    cases gb : gby ins gv (innT ins gv u) with
    | some b =>
      rw [gb] at e
      have e' : thnB (thnB (if tyE (innT ins gv u) u = true then none else some (wpB (fun _ => []) (fun _ => []) (fun _ => []) (whyB (fun _ => []) (fun _ => []) (fun _ => []) ins gv 0) u)) (some (goB (fun _ => []) (fun _ => []) (fun _ => []) b (innT ins gv u)))) (whyB (fun _ => []) (fun _ => []) (fun _ => []) ins gv 0 (gto ins gv b (tL (innT ins gv u)))) = none := e
      exfalso
      by_cases c : tyE (innT ins gv u) u = true
      · rw [if_pos c] at e'; cases e'
      · rw [if_neg c] at e'; cases e'
    | none =>
      rw [gb] at e
      have e' : (if tyE (innT ins gv u) u = true then none else some (wpB (fun _ => []) (fun _ => []) (fun _ => []) (whyB (fun _ => []) (fun _ => []) (fun _ => []) ins gv 0) u)) = none := e
      by_cases c : tyE (innT ins gv u) u = true
      · rw [if_pos c]
        rfl
      · rw [if_neg c] at e'; cases e'
/-- a dictionary's cast can be told -/
theorem kn2_dc (I : InH (hdC N cl nm con fam h0) ins gv B) {T u : Ty} {a : Nat} (kn : knT ins gv (QC h0 N cl U) 130 T u) (hT : T ≠ .leaf) (g : GTH ins (hdC N cl nm con fam h0) T) (cu : tyC h0 N cl U u a) (hn : nP ins gv 130 T ≤ 3600) : kn2C h0 N cl U ins gv nm con fam u T := by
  obtain ⟨gu, hu⟩ := kn_good I (by decide) kn hT g
  have fit := knT_fit I kn hT g
  refine ⟨⟨hu, hT⟩, ⟨gu, g⟩, fun _ => fit.2.2, fun _ => ⟨u, knT_selfC kn cu, kn⟩, fun _ => ?_⟩
  rw [nP_nf (by decide) kn]
  omega
theorem upA_lt (hab : ∀ k k' : Nat, ab[k]? = some (some k') → k' < ab.length) {g : Nat} (hg : g < ab.length) : ∀ (i k : Nat), upA ab i g = some k → k < ab.length
  | 0, k, e => by
    have : g = k := Option.some.inj e
    omega
  | i + 1, k, e => by
    have e' : (upA ab i g).bind (fun k' => (ab[k']?).bind id) = some k := e
    cases q : upA ab i g with
    | none => rw [q] at e'; cases e'
    | some k' =>
      rw [q, Option.bind_some] at e'
      cases q2 : ab[k']? with
      | none => rw [q2] at e'; cases e'
      | some o =>
        rw [q2, Option.bind_some] at e'
        have e2 : o = some k := e'
        subst e2
        exact hab k' k q2
set_option maxHeartbeats 1000000 in
/-- DICTIONARIES CAN BE TOLD -/
theorem dK_of (I : InH (hdC N cl nm con fam h0) ins gv B) (hio : ∀ (i : Nat) (d : INs), ins[i]? = some d → ioC io h0 i) (hcn : ∀ c, c < ab.length → cnC cl cnm h0 c) (hg : ∀ g ∈ gv, g.1 < 100 → g.1 < ab.length) (hab : ∀ k k' : Nat, ab[k]? = some (some k') → k' < ab.length) (hpc : ∀ d ∈ ins, ∀ p ∈ d.2.2.2.1, p.1 < ab.length ∧ (p.2 = 0 → 2 ≤ d.2.1) ∧ (p.2 ≠ 0 → d.2.1 = 3)) (gc : ∀ (c w j : Nat) (g : GVs), gCl ab gv c w = some j → gv[j]? = some g → g.1 < 100) : ∀ (f c : Nat) (T : Ty) (D : Dc) (F : Nat) (u : Ty) (l : List Nat), dcK ab ins gv (QC h0 N cl U) f c T → dcT ab ins gv f c T = some D → c < ab.length → T ≠ .leaf → GTH ins (hdC N cl nm con fam h0) T → knT ins gv (QC h0 N cl U) 130 T u → tsz u + 9 ≤ F → DcX h0 N cl U Lv io ab gv D l → dK N cl nm con fam cnm io ab gv h0 (kn2C h0 N cl U ins gv nm con fam) D F
  | 0, _, _, _, _, _, _, k, _, _, _, _, _, _, _ => k.elim
  | f + 1, c, T, D, F, u, l, k, e, hc, hT, gT, kn, hF, X => by
    obtain ⟨u0, kn0, np, hcn'⟩ := k
    have eu : u0 = u := knT_fun kn kn0
    subst eu
    obtain ⟨gu, hu⟩ := kn_good I (by decide) kn hT gT
    have ed : dcU ab ins gv (dcT ab ins gv f) c T u0 = some D := by
      obtain ⟨D0, hw, _⟩ := knT_130 (Nat.le_refl _) kn
      obtain ⟨D1, d1, _, w0⟩ := wk_st (hw (0, 0, []))
      have w := w0 0 0 (0, 0, []) (by decide) (by decide) (by decide)
      have e' : (wk 0 ins gv 130 false 0 (0, 0, []) T).bind (fun a => a.bind fun p => dcU ab ins gv (dcT ab ins gv f) c T p.1) = some D := e
      rw [w] at e'
      exact e'
    have fitu := knT_fit I kn hT gT
    have cstk : ∀ y, cstC h0 N cl U u0 T y → tyE u0 T = false → kn2C h0 N cl U ins gv nm con fam u0 T := fun y cy ef => by
      rcases cy with ⟨c1, _⟩ | ⟨_, _, c3, _⟩
      · rw [ef] at c1; cases c1
      · exact kn2_dc I kn hT gT c3 np
    rcases u0 with ⟨k, w, z, lt, rr⟩ | _
    rotate_left
    · exact absurd rfl hu
    rw [dcU_inner] at ed
    by_cases k0 : k = 0
    · rw [if_pos k0] at ed
      cases q1 : gCl ab gv c w with
      | none => rw [q1] at ed; cases ed
      | some j =>
      rw [q1, Option.bind_some] at ed
      cases q2 : gv[j]? with
      | none => rw [q2] at ed; cases ed
      | some g =>
      rw [q2, Option.bind_some] at ed
      cases q3 : stpA ab 9 g.1 c with
      | none => rw [q3] at ed; cases ed
      | some s =>
      rw [q3] at ed
      have eD : .inner 0 (j, s, .inner k w z lt rr, T) () .leaf .leaf = D := Option.some.inj ed
      subst eD
      obtain ⟨y, l', x1, x2, _⟩ := X
      have jl := (List.getElem?_eq_some_iff.mp q2).1
      have g4 := I.2.1.2.1
      obtain ⟨h1, h2, h3⟩ := stpA_up q3
      have gl := hg g (List.mem_of_getElem? q2) (gc c w j g q1 q2)
      refine ⟨cstk y x2, .inl ⟨rfl, by show s < F; omega, by show j < 100; omega, fun g' eg i k hi ek => ?_⟩, trivial, trivial⟩
      have eg' : g = g' := Option.some.inj (q2.symm.trans eg)
      subst eg'
      exact hcn k (upA_lt hab gl i k ek)
    · rw [if_neg k0] at ed
      by_cases k1 : k = 1
      rotate_left
      · rw [if_neg k1] at ed; cases ed
      rw [if_pos k1] at ed
      subst k1
      cases q1 : iOf ins c w with
      | none => rw [q1] at ed; cases ed
      | some i =>
      rw [q1, Option.bind_some] at ed
      cases q2 : ins[i]? with
      | none => rw [q2] at ed; cases ed
      | some d =>
      rw [q2, Option.bind_some] at ed
      cases q3 : dcL (dcT ab ins gv f) (.inner 1 w z lt rr) d.2.2.2.1 with
      | none => rw [q3] at ed; cases ed
      | some cs =>
      rw [q3] at ed
      have eD : .inner 1 (i, c, .inner 1 w z lt rr, T) () cs .leaf = D := Option.some.inj ed
      subst eD
      obtain ⟨y, l', x1, x2, x3, x4, _⟩ := X
      rw [if_neg (by decide)] at x4
      have il := (List.getElem?_eq_some_iff.mp q2).1
      obtain ⟨d0, i1, i2⟩ := ixF_some q1
      have ed0 : d0 = d := Option.some.inj (i1.symm.trans q2)
      have i2' : d.1 = c ∧ d.2.1 = w := by rw [ed0] at i2; simpa using i2
      have sh : w ≤ 3 ∧ (lt = .leaf ↔ w < 2) ∧ (rr = .leaf ↔ w ≠ 3) := by
        rcases gu.1.1 with q | q | q | q
        · omega
        · exact q.2
        · omega
        · omega
      have zs : tsz (.inner 1 w z lt rr) = 1 + tsz lt + tsz rr := rfl
      obtain ⟨gl, gr⟩ := GTy_l gu
      refine ⟨cstk y x2, .inr ⟨rfl, by omega, hio i d q2, hcn c hc, ⟨w, z, lt, rr, rfl⟩, gu.1, fitu.2.2, gu.2.2.2⟩, ?_, trivial⟩
      -- those that it asks for
      have go : ∀ (ps : List (Nat × Nat)) (cs : Dc) (l : List Nat), (∀ p ∈ ps, p ∈ d.2.2.2.1) → dcL (dcT ab ins gv f) (.inner 1 w z lt rr) ps = some cs → DcX h0 N cl U Lv io ab gv cs l → dK N cl nm con fam cnm io ab gv h0 (kn2C h0 N cl U ins gv nm con fam) cs (F - 1) := by
        intro ps
        induction ps with
        | nil =>
          intro cs l _ e _
          have : .leaf = cs := Option.some.inj e
          subst this
          trivial
        | cons p ps ih =>
          intro cs l hp e Xc
          have e' : (dcT ab ins gv f p.1 (if p.2 = 0 then lt else rr)).bind (fun a => (dcL (dcT ab ins gv f) (.inner 1 w z lt rr) ps).map fun b => dnx a b) = some cs := e
          cases y1 : dcT ab ins gv f p.1 (if p.2 = 0 then lt else rr) with
          | none => rw [y1] at e'; cases e'
          | some D1 =>
          rw [y1, Option.bind_some] at e'
          cases y2 : dcL (dcT ab ins gv f) (.inner 1 w z lt rr) ps with
          | none => rw [y2] at e'; cases e'
          | some cs' =>
          rw [y2] at e'
          have ecs : dnx D1 cs' = cs := Option.some.inj e'
          subst ecs
          have pm := hp p List.mem_cons_self
          obtain ⟨p1, p2, p3⟩ := hpc d (List.mem_of_getElem? q2) p pm
          rw [i2'.2] at p2 p3
          have kk := hcn' 1 w z lt rr rfl rfl i d q1 q2 p pm
          have kk' : dcK ab ins gv (QC h0 N cl U) f p.1 (if p.2 = 0 then lt else rr) := kk
          have one : ∀ X, (if p.2 = 0 then lt else rr) = X → (X = lt ∨ X = rr) ∧ X ≠ .leaf ∧ GTH ins (hdC N cl nm con fam h0) X ∧ tsz X < tsz (.inner 1 w z lt rr) := fun X eX => by
            by_cases c : p.2 = 0
            · rw [if_pos c] at eX
              subst eX
              exact ⟨.inl rfl, fun q => by have := sh.2.1.mp q; have := p2 c; omega, gl, by omega⟩
            · rw [if_neg c] at eX
              subst eX
              exact ⟨.inr rfl, fun q => sh.2.2.mp q (p3 c), gr, by omega⟩
          generalize (if p.2 = 0 then lt else rr) = X at y1 kk' one
          obtain ⟨o1, o2, o3, o4⟩ := one X rfl
          cases f with
          | zero => exact kk'.elim
          | succ f =>
          obtain ⟨uX, kX, _⟩ := id kk'
          have eX := part_id kn o1 o2 kX
          subst eX
          cases D1 with
          | leaf =>
            exfalso
            have y1' : (wk 0 ins gv 130 false 0 (0, 0, []) uX).bind (fun a => a.bind fun p' => dcU ab ins gv (dcT ab ins gv f) p.1 uX p'.1) = some .leaf := y1
            cases w1 : wk 0 ins gv 130 false 0 (0, 0, []) uX with
            | none => rw [w1] at y1'; cases y1'
            | some a =>
            rw [w1, Option.bind_some] at y1'
            cases a with
            | none => cases y1'
            | some p' =>
            rw [Option.bind_some] at y1'
            cases hv : p'.1 with
            | leaf => rw [hv] at y1'; cases y1'
            | inner k' w' z' l1 r1 =>
              rw [hv, dcU_inner] at y1'
              by_cases c0 : k' = 0
              · rw [if_pos c0] at y1'
                cases q1 : gCl ab gv p.1 w' with
                | none => rw [q1] at y1'; cases y1'
                | some j =>
                rw [q1, Option.bind_some] at y1'
                cases q2 : gv[j]? with
                | none => rw [q2] at y1'; cases y1'
                | some g =>
                rw [q2, Option.bind_some] at y1'
                cases q3 : stpA ab 9 g.1 p.1 with
                | none => rw [q3] at y1'; cases y1'
                | some s => rw [q3] at y1'; cases y1'
              · rw [if_neg c0] at y1'
                by_cases c1 : k' = 1
                · rw [if_pos c1] at y1'
                  cases q1 : iOf ins p.1 w' with
                  | none => rw [q1] at y1'; cases y1'
                  | some j =>
                  rw [q1, Option.bind_some] at y1'
                  cases q2 : ins[j]? with
                  | none => rw [q2] at y1'; cases y1'
                  | some g =>
                  rw [q2, Option.bind_some] at y1'
                  cases q3 : dcL (dcT ab ins gv f) (.inner k' w' z' l1 r1) g.2.2.2.1 with
                  | none => rw [q3] at y1'; cases y1'
                  | some s => rw [q3] at y1'; cases y1'
                · rw [if_neg c1] at y1'; cases y1'
          | inner t1 a1 u1 cs1 nx1 =>
            obtain ⟨yy, ll', z1, z2, z3, z4, z5⟩ := Xc
            have XD : DcX h0 N cl U Lv io ab gv (.inner t1 a1 u1 cs1 .leaf) [yy] := ⟨yy, [], rfl, z2, z3, z4, rfl⟩
            have nx0 : nx1 = .leaf := by
              have : ∀ {f c : Nat} {T : Ty} {t : Nat} {a : Nat × Nat × Ty × Ty} {u : Unit} {cs nx : Dc}, dcT ab ins gv f c T = some (.inner t a u cs nx) → nx = .leaf := fun {f c T t a u cs nx} e => by
                cases f with
                | zero => cases e
                | succ f =>
                have e' : (wk 0 ins gv 130 false 0 (0, 0, []) T).bind (fun a => a.bind fun p' => dcU ab ins gv (dcT ab ins gv f) c T p'.1) = some (.inner t a u cs nx) := e
                cases w1 : wk 0 ins gv 130 false 0 (0, 0, []) T with
                | none => rw [w1] at e'; cases e'
                | some a =>
                rw [w1, Option.bind_some] at e'
                cases a with
                | none => cases e'
                | some p' =>
                rw [Option.bind_some] at e'
                cases hv : p'.1 with
                | leaf => rw [hv] at e'; cases e'
                | inner k' w' z' l1 r1 =>
                  rw [hv, dcU_inner] at e'
                  by_cases c0 : k' = 0
                  · rw [if_pos c0] at e'
                    cases q1 : gCl ab gv c w' with
                    | none => rw [q1] at e'; cases e'
                    | some j =>
                    rw [q1, Option.bind_some] at e'
                    cases q2 : gv[j]? with
                    | none => rw [q2] at e'; cases e'
                    | some g =>
                    rw [q2, Option.bind_some] at e'
                    cases q3 : stpA ab 9 g.1 c with
                    | none => rw [q3] at e'; cases e'
                    | some s =>
                      rw [q3] at e'
                      injection Option.some.inj e' with _ _ _ _ e5
                      exact e5.symm
                  · rw [if_neg c0] at e'
                    by_cases c1 : k' = 1
                    · rw [if_pos c1] at e'
                      cases q1 : iOf ins c w' with
                      | none => rw [q1] at e'; cases e'
                      | some j =>
                      rw [q1, Option.bind_some] at e'
                      cases q2 : ins[j]? with
                      | none => rw [q2] at e'; cases e'
                      | some g =>
                      rw [q2, Option.bind_some] at e'
                      cases q3 : dcL (dcT ab ins gv f) (.inner k' w' z' l1 r1) g.2.2.2.1 with
                      | none => rw [q3] at e'; cases e'
                      | some s =>
                        rw [q3] at e'
                        injection Option.some.inj e' with _ _ _ _ e5
                        exact e5.symm
                    · rw [if_neg c1] at e'; cases e'
              exact this y1
            subst nx0
            have d1 := dK_of I hio hcn hg hab hpc gc (f + 1) p.1 uX (.inner t1 a1 u1 cs1 .leaf) (F - 1) uX [yy] kk' y1 p1 o2 o3 kX (by omega) XD
            exact ⟨d1.1, d1.2.1, d1.2.2.1, ih cs' ll' (fun q hq => hp q (List.mem_cons_of_mem _ hq)) y2 z5⟩
      exact go d.2.2.2.1 cs _ (fun p hp => hp) q3 x4
end LDK
