set_option maxRecDepth 100000
/-! CLOSED TYPES: which classes are had for them; what was asked for is there -/
def cG (τ : Ty) : Prop := τ ≠ .leaf ∧ wfT τ
/-- a class is had for a closed type -/
def cHd (ins : List INs) : Ty → Nat → Prop
  | .leaf, _ => False
  | .inner k w _ l r, c => k = 1 ∧ ∃ i d, iOf ins c w = some i ∧ ins[i]? = some d ∧ ∀ p ∈ d.2.2.2.1, (p.2 = 0 → cHd ins l p.1) ∧ (p.2 ≠ 0 → cHd ins r p.1)
/-- types for the names around, by which what is given holds -/
def okTh (ins : List INs) (gv : List GVs) (θ : Nat → Ty) : Prop := (∀ w, cG (θ w)) ∧ satG ins gv θ ∧ ∀ g ∈ gv, g.1 < 100 → cHd ins (θ g.2.1) g.1
/-- types for the names of an inst's head -/
def thN (d : INs) (l r : Ty) (x : Nat) : Ty := (nm2 d.2.2.1 l r x).getD tInt
/-- classes and insts as they must be -/
def PgO (ab : List (Option Nat)) (ins : List INs) : Prop := inOK ins ∧ ins.length ≤ 20 ∧ insF ins 2700 ∧ insK ins ∧ (∀ d ∈ ins, d.2.2.1.length = pN d.2.1) ∧ (∀ d ∈ ins, ∀ c ∈ d.2.2.2.1, c.1 < 100) ∧ ∀ d ∈ ins, ∀ c', ab[d.1]? = some (some c') → ∃ D, dcT ab ins (gvI d) 70 c' (hdI d) = some D
section LCT
variable {ab : List (Option Nat)} {ins : List INs} {gv : List GVs} {θ : Nat → Ty}
theorem cG_int : cG tInt := ⟨fun z => (by cases z), ⟨.inr (.inl ⟨rfl, by decide, ⟨fun _ => by decide, fun _ => rfl⟩, ⟨fun _ => by decide, fun _ => rfl⟩⟩), trivial, trivial⟩⟩
theorem nm2_cs {α : Type} {ns : List Nat} {a b x : α} {w : Nat} (e : nm2 ns a b w = some x) : (x = a ∧ 1 ≤ ns.length) ∨ (x = b ∧ 2 ≤ ns.length) := by
  rcases ns with _ | ⟨y, _ | ⟨z, l⟩⟩
  · cases e
  · have e' : (if y = w then some a else none) = some x := e
    split at e'
    · exact .inl ⟨(Option.some.inj e').symm, Nat.le_refl _⟩
    · cases e'
  · have e' : (if y = w then some a else if z = w then some b else none) = some x := e
    split at e'
    · exact .inl ⟨(Option.some.inj e').symm, by show 1 ≤ l.length + 1 + 1; omega⟩
    · split at e'
      · exact .inr ⟨(Option.some.inj e').symm, by show 2 ≤ l.length + 1 + 1; omega⟩
      · cases e'
/-- parts of a constructor that are there -/
theorem sh_1 {k w : Nat} {l r : Ty} (h : shT k w l r) (k1 : k = 1) : w ≤ 3 ∧ (2 ≤ w → l ≠ .leaf) ∧ (w < 2 → l = .leaf) ∧ (w = 3 → r ≠ .leaf) ∧ (w ≠ 3 → r = .leaf) := by
  unfold shT at h
  rcases h with h | h | h | h
  · omega
  · exact ⟨h.2.1, fun z y => by have := h.2.2.1.mp y; omega, fun z => h.2.2.1.mpr z, fun z y => h.2.2.2.mp y z, fun z => h.2.2.2.mpr z⟩
  · omega
  · omega
theorem pN_1 {w : Nat} (h3 : w ≤ 3) (h : 1 ≤ pN w) : 2 ≤ w := by
  unfold pN at h
  split at h
  · assumption
  · omega
theorem pN_2 {w : Nat} (h3 : w ≤ 3) (h : 2 ≤ pN w) : w = 3 := by
  unfold pN at h
  split at h
  · omega
  · omega
/-- what a line comes to is a type -/
theorem evL_good {ns : List Nat} {nm : Nat → Option (Ty × (Nat → Ty))} (hm : ∀ w ∈ ns, ∃ p, nm w = some p ∧ cG p.1 ∧ ∀ f, (∀ d ∈ ins, d.1 = f → d.2.2.2.2 ≠ .leaf) → cG (p.2 f)) : ∀ {T : Ty}, lnOK ns T → okF ins T → wfT T → T ≠ .leaf → cG (evL nm T)
  | .leaf, _, _, _, h => absurd rfl h
  | .inner k w u l r, h1, h2, h3, _ => by
    unfold evL
    by_cases k0 : k = 0
    · rw [if_pos k0]
      obtain ⟨p, p1, p2, _⟩ := hm w (h1.1 k0)
      rw [p1]
      exact p2
    · rw [if_neg k0]
      by_cases k2 : k = 2
      · rw [if_pos k2]
        obtain ⟨w', u', l', r', el, hw⟩ := h1.2.1 k2
        obtain ⟨p, p1, _, p3⟩ := hm w' hw
        rw [el]
        simp only
        rw [p1]
        exact p3 w (h2.1 k2).2
      · rw [if_neg k2]
        have hl : (evL nm l = .leaf ↔ l = .leaf) ∧ wfT (evL nm l) := by
          cases el : l with
          | leaf => exact ⟨⟨fun _ => rfl, fun _ => rfl⟩, trivial⟩
          | inner k1 w1 u1 l1 r1 =>
            rw [← el]
            have n : l ≠ .leaf := fun z => by rw [el] at z; cases z
            obtain ⟨g1, g2⟩ := evL_good hm h1.2.2.1 h2.2.1 h3.2.1 n
            exact ⟨⟨fun z => absurd z g1, fun z => absurd z n⟩, g2⟩
        have hr : (evL nm r = .leaf ↔ r = .leaf) ∧ wfT (evL nm r) := by
          cases el : r with
          | leaf => exact ⟨⟨fun _ => rfl, fun _ => rfl⟩, trivial⟩
          | inner k1 w1 u1 l1 r1 =>
            rw [← el]
            have n : r ≠ .leaf := fun z => by rw [el] at z; cases z
            obtain ⟨g1, g2⟩ := evL_good hm h1.2.2.2 h2.2.2 h3.2.2 n
            exact ⟨⟨fun z => absurd z g1, fun z => absurd z n⟩, g2⟩
        refine ⟨fun z => (by cases z), ?_, hl.2, hr.2⟩
        have sh := h3.1
        unfold shT at sh ⊢
        simp only [ne_eq, hl.1, hr.1] at sh ⊢
        exact sh
/-- a family of a closed type is a closed type -/
theorem faE_good {B : Nat} (ok : inOK ins) (hI : insF ins B) (hN : ∀ d ∈ ins, d.2.2.1.length = pN d.2.1) : ∀ {τ : Ty}, wfT τ → τ ≠ .leaf → ∀ f, (∀ d ∈ ins, d.1 = f → d.2.2.2.2 ≠ .leaf) → cG (faE ins τ f)
  | .leaf, _, h, _, _ => absurd rfl h
  | .inner k w u l r, h, hn, f, hf => by
    have stuck : cG (.inner 2 f () (.inner k w u l r) .leaf) := ⟨fun z => (by cases z), ⟨.inr (.inr (.inl ⟨rfl, hn, rfl⟩)), h, trivial⟩⟩
    unfold faE
    by_cases k1 : k = 1
    · rw [if_pos k1]
      cases q : iOf ins f w with
      | none => exact stuck
      | some i =>
        obtain ⟨d, d1, d2⟩ := ixF_some q
        have d2' : d.1 = f ∧ d.2.1 = w := by simpa using d2
        have dm := List.mem_of_getElem? d1
        simp only
        rw [d1]
        obtain ⟨w3, s1, _, s3, _⟩ := sh_1 h.1 k1
        have nn := hN d dm
        rw [d2'.2] at nn
        refine evL_good (ns := d.2.2.1) (fun x hx => ?_) (ok d dm).2 (hI d dm).1 (hI d dm).2.1 (hf d dm d2'.1)
        obtain ⟨p, hp⟩ := nm2_mem (a := (l, faE ins l)) (b := (r, faE ins r)) (ok d dm).1.1 hx
        refine ⟨p, hp, ?_⟩
        rcases nm2_cs hp with ⟨e, n1⟩ | ⟨e, n1⟩
        · have nl := s1 (pN_1 w3 (by omega))
          rw [e]
          exact ⟨⟨nl, h.2.1⟩, fun f' hf' => faE_good ok hI hN h.2.1 nl f' hf'⟩
        · have nl := s3 (pN_2 w3 (by omega))
          rw [e]
          exact ⟨⟨nl, h.2.2⟩, fun f' hf' => faE_good ok hI hN h.2.2 nl f' hf'⟩
    · rw [if_neg k1]; exact stuck
theorem sem_good {B : Nat} (ok : inOK ins) (hI : insF ins B) (hN : ∀ d ∈ ins, d.2.2.1.length = pN d.2.1) (hθ : ∀ w, cG (θ w)) : ∀ {T : Ty}, wfT T → okF ins T → T ≠ .leaf → cG (sem ins θ T)
  | .leaf, _, _, h => absurd rfl h
  | .inner k w u l r, h1, h2, _ => by
    have hl : (sem ins θ l = .leaf ↔ l = .leaf) ∧ wfT (sem ins θ l) := by
      cases el : l with
      | leaf => exact ⟨⟨fun _ => rfl, fun _ => rfl⟩, trivial⟩
      | inner k1 w1 u1 l1 r1 =>
        rw [← el]
        have n : l ≠ .leaf := fun z => by rw [el] at z; cases z
        obtain ⟨g1, g2⟩ := sem_good ok hI hN hθ h1.2.1 h2.2.1 n
        exact ⟨⟨fun z => absurd z g1, fun z => absurd z n⟩, g2⟩
    have hr : (sem ins θ r = .leaf ↔ r = .leaf) ∧ wfT (sem ins θ r) := by
      cases el : r with
      | leaf => exact ⟨⟨fun _ => rfl, fun _ => rfl⟩, trivial⟩
      | inner k1 w1 u1 l1 r1 =>
        rw [← el]
        have n : r ≠ .leaf := fun z => by rw [el] at z; cases z
        obtain ⟨g1, g2⟩ := sem_good ok hI hN hθ h1.2.2 h2.2.2 n
        exact ⟨⟨fun z => absurd z g1, fun z => absurd z n⟩, g2⟩
    unfold sem
    by_cases k0 : k = 0
    · rw [if_pos k0]; exact hθ w
    · rw [if_neg k0]
      have sh := h1.1
      by_cases k2 : k = 2
      · rw [if_pos k2]
        have ln : l ≠ .leaf := by
          unfold shT at sh
          rcases sh with z | z | z | z
          · omega
          · omega
          · exact z.2.1
          · omega
        exact faE_good ok hI hN hl.2 (fun z => ln (hl.1.mp z)) w (h2.1 k2).2
      · rw [if_neg k2]
        refine ⟨fun z => (by cases z), ?_, hl.2, hr.2⟩
        unfold shT at sh ⊢
        simp only [ne_eq, hl.1, hr.1] at sh ⊢
        exact sh
/-- classes above one another -/
theorem rch_had {τ : Ty} (hup : ∀ c c', cHd ins τ c → ab[c]? = some (some c') → cHd ins τ c') : ∀ (f k a : Nat), rchB ab f k a = true → cHd ins τ k → cHd ins τ a
  | 0, _, _, e, _ => by cases e
  | f + 1, k, a, e, h => by
    unfold rchB at e
    by_cases q : k = a
    · rw [← q]; exact h
    · rw [show (k == a) = false by simpa using q, Bool.false_or] at e
      cases q2 : ab[k]? with
      | none => rw [q2] at e; cases e
      | some o =>
        cases o with
        | none => rw [q2] at e; cases e
        | some k' =>
          rw [q2] at e
          exact rch_had hup f k' a e (hup k k' h q2)
theorem dcL_mem {r : Nat → Ty → Option Dc} {u : Ty} : ∀ {l : List (Nat × Nat)} {cs : Dc}, dcL r u l = some cs → ∀ p ∈ l, ∃ D, r p.1 (if p.2 = 0 then tL u else tR' u) = some D
  | [], _, _, p, hp => absurd hp List.not_mem_nil
  | q :: l, cs, e, p, hp => by
    unfold dcL at e
    cases e1 : r q.1 (if q.2 = 0 then tL u else tR' u) with
    | none => rw [e1] at e; cases e
    | some D =>
      rw [e1, Option.bind_some] at e
      cases e2 : dcL r u l with
      | none => rw [e2] at e; cases e
      | some b =>
        rcases List.mem_cons.mp hp with h | h
        · rw [h]; exact ⟨D, e1⟩
        · exact dcL_mem e2 p h
/-- WHAT WAS ASKED FOR IS THERE: a dictionary that was found is one of a class that is had -/
theorem dc_had (ok : inOK ins) (hl : ins.length ≤ 100) (hs : okTh ins gv θ) (hup : ∀ g ∈ gv, g.1 < 100 → ∀ c c', cHd ins (θ g.2.1) c → ab[c]? = some (some c') → cHd ins (θ g.2.1) c') : ∀ (f c : Nat) (T : Ty) (D : Dc), dcT ab ins gv f c T = some D → cHd ins (sem ins θ T) c
  | 0, _, _, _, e => by cases e
  | f + 1, c, T, D, e => by
    have e' : (wk 0 ins gv 130 false 0 (0, 0, []) T).bind (fun a => a.bind fun p => dcU ab ins gv (dcT ab ins gv f) c T p.1) = some D := e
    cases q : wk 0 ins gv 130 false 0 (0, 0, []) T with
    | none => rw [q] at e'; cases e'
    | some a =>
    rw [q, Option.bind_some] at e'
    cases a with
    | none => cases e'
    | some p =>
    obtain ⟨v, s1⟩ := p
    rw [Option.bind_some] at e'
    rw [← wk_sem ok hs.2.1 hl q]
    cases v with
    | leaf => cases e'
    | inner k w x l t =>
      have e2 : dcU ab ins gv (dcT ab ins gv f) c T (.inner k w x l t) = some D := e'
      rw [dcU_inner] at e2
      by_cases k0 : k = 0
      · rw [if_pos k0] at e2
        cases qg : gCl ab gv c w with
        | none => rw [qg] at e2; cases e2
        | some j =>
          obtain ⟨g, g1, g2⟩ := ixF_some qg
          have g2' : (g.1 < 100 ∧ g.2.1 = w) ∧ rchB ab 9 g.1 c = true := by simpa using g2
          have gm := List.mem_of_getElem? g1
          have es : sem ins θ (.inner k w x l t) = θ w := by
            show (if k = 0 then θ w else _) = _
            rw [if_pos k0]
          rw [es, ← g2'.1.2]
          exact rch_had (hup g gm g2'.1.1) 9 g.1 c g2'.2 (hs.2.2 g gm g2'.1.1)
      · rw [if_neg k0] at e2
        by_cases k1 : k = 1
        · rw [if_pos k1] at e2
          cases qi : iOf ins c w with
          | none => rw [qi] at e2; cases e2
          | some i =>
            rw [qi, Option.bind_some] at e2
            cases qd : ins[i]? with
            | none => rw [qd] at e2; cases e2
            | some d =>
              rw [qd, Option.bind_some] at e2
              cases qc : dcL (dcT ab ins gv f) (.inner k w x l t) d.2.2.2.1 with
              | none => rw [qc] at e2; cases e2
              | some cs =>
                have es : sem ins θ (.inner k w x l t) = .inner k w x (sem ins θ l) (sem ins θ t) := by
                  show (if k = 0 then θ w else if k = 2 then faE ins (sem ins θ l) w else _) = _
                  rw [if_neg k0, if_neg (by omega)]
                rw [es]
                refine ⟨k1, i, d, qi, qd, fun p hp => ?_⟩
                obtain ⟨Dp, hD⟩ := dcL_mem qc p hp
                have ih := dc_had ok hl hs hup f p.1 _ Dp hD
                refine ⟨fun z => ?_, fun z => ?_⟩
                · rw [if_pos z] at ih; exact ih
                · rw [if_neg z] at ih; exact ih
        · rw [if_neg k1] at e2; cases e2
/-- the names of a head -/
theorem thN_at {d : INs} (hn : d.2.2.1.length ≤ 2 ∧ d.2.2.1.Nodup) {l r : Ty} {j : Nat} (hj : j < d.2.2.1.length) : thN d l r (d.2.2.1.getD j 0) = if j = 0 then l else r := by
  unfold thN
  obtain ⟨h1, h2⟩ := hn
  generalize d.2.2.1 = ns at hj h1 h2
  rcases ns with _ | ⟨x, _ | ⟨y, _ | ⟨z, m⟩⟩⟩
  · exact absurd hj (Nat.not_lt_zero _)
  · have j0 : j = 0 := by have : j < 1 := hj; omega
    subst j0
    show (if x = x then some l else none).getD tInt = _
    rw [if_pos rfl, if_pos rfl]; rfl
  · have j2 : j < 2 := hj
    have xy : x ≠ y := by
      have := (List.nodup_cons.mp h2).1
      exact fun z => this (by rw [z]; exact List.mem_cons_self)
    rcases Nat.lt_or_ge j 1 with q | q
    · have j0 : j = 0 := by omega
      subst j0
      show (if x = x then some l else if y = x then some r else none).getD tInt = _
      rw [if_pos rfl, if_pos rfl]; rfl
    · have j1 : j = 1 := by omega
      subst j1
      show (if x = y then some l else if y = y then some r else none).getD tInt = _
      rw [if_neg xy, if_pos rfl, if_neg (by decide)]; rfl
  · exact absurd h1 (by show ¬ m.length + 1 + 1 + 1 ≤ 2; omega)
/-- a head means the type itself -/
theorem hdI_sem {d : INs} (hn : d.2.2.1.length ≤ 2 ∧ d.2.2.1.Nodup) (hN : d.2.2.1.length = pN d.2.1) {u : Unit} {l r : Ty} (h : wfT (.inner 1 d.2.1 u l r)) : sem ins (thN d l r) (hdI d) = .inner 1 d.2.1 u l r := by
  obtain ⟨w3, s1, s2, s3, s4⟩ := sh_1 h.1 rfl
  have key : ∀ j, sem ins (thN d l r) (hdN d.2.2.1 j) = if j < d.2.2.1.length then (if j = 0 then l else r) else .leaf := fun j => by
    by_cases q : j < d.2.2.1.length
    · rw [if_pos q, ← thN_at hn q]
      have e : d.2.2.1[j]? = some (d.2.2.1.getD j 0) := by
        rw [List.getD_eq_getElem?_getD, List.getElem?_eq_getElem q]; rfl
      unfold hdN
      rw [e]
      rfl
    · rw [if_neg q]
      unfold hdN
      rw [List.getElem?_eq_none (by omega)]
      rfl
  have e : sem ins (thN d l r) (hdI d) = .inner 1 d.2.1 () (sem ins (thN d l r) (hdN d.2.2.1 0)) (sem ins (thN d l r) (hdN d.2.2.1 1)) := rfl
  rw [e, key 0, key 1, hN]
  have a : (if 0 < pN d.2.1 then (if (0 : Nat) = 0 then l else r) else .leaf) = l := by
    by_cases q : 0 < pN d.2.1
    · rw [if_pos q, if_pos rfl]
    · rw [if_neg q]
      refine (s2 ?_).symm
      unfold pN at q
      split at q
      · omega
      · omega
  have b : (if 1 < pN d.2.1 then (if (1 : Nat) = 0 then l else r) else .leaf) = r := by
    by_cases q : 1 < pN d.2.1
    · rw [if_pos q, if_neg (by decide)]
    · rw [if_neg q]
      refine (s4 ?_).symm
      unfold pN at q
      split at q
      · omega
      · omega
  rw [a, b]
/-- what is given in an inst holds, for the type at hand -/
theorem okTh_in {d : INs} (P : PgO ab ins) (dm : d ∈ ins) {u : Unit} {l r : Ty} (h : wfT (.inner 1 d.2.1 u l r)) (hc : ∀ p ∈ d.2.2.2.1, (p.2 = 0 → cHd ins l p.1) ∧ (p.2 ≠ 0 → cHd ins r p.1)) : okTh ins (gvI d) (thN d l r) := by
  obtain ⟨P1, _, _, P4, P5, P6, _⟩ := P
  obtain ⟨w3, s1, s2, s3, s4⟩ := sh_1 h.1 rfl
  have nn := P5 d dm
  refine ⟨fun w => ?_, fun g hg g1 => ?_, fun g hg _ => ?_⟩
  · unfold thN
    cases q : nm2 d.2.2.1 l r w with
    | none => exact cG_int
    | some x =>
      rcases nm2_cs q with ⟨e, n1⟩ | ⟨e, n1⟩
      · show cG x
        rw [e]; exact ⟨s1 (pN_1 w3 (by omega)), h.2.1⟩
      · show cG x
        rw [e]; exact ⟨s3 (pN_2 w3 (by omega)), h.2.2⟩
  · obtain ⟨c, c1, c2⟩ := List.mem_map.mp hg
    have := P6 d dm c c1
    rw [← c2] at g1
    exact absurd g1 (by show ¬ 100 ≤ c.1; omega)
  · obtain ⟨c, c1, c2⟩ := List.mem_map.mp hg
    have ci := ((P4 d dm).2.2 c c1).1
    rw [← c2]
    show cHd ins (thN d l r (d.2.2.1.getD c.2 0)) c.1
    rw [thN_at (P1 d dm).1 ci]
    split
    · rename_i z; exact (hc c c1).1 z
    · rename_i z; exact (hc c c1).2 z
/-- A CLASS ABOVE IS HAD TOO -/
theorem up_1 (P : PgO ab ins) : ∀ {τ : Ty}, wfT τ → ∀ c c', cHd ins τ c → ab[c]? = some (some c') → cHd ins τ c'
  | .leaf, _, _, _, h, _ => h.elim
  | .inner k w u l r, hw, c, c', h, ha => by
    obtain ⟨k1, i, d, i1, i2, hc⟩ := h
    obtain ⟨d', d1, d2⟩ := ixF_some i1
    have ed : d' = d := Option.some.inj (d1.symm.trans i2)
    rw [ed] at d2
    have d2' : d.1 = c ∧ d.2.1 = w := by simpa using d2
    have dm := List.mem_of_getElem? i2
    subst k1
    rw [← d2'.2] at hw ⊢
    obtain ⟨D, hD⟩ := P.2.2.2.2.2.2 d dm c' (by rw [d2'.1]; exact ha)
    have O := okTh_in (ab := ab) P dm hw hc
    have r1 := dc_had P.1 (by have := P.2.1; omega) O (fun g hg _ => ?_) 70 c' (hdI d) D hD
    · rw [hdI_sem (P.1 d dm).1 (P.2.2.2.2.1 d dm) hw] at r1
      exact r1
    · obtain ⟨cc, c1, c2⟩ := List.mem_map.mp hg
      have ci := ((P.2.2.2.1 d dm).2.2 cc c1).1
      have eg : g.2.1 = d.2.2.1.getD cc.2 0 := by rw [← c2]
      rw [eg, thN_at (P.1 d dm).1 ci]
      split
      · exact fun a a' => up_1 P hw.2.1 a a'
      · exact fun a a' => up_1 P hw.2.2 a a'
/-- a dictionary that was found, where what is given holds -/
theorem dc_had' (P : PgO ab ins) (hs : okTh ins gv θ) {f c : Nat} {T : Ty} {D : Dc} (e : dcT ab ins gv f c T = some D) : cHd ins (sem ins θ T) c := dc_had P.1 (by have := P.2.1; omega) hs (fun g _ _ => up_1 P (hs.1 g.2.1).2) f c T D e
end LCT
