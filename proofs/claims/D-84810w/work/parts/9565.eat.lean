set_option maxRecDepth 100000
/-! FUNCTIONS AND INSTS BY THEIR NUMBERS; methods and lines; the ones above -/
theorem eF_len : ∀ {l : List JB} {ess : List (List Et)}, ess.length = l.length → (∀ (k : Nat) (j : JB) (es : List Et), l[k]? = some j → ess[k]? = some es → j.1 = 2 → ∃ e, es = [e]) → (eF l ess).length = c2J l ∧ ∀ (f : Nat) (j : JB) (e : Et), (eF l ess)[f]? = some (j, e) → ∃ k, l[k]? = some j ∧ j.1 = 2 ∧ ess[k]? = some [e] ∧ c2J (l.take k) = f
  | [], [], _, _ => ⟨rfl, fun f j e h => by simp [eF] at h⟩
  | [], _ :: _, h, _ => by simp at h
  | _ :: _, [], h, _ => by simp at h
  | j :: l, es :: ess, h, H => by
    obtain ⟨i1, i2⟩ := eF_len (l := l) (ess := ess) (by simpa using h) (fun k j' es' e1 e2 => H (k + 1) j' es' e1 e2)
    have up : ∀ (c : Nat) (f : Nat) (j' : JB) (e' : Et), (if j.1 = 2 then 1 else 0) = c → (eF l ess)[f]? = some (j', e') → ∃ k, (j :: l)[k]? = some j' ∧ j'.1 = 2 ∧ (es :: ess)[k]? = some [e'] ∧ c2J ((j :: l).take k) = c + f := fun c f j' e' hc g => by
      obtain ⟨k, k1, k2, k3, k4⟩ := i2 f j' e' g
      refine ⟨k + 1, k1, k2, k3, ?_⟩
      show (if j.1 = 2 then 1 else 0) + c2J (l.take k) = _
      rw [k4, hc]
    by_cases w : j.1 = 2
    · obtain ⟨e0, ee⟩ := H 0 j es rfl rfl w
      have a1 : eF (j :: l) (es :: ess) = (j, e0) :: eF l ess := by
        show (if j.1 = 2 then es.map (fun e => (j, e)) else []) ++ eF l ess = _
        rw [if_pos w, ee]
        rfl
      have a2 : c2J (j :: l) = 1 + c2J l := by show (if j.1 = 2 then 1 else 0) + c2J l = _; rw [if_pos w]
      rw [a1, a2]
      refine ⟨by rw [List.length_cons, i1]; omega, fun f j' e' g => ?_⟩
      cases f with
      | zero =>
        have g' : (j, e0) = (j', e') := Option.some.inj g
        injection g' with g1 g2
        rw [← g1, ← g2]
        exact ⟨0, rfl, w, by rw [ee]; rfl, rfl⟩
      | succ f =>
        obtain ⟨k, k1, k2, k3, k4⟩ := up 1 f j' e' (if_pos w) g
        exact ⟨k, k1, k2, k3, by omega⟩
    · have a1 : eF (j :: l) (es :: ess) = eF l ess := by
        show (if j.1 = 2 then es.map (fun e => (j, e)) else []) ++ eF l ess = _
        rw [if_neg w]
        rfl
      have a2 : c2J (j :: l) = c2J l := by show (if j.1 = 2 then 1 else 0) + c2J l = _; rw [if_neg w]; omega
      rw [a1, a2]
      refine ⟨i1, fun f j' e' g => ?_⟩
      obtain ⟨k, k1, k2, k3, k4⟩ := up 0 f j' e' (if_neg w) g
      exact ⟨k, k1, k2, k3, by omega⟩
theorem eI_len : ∀ {l : List JB} {ess : List (List Et)}, ess.length = l.length → (eI l ess).length = c6J l ∧ ∀ (f : Nat) (j : JB) (es : List Et), (eI l ess)[f]? = some (j, es) → ∃ k, l[k]? = some j ∧ j.1 = 6 ∧ ess[k]? = some es ∧ c6J (l.take k) = f
  | [], [], _ => ⟨rfl, fun f j e h => by simp [eI] at h⟩
  | [], _ :: _, h => by simp at h
  | _ :: _, [], h => by simp at h
  | j :: l, es :: ess, h => by
    obtain ⟨i1, i2⟩ := eI_len (l := l) (ess := ess) (by simpa using h)
    have up : ∀ (c : Nat) (f : Nat) (j' : JB) (e' : List Et), (if j.1 = 6 then 1 else 0) = c → (eI l ess)[f]? = some (j', e') → ∃ k, (j :: l)[k]? = some j' ∧ j'.1 = 6 ∧ (es :: ess)[k]? = some e' ∧ c6J ((j :: l).take k) = c + f := fun c f j' e' hc g => by
      obtain ⟨k, k1, k2, k3, k4⟩ := i2 f j' e' g
      refine ⟨k + 1, k1, k2, k3, ?_⟩
      show (if j.1 = 6 then 1 else 0) + c6J (l.take k) = _
      rw [k4, hc]
    by_cases w : j.1 = 6
    · have a1 : eI (j :: l) (es :: ess) = (j, es) :: eI l ess := by
        show (if j.1 = 6 then [(j, es)] else []) ++ eI l ess = _
        rw [if_pos w]
        rfl
      have a2 : c6J (j :: l) = 1 + c6J l := by show (if j.1 = 6 then 1 else 0) + c6J l = _; rw [if_pos w]
      rw [a1, a2]
      refine ⟨by rw [List.length_cons, i1]; omega, fun f j' e' g => ?_⟩
      cases f with
      | zero =>
        have g' : (j, es) = (j', e') := Option.some.inj g
        injection g' with g1 g2
        rw [← g1, ← g2]
        exact ⟨0, rfl, w, rfl, rfl⟩
      | succ f =>
        obtain ⟨k, k1, k2, k3, k4⟩ := up 1 f j' e' (if_pos w) g
        exact ⟨k, k1, k2, k3, by omega⟩
    · have a1 : eI (j :: l) (es :: ess) = eI l ess := by
        show (if j.1 = 6 then [(j, es)] else []) ++ eI l ess = _
        rw [if_neg w]
        rfl
      have a2 : c6J (j :: l) = c6J l := by show (if j.1 = 6 then 1 else 0) + c6J l = _; rw [if_neg w]; omega
      rw [a1, a2]
      refine ⟨i1, fun f j' e' g => ?_⟩
      obtain ⟨k, k1, k2, k3, k4⟩ := up 0 f j' e' (if_neg w) g
      exact ⟨k, k1, k2, k3, by omega⟩
section LAT
variable {G : om_G} {N : List (List Int)} {cl : Nat → Nat} {rest : List (Nat × List Nat)} {io fo mo : Nat → Nat} {fn : List (List Nat × List GVs × Ty)} {mt : List (Option (Nat × Nat × Ty))} {ab : List (Option Nat)} {ins : List INs} {lo H0 : Nat} {h : om_H} {us : List Nat} {Dk : Nat → Prop} {ds : List Nat} {dm : Nat} {Sl : Nat → Prop} {σ : tS} {n : Nat}
/-- one of those that are judged -/
theorem JbsJ_at : ∀ {l : List JB} {ess : List (List Et)} {f : Nat}, JbsJ G N cl rest io fo mo fn mt ab ins lo H0 h us Dk ds dm Sl l ess f → ess.length = l.length ∧ ∀ (k : Nat) (j : JB) (es : List Et), l[k]? = some j → ess[k]? = some es → JbJ G N cl rest io fo mo fn mt ab ins lo H0 h us Dk ds dm Sl j (f + c2J (l.take k)) es
  | [], [], f, _ => ⟨rfl, fun k j es e => by simp at e⟩
  | [], _ :: _, f, H => H.elim
  | _ :: _, [], f, H => H.elim
  | j :: l, es :: ess, f, ⟨h1, _, h3⟩ => by
    obtain ⟨i1, i2⟩ := JbsJ_at h3
    refine ⟨by rw [List.length_cons, List.length_cons, i1], fun k j' es' e1 e2 => ?_⟩
    cases k with
    | zero =>
      have a1 : j = j' := Option.some.inj e1
      have a2 : es = es' := Option.some.inj e2
      rw [← a1, ← a2]
      exact h1
    | succ k =>
      have := i2 k j' es' e1 e2
      have e : f + c2J ((j :: l).take (k + 1)) = (if j.1 = 2 then f + 1 else f) + c2J (l.take k) := by
        show f + ((if j.1 = 2 then 1 else 0) + c2J (l.take k)) = _
        by_cases w : j.1 = 2
        · rw [if_pos w, if_pos w]; omega
        · rw [if_neg w, if_neg w]; omega
      rw [e]
      exact this
theorem JbsT_at : ∀ {l : List JB} {dd f i : Nat}, JbsT fn mt ab ins σ n l dd f i → ∀ (k : Nat) (j : JB), l[k]? = some j → (ga σ 570 (dd + k) = (j.1 : Int) ∧ dd + k < 700) ∧ (j.1 = 2 → FjT σ n (fn, mt, ab, ins, j.2.2.2.1.1) j (dd + k) (f + c2J (l.take k))) ∧ (j.1 = 6 → IjT σ n (fn, mt, ab, ins, gvI j.2.2.2.2.1) j (dd + k) (i + c6J (l.take k)))
  | [], dd, f, i, _, k, j, e => by simp at e
  | j0 :: l, dd, f, i, ⟨h1, h2, h3, h4⟩, k, j, e => by
    cases k with
    | zero =>
      have a1 : j0 = j := Option.some.inj e
      rw [← a1]
      exact ⟨h1, h2, h3⟩
    | succ k =>
      have := JbsT_at h4 k j e
      have e1 : f + c2J ((j0 :: l).take (k + 1)) = (if j0.1 = 2 then f + 1 else f) + c2J (l.take k) := by
        show f + ((if j0.1 = 2 then 1 else 0) + c2J (l.take k)) = _
        by_cases w : j0.1 = 2
        · rw [if_pos w, if_pos w]; omega
        · rw [if_neg w, if_neg w]; omega
      have e2 : i + c6J ((j0 :: l).take (k + 1)) = (if j0.1 = 6 then i + 1 else i) + c6J (l.take k) := by
        show i + ((if j0.1 = 6 then 1 else 0) + c6J (l.take k)) = _
        by_cases w : j0.1 = 6
        · rw [if_pos w, if_pos w]; omega
        · rw [if_neg w, if_neg w]; omega
      rw [e1, e2, show dd + (k + 1) = dd + 1 + k by omega]
      exact this
theorem JbsTJ_at : ∀ {l : List JB} {ess : List (List Et)}, JbsTJ σ n l ess → ∀ (k : Nat) (j : JB) (es : List Et), l[k]? = some j → ess[k]? = some es → JbT σ n j es
  | [], [], _, k, j, es, e, _ => by simp at e
  | [], _ :: _, H, _, _, _, _, _ => H.elim
  | _ :: _, [], H, _, _, _, _, _ => H.elim
  | j :: l, es :: ess, ⟨h1, h3⟩, k, j', es', e1, e2 => by
    cases k with
    | zero =>
      have a1 : j = j' := Option.some.inj e1
      have a2 : es = es' := Option.some.inj e2
      rw [← a1, ← a2]
      exact h1
    | succ k => exact JbsTJ_at h3 k j' es' e1 e2
end LAT
/-- methods are named once in what lines went to -/
theorem lnA_nd {ms : List (Nat × Ty)} : ∀ {ls : List (Nat × Nat)} {k : Nat} {acc : List (Nat × Nat)}, lnB ms k acc ls = [] → (acc.map Prod.fst).Nodup → ((lnA ms k acc ls).map Prod.fst).Nodup ∧ (lnA ms k acc ls).map Prod.snd = acc.map Prod.snd ++ List.range' k ls.length
  | [], k, acc, _, h => ⟨h, by simp [lnA]⟩
  | l :: ls, k, acc, e, h => by
    obtain ⟨e1, e2⟩ := List.append_eq_nil_iff.mp e
    cases g : lnG ms acc l.1 with
    | none => rw [g] at e1; cases e1
    | some m =>
      have nn : lnN ms acc k l.1 = acc ++ [(m, k)] := by unfold lnN; rw [g]; rfl
      have tk' : tkn acc m = false := by
        unfold lnG at g
        cases q : mIx ms l.1 with
        | none => rw [q] at g; cases g
        | some m' =>
          rw [q, Option.bind_some] at g
          by_cases c : tkn acc m' = true
          · rw [if_pos c] at g; cases g
          · rw [if_neg c] at g
            rw [← Option.some.inj g]
            simpa using c
      rw [nn] at e2
      have h' : ((acc ++ [(m, k)]).map Prod.fst).Nodup := by
        rw [List.map_append, List.nodup_append]
        refine ⟨h, by simp, fun a ha b hb e => ?_⟩
        have hb' : b = m := by simpa using hb
        obtain ⟨p, p1, p2⟩ := List.mem_map.mp ha
        unfold tkn at tk'
        have := List.any_eq_false.mp tk' p p1
        apply this
        rw [p2, e, hb']
        simp
      obtain ⟨i1, i2⟩ := lnA_nd e2 h'
      have el : lnA ms k acc (l :: ls) = lnA ms (k + 1) (acc ++ [(m, k)]) ls := by
        show lnA ms (k + 1) (lnN ms acc k l.1) ls = _
        rw [nn]
      rw [el]
      refine ⟨i1, ?_⟩
      rw [i2, List.map_append, List.length_cons, List.range'_succ]
      simp
/-- each method has one line, each line is a method's -/
theorem ln_perm {ms : List (Nat × Ty)} {lns : List (Nat × Nat)} {q : Int} (e1 : lnB ms 0 [] lns = []) (e2 : msB (lnA ms 0 [] lns) q ms.length = []) : ∃ κ : Nat → Nat, (∀ m, m < ms.length → κ m < lns.length ∧ (∃ l, lns[κ m]? = some l ∧ mIx ms l.1 = some m) ∧ ∀ (α : Type) (v : Nat → α) (z : α), lnV (lnA ms 0 [] lns) m v z = v (κ m)) ∧ ∀ g : Nat → Nat, ((List.range ms.length).map (fun m => g (κ m))).sum = ((List.range lns.length).map g).sum := by
  obtain ⟨n1, n2⟩ := lnA_nd e1 (by simp)
  obtain ⟨o1, _, o3⟩ := lnA_ok e1
  have tk' := msB_nil e2
  have n2' : (lnA ms 0 [] lns).map Prod.snd = List.range lns.length := by
    rw [n2, List.range_eq_range']
    simp
  have ex : ∀ m, m < ms.length → ∃ k, (m, k) ∈ lnA ms 0 [] lns ∧ ∀ (α : Type) (v : Nat → α) (z : α), lnV (lnA ms 0 [] lns) m v z = v k := fun m hm => by
    have t := tk' m hm
    unfold tkn at t
    obtain ⟨p, p1, p2⟩ := List.any_eq_true.mp t
    cases q' : (lnA ms 0 [] lns).find? (fun p => p.1 == m) with
    | none =>
      have := List.find?_eq_none.mp q' p p1
      exact absurd p2 this
    | some p' =>
      have pm := List.mem_of_find?_eq_some q'
      have pe := List.find?_some q'
      have pe' : p'.1 = m := by simpa using pe
      refine ⟨p'.2, by rw [← pe']; exact pm, fun α v z => ?_⟩
      unfold lnV
      rw [q']
      rfl
  have κ' : ∀ m, ∃ k, m < ms.length → (m, k) ∈ lnA ms 0 [] lns ∧ ∀ (α : Type) (v : Nat → α) (z : α), lnV (lnA ms 0 [] lns) m v z = v k := fun m => by
    by_cases hm : m < ms.length
    · obtain ⟨k, hk⟩ := ex m hm
      exact ⟨k, fun _ => hk⟩
    · exact ⟨0, fun z => absurd z hm⟩
  obtain ⟨κ, hκ⟩ : ∃ κ : Nat → Nat, ∀ m, m < ms.length → (m, κ m) ∈ lnA ms 0 [] lns ∧ ∀ (α : Type) (v : Nat → α) (z : α), lnV (lnA ms 0 [] lns) m v z = v (κ m) := ⟨fun m => Classical.choose (κ' m), fun m => Classical.choose_spec (κ' m)⟩
  refine ⟨κ, fun m hm => ?_, fun g => ?_⟩
  · obtain ⟨a1, a2⟩ := hκ m hm
    rcases o3 _ a1 with z | ⟨i, l, i1, i2, i3⟩
    · cases z
    · have i2' : κ m = i := by simpa using i2
      rw [i2']
      exact ⟨(List.getElem?_eq_some_iff.mp i1).1, ⟨l, i1, i3⟩, fun α v z => by rw [a2, i2']⟩
  · have uq : ∀ p ∈ lnA ms 0 [] lns, p.1 < ms.length ∧ κ p.1 = p.2 := fun p hp => by
      have lt : p.1 < ms.length := by
        rcases o3 p hp with z | ⟨i, l, _, _, i3⟩
        · cases z
        · exact ixF_lt i3
      refine ⟨lt, ?_⟩
      obtain ⟨a1, _⟩ := hκ p.1 lt
      have inj : ∀ {L : List (Nat × Nat)}, (L.map Prod.fst).Nodup → ∀ a ∈ L, ∀ b ∈ L, a.1 = b.1 → a = b := by
        intro L
        induction L with
        | nil => intro _ a ha; cases ha
        | cons c L ih =>
          intro nd a ha b hb e
          rw [List.map_cons, List.nodup_cons] at nd
          rcases List.mem_cons.mp ha with ha | ha
          · rcases List.mem_cons.mp hb with hb | hb
            · rw [ha, hb]
            · exact absurd (List.mem_map.mpr ⟨b, hb, by rw [← e, ha]⟩) nd.1
          · rcases List.mem_cons.mp hb with hb | hb
            · exact absurd (List.mem_map.mpr ⟨a, ha, by rw [e, hb]⟩) nd.1
            · exact ih nd.2 a ha b hb e
      have := inj n1 _ a1 p hp rfl
      rw [← this]
    have pm : List.Perm (List.range ms.length) ((lnA ms 0 [] lns).map Prod.fst) := by
      refine (List.perm_ext_iff_of_nodup List.nodup_range n1).mpr (fun m => ⟨fun hm => ?_, fun hm => ?_⟩)
      · obtain ⟨a1, _⟩ := hκ m (List.mem_range.mp hm)
        exact List.mem_map.mpr ⟨_, a1, rfl⟩
      · obtain ⟨p, p1, p2⟩ := List.mem_map.mp hm
        rw [← p2]
        exact List.mem_range.mpr (uq p p1).1
    rw [(pm.map (fun m => g (κ m))).sum_nat, List.map_map, ← n2', List.map_map]
    congr 1
    refine List.map_congr_left (fun p hp => ?_)
    show g (κ p.1) = g p.2
    rw [(uq p hp).2]
/-- what is above, for each inst -/
def odA (ab : List (Option Nat)) (ins : List INs) (d : INs) : Option Dc := match ab[d.1]? with
  | some (some c) => dcT ab ins (gvI d) 70 c (hdI d)
  | _ => none
section LAB
variable {nm con fam cnm : Nat → List Int} {ab : List (Option Nat)} {ins : List INs} {Q : Ty → Prop}
/-- the ones above were had: all is known, and how long they are told -/
theorem abJ_kn (L : lt10 nm con fam cnm) (H : ∀ d ∈ ins, InH hAny ins (gvI d) 2700 ∧ tyOk ins (hdI d) ∧ tsz (hdI d) ≤ 3) (hc4 : ∀ d ∈ ins, d.2.2.2.1.length ≤ 4) : ∀ (l : List (INs × Nat)) (s s' : JS), (∀ p ∈ l, p.1 ∈ ins) → abJ ab ins l s = some (.inr s') → s.1 ≤ s'.1 ∧ preS s s' ∧ ((l.map (fun p => (odA ab ins p.1).elim 0 (fun D => (evB nm con fam cnm ab ins (gvI p.1) D).length))).sum ≤ 60000 * (s'.1 - s.1) + 1000 * l.length) ∧ ((∀ X ∈ s'.2, Q X) → ∀ p ∈ l, ∀ c, ab[p.1.1]? = some (some c) → (∃ D, dcT ab ins (gvI p.1) 70 c (hdI p.1) = some D) ∧ dcK ab ins (gvI p.1) Q 70 c (hdI p.1) ∧ Q (hdI p.1))
  | [], s, s', _, e => by
    have e' : s = s' := Sum.inr.inj (Option.some.inj e)
    rw [← e']
    exact ⟨Nat.le_refl _, preS_refl _, Nat.zero_le _, fun _ p hp => absurd hp List.not_mem_nil⟩
  | (d, q) :: l, s, s', hl, e => by
    have hd' := hl (d, q) List.mem_cons_self
    have hl' : ∀ p ∈ l, p.1 ∈ ins := fun p hp => hl p (List.mem_cons_of_mem _ hp)
    obtain ⟨I, okd, szd⟩ := H d hd'
    have skip : (∀ c, ab[d.1]? ≠ some (some c)) → abJ ab ins l s = some (.inr s') → s.1 ≤ s'.1 ∧ preS s s' ∧ ((((d, q) :: l).map (fun p => (odA ab ins p.1).elim 0 (fun D => (evB nm con fam cnm ab ins (gvI p.1) D).length))).sum ≤ 60000 * (s'.1 - s.1) + 1000 * ((d, q) :: l).length) ∧ ((∀ X ∈ s'.2, Q X) → ∀ p ∈ (d, q) :: l, ∀ c, ab[p.1.1]? = some (some c) → (∃ D, dcT ab ins (gvI p.1) 70 c (hdI p.1) = some D) ∧ dcK ab ins (gvI p.1) Q 70 c (hdI p.1) ∧ Q (hdI p.1)) := fun no e' => by
      obtain ⟨i1, i2, i3, i4⟩ := abJ_kn L H hc4 l s s' hl' e'
      have o0 : odA ab ins d = none := by
        unfold odA
        split
        · rename_i c hc
          exact absurd hc (no c)
        · rfl
      refine ⟨i1, i2, ?_, fun hq p hp c hc => ?_⟩
      · rw [List.map_cons, List.sum_cons, List.length_cons]
        show (odA ab ins d).elim 0 _ + _ ≤ _
        rw [o0]
        show 0 + _ ≤ _
        omega
      · rcases List.mem_cons.mp hp with z | z
        · rw [z] at hc
          exact absurd hc (no c)
        · exact i4 hq p z c hc
    unfold abJ at e
    cases qa : ab[d.1]? with
    | none =>
      rw [qa] at e
      exact skip (fun c z => by rw [qa] at z; cases z) e
    | some o =>
    cases o with
    | none =>
      rw [qa] at e
      exact skip (fun c z => by rw [qa] at z; cases z) e
    | some c =>
    rw [qa] at e
    simp only at e
    cases qh : hd ab ins (gvI d) 70 (0, s.1, s.2) c (hdI d) with
    | none => rw [qh] at e; cases e
    | some a =>
    rw [qh, Option.bind_some] at e
    cases a with
    | none => cases Option.some.inj e
    | some pb =>
    obtain ⟨b, w⟩ := pb
    simp only at e
    by_cases hb : b = true
    rotate_left
    · rw [if_neg hb] at e; cases Option.some.inj e
    rw [if_pos hb] at e
    rw [hb] at qh
    obtain ⟨i1, i2, i3, i4⟩ := abJ_kn L H hc4 l _ s' hl' e
    obtain ⟨_, ⟨D1, d1⟩, k1⟩ := hd_kn (Q := Q) (Nat.zero_le _) qh
    have d1' : w.2.2 = s.2 ++ D1 := d1
    have isS := hd_dc qh
    cases qd : dcT ab ins (gvI d) 70 c (hdI d) with
    | none => rw [qd] at isS; cases isS
    | some D =>
    obtain ⟨⟨_, h1⟩, _, h2⟩ := hd_len (nm := nm) (con := con) (fam := fam) L I hc4 (Nat.zero_le _) qh (GT_of okd (by omega)) D qd
    have h1' : s.1 ≤ w.2.1 := h1
    have h2' : (evB nm con fam cnm ab ins (gvI d) D).length ≤ 60000 * (w.2.1 - s.1) + 1000 := h2
    have i1' : w.2.1 ≤ s'.1 := i1
    have i3' : (l.map (fun p => (odA ab ins p.1).elim 0 (fun D => (evB nm con fam cnm ab ins (gvI p.1) D).length))).sum ≤ 60000 * (s'.1 - w.2.1) + 1000 * l.length := i3
    have o0 : odA ab ins d = some D := by
      unfold odA
      rw [qa]
      exact qd
    have p0 : preS s (w.2.1, w.2.2 ++ [hdI d]) := ⟨D1 ++ [hdI d], by show w.2.2 ++ [hdI d] = _; rw [d1', List.append_assoc]⟩
    refine ⟨by omega, preS_trans p0 i2, ?_, fun hq p hp c' hc' => ?_⟩
    · rw [List.map_cons, List.sum_cons, List.length_cons]
      show (odA ab ins d).elim 0 _ + _ ≤ _
      rw [o0]
      show (evB nm con fam cnm ab ins (gvI d) D).length + _ ≤ _
      omega
    · rcases List.mem_cons.mp hp with z | z
      · rw [z] at hc' ⊢
        have ec : c = c' := by
          rw [qa] at hc'
          exact Option.some.inj (Option.some.inj hc')
        rw [← ec]
        have hq0 := preS_all i2 hq
        have hq0' : ∀ X ∈ w.2.2 ++ [hdI d], Q X := hq0
        exact ⟨⟨D, qd⟩, k1 rfl (fun X hX => hq0' X (List.mem_append_left _ hX)), hq0' _ (List.mem_append_right _ (by simp))⟩
      · exact i4 hq p z c' hc'
end LAB
