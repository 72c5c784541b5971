set_option maxRecDepth 100000
/-! WORKING OUT, plainly: how big what comes is; it is well formed -/
section LWZ
variable {c : Nat} {ab : List (Option Nat)} {ins : List INs} {gv : List GVs} {B : Nat}
/-- how big types are that are worked out -/
theorem wkP_tsz {r : WS → Ty → Option (Option (Ty × WS))} (H : ∀ s T u s', tsz T ≤ 1000000 → wfT T → T ≠ .leaf → okF ins T → r s T = some (some (u, s')) → (wfT u ∧ u ≠ .leaf ∧ okF ins u) ∧ tsz u ≤ 60) {s s' : WS} {T v : Ty} (hz : tsz T ≤ 1000000) (hw : wfT T) (hT : T ≠ .leaf) (ok : okF ins T) (e : wkP r s T = some (some (v, s'))) : wfT v ∧ tsz v ≤ 121 ∧ v ≠ .leaf ∧ tsz (tL v) ≤ 60 ∧ okF ins v := by
  rcases T with ⟨k, w, x, l, t⟩ | _
  rotate_left
  · exact absurd rfl hT
  have hz' : 1 + tsz l + tsz t ≤ 1000000 := hz
  have HQ : ∀ s X u s', tsz X ≤ 1000000 → wfT X → okF ins X → wkQ r s X = some (some (u, s')) → wfT u ∧ tsz u ≤ 60 ∧ (u = .leaf ↔ X = .leaf) ∧ okF ins u := fun s X u s' h1 h2 h3 e => by
    cases X with
    | leaf =>
      injection Option.some.inj (Option.some.inj e) with e1 e2
      rw [← e1]
      exact ⟨trivial, by decide, Iff.rfl, trivial⟩
    | inner k w x l t =>
      obtain ⟨⟨a1, a3, a4⟩, a2⟩ := H s _ u s' h1 h2 (fun z => by cases z) h3 e
      exact ⟨a1, a2, ⟨fun z => absurd z a3, fun z => by cases z⟩, a4⟩
  rw [wkP_inner] at e
  cases q1 : wkQ r s l with
  | none => rw [q1] at e; cases e
  | some a =>
  rw [q1, Option.bind_some] at e
  cases a with
  | none => cases e
  | some p =>
  obtain ⟨l', s1⟩ := p
  simp only at e
  cases q2 : wkQ r s1 t with
  | none => rw [q2] at e; cases e
  | some b =>
  rw [q2, Option.bind_some] at e
  cases b with
  | none => cases e
  | some p2 =>
  obtain ⟨t', s2⟩ := p2
  injection Option.some.inj (Option.some.inj e) with e1 e2
  subst e1
  obtain ⟨a1, a2, a3, a4⟩ := HQ _ _ _ _ (by omega) hw.2.1 ok.2.1 q1
  obtain ⟨b1, b2, b3, b4⟩ := HQ _ _ _ _ (by omega) hw.2.2 ok.2.2 q2
  refine ⟨⟨?_, a1, b1⟩, ?_, fun z => (by cases z), a2, ok.1, a4, b4⟩
  · have h1 := hw.1
    unfold shT at h1 ⊢
    simp only [ne_eq, a3, b3] at h1 ⊢
    exact h1
  · show 1 + tsz l' + tsz t' ≤ 121
    omega
theorem gby_th {v : Ty} {b : Nat} (e : gby ins gv v = some b) : thB v = true := by
  rcases v with ⟨k, f, u, ⟨k', w, u', l, r⟩ | _, r'⟩ | _
  · have e' : (if k = 2 then _ else none) = some b := e
    by_cases k2 : k = 2
    · rw [k2]; rfl
    · rw [if_neg k2] at e'; cases e'
  · cases e
  · cases e
theorem gto_wf (hI : insF ins B) (hG : gvF' ins gv) (hl : ins.length ≤ 100) (hN : ∀ d ∈ ins, d.2.2.1.length = pN d.2.1) {v : Ty} {b : Nat} (wv : wfT v) (ok : okF ins v) (e : gby ins gv v = some b) : wfT (gto ins gv b (tL v)) ∧ gto ins gv b (tL v) ≠ .leaf ∧ okF ins (gto ins gv b (tL v)) := by
  rcases v with ⟨k, f, u, ⟨k', w, u', l, r⟩ | _, r'⟩ | _
  · have e' : (if k = 2 then (if k' = 1 then iOf ins f w else if k' = 0 then (gFm gv f w).map (fun g => 100 + g) else none) else none) = some b := e
    by_cases k2 : k = 2
    · rw [if_pos k2] at e'
      by_cases k1 : k' = 1
      · rw [if_pos k1] at e'
        obtain ⟨d, i1, i2⟩ := ixF_some e'
        have lt := (List.getElem?_eq_some_iff.mp i1).1
        have i2' : d.1 = f ∧ d.2.1 = w := by simpa using i2
        have im := List.mem_of_getElem? i1
        obtain ⟨j1, j2, j3, j4⟩ := hI d im
        have eg : gto ins gv b (tL (.inner k f u (.inner k' w u' l r) r')) = sbT (hdP d (.inner k' w u' l r)) d.2.2.2.2 := by
          unfold gto
          rw [if_pos (by omega), i1]
          rfl
        rw [eg]
        have hθ := hdP_wf (d := d) (by rw [hN d im, i2'.2]) k1 wv.2.1
        exact ⟨sbT_wf hθ j2, fun z => (ok.1 k2).2 d im i2'.1 ((sbT_leaf hθ).mp z), okF_sb (hdP_ok ok.2.1) j1⟩
      · rw [if_neg k1] at e'
        by_cases k0 : k' = 0
        · rw [if_pos k0] at e'
          cases q : gFm gv f w with
          | none => rw [q] at e'; cases e'
          | some g =>
            rw [q] at e'
            have e1 : 100 + g = b := Option.some.inj e'
            obtain ⟨y, y1, y2⟩ := ixF_some q
            have y2' : y.1 = 100 + f ∧ y.2.1 = w := by simpa using y2
            obtain ⟨j1, j2, j3, j4⟩ := hG y (List.mem_of_getElem? y1) (by omega)
            have eg : gto ins gv b (tL (.inner k f u (.inner k' w u' l r) r')) = y.2.2 := by
              unfold gto
              rw [if_neg (by omega), show b - 100 = g by omega, y1]
              rfl
            rw [eg]; exact ⟨j3, j1, j2⟩
        · rw [if_neg k0] at e'; cases e'
    · rw [if_neg k2] at e'; cases e'
  · cases e
  · cases e
/-- WHAT COMES is well formed and small -/
theorem wk_tsz (hB : B ≤ 2700) (hI : insF ins B) (hG : gvF' ins gv) (hl : ins.length ≤ 100) (hN : ∀ d ∈ ins, d.2.2.1.length = pN d.2.1) : ∀ {f : Nat} {m : Bool} {bg : Nat} {s s' : WS} {T u : Ty}, tsz T ≤ 1000000 → wfT T → T ≠ .leaf → okF ins T → wk c ins gv f m bg s T = some (some (u, s')) → (wfT u ∧ u ≠ .leaf ∧ okF ins u) ∧ (if m = true then tsz u ≤ 1000000 else tsz u ≤ 60)
  | 0, _, _, _, _, _, _, _, _, _, _, e => by cases e
  | f + 1, false, bg, s, s', T, u, hz, hw, hT, ok, e => by
    rw [if_neg (by decide)]
    have fin : ∀ (v : Ty) (s1 : WS), tsz v ≤ 1000000 → fitO v s1 = some (u, s') → u = v ∧ tsz u ≤ 60 := fun v s1 hv e => by
      unfold fitO at e
      split at e
      · rename_i h
        injection Option.some.inj e with e1 e2
        rw [← e1]
        exact ⟨rfl, sz60 hv h⟩
      · cases e
    unfold wk at e
    split at e
    · split at e
      · cases e
      · cases q : wk c ins gv f true (bg + 1) s T with
        | none => rw [q] at e; cases e
        | some r =>
          rw [q] at e
          cases r with
          | none => cases e
          | some p =>
            obtain ⟨a1, a2⟩ := wk_tsz hB hI hG hl hN hz hw hT ok q
            rw [if_pos rfl] at a2
            obtain ⟨b1, b2⟩ := fin p.1 p.2 a2 (Option.some.inj e)
            exact ⟨by rw [b1]; exact a1, b2⟩
    · obtain ⟨b1, b2⟩ := fin T s hz (Option.some.inj e)
      exact ⟨by rw [b1]; exact ⟨hw, hT, ok⟩, b2⟩
  | f + 1, true, bg, s, s', T, u, hz, hw, hT, ok, e => by
    rw [if_pos rfl]
    unfold wk at e
    cases q : (if thB T = true then wkP (wk c ins gv f false bg) s T else some (some (T, s))) with
    | none => rw [q] at e; cases e
    | some w =>
      rw [q, Option.bind_some] at e
      cases w with
      | none => cases e
      | some p =>
        obtain ⟨v, s1⟩ := p
        have key : wfT v ∧ tsz v ≤ 1000000 ∧ v ≠ .leaf ∧ okF ins v ∧ (thB v = true → tsz (tL v) ≤ 60) := by
          split at q
          · obtain ⟨a1, a2, a3, a4, a5⟩ := wkP_tsz (fun s T u s' h1 h2 h3 h4 e => by
              have := wk_tsz hB hI hG hl hN h1 h2 h3 h4 e
              rwa [if_neg (by decide)] at this) hz hw hT ok q
            exact ⟨a1, by omega, a3, a5, fun _ => a4⟩
          · rename_i hF
            injection Option.some.inj (Option.some.inj q) with e3 e4
            rw [← e3]
            exact ⟨hw, hz, hT, ok, fun z => absurd z hF⟩
        simp only at e
        cases qb : gby ins gv v with
        | none =>
          rw [qb] at e
          injection Option.some.inj (Option.some.inj e) with e1 e2
          rw [← e1]; exact ⟨⟨key.1, key.2.2.1, key.2.2.2.1⟩, key.2.1⟩
        | some b =>
          rw [qb] at e
          simp only at e
          split at e
          · cases e
          · split at e
            · obtain ⟨w1, w2, w3⟩ := gto_wf hI hG hl hN key.1 key.2.2.2.1 qb
              have := wk_tsz hB hI hG hl hN (gto_tsz hB hI hG hl key.1 (key.2.2.2.2 (gby_th qb)) qb) w1 w2 w3 e
              rwa [if_pos rfl] at this
            · cases e
end LWZ
