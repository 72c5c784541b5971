set_option maxRecDepth 100000
/-! WHAT STAYS in the component while types are worked out: declarations, exs, words, by their fields -/
abbrev SK : List Nat := [2, 5, 17, 18, 19, 21, 22, 23, 24, 25, 26, 27, 28, 29, 30, 31, 32, 33]
abbrev SIf : List Nat := [1188, 1192, 1196, 1200, 1219, 1223, 1252, 1259, 1276, 1280, 1304, 1372, 1464, 1476, 1484, 1504, 1532, 1539]
abbrev SRf : List Nat := [78, 82, 86, 90, 162, 166, 1186, 1206, 1210, 1214, 1226, 1230, 1234, 1238, 1242, 1250, 1262, 1286, 1290, 1294, 1298, 1302, 1310, 1314, 1318, 1322, 1326, 1338, 1342, 1346, 1350, 1354, 1362, 1366, 1386, 1394, 1398, 1402, 1410, 1414, 1418, 1422, 1426, 1430, 1434, 1438, 1442, 1446, 1450, 1454, 1458, 1462, 1470, 1474, 1490, 1494, 1498, 1502, 1518, 1522, 1526, 1530, 1542, 1550, 1554]
/-- (g: arrays of insts and of lines stand too) -/
def hSg (g : Prop) (Sl : Nat → Prop) (h h' : om_H) : Prop := hz h ≤ hz h' ∧ (∀ a, a < hz h → kd h' a = kd h a) ∧ (∀ a, a < hz h → kd h a ∈ SK → (∀ f ∈ SIf, fI h' f a = fI h f a) ∧ ∀ f ∈ SRf, fR h' f a = fR h f a) ∧ (∀ a, a < hz h → kd h a = 50 ∨ (g ∧ (kd h a = 58 ∨ kd h a = 59 ∨ kd h a = 21)) → (an h' a = an h a ∧ (∀ k, aI h' a k = aI h a k) ∧ ∀ k, aR h' a k = aR h a k) ∧ fR h' 1330 a = fR h 1330 a) ∧ ∀ a, a < hz h → Sl a → ll h' a = ll h a
abbrev hS (Sl : Nat → Prop) (h h' : om_H) : Prop := hSg True Sl h h'
/-- a word spells a name -/
def wN (h : om_H) (N : List (List Int)) (w a : Nat) : Prop := (a < hz h ∧ fR h 1186 a < hz h) ∧ ∃ L, N[w]? = some L ∧ wb h a L
/-- a list of words -/
def WNs (h : om_H) (N : List (List Int)) (Ln : Nat) (ns : List Nat) : Prop := (Ln < hz h ∧ kd h Ln = 42) ∧ (ll h Ln).length = ns.length ∧ ns.length ≤ 1000 ∧ ∀ (i a w : Nat), (ll h Ln)[i]? = some a → ns[i]? = some w → wN h N w a
section LHS
variable {G : om_G} {g : Prop} {Sl Sl' : Nat → Prop} {h h' h2 : om_H} {N : List (List Int)} {cl : Nat → Nat} {tb : Nat} {us fs us' fs' : List Nat} {rest : List (Nat × List Nat)} {q z u w a : Nat}
theorem hS_refl : hSg g Sl h h := ⟨Nat.le_refl _, fun _ _ => rfl, fun _ _ _ => ⟨fun _ _ => rfl, fun _ _ => rfl⟩, fun _ _ _ => ⟨⟨rfl, fun _ => rfl, fun _ => rfl⟩, rfl⟩, fun _ _ _ => rfl⟩
theorem hS_trans (A : hSg g Sl h h') (B : hSg g Sl h' h2) : hSg g Sl h h2 := by
  obtain ⟨a1, a2, a3, a4, a5⟩ := A
  obtain ⟨b1, b2, b3, b4, b5⟩ := B
  refine ⟨Nat.le_trans a1 b1, fun a ha => (b2 a (by omega)).trans (a2 a ha), fun a ha hk => ?_, fun a ha hk => ?_, fun a ha hs => (b5 a (by omega) hs).trans (a5 a ha hs)⟩
  · have x := a3 a ha hk
    have y := b3 a (by omega) (by rw [a2 a ha]; exact hk)
    exact ⟨fun f hf => (y.1 f hf).trans (x.1 f hf), fun f hf => (y.2 f hf).trans (x.2 f hf)⟩
  · have x := a4 a ha hk
    have y := b4 a (by omega) (by rw [a2 a ha]; exact hk)
    exact ⟨⟨y.1.1.trans x.1.1, fun k => (y.1.2.1 k).trans (x.1.2.1 k), fun k => (y.1.2.2 k).trans (x.1.2.2 k)⟩, y.2.trans x.2⟩
/-- only things that are not static are written -/
theorem hS_hT {D : Nat → Prop} (X : hT D h h') (d : ∀ a, a < hz h → D a → kd h a ∉ SK ∧ kd h a ≠ 50 ∧ kd h a ≠ 58 ∧ kd h a ≠ 59 ∧ ¬ Sl a) : hSg g Sl h h' := by
  refine ⟨X.1, X.2.2.1, fun a ha hk => ?_, fun a ha hk => ?_, fun a ha hs => ?_⟩
  · have e := X.2.2.2 a ha (fun z => (d a ha z).1 hk)
    exact ⟨fun f _ => e.2.1 f, fun f _ => e.2.2.1 f⟩
  · have e := X.2.2.2 a ha (fun z => by
      have w := d a ha z
      have w1 : kd h a ≠ 21 := fun q => w.1 (by rw [q]; decide)
      rcases hk with q | ⟨_, q⟩ <;> omega)
    exact ⟨⟨e.2.2.2.1, e.2.2.2.2.1, e.2.2.2.2.2.1⟩, e.2.2.1 1330⟩
  · exact (X.2.2.2 a ha (fun z => (d a ha z).2.2.2.2 hs)).2.2.2.2.2.2.1
theorem hS_CS (T : TB G h N cl tb us fs rest) (C : CS (fun _ => False) N cl tb rest h us fs h' us' fs' q z u) (nS : ¬ Sl (fR h 122 tb)) (hl : ∀ a, Sl a → kd h a = 42) : hS Sl h h' := by
  refine hS_hT C.1 (fun a ha z => ?_)
  rcases z with z | z
  rotate_left
  · exact z.elim
  have k := DT_kd T z
  refine ⟨fun m => ?_, by omega, by omega, by omega, fun hs => ?_⟩
  · simp only [List.mem_cons, List.not_mem_nil, or_false] at m
    omega
  · rcases z with z | z | z | z
    · have := hl a hs; rw [z, (TB_3 T).1] at this; omega
    · rw [z] at hs; exact nS hs
    · have := hl a hs
      have k2 := T.1.2.1.2.1.2.1
      rw [z, k2] at this; omega
    · have := hl a hs
      have := (T.2.1.2.2.2.2 a (List.mem_append_right _ z)).1
      omega
theorem wN_hS (X : hSg g Sl h h') (H : wN h N w a) : wN h' N w a := by
  obtain ⟨⟨h1, h2⟩, L, e1, e2⟩ := H
  have k17 := e2.1
  have k50 := e2.2.1
  have s := X.2.2.1 a h1 (by rw [k17]; decide)
  have b := (X.2.2.2.1 _ h2 (.inl k50)).1
  have eb := s.2 1186 (by decide)
  refine ⟨⟨Nat.lt_of_lt_of_le h1 X.1, by rw [eb]; exact Nat.lt_of_lt_of_le h2 X.1⟩, L, e1, ?_⟩
  obtain ⟨a1, a2, a3, a4, p, a5, a6, a7⟩ := e2
  exact ⟨by rw [X.2.1 a h1]; exact a1, by rw [eb, X.2.1 _ h2]; exact a2, by rw [s.1 1192 (by decide)]; exact a3, by rw [eb, b.1]; exact a4, p, by rw [s.1 1188 (by decide)]; exact a5, by rw [eb, b.1]; exact a6, fun k hk => by rw [eb, b.2.1]; exact a7 k hk⟩
theorem WNs_hS {Ln : Nat} {ns : List Nat} (X : hSg g Sl h h') (sl : Sl Ln) (H : WNs h N Ln ns) : WNs h' N Ln ns := by
  obtain ⟨⟨h1, h2⟩, h3, h4, h5⟩ := H
  have e := X.2.2.2.2 Ln h1 sl
  exact ⟨⟨Nat.lt_of_lt_of_le h1 X.1, by rw [X.2.1 Ln h1]; exact h2⟩, by rw [e]; exact h3, h4, fun i a w e1 e2 => wN_hS X (h5 i a w (by rw [← e]; exact e1) e2)⟩
/-- whether two words are the same name -/
theorem c_isN (nd : ndN N) {w' b : Nat} (A : wN h N w a) (B : wN h N w' b) : C_16_is_2 G a b h = some (if w = w' then 1 else 0) := by
  obtain ⟨_, L, e1, e2⟩ := A
  obtain ⟨_, M, f1, f2⟩ := B
  rw [c_is2 e2 f2]
  congr 1
  by_cases h : w = w'
  · rw [if_pos h]
    rw [h, f1] at e1
    rw [if_pos (Option.some.inj e1).symm]
  · rw [if_neg h, if_neg (fun z => h (nd w w' L e1 (by rw [z]; exact f1)))]
theorem lk_ix : ∀ {θ : List (Nat × Ty)} {w : Nat}, lkT θ w = (ixF (fun x => x == w) (θ.map Prod.fst)).bind (fun j => (θ[j]?).map Prod.snd)
  | [], _ => rfl
  | p :: θ, w => by
    rw [lkT_cons]
    show _ = (if (p.1 == w) = true then some 0 else (ixF (fun x => x == w) (θ.map Prod.fst)).map (fun i => i + 1)).bind (fun j => ((p :: θ)[j]?).map Prod.snd)
    by_cases e : p.1 = w
    · rw [if_pos e, if_pos (by simpa using e)]; rfl
    · rw [if_neg e, if_neg (by simpa using e), lk_ix (θ := θ)]
      cases ixF (fun x => x == w) (θ.map Prod.fst) with
      | none => rfl
      | some j => rfl
/-- nodes of a type that are no names -/
def nnT : Ty → Nat
  | .leaf => 0
  | .inner k _ _ l r => if k = 0 then 0 else 1 + nnT l + nnT r
theorem nnT_le : ∀ T : Ty, nnT T ≤ tsz T
  | .leaf => Nat.le_refl _
  | .inner k w u l r => by
    have h1 := nnT_le l
    have h2 := nnT_le r
    show (if k = 0 then 0 else 1 + nnT l + nnT r) ≤ 1 + tsz l + tsz r
    split <;> omega
theorem nnT_sb {θ : List (Nat × Ty)} : ∀ T : Ty, nnT T ≤ tsz (sbT θ T)
  | .leaf => Nat.le_refl _
  | .inner k w u l r => by
    have h1 := nnT_sb (θ := θ) l
    have h2 := nnT_sb (θ := θ) r
    show (if k = 0 then 0 else 1 + nnT l + nnT r) ≤ _
    by_cases k0 : k = 0
    · rw [if_pos k0]; omega
    · rw [if_neg k0]
      show _ ≤ tsz (if k = 0 then _ else _)
      rw [if_neg k0]
      show _ ≤ 1 + tsz (sbT θ l) + tsz (sbT θ r)
      omega
end LHS
