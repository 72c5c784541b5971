set_option maxRecDepth 100000
/-! THE COMPONENT'S MACHINE: numbers, names bound -/
/-- what belongs to cells -/
def cOw (h : om_H) (m a : Nat) : Prop := a = m ∨ a = fR h 262 m ∨ kd h a = 40 ∨ ∃ c ∈ ll h (fR h 262 m), a = fR h 1718 c
/-- a step that makes cells (fs: fields of the machine that are written) -/
def CSt (G : om_G) (m nu nu' : Nat) (fs : List Nat) (h h' : om_H) : Prop := MC G h' m ∧ cNu h' m nu' ∧ mGc m h h' ∧ hT (cOw h m) h h' ∧ ((∀ f, f ∉ fs → f ≠ 264 → fI h' f m = fI h f m) ∧ ∀ f, fR h' f m = fR h f m) ∧ (∃ d, ll h' (fR h 262 m) = ll h (fR h 262 m) ++ d ∧ ∀ c ∈ d, hz h ≤ c ∧ hz h ≤ fR h' 1718 c) ∧ (∀ c ∈ ll h (fR h 262 m), fR h' 1718 c = fR h 1718 c) ∧ (hz h' + 3 * (ll h (fR h 262 m)).length ≤ hz h + 3 * (ll h' (fR h 262 m)).length ∧ hu h' + 4 * lc h (fR h 262 m) + 11 * (ll h (fR h 262 m)).length ≤ hu h + 4 * lc h' (fR h 262 m) + 11 * (ll h' (fR h 262 m)).length)
section LCC
variable {G : om_G} {io : Nat → Nat} {ins : List INs} {M : MPg} {cd : Nat → Et → Nat → Nat → Nat → Prop} {h h1 h2 : om_H} {m nu nu1 nu2 kk : Nat} {fs : List Nat}
theorem w32_lo {a k : Int} (h1 : -2147483648 ≤ a) (h2 : a ≤ 2147483647) : w32 (4294967296 * k + a % 4294967296) = a := by
  have e : ∀ x : Int, w32 x = x.bmod (2 ^ 32) := fun x => Int32.toInt_ofInt
  rw [e, Int.bmod_def]
  have e32 : ((2 ^ 32 : Nat) : Int) = 4294967296 := by decide
  rw [e32]
  split
  · omega
  · omega
theorem c_low {a k : Int} (h1 : -2147483648 ≤ a) (h2 : a ≤ 2147483647) : C_10_low G (4294967296 * k + a % 4294967296) h = some a := by
  unfold C_10_low
  rw [l2i_w, w32_lo h1 h2]
theorem c_of {a k : Int} (h1 : -2147483648 ≤ a) (h2 : a ≤ 2147483647) (k0 : 0 ≤ k) (k9 : k < 1000) : C_10_of G (4294967296 * k) a h = some (4294967296 * k + a % 4294967296) := by
  unfold C_10_of
  rw [and_32 (by unfold lR; omega), or_32 (by unfold lR; omega) (by omega) (by omega) (by omega)]
theorem c_is1 {x q : Int} (h0 : 0 ≤ x) (h1 : x < 4294967296000) (e : x / 4294967296 = q) : C_10_is G x (4294967296 * q) h = some 1 := by
  unfold C_10_is C_10_is_17
  rw [shr_32 (by unfold lR; omega), shl_32 (by unfold lR; omega) (by unfold lR; omega), e, if_neg (fun z => z rfl), gd_pos (.inr rfl)]
theorem c_is0 {x q : Int} (h0 : 0 ≤ x) (h1 : x < 4294967296000) (e : x / 4294967296 ≠ q) : C_10_is G x (4294967296 * q) h = some 0 := by
  unfold C_10_is C_10_is_17
  rw [shr_32 (by unfold lR; omega), shl_32 (by unfold lR; omega) (by unfold lR; omega), if_pos (by omega), gd_pos (.inl rfl)]
theorem CSt_le (A : CSt G m nu nu1 fs h h1) {fs' : List Nat} (hf : ∀ f ∈ fs, f ∈ fs') : CSt G m nu nu1 fs' h h1 := by
  obtain ⟨a1, a2, a3, a4, ⟨a5, a6⟩, a7⟩ := A
  exact ⟨a1, a2, a3, a4, ⟨fun f h1 h2 => a5 f (fun z => h1 (hf f z)) h2, a6⟩, a7⟩
theorem CSt_trans (A : CSt G m nu nu1 fs h h1) (B : CSt G m nu1 nu2 fs h1 h2) : CSt G m nu nu2 fs h h2 := by
  obtain ⟨a1, a2, a3, a4, ⟨a5, a6⟩, ⟨d, a7, a8⟩, a9, a10, a11⟩ := A
  obtain ⟨b1, b2, b3, b4, ⟨b5, b6⟩, ⟨d', b7, b8⟩, b9, b10, b11⟩ := B
  have e := a6 262
  rw [e] at b7 b9 b10 b11
  have z1 := a4.1
  refine ⟨b1, b2, mGc_trans a3 b3, hT_trans a4 b4 (fun a ha w => ?_), ⟨fun f f1 f2 => (b5 f f1 f2).trans (a5 f f1 f2), fun f => (b6 f).trans (a6 f)⟩, ⟨d ++ d', by rw [b7, a7, List.append_assoc], fun c hc => ?_⟩, fun c hc => (b9 c (by rw [a7]; exact List.mem_append_left _ hc)).trans (a9 c hc), by omega, by omega⟩
  · rcases w with w | w | w | ⟨c, hc, w⟩
    · exact .inl w
    · exact .inr (.inl (w.trans e))
    · exact .inr (.inr (.inl (by rw [← a4.2.2.1 a ha]; exact w)))
    · rw [e, a7] at hc
      rcases List.mem_append.mp hc with hc | hc
      · exact .inr (.inr (.inr ⟨c, hc, w.trans (a9 c hc)⟩))
      · have := (a8 c hc).2
        omega
  · rcases List.mem_append.mp hc with hc | hc
    · obtain ⟨q1, q2⟩ := a8 c hc
      have : fR h2 1718 c = fR h1 1718 c := b9 c (by rw [a7]; exact List.mem_append_right _ hc)
      exact ⟨q1, by omega⟩
    · obtain ⟨q1, q2⟩ := b8 c hc
      exact ⟨by omega, by omega⟩
/-- a fresh cell is such a step -/
theorem CSt_of {c : Nat} (I : MC G h m) (F : FrS m nu c kk h h1) (I1 : MC G h1 m) (n1 : cNu h1 m (nu + 1)) (g : mGc m h h1) : CSt G m nu (nu + 1) [] h h1 := by
  obtain ⟨⟨X, c1, c2⟩, ⟨y1, y2⟩, y3, y4, ⟨y5, y6, y7⟩, y8, y9⟩ := F
  have kL := I.2.1.1.1.2.1
  have e62 := y2 262
  refine ⟨I1, n1, g, hT_mono X (fun a ha w => ?_), ⟨fun f _ hf => y1 f hf, y2⟩, ?_, fun c' hc' => ?_, y8, y9⟩
  · rcases w with w | w | w
    · exact .inl w
    · exact .inr (.inl w)
    · have := I.2.1.2 c (List.mem_of_getElem? (c1 (by omega)).1)
      rw [w]
      exact .inr (.inr (.inl this.1.2.2))
  · by_cases q : c < hz h
    · exact ⟨[], by rw [List.append_nil]; exact (c1 q).2, fun _ z => (by cases z)⟩
    · refine ⟨[c], (c2 (by omega)).2, fun c' z => ?_⟩
      rw [List.mem_singleton.mp z]
      exact ⟨by omega, y3 (by omega)⟩
  · obtain ⟨⟨_, q2, q3⟩, _⟩ := I.2.1.2 c' hc'
    by_cases q : c' = c
    · rw [q]
      exact y4 (by omega)
    · exact (X.2.2.2 c' q2 (fun w => by
        rcases w with w | w | w
        · rw [w, I.1.1] at q3; omega
        · rw [w, kL] at q3; omega
        · exact q w)).2.2.1 1718
/-- a write of a cell's own number or reference, of the machine's number -/
theorem CSt_sI (A : CSt G m nu nu1 fs h h1) {f a : Nat} {x : Int} (ha : a = m ∧ f ∈ fs ∧ f ≠ 264 ∨ (a = cO h1 m nu ∧ nu < nu1 ∧ fI h 264 m = (nu : Int))) : CSt G m nu nu1 fs h (sI h1 f a x) := by
  obtain ⟨a1, a2, a3, a4, ⟨a5, a6⟩, a7, a9, a10⟩ := A
  have S : skE m h1 (sI h1 f a x) := skE_sI skE_refl
  have nc : nu < nu1 → (cO h1 m nu ∈ ll h1 (fR h1 262 m) ∧ cO h1 m nu < hz h1 ∧ kd h1 (cO h1 m nu) = 40) := fun q => by
    obtain ⟨_, q2, q3, _⟩ := MC_at a1 (k := nu) (by have := a2.2.1; omega)
    exact ⟨q2, q3.2⟩
  have am : ∀ g, g ∉ fs → g ≠ 264 → fI (sI h1 f a x) g m = fI h1 g m := fun g g1 g2 => by
    rcases ha with ⟨e, w, _⟩ | ⟨e, w, _⟩
    · exact fI_ne (fun z => g1 (by rw [z]; exact w))
    · refine fI_na (fun z => ?_)
      have := (nc w).2.2
      rw [← e, ← z, a1.1.1] at this
      omega
  have n264 : fI (sI h1 f a x) 264 m = fI h1 264 m := by
    rcases ha with ⟨e, w, w2⟩ | ⟨e, w, _⟩
    · exact fI_ne (fun z => w2 z.symm)
    · refine fI_na (fun z => ?_)
      have := (nc w).2.2
      rw [← e, ← z, a1.1.1] at this
      omega
  refine ⟨MC_sk S a1, ⟨n264.trans a2.1, a2.2.1, a2.2.2⟩, ⟨by rw [n264]; exact a3.1, fun k hk => ?_⟩, ?_, ⟨fun g g1 g2 => (am g g1 g2).trans (a5 g g1 g2), a6⟩, a7, a9, a10⟩
  · obtain ⟨q1, q2, q3⟩ := a3.2 k hk
    have hk1 : (k : Int) < fI h1 264 m := by have := a3.1; omega
    obtain ⟨_, _, ⟨g3, g4, g5⟩, _⟩ := MC_at a1 (k := k) (by have := a2.1; have := a2.2.1; omega)
    have ne : cO h1 m k ≠ a := fun z => by
      rcases ha with ⟨e, w, w2⟩ | ⟨e, w, w2⟩
      · rw [z, e, a1.1.1] at g5; omega
      · have := MC_ne a1 (k := k) (j := nu) (by have := a2.1; have := a2.2.1; omega) (by have := a2.2.1; omega) (by omega)
        exact this.1 (z.trans e)
    have e0 : cO (sI h1 f a x) m k = cO h1 m k := rfl
    rw [e0, fI_na ne, fI_na ne, fI_na ne]
    exact ⟨q1, q2, q3⟩
  · refine hT_trans a4 (D' := fun y => y = a) ⟨Nat.le_refl _, Nat.le_refl _, fun _ _ => rfl, fun y _ ny => ⟨rfl, fun g => fI_na ny, fun _ => rfl, rfl, fun _ => rfl, fun _ => rfl, rfl, rfl⟩⟩ (fun y hy w => ?_)
    rcases ha with ⟨e, _⟩ | ⟨e, w1, w2⟩
    · exact .inl (w.trans e)
    · have := (nc w1).2.2
      rw [← e, ← w, a4.2.2.1 y hy] at this
      exact .inr (.inr (.inl this))
theorem CSt_sR (A : CSt G m nu nu1 fs h h1) {f a x : Nat} (hf : f = 1706 ∨ f = 1714) (e : a = cO h1 m nu) (w : nu < nu1) (w2 : fI h 264 m = (nu : Int)) : CSt G m nu nu1 fs h (sR h1 f a x) := by
  obtain ⟨a1, a2, a3, a4, ⟨a5, a6⟩, a7, a9, a10⟩ := A
  have S : skE m h1 (sR h1 f a x) := skE_sR skE_refl (by rcases hf with z | z <;> rw [z] <;> decide)
  obtain ⟨_, q2, ⟨q3, q4, q5⟩, _⟩ := MC_at a1 (k := nu) (by have := a2.2.1; omega)
  have nm : m ≠ a := fun z => by rw [← e, ← z, a1.1.1] at q5; omega
  have r18 : ∀ b, fR (sR h1 f a x) 1718 b = fR h1 1718 b := fun b => fR_ne (by omega)
  have e62 : fR (sR h1 f a x) 262 m = fR h1 262 m := fR_ne (by omega)
  have cOe : ∀ k, cO (sR h1 f a x) m k = cO h1 m k := fun k => cO_eq e62 rfl
  refine ⟨MC_sk S a1, ⟨a2.1, by rw [e62]; exact a2.2.1, a2.2.2⟩, ⟨a3.1, fun k hk => ?_⟩, ?_, ⟨a5, fun g => (fR_na nm).trans (a6 g)⟩, ?_, fun c hc => (r18 c).trans (a9 c hc), a10⟩
  · obtain ⟨q1, q2, q3⟩ := a3.2 k hk
    have hk1 : (k : Int) < fI h1 264 m := by have := a3.1; omega
    have ne : cO h1 m k ≠ a := fun z => by
      have := MC_ne a1 (k := k) (j := nu) (by have := a2.1; have := a2.2.1; omega) (by have := a2.2.1; omega) (by omega)
      exact this.1 (z.trans e)
    unfold cRw
    rw [cOe, fR_na ne, fR_na ne, fR_na ne, r18]
    exact ⟨q1, q2, q3⟩
  · refine hT_trans a4 (D' := fun y => y = a) ⟨Nat.le_refl _, Nat.le_refl _, fun _ _ => rfl, fun y _ ny => ⟨rfl, fun _ => rfl, fun g => fR_na ny, rfl, fun _ => rfl, fun _ => rfl, rfl, rfl⟩⟩ (fun y hy w => ?_)
    rw [← e, ← w, a4.2.2.1 y hy] at q5
    exact .inr (.inr (.inl q5))
  · obtain ⟨d, d1, d2⟩ := a7
    exact ⟨d, d1, fun c hc => by rw [r18]; exact d2 c hc⟩
set_option maxHeartbeats 1000000 in
/-- A NAME IS BOUND -/
theorem c_bindM {x : Int} {en v : Vt} (I : MC G h m) (hn : cNu h m nu) (h4 : nu < 4000) (he : vC G io M cd h m en false (fI h 296 m)) (hv : vC G io M cd h m v true x) : ∃ h', C_10_bind G m x h = some (1, h') ∧ CSt G m nu (nu + 1) [296] h h' ∧ vC G io M cd h' m (xvE v en) false (fI h' 296 m) := by
  obtain ⟨c, h1, c1, c2, c3, ⟨c4, c5, c6⟩, c7, c8⟩ := c_fresh (kk := om_cA G 13) I hn h4
  have C0 : CSt G m nu (nu + 1) [] h h1 := CSt_of I c7 c2 c3 c8
  have ec : cO h1 m nu = c := c7.2.2.2.2.1.1
  have e96 : fI h1 296 m = fI h 296 m := C0.2.2.2.2.1.1 296 (by decide) (by decide)
  have wn : w32 (fI h1 264 m - 1) = (nu : Int) := by rw [c3.1]; exact (w32_s (by omega) (by omega)).trans (by omega)
  have nm : c ≠ m := fun z => by rw [z, c2.1.1] at c6; omega
  obtain ⟨h', eh⟩ : ∃ h', h' = sI (sI (sI h1 1697 c x) 1708 c (fI h 296 m)) 296 m (nu : Int) := ⟨_, rfl⟩
  have C1 : CSt G m nu (nu + 1) [296] h h' := by
    rw [eh]
    refine CSt_sI (CSt_sI (CSt_sI (CSt_le C0 (by decide)) (.inr ⟨ec.symm, by omega, hn.1⟩)) (.inr ⟨ec.symm, by omega, hn.1⟩)) (.inl ⟨rfl, by decide, by decide⟩)
  have f97 : fI h' 1697 c = x := by
    rw [eh, fI_ne (by decide), fI_ne (by decide), fI_eq]
  have f08 : fI h' 1708 c = fI h 296 m := by
    rw [eh, fI_ne (by decide), fI_eq]
  have f96 : fI h' 296 m = (nu : Int) := by rw [eh, fI_eq]
  have ec' : cO h' m nu = c := by rw [eh]; exact ec
  refine ⟨h', ?_, C1, ?_⟩
  · unfold C_10_bind
    rw [gd_pos I.1.1, c1, Option.bind_some]
    show (if c ≠ 0 then _ else _) = _
    rw [if_pos c4, gd_pos ⟨c6, c2.1.1⟩, e96, wn, eh]
  · rw [f96]
    have lt : fI h 296 m < (nu : Int) := by
      cases en with
      | leaf => have e : fI h 296 m = -1 := he; omega
      | inner t a u l r =>
        obtain ⟨_, k, e1, e2, _⟩ := he
        have := hn.1
        omega
    refine ⟨rfl, nu, rfl, by rw [C1.2.1.1]; omega, ?_, ?_, ?_⟩
    · rw [ec', f08]; exact lt
    · rw [ec', f08]; exact vC_gr C1.2.2.1 he
    · rw [ec', f97]; exact vC_gr C1.2.2.1 hv
theorem c_bindF {x : Int} (I : MC G h m) (hn : cNu h m nu) (h4 : ¬ nu < 4000) : C_10_bind G m x h = some (0, sI h 280 m 4) := by
  unfold C_10_bind
  rw [gd_pos I.1.1, c_freshF I hn h4, Option.bind_some]
  exact if_neg (fun z => z rfl)
/-- UP IN AN ENVIRONMENT -/
theorem c_up {l1 up : Nat} (I : MC G h m) (hn : cNu h m nu) (k28 : kd h l1 = 28) (eu : fI h 1464 l1 = (up : Int)) (hu : up < 5000) : ∀ (d i : Nat) (en : Vt) (x : Int), i + d = up → d < (xls en).length → vC G io M cd h m en false x → ∃ y : Nat, om_loop (C_10_name_14s G m l1 h) (x, (i : Int)) = some (y : Int) ∧ y < nu ∧ vC G io M cd h m ((xls en)[(xls en).length - 1 - d]?.getD .leaf) true (fI h 1697 (cO h m y))
  | _, _, .leaf, _, _, hd, _ => by simp [xls] at hd
  | 0, i, .inner t a u l r, x, e, hd, ⟨_, k, ex, hk, _, v1, v2⟩ => by
    refine ⟨k, ?_, by have := hn.1; omega, ?_⟩
    · refine om_loop_out ?_
      unfold C_10_name_14s
      rw [gd_pos k28, eu, if_pos (by show (up : Int) ≤ (i : Int); omega), ex]
    · have el : (xls (.inner t a u l r)).length - 1 - 0 = (xls r).length := by
        show (xls r ++ [l]).length - 1 - 0 = _
        rw [List.length_append, List.length_singleton]
        omega
      rw [el]
      show vC G io M cd h m (((xls r ++ [l])[(xls r).length]?).getD .leaf) true _
      rw [List.getElem?_append_right (Nat.le_refl _), Nat.sub_self]
      exact v2
  | d + 1, i, .inner t a u l r, x, e, hd, ⟨_, k, ex, hk, _, v1, v2⟩ => by
    have kn : k < nu := by have := hn.1; omega
    have hl := hn.2.1
    obtain ⟨_, _, ⟨_, _, k40⟩, _⟩ := MC_at I (k := k) (by omega)
    have el : (xls (.inner t a u l r)).length = (xls r).length + 1 := by
      show (xls r ++ [l]).length = _
      rw [List.length_append, List.length_singleton]
    rw [el] at hd
    have st : C_10_name_14s G m l1 h (x, (i : Int)) = some (.inl (fI h 1708 (cO h m k), ((i + 1 : Nat) : Int))) := by
      unfold C_10_name_14s
      rw [gd_pos k28, eu, if_neg (by show ¬ (up : Int) ≤ (i : Int); omega), gd_pos ⟨I.1.1, I.2.1.1.1.2.1⟩, ex, MC_get I (by omega), Option.bind_some, gd_pos ⟨.inr k40, k40⟩]
      show some (Sum.inl (_, w32 ((i : Int) + 1))) = _
      rw [w32_s (by omega) (by omega)]
      rfl
    obtain ⟨y, y1, y2, y3⟩ := c_up I hn k28 eu hu d (i + 1) r _ (by omega) (by omega) v1
    refine ⟨y, by rw [om_loop_in st]; exact y1, y2, ?_⟩
    have ei : (xls (.inner t a u l r)).length - 1 - (d + 1) = (xls r).length - 1 - d := by omega
    rw [ei]
    show vC G io M cd h m (((xls r ++ [l])[(xls r).length - 1 - d]?).getD .leaf) true _
    rw [List.getElem?_append_left (by omega)]
    exact y3
end LCC
