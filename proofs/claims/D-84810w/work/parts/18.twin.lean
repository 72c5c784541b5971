/-! THE TWIN'S STATE by itself: scalars by their field, arrays by their field and place. -/
abbrev tS : Type := (Nat → Int) × (Nat → Nat → Int)
def gs (σ : tS) (f : Nat) : Int := σ.1 f
def ga (σ : tS) (f i : Nat) : Int := σ.2 f i
def us (σ : tS) (f : Nat) (x : Int) : tS := (fun g => if g = f then x else gs σ g, ga σ)
def ua (σ : tS) (f i : Nat) (x : Int) : tS := (gs σ, fun g j => if g = f ∧ j = i then x else ga σ g j)
theorem gs_us (σ : tS) (f : Nat) (x : Int) (g : Nat) : gs (us σ f x) g = if g = f then x else gs σ g := rfl
theorem gs_ua (σ : tS) (f i : Nat) (x : Int) (g : Nat) : gs (ua σ f i x) g = gs σ g := rfl
theorem ga_us (σ : tS) (f : Nat) (x : Int) (g j : Nat) : ga (us σ f x) g j = ga σ g j := rfl
theorem ga_ua (σ : tS) (f i : Nat) (x : Int) (g j : Nat) : ga (ua σ f i x) g j = if g = f ∧ j = i then x else ga σ g j := rfl
theorem tS_ext {σ τ : tS} (h1 : ∀ f, gs σ f = gs τ f) (h2 : ∀ f i, ga σ f i = ga τ f i) : σ = τ := by
  obtain ⟨a, b⟩ := σ
  obtain ⟨c, e⟩ := τ
  have e1 : a = c := funext h1
  have e2 : b = e := funext fun f => funext (h2 f)
  subst e1 e2
  rfl
/-! A heap with the twin's state put in. -/
def reb (h : om_H) (m : Nat) (σ : tS) : om_H := (kd h, fun f a => if a = m then gs σ f else fI h f a, fR h, an h, fun b j => match tw_arr.find? (fun q => fR h q.1 m == b) with | some q => ga σ q.1 j | none => aI h b j, aR h, ll h, lc h, hz h, hu h)
def tws (h : om_H) (m : Nat) : tS := (fun f => fI h f m, fun f i => aI h (fR h f m) i)
theorem reb_fI (h : om_H) (m : Nat) (σ : tS) (f : Nat) : fI (reb h m σ) f m = gs σ f := if_pos rfl
theorem reb_fI' (h : om_H) (m : Nat) (σ : tS) (f : Nat) {a : Nat} (e : a ≠ m) : fI (reb h m σ) f a = fI h f a := if_neg e
theorem reb_TW {h : om_H} {m : Nat} (T : TW h m) (σ : tS) : TW (reb h m σ) m := T
theorem tw_find {h : om_H} {m : Nat} (T : TW h m) {q : Nat × Nat × Nat} (hq : q ∈ tw_arr) : ∃ p, tw_arr.find? (fun p => fR h p.1 m == fR h q.1 m) = some p ∧ p.1 = q.1 := by
  cases e : tw_arr.find? (fun p => fR h p.1 m == fR h q.1 m) with
  | none =>
    have := List.find?_eq_none.mp e q hq
    simp at this
  | some p =>
    refine ⟨p, rfl, ?_⟩
    have h1 := List.mem_of_find?_eq_some e
    have h2 := List.find?_some e
    exact T.2.2 p h1 q hq (by simpa using h2)
theorem reb_aI {h : om_H} {m : Nat} (T : TW h m) (σ : tS) {q : Nat × Nat × Nat} (hq : q ∈ tw_arr) (i : Nat) : aI (reb h m σ) (fR h q.1 m) i = ga σ q.1 i := by
  obtain ⟨p, e1, e2⟩ := tw_find T hq
  show (match tw_arr.find? (fun p => fR h p.1 m == fR h q.1 m) with | some p => ga σ p.1 i | none => aI h (fR h q.1 m) i) = _
  rw [e1, ← e2]
theorem reb_sI (h : om_H) (m : Nat) (σ : tS) (f : Nat) (x : Int) : sI (reb h m σ) f m x = reb h m (us σ f x) := by
  refine om_ext (fun _ => rfl) (fun g a => ?_) (fun _ _ => rfl) (fun _ => rfl) (fun _ _ => rfl) (fun _ _ => rfl) (fun _ => rfl) (fun _ => rfl) rfl rfl
  show (if g = f ∧ a = m then x else if a = m then gs σ g else fI h g a) = if a = m then (if g = f then x else gs σ g) else fI h g a
  by_cases e : a = m <;> by_cases e' : g = f <;> simp [e, e']
theorem reb_pI {h : om_H} {m : Nat} (T : TW h m) (σ : tS) {q : Nat × Nat × Nat} (hq : q ∈ tw_arr) (i : Nat) (x : Int) : pI (reb h m σ) (fR h q.1 m) i x = reb h m (ua σ q.1 i x) := by
  refine om_ext (fun _ => rfl) (fun _ _ => rfl) (fun _ _ => rfl) (fun _ => rfl) (fun b j => ?_) (fun _ _ => rfl) (fun _ => rfl) (fun _ => rfl) rfl rfl
  show (if b = fR h q.1 m ∧ j = i then x else (match tw_arr.find? (fun p => fR h p.1 m == b) with | some p => ga σ p.1 j | none => aI h b j)) = (match tw_arr.find? (fun p => fR h p.1 m == b) with | some p => (if p.1 = q.1 ∧ j = i then x else ga σ p.1 j) | none => aI h b j)
  cases e : tw_arr.find? (fun p => fR h p.1 m == b) with
  | none =>
    have hb : b ≠ fR h q.1 m := by
      intro hb
      have := List.find?_eq_none.mp e q hq
      simp [hb] at this
    simp [hb]
  | some p =>
    have h1 := List.mem_of_find?_eq_some e
    have h2 : fR h p.1 m = b := by simpa using List.find?_some e
    by_cases hb : b = fR h q.1 m
    · have := T.2.2 p h1 q hq (by rw [h2, hb])
      simp [hb, this]
    · have : p.1 ≠ q.1 := by
        intro hp
        rw [hp] at h2
        exact hb h2.symm
      simp [hb, this]
theorem reb_reb (h : om_H) (m : Nat) (σ τ : tS) : reb (reb h m σ) m τ = reb h m τ := by
  refine om_ext (fun _ => rfl) (fun g a => ?_) (fun _ _ => rfl) (fun _ => rfl) (fun b j => ?_) (fun _ _ => rfl) (fun _ => rfl) (fun _ => rfl) rfl rfl
  · show (if a = m then gs τ g else if a = m then gs σ g else fI h g a) = if a = m then gs τ g else fI h g a
    by_cases e : a = m <;> simp [e]
  · show (match tw_arr.find? (fun p => fR h p.1 m == b) with | some p => ga τ p.1 j | none => (match tw_arr.find? (fun p => fR h p.1 m == b) with | some p => ga σ p.1 j | none => aI h b j)) = (match tw_arr.find? (fun p => fR h p.1 m == b) with | some p => ga τ p.1 j | none => aI h b j)
    cases tw_arr.find? (fun p => fR h p.1 m == b) <;> rfl
theorem reb_self {h : om_H} {m : Nat} : reb h m (tws h m) = h := by
  refine om_ext (fun _ => rfl) (fun g a => ?_) (fun _ _ => rfl) (fun _ => rfl) (fun b j => ?_) (fun _ _ => rfl) (fun _ => rfl) (fun _ => rfl) rfl rfl
  · show (if a = m then fI h g m else fI h g a) = fI h g a
    by_cases e : a = m <;> simp [e]
  · show (match tw_arr.find? (fun p => fR h p.1 m == b) with | some p => aI h (fR h p.1 m) j | none => aI h b j) = aI h b j
    cases e : tw_arr.find? (fun p => fR h p.1 m == b) with
    | none => rfl
    | some p =>
      have h2 : fR h p.1 m = b := by simpa using List.find?_some e
      show aI h (fR h p.1 m) j = _
      rw [h2]
section
variable {G : om_G} {d : Nat} {M : om_M} {pc : Nat} {ls : List (Option om_V)} {st : List om_V} {h : om_H} {m : Nat} {σ : tS} {Q : om_O → Prop}
/-! READING AND WRITING the twin's state -/
theorem tk_getI {index f : Nat} {x : Int} (T : TW h m) (e : gs σ f = x) (hd : decode M.2.1 pc = .ok (.getfield index, 3)) (F : om_FL M.1.cls index f [13]) (hf : f % 4 = 0 ∨ f % 4 = 3) (k : OK G d M (pc + 3) ls (vI x :: st) (reb h m σ) Q) : OK G d M pc ls (vR m :: st) (reb h m σ) Q :=
  ok_getI hd F hf T.1 (by rw [reb_fI, e]; exact k)
theorem tk_getL {index f : Nat} {x : Int} (T : TW h m) (e : gs σ f = x) (hd : decode M.2.1 pc = .ok (.getfield index, 3)) (F : om_FL M.1.cls index f [13]) (hf : f % 4 = 1) (k : OK G d M (pc + 3) ls (vL x :: st) (reb h m σ) Q) : OK G d M pc ls (vR m :: st) (reb h m σ) Q :=
  ok_getL hd F hf T.1 (by rw [reb_fI, e]; exact k)
theorem tk_getR {index f : Nat} (T : TW h m) (hd : decode M.2.1 pc = .ok (.getfield index, 3)) (F : om_FL M.1.cls index f [13]) (hf : f % 4 = 2) (k : OK G d M (pc + 3) ls (vR (fR h f m) :: st) (reb h m σ) Q) : OK G d M pc ls (vR m :: st) (reb h m σ) Q :=
  ok_getR hd F hf T.1 k
theorem tk_putI {index f : Nat} {x : Int} {fin : Bool} (T : TW h m) (hd : decode M.2.1 pc = .ok (.putfield index, 3)) (F : om_FP M.1.cls index f fin [13]) (hin : fin = true → M.1.name = "<init>") (hf : f % 4 = 0) (k : OK G d M (pc + 3) ls st (reb h m (us σ f x)) Q) : OK G d M pc ls (vI x :: vR m :: st) (reb h m σ) Q :=
  ok_putI hd F hin hf T.1 (by rw [reb_sI]; exact k)
theorem tk_putZ {index f : Nat} {x : Int} {fin : Bool} (T : TW h m) (hd : decode M.2.1 pc = .ok (.putfield index, 3)) (F : om_FP M.1.cls index f fin [13]) (hin : fin = true → M.1.name = "<init>") (hf : f % 4 = 3) (hx : x = 0 ∨ x = 1) (k : OK G d M (pc + 3) ls st (reb h m (us σ f x)) Q) : OK G d M pc ls (vI x :: vR m :: st) (reb h m σ) Q :=
  ok_putZ hd F hin hf hx T.1 (by rw [reb_sI]; exact k)
theorem tk_putL {index f : Nat} {x : Int} {fin : Bool} (T : TW h m) (hd : decode M.2.1 pc = .ok (.putfield index, 3)) (F : om_FP M.1.cls index f fin [13]) (hin : fin = true → M.1.name = "<init>") (hf : f % 4 = 1) (k : OK G d M (pc + 3) ls st (reb h m (us σ f x)) Q) : OK G d M pc ls (vL x :: vR m :: st) (reb h m σ) Q :=
  ok_putL hd F hin hf T.1 (by rw [reb_sI]; exact k)
theorem tk_iald {f n : Nat} {i x : Int} (T : TW h m) (hq : (f, 51, n) ∈ tw_arr) (e : ga σ f i.toNat = x) (hd : decode M.2.1 pc = .ok (.iaload, 1)) (h0 : 0 ≤ i) (h1 : i < n) (k : OK G d M (pc + 1) ls (vI x :: st) (reb h m σ) Q) : OK G d M pc ls (vI i :: vR (fR h f m) :: st) (reb h m σ) Q :=
  ok_iald hd (T.2.1 _ hq).1 h0 (tw_lt (T.2.1 _ hq).2 h1) (by rw [reb_aI T σ hq, e]; exact k)
theorem tk_bald {f n : Nat} {i x : Int} (T : TW h m) (hq : (f, 50, n) ∈ tw_arr) (e : ga σ f i.toNat = x) (hd : decode M.2.1 pc = .ok (.baload, 1)) (h0 : 0 ≤ i) (h1 : i < n) (k : OK G d M (pc + 1) ls (vI x :: st) (reb h m σ) Q) : OK G d M pc ls (vI i :: vR (fR h f m) :: st) (reb h m σ) Q :=
  ok_bald hd (T.2.1 _ hq).1 h0 (tw_lt (T.2.1 _ hq).2 h1) (by rw [reb_aI T σ hq, e]; exact k)
theorem tk_zald {f n : Nat} {i x : Int} (T : TW h m) (hq : (f, 53, n) ∈ tw_arr) (e : ga σ f i.toNat = x) (hd : decode M.2.1 pc = .ok (.baload, 1)) (h0 : 0 ≤ i) (h1 : i < n) (k : OK G d M (pc + 1) ls (vI x :: st) (reb h m σ) Q) : OK G d M pc ls (vI i :: vR (fR h f m) :: st) (reb h m σ) Q :=
  ok_zald hd (T.2.1 _ hq).1 h0 (tw_lt (T.2.1 _ hq).2 h1) (by rw [reb_aI T σ hq, e]; exact k)
theorem tk_lald {f n : Nat} {i x : Int} (T : TW h m) (hq : (f, 52, n) ∈ tw_arr) (e : ga σ f i.toNat = x) (hd : decode M.2.1 pc = .ok (.laload, 1)) (h0 : 0 ≤ i) (h1 : i < n) (k : OK G d M (pc + 1) ls (vL x :: st) (reb h m σ) Q) : OK G d M pc ls (vI i :: vR (fR h f m) :: st) (reb h m σ) Q :=
  ok_lald hd (T.2.1 _ hq).1 h0 (tw_lt (T.2.1 _ hq).2 h1) (by rw [reb_aI T σ hq, e]; exact k)
theorem tk_iast {f n : Nat} {i x : Int} (T : TW h m) (hq : (f, 51, n) ∈ tw_arr) (hd : decode M.2.1 pc = .ok (.iastore, 1)) (h0 : 0 ≤ i) (h1 : i < n) (k : OK G d M (pc + 1) ls st (reb h m (ua σ f i.toNat x)) Q) : OK G d M pc ls (vI x :: vI i :: vR (fR h f m) :: st) (reb h m σ) Q :=
  ok_iast hd (T.2.1 _ hq).1 h0 (tw_lt (T.2.1 _ hq).2 h1) (by rw [reb_pI T σ hq]; exact k)
theorem tk_bast {f n : Nat} {i x : Int} (T : TW h m) (hq : (f, 50, n) ∈ tw_arr) (hd : decode M.2.1 pc = .ok (.bastore, 1)) (h0 : 0 ≤ i) (h1 : i < n) (k : OK G d M (pc + 1) ls st (reb h m (ua σ f i.toNat (b8 x))) Q) : OK G d M pc ls (vI x :: vI i :: vR (fR h f m) :: st) (reb h m σ) Q :=
  ok_bast hd (T.2.1 _ hq).1 h0 (tw_lt (T.2.1 _ hq).2 h1) (by rw [reb_pI T σ hq]; exact k)
theorem tk_zast {f n : Nat} {i x : Int} (T : TW h m) (hq : (f, 53, n) ∈ tw_arr) (hx : x = 0 ∨ x = 1) (hd : decode M.2.1 pc = .ok (.bastore, 1)) (h0 : 0 ≤ i) (h1 : i < n) (k : OK G d M (pc + 1) ls st (reb h m (ua σ f i.toNat x)) Q) : OK G d M pc ls (vI x :: vI i :: vR (fR h f m) :: st) (reb h m σ) Q :=
  ok_zast hd (T.2.1 _ hq).1 hx h0 (tw_lt (T.2.1 _ hq).2 h1) (by rw [reb_pI T σ hq]; exact k)
theorem tk_last {f n : Nat} {i x : Int} (T : TW h m) (hq : (f, 52, n) ∈ tw_arr) (hd : decode M.2.1 pc = .ok (.lastore, 1)) (h0 : 0 ≤ i) (h1 : i < n) (k : OK G d M (pc + 1) ls st (reb h m (ua σ f i.toNat x)) Q) : OK G d M pc ls (vL x :: vI i :: vR (fR h f m) :: st) (reb h m σ) Q :=
  ok_last hd (T.2.1 _ hq).1 h0 (tw_lt (T.2.1 _ hq).2 h1) (by rw [reb_pI T σ hq]; exact k)
end
/-! LOOPS: a step gives what goes on, or the end. -/
def om_it {α β : Type} (f : α → Option (α ⊕ β)) : Nat → α → Option β
  | 0, _ => none
  | n + 1, a => (f a).bind (Sum.elim (om_it f n) some)
theorem om_it_mono {α β : Type} {f : α → Option (α ⊕ β)} {b : β} : ∀ {n : Nat} {a : α}, om_it f n a = some b → ∀ k, om_it f (n + k) a = some b
  | 0, _, e, _ => by simp [om_it] at e
  | n + 1, a, e, k => by
    rw [show n + 1 + k = (n + k) + 1 by omega]
    unfold om_it at e ⊢
    cases hf : f a with
    | none => rw [hf] at e; simp at e
    | some x =>
      rw [hf] at e
      cases x with
      | inl a' =>
        simp only [Option.bind_some, Sum.elim_inl] at e ⊢
        exact om_it_mono e k
      | inr b' => simpa using e
noncomputable def om_loop {α β : Type} (f : α → Option (α ⊕ β)) (a : α) : Option β :=
  @dite _ (∃ n, (om_it f n a).isSome = true) (Classical.propDecidable _) (fun hx => om_it f (Classical.choose hx) a) (fun _ => none)
theorem om_loop_of {α β : Type} {f : α → Option (α ⊕ β)} {a : α} {b : β} {n : Nat} (e : om_it f n a = some b) : om_loop f a = some b := by
  have hx : ∃ n, (om_it f n a).isSome = true := ⟨n, by rw [e]; rfl⟩
  unfold om_loop
  rw [dif_pos hx]
  have h1 := Classical.choose_spec hx
  cases e' : om_it f (Classical.choose hx) a with
  | none => rw [e'] at h1; cases h1
  | some b' =>
    have h2 := om_it_mono e (Classical.choose hx)
    have h3 := om_it_mono e' n
    rw [Nat.add_comm, h2] at h3
    exact h3.symm
theorem om_loop_some {α β : Type} {f : α → Option (α ⊕ β)} {a : α} {b : β} (e : om_loop f a = some b) : ∃ n, om_it f n a = some b := by
  unfold om_loop at e
  split at e
  · exact ⟨_, e⟩
  · cases e
theorem om_loop_eq {α β : Type} (f : α → Option (α ⊕ β)) (a : α) : om_loop f a = (f a).bind (Sum.elim (om_loop f) some) := by
  refine Option.ext fun b => ⟨fun e => ?_, fun e => ?_⟩
  · obtain ⟨n, e⟩ := om_loop_some e
    cases n with
    | zero => cases e
    | succ n =>
      unfold om_it at e
      cases hf : f a with
      | none => rw [hf] at e; cases e
      | some x =>
        rw [hf] at e
        cases x with
        | inl a' => exact om_loop_of (n := n) e
        | inr b' => exact e
  · cases hf : f a with
    | none => rw [hf] at e; cases e
    | some x =>
      rw [hf] at e
      cases x with
      | inl a' =>
        obtain ⟨n, e⟩ := om_loop_some (show om_loop f a' = some b from e)
        refine om_loop_of (n := n + 1) ?_
        unfold om_it
        rw [hf]
        exact e
      | inr b' =>
        refine om_loop_of (n := 1) ?_
        unfold om_it
        rw [hf]
        exact e
theorem om_loop_ind {α β : Type} {f : α → Option (α ⊕ β)} {P : α → β → Prop} (hb : ∀ a b, f a = some (.inr b) → P a b) (hs : ∀ a a' b, f a = some (.inl a') → P a' b → P a b) {a : α} {b : β} (e0 : om_loop f a = some b) : P a b := by
  obtain ⟨n, e⟩ := om_loop_some e0
  clear e0
  induction n generalizing a with
  | zero => cases e
  | succ n ih =>
    unfold om_it at e
    cases hf : f a with
    | none => rw [hf] at e; cases e
    | some x =>
      rw [hf] at e
      cases x with
      | inl a' => exact hs a a' b hf (ih e)
      | inr b' =>
        have : b' = b := by cases e; rfl
        subst this
        exact hb a b' hf
/-! what an option's being some tells -/
theorem om_gd {α : Type} {c : Prop} {hc : Decidable c} {x : Option α} {y : α} (e : (if c then x else none) = some y) : c ∧ x = some y := by
  by_cases q : c
  · rw [if_pos q] at e; exact ⟨q, e⟩
  · rw [if_neg q] at e; cases e
theorem om_br {α : Type} {c : Prop} {hc : Decidable c} {x x' : Option α} {y : α} (e : (if c then x else x') = some y) : (c ∧ x = some y) ∨ (¬ c ∧ x' = some y) := by
  by_cases q : c
  · rw [if_pos q] at e; exact .inl ⟨q, e⟩
  · rw [if_neg q] at e; exact .inr ⟨q, e⟩
theorem om_bd {α β : Type} {x : Option α} {f : α → Option β} {y : β} (e : x.bind f = some y) : ∃ z, x = some z ∧ f z = some y := Option.bind_eq_some_iff.mp e
theorem om_sm {α : Type} {x y : α} (e : some x = some y) : x = y := Option.some.inj e
theorem om_nx {G : om_G} {d : Nat} {M : om_M} {pc : Nat} {ls : List (Option om_V)} {rest : List om_V} {Q : om_O → Prop} {O : om_O} {v : om_V} {h' : om_H} (hO : O = (.inl (some v), h')) (k : OK G d M pc ls (v :: rest) h' Q) : om_next G d M pc ls rest Q O := by
  subst hO
  exact k
theorem om_nx0 {G : om_G} {d : Nat} {M : om_M} {pc : Nat} {ls : List (Option om_V)} {rest : List om_V} {Q : om_O → Prop} {O : om_O} {h' : om_H} (hO : O = (.inl none, h')) (k : OK G d M pc ls rest h' Q) : om_next G d M pc ls rest Q O := by
  subst hO
  exact k
