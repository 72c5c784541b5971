set_option maxRecDepth 100000
theorem sI_self (h : om_H) (f a : Nat) : sI h f a (fI h f a) = h := by
  refine om_ext (fun _ => rfl) (fun g b => ?_) (fun _ _ => rfl) (fun _ => rfl) (fun _ _ => rfl) (fun _ _ => rfl) (fun _ => rfl) (fun _ => rfl) rfl rfl
  rw [fI_sI]
  by_cases c : g = f ∧ b = a
  · rw [if_pos c, c.1, c.2]
  · rw [if_neg c]
theorem sI_id {h : om_H} {f a : Nat} {x : Int} (e : fI h f a = x) : sI h f a x = h := by rw [← e, sI_self]
theorem sI_sI (h : om_H) (f a : Nat) (x y : Int) : sI (sI h f a x) f a y = sI h f a y := by
  refine om_ext (fun _ => rfl) (fun g b => ?_) (fun _ _ => rfl) (fun _ => rfl) (fun _ _ => rfl) (fun _ _ => rfl) (fun _ => rfl) (fun _ => rfl) rfl rfl
  simp only [fI_sI]
  by_cases c : g = f ∧ b = a
  · rw [if_pos c, if_pos c]
  · rw [if_neg c, if_neg c, if_neg c]
theorem sR_self (h : om_H) (f a : Nat) : sR h f a (fR h f a) = h := by
  refine om_ext (fun _ => rfl) (fun _ _ => rfl) (fun g b => ?_) (fun _ => rfl) (fun _ _ => rfl) (fun _ _ => rfl) (fun _ => rfl) (fun _ => rfl) rfl rfl
  rw [fR_sR]
  by_cases c : g = f ∧ b = a
  · rw [if_pos c, c.1, c.2]
  · rw [if_neg c]
theorem sR_sR (h : om_H) (f a x y : Nat) : sR (sR h f a x) f a y = sR h f a y := by
  refine om_ext (fun _ => rfl) (fun _ _ => rfl) (fun g b => ?_) (fun _ => rfl) (fun _ _ => rfl) (fun _ _ => rfl) (fun _ => rfl) (fun _ => rfl) rfl rfl
  simp only [fR_sR]
  by_cases c : g = f ∧ b = a
  · rw [if_pos c, if_pos c]
  · rw [if_neg c, if_neg c, if_neg c]
/-- an int that is small is itself -/
theorem w32_s {x : Int} (h1 : -2147483648 ≤ x) (h2 : x ≤ 2147483647) : w32 x = x := w32_eq h1 h2
theorem om_loop_in {α β : Type} {f : α → Option (α ⊕ β)} {a a' : α} (e : f a = some (.inl a')) : om_loop f a = om_loop f a' := by
  rw [om_loop_eq, e]; rfl
theorem om_loop_out {α β : Type} {f : α → Option (α ⊕ β)} {a : α} {b : β} (e : f a = some (.inr b)) : om_loop f a = some b := by
  rw [om_loop_eq, e]; rfl
theorem drop_cons {α : Type} {U : List α} {p : Nat} {c : α} {r : List α} (e : U.drop p = c :: r) : U[p]? = some c ∧ U.drop (p + 1) = r ∧ p < U.length := by
  have h1 : (U.drop p)[0]? = some c := by rw [e]; rfl
  have h2 : U[p]? = some c := by simpa [List.getElem?_drop] using h1
  refine ⟨h2, ?_, (List.getElem?_eq_some_iff.mp h2).1⟩
  have := congrArg (List.drop 1) e
  simpa [List.drop_drop] using this
theorem drop_nil {α : Type} {U : List α} {p : Nat} (e : U.drop p = []) : U[p]? = none ∧ U.length ≤ p := by
  have := List.drop_eq_nil_iff.mp e
  exact ⟨List.getElem?_eq_none this, this⟩
theorem gd_T {α : Type} (x : Option α) : gd True x = x := gd_pos trivial
theorem gd_F {α : Type} (x : Option α) : gd False x = none := if_neg (fun z => z)
theorem fI_ne {h : om_H} {f a : Nat} {x : Int} {g b : Nat} (c : g ≠ f) : fI (sI h f a x) g b = fI h g b := if_neg (fun q => c q.1)
theorem fI_na {h : om_H} {f a : Nat} {x : Int} {g b : Nat} (c : b ≠ a) : fI (sI h f a x) g b = fI h g b := if_neg (fun q => c q.2)
theorem fI_eq {h : om_H} {f a : Nat} {x : Int} : fI (sI h f a x) f a = x := if_pos ⟨rfl, rfl⟩
theorem fR_ne {h : om_H} {f a x g b : Nat} (c : g ≠ f) : fR (sR h f a x) g b = fR h g b := if_neg (fun q => c q.1)
theorem fR_na {h : om_H} {f a x g b : Nat} (c : b ≠ a) : fR (sR h f a x) g b = fR h g b := if_neg (fun q => c q.2)
theorem fR_eq {h : om_H} {f a x : Nat} : fR (sR h f a x) f a = x := if_pos ⟨rfl, rfl⟩
