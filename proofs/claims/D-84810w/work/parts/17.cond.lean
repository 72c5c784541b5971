/-! CONDITIONS of instanceof and lcmp -/
theorem om_if_eq {C : Prop} [Decidable C] (q : (if C then (1 : Int) else 0) = 0) : ¬ C := by split at q <;> simp_all
theorem om_if_ne {C : Prop} [Decidable C] (q : (if C then (1 : Int) else 0) ≠ 0) : C := by split at q <;> simp_all
theorem om_lc_eq {x y : Int} (q : (if y < x then (1 : Int) else if x = y then 0 else -1) = 0) : x = y := by split at q <;> (try split at q) <;> omega
theorem om_lc_ne {x y : Int} (q : (if y < x then (1 : Int) else if x = y then 0 else -1) ≠ 0) : x ≠ y := by split at q <;> (try split at q) <;> omega
theorem om_lc_lt {x y : Int} (q : (if y < x then (1 : Int) else if x = y then 0 else -1) < 0) : x < y := by split at q <;> (try split at q) <;> omega
theorem om_lc_ge {x y : Int} (q : (0 : Int) ≤ (if y < x then (1 : Int) else if x = y then 0 else -1)) : y ≤ x := by split at q <;> (try split at q) <;> omega
theorem om_lc_gt {x y : Int} (q : (0 : Int) < (if y < x then (1 : Int) else if x = y then 0 else -1)) : y < x := by split at q <;> (try split at q) <;> omega
theorem om_lc_le {x y : Int} (q : (if y < x then (1 : Int) else if x = y then 0 else -1) ≤ 0) : x ≤ y := by split at q <;> (try split at q) <;> omega
theorem om_at_of {k K : Nat} {x : Option FieldType} (c : k = K) (r : om_at K = x) : om_at k = x := by rw [c]; exact r
theorem om_akd {a b k K : Nat} (c : k = K) (r : a ≤ K ∧ K ≤ b) : a ≤ k ∧ k ≤ b := by rw [c]; exact r
section OM17
variable {h : om_H} {f g a b i : Nat} {x : Int} {r k n : Nat}
theorem fI_ksI (e : g ≠ f) : fI (sI h f a x) g b = fI h g b := if_neg (fun q => e q.1)
theorem fI_ksR : fI (sR h f a r) g b = fI h g b := rfl
theorem fI_kpI : fI (pI h a i x) g b = fI h g b := rfl
theorem fI_kpR : fI (pR h a i r) g b = fI h g b := rfl
theorem fI_knA : fI (nA h k n) g b = fI h g b := rfl
theorem fR_ksR (e : g ≠ f) : fR (sR h f a r) g b = fR h g b := if_neg (fun q => e q.1)
theorem fR_ksI : fR (sI h f a x) g b = fR h g b := rfl
theorem fR_kpI : fR (pI h a i x) g b = fR h g b := rfl
theorem fR_kpR : fR (pR h a i r) g b = fR h g b := rfl
theorem fR_knA : fR (nA h k n) g b = fR h g b := rfl
theorem fI_it : fI (sI h f a x) f a = x := if_pos ⟨rfl, rfl⟩
theorem fR_it : fR (sR h f a r) f a = r := if_pos ⟨rfl, rfl⟩
theorem ok_eI {G : om_G} {d : Nat} {M : om_M} {pc : Nat} {ls : List (Option om_V)} {st : List om_V} {Q : om_O → Prop} {y : Int} (e : x = y) (k : OK G d M pc ls (vI y :: st) h Q) : OK G d M pc ls (vI x :: st) h Q := by rw [e]; exact k
theorem ok_eL {G : om_G} {d : Nat} {M : om_M} {pc : Nat} {ls : List (Option om_V)} {st : List om_V} {Q : om_O → Prop} {y : Int} (e : x = y) (k : OK G d M pc ls (vL y :: st) h Q) : OK G d M pc ls (vL x :: st) h Q := by rw [e]; exact k
theorem ok_eR {G : om_G} {d : Nat} {M : om_M} {pc : Nat} {ls : List (Option om_V)} {st : List om_V} {Q : om_O → Prop} {y : Nat} (e : r = y) (k : OK G d M pc ls (vR y :: st) h Q) : OK G d M pc ls (vR r :: st) h Q := by rw [e]; exact k
end OM17
