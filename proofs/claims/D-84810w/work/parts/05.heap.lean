/-! NUMBERS: an int is an Int in range; w32, w64 bring an Int back into range. VALUES: vI an int, vL a long, vR a reference (0: null). -/
def iR (x : Int) : Prop := -2147483648 ≤ x ∧ x ≤ 2147483647
def lR (x : Int) : Prop := -9223372036854775808 ≤ x ∧ x ≤ 9223372036854775807
def w32 (x : Int) : Int := (Int32.ofInt x).toInt
def w64 (x : Int) : Int := (Int64.ofInt x).toInt
theorem iR_w32 (x : Int) : iR (w32 x) := by
  have h1 := Int32.le_toInt (Int32.ofInt x)
  have h2 := Int32.toInt_lt (Int32.ofInt x)
  unfold iR w32
  omega
theorem lR_w64 (x : Int) : lR (w64 x) := by
  have h1 := Int64.le_toInt (Int64.ofInt x)
  have h2 := Int64.toInt_lt (Int64.ofInt x)
  unfold lR w64
  omega
theorem w32_id {x : Int} (h : iR x) : w32 x = x := Int32.toInt_ofInt_of_le (by have := h.1; omega) (by have := h.2; omega)
theorem w64_id {x : Int} (h : lR x) : w64 x = x := Int64.toInt_ofInt_of_le (by have := h.1; omega) (by have := h.2; omega)
theorem w32_eq {x : Int} (h1 : -2147483648 ≤ x) (h2 : x ≤ 2147483647) : w32 x = x := w32_id ⟨h1, h2⟩
theorem w64_eq {x : Int} (h1 : -9223372036854775808 ≤ x) (h2 : x ≤ 9223372036854775807) : w64 x = x := w64_id ⟨h1, h2⟩
theorem ofInt_w32 (x : Int) : Int32.ofInt (w32 x) = Int32.ofInt x := Int32.ofInt_toInt _
theorem ofInt_w64 (x : Int) : Int64.ofInt (w64 x) = Int64.ofInt x := Int64.ofInt_toInt _
theorem toInt_of32 {x : Int} (h : iR x) : (Int32.ofInt x).toInt = x := w32_id h
theorem toInt_of64 {x : Int} (h : lR x) : (Int64.ofInt x).toInt = x := w64_id h
abbrev om_V : Type := Int ⊕ (Int ⊕ Nat)
abbrev vI (x : Int) : om_V := Sum.inl x
abbrev vL (x : Int) : om_V := Sum.inr (Sum.inl x)
abbrev vR (x : Nat) : om_V := Sum.inr (Sum.inr x)
def om_okV (v : om_V) : Prop := match v with
  | .inl x => iR x
  | .inr (.inl x) => lR x
  | .inr (.inr _) => True
/-! THE PURE HEAP of objects, arrays and lists: kinds (0: nothing known), fields by a global number and an address, arrays, ArrayLists (contents, room of their array); size and slots used. -/
abbrev om_H : Type := (Nat → Nat) × (Nat → Nat → Int) × (Nat → Nat → Nat) × (Nat → Nat) × (Nat → Nat → Int) × (Nat → Nat → Nat) × (Nat → List Nat) × (Nat → Nat) × Nat × Nat
def kd (h : om_H) (a : Nat) : Nat := h.1 a
def fI (h : om_H) (f a : Nat) : Int := h.2.1 f a
def fR (h : om_H) (f a : Nat) : Nat := h.2.2.1 f a
def an (h : om_H) (a : Nat) : Nat := h.2.2.2.1 a
def aI (h : om_H) (a i : Nat) : Int := h.2.2.2.2.1 a i
def aR (h : om_H) (a i : Nat) : Nat := h.2.2.2.2.2.1 a i
def ll (h : om_H) (a : Nat) : List Nat := h.2.2.2.2.2.2.1 a
def lc (h : om_H) (a : Nat) : Nat := h.2.2.2.2.2.2.2.1 a
def hz (h : om_H) : Nat := h.2.2.2.2.2.2.2.2.1
def hu (h : om_H) : Nat := h.2.2.2.2.2.2.2.2.2
def sI (h : om_H) (f a : Nat) (x : Int) : om_H := (kd h, fun g b => if g = f ∧ b = a then x else fI h g b, fR h, an h, aI h, aR h, ll h, lc h, hz h, hu h)
def sR (h : om_H) (f a : Nat) (x : Nat) : om_H := (kd h, fI h, fun g b => if g = f ∧ b = a then x else fR h g b, an h, aI h, aR h, ll h, lc h, hz h, hu h)
def pI (h : om_H) (a i : Nat) (x : Int) : om_H := (kd h, fI h, fR h, an h, fun b j => if b = a ∧ j = i then x else aI h b j, aR h, ll h, lc h, hz h, hu h)
def pR (h : om_H) (a i : Nat) (x : Nat) : om_H := (kd h, fI h, fR h, an h, aI h, fun b j => if b = a ∧ j = i then x else aR h b j, ll h, lc h, hz h, hu h)
def nO (h : om_H) (k n : Nat) : om_H := (fun b => if b = hz h then k else kd h b, fun g b => if b = hz h then 0 else fI h g b, fun g b => if b = hz h then 0 else fR h g b, an h, aI h, aR h, ll h, lc h, hz h + 1, hu h + n)
def nA (h : om_H) (k n : Nat) : om_H := (fun b => if b = hz h then k else kd h b, fI h, fR h, fun b => if b = hz h then n else an h b, fun b j => if b = hz h then 0 else aI h b j, fun b j => if b = hz h then 0 else aR h b j, ll h, lc h, hz h + 1, hu h + n)
def sL (h : om_H) (a : Nat) (l : List Nat) : om_H := (kd h, fI h, fR h, an h, aI h, aR h, fun b => if b = a then l else ll h b, lc h, hz h, hu h)
def gL (h : om_H) (a : Nat) (l : List Nat) (c n u : Nat) : om_H := (fun b => if b = a then 42 else kd h b, fI h, fR h, an h, aI h, aR h, fun b => if b = a then l else ll h b, fun b => if b = a then c else lc h b, hz h + n, hu h + u)
theorem kd_sI (h : om_H) (f a : Nat) (x : Int) (b : Nat) : kd (sI h f a x) b = kd h b := rfl
theorem fI_sI (h : om_H) (f a : Nat) (x : Int) (g b : Nat) : fI (sI h f a x) g b = if g = f ∧ b = a then x else fI h g b := rfl
theorem fR_sI (h : om_H) (f a : Nat) (x : Int) (g b : Nat) : fR (sI h f a x) g b = fR h g b := rfl
theorem an_sI (h : om_H) (f a : Nat) (x : Int) (b : Nat) : an (sI h f a x) b = an h b := rfl
theorem aI_sI (h : om_H) (f a : Nat) (x : Int) (b j : Nat) : aI (sI h f a x) b j = aI h b j := rfl
theorem aR_sI (h : om_H) (f a : Nat) (x : Int) (b j : Nat) : aR (sI h f a x) b j = aR h b j := rfl
theorem ll_sI (h : om_H) (f a : Nat) (x : Int) (b : Nat) : ll (sI h f a x) b = ll h b := rfl
theorem lc_sI (h : om_H) (f a : Nat) (x : Int) (b : Nat) : lc (sI h f a x) b = lc h b := rfl
theorem hz_sI (h : om_H) (f a : Nat) (x : Int) : hz (sI h f a x) = hz h := rfl
theorem hu_sI (h : om_H) (f a : Nat) (x : Int) : hu (sI h f a x) = hu h := rfl
theorem kd_sR (h : om_H) (f a : Nat) (x : Nat) (b : Nat) : kd (sR h f a x) b = kd h b := rfl
theorem fI_sR (h : om_H) (f a : Nat) (x : Nat) (g b : Nat) : fI (sR h f a x) g b = fI h g b := rfl
theorem fR_sR (h : om_H) (f a : Nat) (x : Nat) (g b : Nat) : fR (sR h f a x) g b = if g = f ∧ b = a then x else fR h g b := rfl
theorem an_sR (h : om_H) (f a : Nat) (x : Nat) (b : Nat) : an (sR h f a x) b = an h b := rfl
theorem aI_sR (h : om_H) (f a : Nat) (x : Nat) (b j : Nat) : aI (sR h f a x) b j = aI h b j := rfl
theorem aR_sR (h : om_H) (f a : Nat) (x : Nat) (b j : Nat) : aR (sR h f a x) b j = aR h b j := rfl
theorem ll_sR (h : om_H) (f a : Nat) (x : Nat) (b : Nat) : ll (sR h f a x) b = ll h b := rfl
theorem lc_sR (h : om_H) (f a : Nat) (x : Nat) (b : Nat) : lc (sR h f a x) b = lc h b := rfl
theorem hz_sR (h : om_H) (f a : Nat) (x : Nat) : hz (sR h f a x) = hz h := rfl
theorem hu_sR (h : om_H) (f a : Nat) (x : Nat) : hu (sR h f a x) = hu h := rfl
theorem kd_pI (h : om_H) (a i : Nat) (x : Int) (b : Nat) : kd (pI h a i x) b = kd h b := rfl
theorem fI_pI (h : om_H) (a i : Nat) (x : Int) (g b : Nat) : fI (pI h a i x) g b = fI h g b := rfl
theorem fR_pI (h : om_H) (a i : Nat) (x : Int) (g b : Nat) : fR (pI h a i x) g b = fR h g b := rfl
theorem an_pI (h : om_H) (a i : Nat) (x : Int) (b : Nat) : an (pI h a i x) b = an h b := rfl
theorem aI_pI (h : om_H) (a i : Nat) (x : Int) (b j : Nat) : aI (pI h a i x) b j = if b = a ∧ j = i then x else aI h b j := rfl
theorem aR_pI (h : om_H) (a i : Nat) (x : Int) (b j : Nat) : aR (pI h a i x) b j = aR h b j := rfl
theorem ll_pI (h : om_H) (a i : Nat) (x : Int) (b : Nat) : ll (pI h a i x) b = ll h b := rfl
theorem lc_pI (h : om_H) (a i : Nat) (x : Int) (b : Nat) : lc (pI h a i x) b = lc h b := rfl
theorem hz_pI (h : om_H) (a i : Nat) (x : Int) : hz (pI h a i x) = hz h := rfl
theorem hu_pI (h : om_H) (a i : Nat) (x : Int) : hu (pI h a i x) = hu h := rfl
theorem kd_pR (h : om_H) (a i : Nat) (x : Nat) (b : Nat) : kd (pR h a i x) b = kd h b := rfl
theorem fI_pR (h : om_H) (a i : Nat) (x : Nat) (g b : Nat) : fI (pR h a i x) g b = fI h g b := rfl
theorem fR_pR (h : om_H) (a i : Nat) (x : Nat) (g b : Nat) : fR (pR h a i x) g b = fR h g b := rfl
theorem an_pR (h : om_H) (a i : Nat) (x : Nat) (b : Nat) : an (pR h a i x) b = an h b := rfl
theorem aI_pR (h : om_H) (a i : Nat) (x : Nat) (b j : Nat) : aI (pR h a i x) b j = aI h b j := rfl
theorem aR_pR (h : om_H) (a i : Nat) (x : Nat) (b j : Nat) : aR (pR h a i x) b j = if b = a ∧ j = i then x else aR h b j := rfl
theorem ll_pR (h : om_H) (a i : Nat) (x : Nat) (b : Nat) : ll (pR h a i x) b = ll h b := rfl
theorem lc_pR (h : om_H) (a i : Nat) (x : Nat) (b : Nat) : lc (pR h a i x) b = lc h b := rfl
theorem hz_pR (h : om_H) (a i : Nat) (x : Nat) : hz (pR h a i x) = hz h := rfl
theorem hu_pR (h : om_H) (a i : Nat) (x : Nat) : hu (pR h a i x) = hu h := rfl
theorem kd_nO (h : om_H) (k n : Nat) (b : Nat) : kd (nO h k n) b = if b = hz h then k else kd h b := rfl
theorem fI_nO (h : om_H) (k n : Nat) (g b : Nat) : fI (nO h k n) g b = if b = hz h then 0 else fI h g b := rfl
theorem fR_nO (h : om_H) (k n : Nat) (g b : Nat) : fR (nO h k n) g b = if b = hz h then 0 else fR h g b := rfl
theorem an_nO (h : om_H) (k n : Nat) (b : Nat) : an (nO h k n) b = an h b := rfl
theorem aI_nO (h : om_H) (k n : Nat) (b j : Nat) : aI (nO h k n) b j = aI h b j := rfl
theorem aR_nO (h : om_H) (k n : Nat) (b j : Nat) : aR (nO h k n) b j = aR h b j := rfl
theorem ll_nO (h : om_H) (k n : Nat) (b : Nat) : ll (nO h k n) b = ll h b := rfl
theorem lc_nO (h : om_H) (k n : Nat) (b : Nat) : lc (nO h k n) b = lc h b := rfl
theorem hz_nO (h : om_H) (k n : Nat) : hz (nO h k n) = hz h + 1 := rfl
theorem hu_nO (h : om_H) (k n : Nat) : hu (nO h k n) = hu h + n := rfl
theorem kd_nA (h : om_H) (k n : Nat) (b : Nat) : kd (nA h k n) b = if b = hz h then k else kd h b := rfl
theorem fI_nA (h : om_H) (k n : Nat) (g b : Nat) : fI (nA h k n) g b = fI h g b := rfl
theorem fR_nA (h : om_H) (k n : Nat) (g b : Nat) : fR (nA h k n) g b = fR h g b := rfl
theorem an_nA (h : om_H) (k n : Nat) (b : Nat) : an (nA h k n) b = if b = hz h then n else an h b := rfl
theorem aI_nA (h : om_H) (k n : Nat) (b j : Nat) : aI (nA h k n) b j = if b = hz h then 0 else aI h b j := rfl
theorem aR_nA (h : om_H) (k n : Nat) (b j : Nat) : aR (nA h k n) b j = if b = hz h then 0 else aR h b j := rfl
theorem ll_nA (h : om_H) (k n : Nat) (b : Nat) : ll (nA h k n) b = ll h b := rfl
theorem lc_nA (h : om_H) (k n : Nat) (b : Nat) : lc (nA h k n) b = lc h b := rfl
theorem hz_nA (h : om_H) (k n : Nat) : hz (nA h k n) = hz h + 1 := rfl
theorem hu_nA (h : om_H) (k n : Nat) : hu (nA h k n) = hu h + n := rfl
theorem kd_sL (h : om_H) (a : Nat) (l : List Nat) (b : Nat) : kd (sL h a l) b = kd h b := rfl
theorem fI_sL (h : om_H) (a : Nat) (l : List Nat) (g b : Nat) : fI (sL h a l) g b = fI h g b := rfl
theorem fR_sL (h : om_H) (a : Nat) (l : List Nat) (g b : Nat) : fR (sL h a l) g b = fR h g b := rfl
theorem an_sL (h : om_H) (a : Nat) (l : List Nat) (b : Nat) : an (sL h a l) b = an h b := rfl
theorem aI_sL (h : om_H) (a : Nat) (l : List Nat) (b j : Nat) : aI (sL h a l) b j = aI h b j := rfl
theorem aR_sL (h : om_H) (a : Nat) (l : List Nat) (b j : Nat) : aR (sL h a l) b j = aR h b j := rfl
theorem ll_sL (h : om_H) (a : Nat) (l : List Nat) (b : Nat) : ll (sL h a l) b = if b = a then l else ll h b := rfl
theorem lc_sL (h : om_H) (a : Nat) (l : List Nat) (b : Nat) : lc (sL h a l) b = lc h b := rfl
theorem hz_sL (h : om_H) (a : Nat) (l : List Nat) : hz (sL h a l) = hz h := rfl
theorem hu_sL (h : om_H) (a : Nat) (l : List Nat) : hu (sL h a l) = hu h := rfl
theorem kd_gL (h : om_H) (a : Nat) (l : List Nat) (c n u : Nat) (b : Nat) : kd (gL h a l c n u) b = if b = a then 42 else kd h b := rfl
theorem fI_gL (h : om_H) (a : Nat) (l : List Nat) (c n u : Nat) (g b : Nat) : fI (gL h a l c n u) g b = fI h g b := rfl
theorem fR_gL (h : om_H) (a : Nat) (l : List Nat) (c n u : Nat) (g b : Nat) : fR (gL h a l c n u) g b = fR h g b := rfl
theorem an_gL (h : om_H) (a : Nat) (l : List Nat) (c n u : Nat) (b : Nat) : an (gL h a l c n u) b = an h b := rfl
theorem aI_gL (h : om_H) (a : Nat) (l : List Nat) (c n u : Nat) (b j : Nat) : aI (gL h a l c n u) b j = aI h b j := rfl
theorem aR_gL (h : om_H) (a : Nat) (l : List Nat) (c n u : Nat) (b j : Nat) : aR (gL h a l c n u) b j = aR h b j := rfl
theorem ll_gL (h : om_H) (a : Nat) (l : List Nat) (c n u : Nat) (b : Nat) : ll (gL h a l c n u) b = if b = a then l else ll h b := rfl
theorem lc_gL (h : om_H) (a : Nat) (l : List Nat) (c n u : Nat) (b : Nat) : lc (gL h a l c n u) b = if b = a then c else lc h b := rfl
theorem hz_gL (h : om_H) (a : Nat) (l : List Nat) (c n u : Nat) : hz (gL h a l c n u) = hz h + n := rfl
theorem hu_gL (h : om_H) (a : Nat) (l : List Nat) (c n u : Nat) : hu (gL h a l c n u) = hu h + u := rfl
/-! Two heaps are one if their readers are. -/
theorem om_ext {h h' : om_H} (h1 : ∀ a, kd h a = kd h' a) (h2 : ∀ f a, fI h f a = fI h' f a) (h3 : ∀ f a, fR h f a = fR h' f a) (h4 : ∀ a, an h a = an h' a) (h5 : ∀ a i, aI h a i = aI h' a i) (h6 : ∀ a i, aR h a i = aR h' a i) (h7 : ∀ a, ll h a = ll h' a) (h8 : ∀ a, lc h a = lc h' a) (h9 : hz h = hz h') (h10 : hu h = hu h') : h = h' := by
  obtain ⟨a1, a2, a3, a4, a5, a6, a7, a8, a9, a10⟩ := h
  obtain ⟨b1, b2, b3, b4, b5, b6, b7, b8, b9, b10⟩ := h'
  have e1 : a1 = b1 := funext h1
  have e2 : a2 = b2 := funext fun f => funext (h2 f)
  have e3 : a3 = b3 := funext fun f => funext (h3 f)
  have e4 : a4 = b4 := funext h4
  have e5 : a5 = b5 := funext fun f => funext (h5 f)
  have e6 : a6 = b6 := funext fun f => funext (h6 f)
  have e7 : a7 = b7 := funext h7
  have e8 : a8 = b8 := funext h8
  have e9 : a9 = b9 := h9
  have e10 : a10 = b10 := h10
  subst e1 e2 e3 e4 e5 e6 e7 e8 e9 e10
  rfl
