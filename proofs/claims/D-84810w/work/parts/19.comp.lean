/-! What the component's functions are put together with: guards, what may be thrown. -/
noncomputable def gd {α : Type} (c : Prop) (x : Option α) : Option α := @ite _ c (Classical.propDecidable c) x none
theorem om_gdc {α : Type} {c : Prop} {x : Option α} {y : α} (e : gd c x = some y) : c ∧ x = some y := om_gd (hc := Classical.propDecidable c) e
theorem gd_pos {α : Type} {c : Prop} {x : Option α} (q : c) : gd c x = x := if_pos q
def xc {α β : Type} (x : Option ((Nat ⊕ α) × om_H)) (f : Nat → om_H → Option β) (g : α → om_H → Option β) : Option β := match x with
  | none => none
  | some (.inl t, h) => f t h
  | some (.inr v, h) => g v h
theorem om_xc {α β : Type} {x : Option ((Nat ⊕ α) × om_H)} {f : Nat → om_H → Option β} {g : α → om_H → Option β} {y : β} (e : xc x f g = some y) : (∃ t h, x = some (.inl t, h) ∧ f t h = some y) ∨ (∃ v h, x = some (.inr v, h) ∧ g v h = some y) := by
  cases x with
  | none => cases e
  | some p =>
    obtain ⟨t | v, h⟩ := p
    · exact .inl ⟨t, h, rfl, e⟩
    · exact .inr ⟨v, h, rfl, e⟩
theorem xc_t {α β : Type} (t : Nat) (h : om_H) (f : Nat → om_H → Option β) (g : α → om_H → Option β) : xc (some (.inl t, h)) f g = f t h := rfl
theorem xc_v {α β : Type} (v : α) (h : om_H) (f : Nat → om_H → Option β) (g : α → om_H → Option β) : xc (some (.inr v, h)) f g = g v h := rfl
def om_endI (z : (Nat ⊕ Int) × om_H) : om_O := match z with
  | (.inl t, h) => (.inr t, h)
  | (.inr v, h) => (.inl (some (vI v)), h)
def om_endL (z : (Nat ⊕ Int) × om_H) : om_O := match z with
  | (.inl t, h) => (.inr t, h)
  | (.inr v, h) => (.inl (some (vL v)), h)
def om_endR (z : (Nat ⊕ Nat) × om_H) : om_O := match z with
  | (.inl t, h) => (.inr t, h)
  | (.inr v, h) => (.inl (some (vR v)), h)
def om_endV (z : (Nat ⊕ Unit) × om_H) : om_O := match z with
  | (.inl t, h) => (.inr t, h)
  | (.inr _, h) => (.inl none, h)
theorem om_nxt {G : om_G} {d : Nat} {M : om_M} {pc : Nat} {ls : List (Option om_V)} {rest : List om_V} {Q : om_O → Prop} {O : om_O} {t : Nat} {h' : om_H} (hO : O = (.inr t, h')) (q : Q (.inr t, h')) : om_next G d M pc ls rest Q O := by
  subst hO
  exact q
