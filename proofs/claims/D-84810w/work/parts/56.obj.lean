section OM56o
variable {G : om_G} {h : om_H}
theorem om_obj_kd {x K : Nat} (h1 : 1 ≤ K) (h2 : K ≤ 41) (hk : kd h x = K) : om_obj G h x := by
  have e : 41 ≤ om_cl.length := by decide
  have hl : K - 1 < om_cl.length := by omega
  exact .inr (.inl ⟨K - 1, om_cl[K - 1], List.getElem?_eq_getElem hl, by omega⟩)
theorem om_obj_0 : om_obj G h 0 := .inl rfl
theorem om_obj_int {j : Nat} (hj : j < 256) : om_obj G h (om_cA G (300 + j)) := .inr (.inr ⟨j, hj, rfl⟩)
end OM56o
