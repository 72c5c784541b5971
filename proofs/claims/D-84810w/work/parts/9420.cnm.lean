set_option maxRecDepth 100000
/-! THE COMPONENT's judge: a name -/
def nCs (E : JE) (lb : XL) : Nat := if lb.2.2.2.2.2 = [] then 4 else jK E lb
/-- the items of the @s of a name -/
def atU (h : om_H) (as : List (Ty × Nat)) (uo : Nat) : Prop := as ≠ [] → (uo < hz h ∧ kd h uo = 30) ∧ (fR h 1494 uo < hz h ∧ kd h (fR h 1494 uo) = 42) ∧ ∀ (i : Nat) (p : Ty × Nat), as[i]? = some p → ∃ x, (ll h (fR h 1494 uo))[i]? = some x ∧ (x < hz h ∧ kd h x = 31) ∧ fI h 1504 x = (p.2 : Int)
section LNM
variable {G : om_G} {N : List (List Int)} {cl : Nat → Nat} {tb l0 sc jg Lb : Nat} {rest : List (Nat × List Nat)} {Sl Gx U U' : Nat → Prop} {io fo mo : Nat → Nat} {E : JE} {B lo H0 : Nat} {Γ : List Ty} {tot q z u alo ahi nm uo d : Nat} {lb : XL} {h : om_H} {us fs : List Nat} {Dk : Nat → Prop} {ds : List Nat} {dm : Nat} {h1 : om_H} {us1 fs1 : List Nat} {Dk1 : Nat → Prop} {ds1 : List Nat} {dm1 : Nat}
theorem nm_tsC (H : nmC h N cl U Sl fo mo lb d nm) : tsC h N cl U (fR h 1462 nm) (lb.2.2.2.2.2.map Prod.fst) := by
  rcases H.2.2 with ⟨h1, _, h2⟩ | ⟨h1, _, ⟨h2, h3, h4, h5, h6⟩, h7⟩
  · exact .inl ⟨by rw [h1]; rfl, h2⟩
  · refine .inr ⟨fun w => h1 (List.map_eq_nil_iff.mp w), ⟨h2, h4, h5⟩, by rw [List.length_map]; exact h6, fun i y T e1 e2 => ?_⟩
    rw [List.getElem?_map] at e2
    cases q : lb.2.2.2.2.2[i]? with
    | none => rw [q] at e2; cases e2
    | some p =>
      rw [q] at e2
      have w : p.1 = T := Option.some.inj e2
      rw [← w]
      exact h7 i y p e1 q
theorem tsC_keep {Lt : Nat} {ts : List Ty} (X : hS Sl h h1) (kp : ∀ T a, tyC h N cl U T a → tyC h1 N cl U' T a) (sl : ts ≠ [] → Sl Lt) (H : tsC h N cl U Lt ts) : tsC h1 N cl U' Lt ts := by
  rcases H with w | ⟨h1, ⟨h2, h3, h4⟩, h5, h6⟩
  · exact .inl w
  · have e := X.2.2.2.2 Lt h3 (sl h1)
    exact .inr ⟨h1, ⟨h2, Nat.lt_of_lt_of_le h3 X.1, by rw [X.2.1 _ h3]; exact h4⟩, by rw [e]; exact h5, fun i y T e1 e2 => kp _ _ (h6 i y T (by rw [← e]; exact e1) e2)⟩
theorem PutC_of {Ln Lt : Nat} {ns : List Nat} {ts : List Ty} (W : WNs h N Ln ns) (T : tsC h N cl U Lt ts) (hl : ts.length = ns.length) (ne : ts ≠ []) : PutC h N cl U Ln Lt 0 (ns.zip ts) := by
  rcases T with w | ⟨_, ⟨h2, h3, h4⟩, h5, h6⟩
  · exact absurd w.1 ne
  · refine ⟨by rw [List.map_fst_zip (by omega)]; exact W, .inr ⟨rfl, ⟨h3, h4⟩, fun k q e => ?_⟩⟩
    obtain ⟨_, e2⟩ := List.getElem?_zip_eq_some.mp e
    have kl := (List.getElem?_eq_some_iff.mp e2).1
    have ey : (ll h Lt)[k]? = some (ll h Lt)[k] := List.getElem?_eq_getElem (by omega)
    exact ⟨_, ey, h6 k _ _ ey e2⟩
theorem c_manyN (H : nmC h N cl U Sl fo mo lb d nm) : C_28_many G nm h = some ((lb.2.2.2.2.2.length : Nat) : Int) := by
  unfold C_28_many
  rw [gd_pos H.1.1]
  rcases H.2.2 with ⟨h1, h2, _⟩ | ⟨h1, ⟨h2, h3, h4, h5, h6⟩, _⟩
  · rw [if_neg (fun w => w h2), h1]; rfl
  · rw [if_pos h2, gd_pos ⟨H.1.1, h5⟩]
    unfold P_J2_size
    rw [gd_pos h5, h6]
    rfl
theorem c_isBound (H : nmC h N cl U Sl fo mo lb d nm) : C_28_isBound G nm h = some (if lb.2.1 = 0 then 1 else 0) := by
  unfold C_28_isBound C_28_isBound_12
  rw [gd_pos H.1.1]
  rcases H.2.1 with ⟨h0, ⟨up, h1, _⟩, _⟩ | ⟨h1, h2⟩
  · rw [h1, if_neg (by omega), if_pos h0, gd_pos (.inr rfl)]
  · have k0 : lb.2.1 ≠ 0 := by omega
    rw [h1, if_pos (by decide), if_neg k0, gd_pos (.inl rfl)]
theorem c_forall (C : JCE N cl fo mo E h U Sl) (ok : nok E lb d) (H : nmC h N cl U Sl fo mo lb d nm) : C_37_forall G nm h = some (if lb.2.1 = 0 then 0 else ((jnN E lb.2.1 lb.2.2.1 : Nat) : Int)) := by
  unfold C_37_forall
  rw [gd_pos H.1.1, c_isBound H, Option.bind_some]
  rcases H.2.1 with ⟨h0, _⟩ | ⟨_, h2⟩
  · rw [if_pos h0, if_pos h0, if_neg (by decide)]
  · have k0 : lb.2.1 ≠ 0 := by omega
    rw [if_neg k0, if_neg k0, if_pos rfl, gd_pos H.1.1]
    unfold jnN
    rcases h2 with ⟨k1, _, h3, h4, _⟩ | ⟨k1, _, h3, h4, h5⟩ | ⟨k1, h3, h4, h5⟩
    · rw [if_pos k1, h3, if_neg h4]
      rcases ok.1 with w | ⟨_, w⟩ | w | w
      · omega
      · have ef : E.1[lb.2.2.1]? = some E.1[lb.2.2.1] := List.getElem?_eq_getElem w
        obtain ⟨⟨a1, a2, a3⟩, ⟨a4, a5⟩, ⟨⟨g1, g2⟩, _⟩, _⟩ := C.1 _ _ ef
        rw [gd_pos ⟨H.1.1, a3, g2, a5.1.2⟩, ef]
        unfold P_J2_size
        rw [gd_pos a5.1.2, a5.2.1]
        rfl
      · omega
      · omega
    · rw [h3, if_pos rfl, gd_pos H.1.1, if_pos (by rw [h4]; exact h5), if_neg (show ¬ lb.2.1 = 1 by omega), if_pos k1]
      rfl
    · rw [h4, if_pos rfl, gd_pos H.1.1, if_neg (fun w => w h5), gd_pos H.1.1, h3, if_neg (show ¬ lb.2.1 = 1 by omega), if_neg (show ¬ lb.2.1 = 2 by omega)]
      unfold btN
      by_cases w2 : lb.2.2.1 < 2
      · rw [if_neg (by omega), if_pos w2]; rfl
      · rw [if_pos (by omega), gd_pos H.1.1, if_neg w2]
        by_cases w5 : lb.2.2.1 < 5
        · rw [if_neg (by omega), if_pos w5]; rfl
        · rw [if_pos (by omega), if_neg w5]; rfl
theorem nCs_bt (k3 : lb.2.1 = 3) : 4 ≤ nCs E lb := by
  unfold nCs jK
  split
  · omega
  · rw [if_neg (by omega), if_neg (by omega)]; omega
/-- one @ too many -/
theorem c_nmFt (nd : ndN N) (H : JQ G N cl tb l0 sc rest Gx io E jg Lb h us fs Dk ds dm Sl Γ tot) (h300 : tot ≤ 300) (Nc : nmC h N cl (UU us rest) Sl fo mo lb d nm) (At : atU h lb.2.2.2.2.2 uo) {k : Nat} {p : Ty × Nat} (e : lb.2.2.2.2.2[k]? = some p) : ∃ h1, C_37_name_65 G jg nm uo (k : Int) h = some (.inl (hz h), h1) ∧ JF G N cl tb l0 sc rest Gx Lb Sl alo ahi h us fs Dk ds dm h1 us fs Dk ds dm 0 0 0 0 tot 4 p.2 (hz h) := by
  have kl := (List.getElem?_eq_some_iff.mp e).1
  obtain ⟨⟨u1, u2⟩, ⟨u3, u4⟩, u5⟩ := At (fun w => by rw [w] at kl; exact absurd kl (by show ¬ k < 0; omega))
  obtain ⟨x, x1, ⟨x2, x3⟩, x4⟩ := u5 k p e
  obtain ⟨h1, f1, f2, f3, f4⟩ := JQ_fault (alo := alo) (ahi := ahi) nd H h300 4 p.2
  have f1' : C_15_init G (hz h) 4 (p.2 : Int) (nO h 16 8) = some h1 := f1
  have r1 : fR (nO h 16 8) 1494 uo = fR h 1494 uo := by rw [fR_nO, if_neg (by omega)]
  have k1 : kd (nO h 16 8) uo = 30 := by rw [kd_nO, if_neg (by omega)]; exact u2
  have k2 : kd (nO h 16 8) (fR h 1494 uo) = 42 := by rw [kd_nO, if_neg (by omega)]; exact u4
  have k3 : kd (nO h 16 8) x = 31 := by rw [kd_nO, if_neg (by omega)]; exact x3
  have r2 : fI (nO h 16 8) 1504 x = (p.2 : Int) := by rw [fI_nO, if_neg (by omega)]; exact x4
  have gt : P_J2_get G (fR h 1494 uo) (k : Int) (nO h 16 8) = some x := by
    have x1' : (ll (nO h 16 8) (fR h 1494 uo))[k]? = some x := x1
    have xl := (List.getElem?_eq_some_iff.mp x1').1
    unfold P_J2_get
    rw [gd_pos ⟨k2, by omega⟩, show ((k : Int)).toNat = k by omega, x1']
  refine ⟨h1, ?_, f4⟩
  unfold C_37_name_65
  rw [gd_pos Nc.1.1, c_manyN Nc, Option.bind_some, if_neg (by omega), r1, gd_pos ⟨k1, k2⟩, gt, Option.bind_some, gd_pos ⟨.inr k3, k3, f2⟩, r2, f1', Option.bind_some, gd_pos f3]
/-- what came of a name -/
def NmO (G : om_G) (N : List (List Int)) (cl : Nat → Nat) (tb l0 sc : Nat) (rest : List (Nat × List Nat)) (Gx : Nat → Prop) (io : Nat → Nat) (E : JE) (jg Lb lo H0 : Nat) (Sl : Nat → Prop) (Γ : List Ty) (lb : XL) (nm q : Nat) (s : JS) (zz : (Nat × Nat) ⊕ (Et × JS)) (h : om_H) (us fs : List Nat) (Dk : Nat → Prop) (ds : List Nat) (dm : Nat) (v : Nat ⊕ Nat) (h' : om_H) (us' fs' : List Nat) (Dk' : Nat → Prop) (ds' : List Nat) (dm' : Nat) : Prop := (∀ k p, zz = .inl (k, p) → ∃ a, v = .inl a ∧ JF G N cl tb l0 sc rest Gx Lb Sl nm (nm + 1) h us fs Dk ds dm h' us' fs' Dk' ds' dm' q 12 40 4 s.1 k p a) ∧ ∀ e' s', zz = .inr (e', s') → ∃ x, v = .inr x ∧ JQ G N cl tb l0 sc rest Gx io E jg Lb h' us' fs' Dk' ds' dm' Sl Γ s'.1 ∧ (s.1 ≤ s'.1 ∧ s'.1 ≤ 300) ∧ KRm N cl tb l0 sc rest Gx Lb Sl nm (nm + 1) h us fs Dk ds dm h' us' fs' Dk' ds' dm' q 12 40 4 (s'.1 - s.1) ∧ tsD N cl rest s.2 s'.2 h' us' ∧ (∃ T Dn evs, e' = en 10 lb T .leaf Dn .leaf .leaf ∧ tyC h' N cl (UU us' rest) T x ∧ NmS N cl tb rest Lb io E lo H0 Sl h' us' Dk' ds' dm' nm lb.1 (fR h 1462 nm) Dn evs ∧ btX h' N cl (UU us' rest) lb) ∧ nmK h h' nm
theorem NmO_f {s : JS} {zz : (Nat × Nat) ⊕ (Et × JS)} {k p a : Nat} (ez : zz = .inl (k, p)) (F : JF G N cl tb l0 sc rest Gx Lb Sl nm (nm + 1) h us fs Dk ds dm h1 us1 fs1 Dk1 ds1 dm1 q 12 40 4 s.1 k p a) : NmO G N cl tb l0 sc rest Gx io E jg Lb lo H0 Sl Γ lb nm q s zz h us fs Dk ds dm (.inl a) h1 us1 fs1 Dk1 ds1 dm1 := ⟨fun k' p' w => by
  rw [ez] at w
  injection Sum.inl.inj w with w1 w2
  rw [← w1, ← w2]
  exact ⟨a, rfl, F⟩, fun e' s' w => by rw [ez] at w; cases w⟩
end LNM
