set_option maxRecDepth 100000
/-! WHAT WAITS stays over the third rule and over the one above -/
section LMO
variable {G : om_G} {A : Nat} {S : List Int} {b m : Nat} {N : List (List Int)} {pr tb z0 : Nat} {cs fo : List Nat} {mo : List (List Nat)} {K : KT} {F : FT} {Ms : List FT} {hr : om_H} {σr : tS} {M : Nat} {qs : List dcl} {ps : List PD} {rs : List (Nat × Nat × Nat × Nat)} {h : om_H} {ul fl : List Nat} {τ : tS} {n : Nat} {Sl Sl0 : Nat → Prop} {cl : List Cp} {il : List IX} {fl' : List FX}
theorem AX_more (mm : ∀ a, Sl0 a → Sl a) (X : AX G A S b m N pr tb z0 cs fo mo K F Ms hr σr M qs ps rs h ul fl τ n Sl0 cl il) : AX G A S b m N pr tb z0 cs fo mo K F Ms hr σr M qs ps rs h ul fl τ n Sl cl il := by
  refine ⟨⟨X.1.1, fun c x e => ?_⟩, X.2.1, fun f x e => ⟨(X.2.2 f x e).1, ?_⟩⟩
  · obtain ⟨a, ⟨b1, b2, b3, b4, b5, b6, b7⟩, c'⟩ := X.1.2 c x e
    exact ⟨a, ⟨b1, b2, ⟨mm _ b3.1, b3.2⟩, b4, b5, ⟨mm _ b6.1, b6.2⟩, b7⟩, c'⟩
  · obtain ⟨a1, a2, a3, a4, a5, a6, a7, a8, a9, a10⟩ := (X.2.2 f x e).2
    exact ⟨a1, a2, a3, InC_more mm a4, a5, a6, a7, a8, ⟨mm _ a9.1, a9.2⟩, a10⟩
theorem FXs_more (mm : ∀ a, Sl0 a → Sl a) (X : FXs G A S b m N pr tb z0 cs fo mo K F Ms hr σr M qs ps rs h ul fl τ n Sl0 fl') : FXs G A S b m N pr tb z0 cs fo mo K F Ms hr σr M qs ps rs h ul fl τ n Sl fl' := by
  refine ⟨X.1, fun f x e => ⟨(X.2 f x e).1, ?_⟩⟩
  obtain ⟨a1, a2, ⟨b1, b2, b3, b4, b5⟩, a4⟩ := (X.2 f x e).2
  exact ⟨a1, a2, ⟨b1, b2, ⟨mm _ b3.1, b3.2⟩, GVC_more mm b4, b5⟩, a4⟩
end LMO
section LKQ
variable {G : om_G} {N : List (List Int)} {cl : Nat → Nat} {rest : List (Nat × List Nat)} {ss : List (Nat × List GVs)} {Sl Sl0 : Nat → Prop} {io fo mo : Nat → Nat} {fn : List (List Nat × List GVs × Ty)} {mt : List (Option (Nat × Nat × Ty))} {ab : List (Option Nat)} {ins : List INs} {H0 nF nI : Nat} {h h1 : om_H} {us us1 : List Nat} {g : Prop}
theorem JbsC_eq (X : hSg g Sl0 h h1) (kp : ∀ T a, tyC h N cl (UU us rest) T a → tyC h1 N cl (UU us1 rest) T a) (eq : ∀ a, a < hz h → dyK (kd h a) → eqA a h h1) (hL : ∀ a, Sl a → a < hz h ∧ ll h1 a = ll h a ∧ lc h1 a = lc h a) : ∀ {l : List JB} {f i : Nat}, JbsC G N cl rest ss io fo mo fn mt ab ins H0 nF nI Sl0 h us Sl l f i → JbsC G N cl rest ss io fo mo fn mt ab ins H0 nF nI Sl0 h1 us1 Sl l f i
  | [], _, _, H => H
  | j :: l, f, i, ⟨a, b, c⟩ => ⟨fun w => FjC_eq X kp eq (a w), fun w => IjC_eq X kp eq (hL _ (b w).2.2.2.1.1) (b w), JbsC_eq X kp eq hL c⟩
end LKQ
section LKT
variable {σ τ : tS} {n n' : Nat} {fn : List (List Nat × List GVs × Ty)} {mt : List (Option (Nat × Nat × Ty))} {ab : List (Option Nat)} {ins : List INs}
/-- what waits in the twin stays over the third rule too -/
theorem JbsT_keep2 (F : fr JAS (726 :: JAA) σ τ) (X : tx σ n τ n') : ∀ {l : List JB} {dd f i : Nat}, JbsT fn mt ab ins σ n l dd f i → JbsT fn mt ab ins τ n' l dd f i
  | [], _, _, _, _ => trivial
  | j :: l, dd, f, i, ⟨⟨a1, a2⟩, b, c, d⟩ => by
    have fN : frN σ τ := ⟨trivial, fun f hf i => F.2 f ((by decide : ∀ f ∈ NDA, f ∉ (726 :: JAA)) f hf) i⟩
    refine ⟨⟨by rw [F.2 570 (by decide)]; exact a1, a2⟩, fun w => ?_, fun w => ?_, JbsT_keep2 F X d⟩
    · obtain ⟨w', x, y, e1, ⟨e2, e3, e4⟩, e5, e6, e7⟩ := b w
      exact ⟨w', x, y, e1, ⟨e2, e3, FnT_keepA (fun a ha i => F.2 a ((by decide : ∀ a ∈ [734, 738, 742, 746, 750, 754, 758, 762], a ∉ (726 :: JAA)) a ha) i) X e4⟩, by rw [F.2 622 (by decide)]; exact e5, XTg_keepN fN X (lo0 := y.2.2.2.1) (hi0 := y.2.2.2.2.1) (fun _ _ _ _ p => Fx_keepN fN p) _ _ _ _ (Nat.le_refl _) (Nat.le_refl _) e6, e7⟩
    · obtain ⟨e1, e2, e3, e4⟩ := c w
      refine ⟨?_, InTw_keep (fun a ha i => F.2 a ((by decide : ∀ a ∈ [694, 698, 702, 706, 710, 714, 718, 722], a ∉ (726 :: JAA)) a ha) i) X e2, fun y hy => LnTw_keep fN X (e3 y hy), e4⟩
      rw [F.2 602 (by decide)]
      exact chain_keep e1 (fun o _ => F.2 562 (by decide) o)
end LKT
