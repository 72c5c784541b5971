set_option maxRecDepth 100000
/-! THE ONE ABOVE: the start, behind the third rule -/
section LAS
variable {G : om_G} {A : Nat} {S : List Int} {b m : Nat} {N : List (List Int)} {pr tb z0 : Nat} {cs fo : List Nat} {mo : List (List Nat)} {K : KT} {F : FT} {Ms : List FT} {hr : om_H} {σr : tS} {M : Nat} {qs : List dcl} {ps : List PD} {rs : List (Nat × Nat × Nat × Nat)} {h h3 : om_H} {ul fl : List Nat} {τ : tS} {n : Nat} {Sl Lv : Nat → Prop} {cl : List Cp} {il : List IX} {fl' : List FX}
theorem ioF_at {f : Nat} {x : IX} (e : il[f]? = some x) : ioF il f = x.2.1.2.1 := by
  unfold ioF
  rw [e]; rfl
theorem ab_start (R : RA G A S b m N pr tb z0 cs fo mo K F Ms hr σr M qs ps rs h ul fl τ n) (X : AX G A S b m N pr tb z0 cs fo mo K F Ms hr σr M qs ps rs h ul fl τ n Sl cl il) (T : tF pr (fun y => kd h y = 21) (fun y => kd h y = 58) h h3) (XS : hSg False Sl h h3) (kp : ∀ T a, tyC h N (clF cs) (UU ul []) T a → tyC h3 N (clF cs) (UU ul []) T a) (e78 : fR h 78 pr = tb) (s86 : Sl (fR h 86 pr)) : AbE h3 N (clF cs) tb pr (UU ul []) Sl (ioF il) (inS il) (ssA h il fl') (plF S il) ∧ AbD h3 N (clF cs) (UU ul []) Lv (ioF il) (abS cl) (inS il) 0 := by
  have CL := R.2.2.2.1.1.2.2.1
  have iLs := R.1.2.2.2.2.2.2.2.1 86 (by simp)
  have E0 : AbE h N (clF cs) tb pr (UU ul []) Sl (ioF il) (inS il) (ssA h il fl') (plF S il) := by
    refine ⟨⟨CL.1.1, CL.1.2, e78⟩, ⟨s86, iLs.2.1, iLs.1, ?_, fun i x e => ?_⟩, fun i d e => ?_⟩
    · rw [iLs.2.2, RA_86 R, ← X.2.1]
      unfold inS
      rw [List.length_map]
    · rw [iLs.2.2] at e
      have il' : i < il.length := by
        have := (List.getElem?_eq_some_iff.mp e).1
        rw [RA_86 R, ← X.2.1] at this
        exact this
      have ex : il[i]? = some il[i] := List.getElem?_eq_getElem il'
      have I := (X.2.2 i _ ex).2
      rw [I.2.1] at e
      rw [ioF_at ex]
      exact (Option.some.inj e).symm
    · obtain ⟨x, ex, exd⟩ := inS_get e
      have I := (X.2.2 i x ex).2
      rw [ioF_at ex, ← exd]
      have C := I.2.2.2.1
      have hc : x.2.2.2.2.1.1 < K.length := I.2.2.1.1.2
      obtain ⟨_, CC, _⟩ := X.1.2 _ _ (List.getElem?_eq_getElem (show x.2.2.2.2.1.1 < cl.length by rw [X.1.1]; exact hc))
      refine ⟨CC.1, ⟨C.1.1, C.1.2.1, C.1.2.2.1, C.1.2.2.2.2, C.1.2.2.2.1⟩, ?_, ?_, I.2.2.2.2.1.2.1⟩
      · unfold ssA
        exact List.mem_append_left _ (List.mem_map.mpr ⟨x, List.mem_of_getElem? ex, rfl⟩)
      · have w := I.2.2.2.2.2.2.1.1
        refine ⟨w.1, w.2.1, ?_⟩
        rw [w.2.2]
        unfold plF
        rw [ex]
        rfl
  refine ⟨AbE_hS XS kp E0, fun i d e => ⟨fun w => by omega, fun _ => ?_⟩⟩
  obtain ⟨x, ex, exd⟩ := inS_get e
  have I := (X.2.2 i x ex).2
  rw [ioF_at ex, (T.2 _ I.2.2.2.1.1.2.1).2.2.1 1334 (fun z => by omega)]
  exact I.2.2.2.2.2.2.2.2.2.1.2.2.2.2.1.1
end LAS
