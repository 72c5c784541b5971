set_option maxRecDepth 100000
/-! THE THIRD RULE AS A WHOLE (but for the one above) -/
section LTW
variable {G : om_G} {A : Nat} {S : List Int} {b m : Nat} {N : List (List Int)} {pr tb z0 : Nat} {cs fo : List Nat} {mo : List (List Nat)} {K : KT} {F : FT} {Ms : List FT} {hr : om_H} {σr : tS} {M : Nat} {qs : List dcl} {ps : List PD} {rs : List (Nat × Nat × Nat × Nat)} {h : om_H} {ul fl : List Nat} {τ : tS} {n : Nat} {Sl : Nat → Prop} {cl : List Cp} {il : List IX} {fl' : List FX}
theorem gvAll_2000 {q : Nat → Nat → Int} (hq : ∀ f k, q f k ≤ 2000) : ∀ {n : Nat}, ∀ x ∈ gvAll fl' q n, x ≤ 2000
  | 0, x, hx => absurd hx List.not_mem_nil
  | n + 1, x, hx => by
    rcases List.mem_append.mp hx with hx | hx
    · exact gvAll_2000 hq x hx
    · cases e : fl'[n]? with
      | none => rw [e] at hx; exact absurd hx List.not_mem_nil
      | some y => rw [e] at hx; exact gvBs_2000 (hq n) x hx
theorem third_all (R : RA G A S b m N pr tb z0 cs fo mo K F Ms hr σr M qs ps rs h ul fl τ n) (X : AX G A S b m N pr tb z0 cs fo mo K F Ms hr σr M qs ps rs h ul fl τ n Sl cl il) (Xf : FXs G A S b m N pr tb z0 cs fo mo K F Ms hr σr M qs ps rs h ul fl τ n Sl fl') : ∃ h3 σ3, C_1_judgeInstances G pr h = some h3 ∧ (∀ τ', om_loop T_third_538s (0, σ3) = some τ' → T_third τ = some τ') ∧ tF pr (fun y => kd h y = 21) (fun y => kd h y = 58) h h3 ∧ (hz h3 = hz h + il.length ∧ hu h3 ≤ hu h + 4 * il.length ∧ tF pr (tI il) (tAr K cs h) h h3) ∧ fr [452, 456] [726] τ σ3 ∧ (fI h3 112 pr = bp σ3 ∧ (bp σ3 = 2147483647 ∨ bp σ3 ≤ 2000) ∧ (gs σ3 452 = 0 ∨ gs σ3 452 = 3)) ∧ (∀ c k, c < K.length → k < 4 → aR h3 (fR h 1238 (clF cs c)) k = (iOf (inS il) c k).elim 0 (ioF il)) ∧ (∀ (j : Nat) (x : IX) (y : Cp), il[j]? = some x → cl[x.2.2.2.2.1.1]? = some y → LnD h τ x y.2.2.2.2 j h3 σ3) ∧ (bp σ3 = 2147483647 → TOk cl il ∧ ∀ (f : Nat) (x : FX), fl'[f]? = some x → gvOk x.2.2.2.2.2.1.2.1) := by
  obtain ⟨h2, σ2, a1, a2, T⟩ := th_all R X
  obtain ⟨t1, t2, t3, t4, t5, t6⟩ := id T
  obtain ⟨q, hq, L⟩ := tg_loop R Xf t1 (fun _ z => z) (fun _ z => z) t3
  obtain ⟨σ3, b1, b2, b3, b4, b5⟩ := L F.length 0 σ2 (by omega) (fr_refl _ _ _) rfl (.inl rfl)
  have e0 : gvAll fl' q 0 = [] := rfl
  rw [e0, ruH_nil, show ((0 : Nat) : Int) = 0 from rfl] at b1
  rw [show ((0 : Nat) : Int) = 0 from rfl] at b2
  have kp := R.2.2.2.1.1.2.2.1.1.1
  have hm := (mnl_le (A := gvAll fl' q F.length) (x := bp σ2)).1
  have li : (inS il).length = il.length := by unfold inS; rw [List.length_map]
  refine ⟨ruH h2 pr (gvAll fl' q F.length), σ3, ?_, fun τ' e => ?_, tF_trans t1 tF_ru, ⟨t2.1, t2.2.1, tF_trans t2.2.2 tF_ru⟩, fr_trans t3 (w26 b3), ⟨?_, ?_, ?_⟩, fun c k hc hk => ?_, fun j x y e1 e2 => ?_, fun mx => ?_⟩
  · unfold C_1_judgeInstances
    rw [gd_pos kp, a1, Option.bind_some, b1, Option.bind_some]
  · unfold T_third
    rw [a2, Option.bind_some, b2, Option.bind_some, e, Option.bind_some]
  · show fI (sI h2 112 pr _) 112 pr = _
    rw [fI_sI, if_pos ⟨rfl, rfl⟩, b4, t4.1]
  · rw [b4]
    rcases mnl_in (A := gvAll fl' q F.length) (x := bp σ2) with e | e
    · rw [e]; exact t4.2.1
    · exact .inr (gvAll_2000 hq _ e)
  · rcases b5 with e | e
    · rw [e]; exact t4.2.2
    · exact .inr e
  · show aR h2 _ k = _
    have := t5 c k hc hk
    rw [List.take_of_length_le (by omega)] at this
    exact this
  · have il' := (List.getElem?_eq_some_iff.mp e1).1
    obtain ⟨⟨bm, d1, d2, d4, d5, d6, d7⟩, _⟩ := t6 j x y il' e1 e2
    exact ⟨bm, d1, d2, d4, d5, d6, fun m' hm' => by rw [b3.2 726 (by simp)]; exact d7 m' hm'⟩
  · rw [b4] at mx
    have em := mnl_emp (gvAll_2000 hq) mx
    have m2 : bp σ2 = 2147483647 := by
      have := t4.2.1
      omega
    refine ⟨fun j x y e1 e2 => ?_, fun f x e => ?_⟩
    · have il' := (List.getElem?_eq_some_iff.mp e1).1
      exact (t6 j x y il' e1 e2).2 m2
    · have fl0 := (List.getElem?_eq_some_iff.mp e).1
      exact gvAll_nil em f x (by rw [← Xf.1]; exact fl0) e
/-- the check for a fault -/
theorem c_fail_no {k : Int} (kp : kd h pr = 2) (e : fI h 112 pr = 2147483647) : C_1_fail G pr k h = some (.inr (), h) := by
  unfold C_1_fail
  rw [gd_pos kp, if_pos (by omega)]
end LTW
