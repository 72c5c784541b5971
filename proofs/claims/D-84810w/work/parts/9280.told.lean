set_option maxRecDepth 100000
/-! WORDS IN A ROW told ahead; rules broken, in the component -/
section LTO
variable {G : om_G} {h : om_H} {Ln : Nat} {Ls : List (List Int)} {L : List Int} {k w : Nat}
theorem WL_at (C : SCc h Ln Ls) (e : Ls[k]? = some L) : ∃ v, (ll h Ln)[k]? = some v ∧ v < hz h ∧ fR h 1186 v < hz h ∧ wb h v L ∧ P_J2_get G Ln (k : Int) h = some v := by
  obtain ⟨c1, c2, c3, c4⟩ := C
  have len := WL_len c4
  have kl := (List.getElem?_eq_some_iff.mp e).1
  have il : k < (ll h Ln).length := by omega
  have ec : (ll h Ln)[k]? = some (ll h Ln)[k] := List.getElem?_eq_getElem il
  obtain ⟨v1, v2, v3⟩ := WL_get c4 ec e
  refine ⟨_, ec, v1, v2, v3, ?_⟩
  unfold P_J2_get
  rw [gd_pos ⟨c2, by omega⟩, show ((k : Int)).toNat = k by omega, ec]
theorem c_isTold_loop (C : SCc h Ln Ls) (e : Ls[k]? = some L) : ∀ d i : Nat, i + d = k → om_loop (C_1_isTold_2s G Ln (k : Int) h) (i : Int) = some (if L ∈ (Ls.take k).drop i then .inl () else .inr ())
  | 0, i, hd => by
    rw [List.drop_eq_nil_of_le (by rw [List.length_take]; omega), if_neg (by simp)]
    refine om_loop_out ?_
    unfold C_1_isTold_2s
    rw [if_pos (by omega)]
  | d + 1, i, hd => by
    have kl := (List.getElem?_eq_some_iff.mp e).1
    have len := WL_len C.2.2.2
    have c3 := C.2.2.1
    have ek : Ls[i]? = some Ls[i] := List.getElem?_eq_getElem (by omega)
    generalize Ls[i] = M at ek
    obtain ⟨v, v1, v2, v3, v4, v5⟩ := WL_at (G := G) C ek
    obtain ⟨u, u1, u2, u3, u4, u5⟩ := WL_at (G := G) C e
    have ew : w32 ((i : Int) + 1) = ((i + 1 : Nat) : Int) := by rw [w32_s (by omega) (by omega)]; rfl
    have e2 := c_is2 (G := G) v4 u4
    have et : (Ls.take k)[i]? = some M := by rw [List.getElem?_take, if_pos (by omega)]; exact ek
    rw [drop_c et]
    by_cases q : M = L
    · have st : C_1_isTold_2s G Ln (k : Int) h (i : Int) = some (.inr (.inl ())) := by
        unfold C_1_isTold_2s
        rw [if_neg (by omega), gd_pos C.2.1, v5, Option.bind_some, gd_pos ⟨.inr v4.1, C.2.1⟩, u5, Option.bind_some, gd_pos ⟨.inr u4.1, v4.1⟩, e2, if_pos q, Option.bind_some, if_neg (by decide)]
      rw [om_loop_out st, if_pos (by rw [q]; exact List.mem_cons_self)]
    · have st : C_1_isTold_2s G Ln (k : Int) h (i : Int) = some (.inl ((i + 1 : Nat) : Int)) := by
        unfold C_1_isTold_2s
        rw [if_neg (by omega), gd_pos C.2.1, v5, Option.bind_some, gd_pos ⟨.inr v4.1, C.2.1⟩, u5, Option.bind_some, gd_pos ⟨.inr u4.1, v4.1⟩, e2, if_neg q, Option.bind_some, if_pos rfl, ew]
      rw [om_loop_in st, c_isTold_loop C e d (i + 1) (by omega)]
      have : (L ∈ M :: (Ls.take k).drop (i + 1)) ↔ L ∈ (Ls.take k).drop (i + 1) := by
        rw [List.mem_cons]
        exact ⟨fun z => z.elim (fun z => absurd z.symm q) id, .inr⟩
      by_cases p : L ∈ (Ls.take k).drop (i + 1)
      · rw [if_pos p, if_pos (this.mpr p)]
      · rw [if_neg p, if_neg (fun z => p (this.mp z))]
theorem c_isTold (C : SCc h Ln Ls) (e : Ls[k]? = some L) : C_1_isTold G Ln (k : Int) h = some (if L ∈ Ls.take k then 1 else 0) := by
  unfold C_1_isTold
  have e := c_isTold_loop (G := G) C e k 0 (by omega)
  rw [show ((0 : Nat) : Int) = 0 from rfl, List.drop_zero] at e
  rw [e, Option.bind_some]
  by_cases p : L ∈ Ls.take k
  · rw [if_pos p, if_pos p]; rfl
  · rw [if_neg p, if_neg p]; rfl
theorem c_isCon (W : wb h w L) : C_1_isCon G w h = some (if cnI L = none then 0 else 1) := by
  unfold C_1_isCon
  rw [c_conOf W, Option.bind_some]
  cases cnI L with
  | none => rw [if_pos (show oI none < 0 by decide), if_pos rfl]; exact gd_pos (.inl rfl)
  | some i => rw [if_neg (show ¬ oI (some i) < 0 by show ¬ ((i : Int) < 0); omega), if_neg (by simp)]; exact gd_pos (.inr rfl)
/-- what stays when fields of D alone are written -/
def hF (D : List Nat) (h h' : om_H) : Prop := (hz h' = hz h ∧ hu h' = hu h) ∧ ∀ a, kd h' a = kd h a ∧ (∀ f, f ∉ D → fI h' f a = fI h f a) ∧ (∀ f, fR h' f a = fR h f a) ∧ an h' a = an h a ∧ (∀ k, aI h' a k = aI h a k) ∧ (∀ k, aR h' a k = aR h a k) ∧ ll h' a = ll h a ∧ lc h' a = lc h a
abbrev FD : List Nat := [112, 1219, 1223, 1259, 1539]
variable {h' h2 : om_H} {D : List Nat}
theorem hF_refl : hF D h h := ⟨⟨rfl, rfl⟩, fun _ => ⟨rfl, fun _ _ => rfl, fun _ => rfl, rfl, fun _ => rfl, fun _ => rfl, rfl, rfl⟩⟩
theorem hF_trans (A : hF D h h') (B : hF D h' h2) : hF D h h2 := ⟨⟨B.1.1.trans A.1.1, B.1.2.trans A.1.2⟩, fun a => by
  obtain ⟨a1, a2, a3, a4, a5, a6, a7, a8⟩ := A.2 a
  obtain ⟨b1, b2, b3, b4, b5, b6, b7, b8⟩ := B.2 a
  exact ⟨b1.trans a1, fun f hf => (b2 f hf).trans (a2 f hf), fun f => (b3 f).trans (a3 f), b4.trans a4, fun k => (b5 k).trans (a5 k), fun k => (b6 k).trans (a6 k), b7.trans a7, b8.trans a8⟩⟩
theorem hF_sI {f a : Nat} {x : Int} (hf : f ∈ D) : hF D h (sI h f a x) := ⟨⟨rfl, rfl⟩, fun _ => ⟨rfl, fun g hg => fI_ne (fun e => hg (by rw [e]; exact hf)), fun _ => rfl, rfl, fun _ => rfl, fun _ => rfl, rfl, rfl⟩⟩
theorem hF_wb (A : hF D h h') (d : ∀ f ∈ [1188, 1192], f ∉ D) (W : wb h w L) : wb h' w L := by
  obtain ⟨w1, w2, w3, w4, p, w5, w6, w7⟩ := W
  obtain ⟨a1, a2, a3, a4, a5, a6, a7, a8⟩ := A.2 w
  have e := a3 1186
  obtain ⟨b1, b2, b3, b4, b5, b6, b7, b8⟩ := A.2 (fR h 1186 w)
  exact ⟨by rw [a1]; exact w1, by rw [e, b1]; exact w2, by rw [a2 1192 (d 1192 (by simp))]; exact w3, by rw [e, b4]; exact w4, p, by rw [a2 1188 (d 1188 (by simp))]; exact w5, by rw [e, b4]; exact w6, fun k hk => by rw [e, b5]; exact w7 k hk⟩
theorem hF_WL (A : hF D h h') (d : ∀ f ∈ [1188, 1192], f ∉ D) : ∀ {ws : List Nat} {Ls : List (List Int)}, WL h ws Ls → WL h' ws Ls
  | [], [], _ => trivial
  | w :: ws, L :: Ls, c => ⟨⟨by rw [A.1.1]; exact c.1.1, by rw [(A.2 w).2.2.1, A.1.1]; exact c.1.2.1, hF_wb A d c.1.2.2⟩, hF_WL A d c.2⟩
  | [], _ :: _, c => c.elim
  | _ :: _, [], c => c.elim
theorem hF_SCc (A : hF D h h') (d : ∀ f ∈ [1188, 1192], f ∉ D) (C : SCc h Ln Ls) : SCc h' Ln Ls := by
  obtain ⟨a1, a2, a3, a4, a5, a6, a7, a8⟩ := A.2 Ln
  exact ⟨by rw [A.1.1]; exact C.1, by rw [a1]; exact C.2.1, by rw [a7]; exact C.2.2.1, by rw [a7]; exact hF_WL A d C.2.2.2⟩
theorem hF_wd {A : Nat} {S : List Int} {j : Nat} (H : hF D h h') (d : ∀ f ∈ [1188, 1192], f ∉ D) (W : wd h A S w j) : wd h' A S w j := by
  obtain ⟨a1, a2, a3, a4, a5, a6, a7, a8⟩ := H.2 w
  exact ⟨by rw [a1]; exact W.1, by rw [a3]; exact W.2.1, by rw [a2 1188 (d 1188 (by simp))]; exact W.2.2.1, by rw [a2 1192 (d 1192 (by simp))]; exact W.2.2.2⟩
theorem WL_cat {vs : List Nat} {Ms : List (List Int)} (B : WL h vs Ms) : ∀ {ws : List Nat} {Ls : List (List Int)}, WL h ws Ls → WL h (ws ++ vs) (Ls ++ Ms)
  | [], [], _ => B
  | _ :: _, _ :: _, c => ⟨c.1, WL_cat B c.2⟩
  | [], _ :: _, c => c.elim
  | _ :: _, [], c => c.elim
end LTO
