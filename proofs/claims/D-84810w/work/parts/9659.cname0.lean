set_option maxRecDepth 100000
/-! THE COMPONENT'S MACHINE: names that are bound, names that are built in -/
/-- what a name's object says -/
def nmP (h : om_H) (cd : Nat → Et → Nat → Nat → Nat → Prop) : Prop := ∀ o e a lv d, cd o e a lv d → eTg e = 10 → (a < hz h ∧ kd h a = 28) ∧ ((eLb e).2.1 = 0 → ∃ up : Nat, fI h 1464 a = (up : Int) ∧ up + (eLb e).2.2.1 + 1 = d ∧ up < 5000) ∧ ((eLb e).2.1 ≠ 0 → fI h 1464 a = -1) ∧ ((eLb e).2.1 = 3 → fR h 1474 a = 0 ∧ fR h 1470 a = 0 ∧ fI h 1476 a = ((eLb e).2.2.1 : Int) ∧ (eLb e).2.2.1 < 7)
section LNA
variable {G : om_G} {io : Nat → Nat} {M : MPg} {B : MBd} {cd cs : Nat → Et → Nat → Nat → Nat → Prop} {h0 h : om_H} {m a lv : Nat}
theorem nmP_keep (I : MC G h0 m) (F : mFs m h0 h) (P : nmP h0 cd) : nmP h cd := fun o e a lv d hc t => by
  obtain ⟨⟨p1, p2⟩, p3, p4, p5⟩ := P o e a lv d hc t
  have E := F.1.2.2.2 a p1 (not_mOw I (by omega) (fun z => by rw [z, I.2.1.1.1.2.1] at p2; omega))
  rw [E.1, E.2.1, E.2.1, E.2.2.1, E.2.2.1]
  exact ⟨⟨Nat.lt_of_lt_of_le p1 F.1.1, p2⟩, p3, p4, p5⟩
set_option maxHeartbeats 1000000 in
theorem c_nameB (hG : om_okG G) (wO : waitO G) (hI : intO G) (i0 : MC G h0 m) (pp : cdP G h0 m cd cs) (np : nmP h0 cd) {s : MS} (T : sTy M s) (t : eTg s.1 = 10) (k : (eLb s.1).2.1 = 0 ∨ (eLb s.1).2.1 = 3) (H : mMc G io M cd h0 m h s.2.2.2.1 s.2.2.2.2.1 s.2.2.2.2.2) (hc : cd s.2.2.1.1 s.1 a lv (xls s.2.1).length) (he : vC G io M cd h m s.2.1 false (fI h 296 m)) : mRc G io M cd cs h0 m h (C_10_name G m a h) (pstp M B s) := by
  obtain ⟨e, en, ow, fs, c, mx⟩ := s
  obtain ⟨⟨ok, γ, hen, hw⟩, hfs, hl, hc4⟩ := T
  simp only at H hc he t k ok hen hw hfs hl hc4
  have I := H.2.1
  obtain ⟨⟨_, k28⟩, n0, n1, n3⟩ := nmP_keep i0 H.1 np _ _ _ _ _ hc t
  have hw' : wNm (eW M ow.1) ow.2 (eLb e) (sem M.2.2.2 ow.2 (eTy e)) (eEv e) γ := by
    cases e with
    | leaf => cases t
    | inner t' a' u l r =>
      have ht : t' = 10 := t
      rw [wS_e] at hw
      unfold wSB at hw
      rw [if_pos ht] at hw
      exact hw
  unfold pstp
  simp only
  rw [if_pos t]
  unfold pnm
  rcases k with k | k
  · -- a bound name
    obtain ⟨up, u1, u2, u3⟩ := n0 k
    rw [if_pos k]
    have hg : γ[(eLb e).2.2.1]? = some (sem M.2.2.2 ow.2 (eTy e)) := by
      rcases hw' with ⟨_, q⟩ | ⟨q, _⟩ | ⟨q, _⟩ | ⟨q, _⟩
      · exact q
      all_goals omega
    obtain ⟨g1, g2⟩ := vT_env hen
    have il : (eLb e).2.2.1 < (xls en).length := by rw [g1]; exact (List.getElem?_eq_some_iff.mp hg).1
    have ei := List.getElem?_eq_getElem il
    obtain ⟨y, y1, y2, y3⟩ := c_up I H.2.2.1 k28 u1 u3 up 0 en (fI h 296 m) (by omega) (by omega) he
    have ix : (xls en).length - 1 - up = (eLb e).2.2.1 := by omega
    rw [ix] at y3
    have hv : vT M ((xls en)[(eLb e).2.2.1]?.getD .leaf) (.inl (sem M.2.2.2 ow.2 (eTy e))) := by
      rw [ei]
      exact g2 _ _ _ ei hg
    have yl : y < (ll h (fR h 262 m)).length := by have := H.2.2.1.2.1; omega
    obtain ⟨_, _, ⟨_, _, k40⟩, _⟩ := MC_at I yl
    have st : C_10_name G m a h = C_10_comes G m (fI h 1697 (cO h m y)) h := by
      unfold C_10_name C_28_isBound C_28_isBound_12
      have y1' : om_loop (C_10_name_14s G m a h) (fI h 296 m, 0) = some (y : Int) := y1
      rw [gd_pos k28, gd_pos k28, u1, if_neg (by omega), gd_pos (.inr rfl), Option.bind_some, if_neg (by decide), gd_pos I.1.1, y1', Option.bind_some, gd_pos ⟨I.1.1, I.2.1.1.1.2.1⟩, MC_get I yl, Option.bind_some, gd_pos ⟨.inr k40, k40, I.1.1⟩, bind_sm]
    rw [st]
    exact c_comes (mx := mx) hG wO hI i0 pp fs _ _ _ h c H y3 hfs hv
  · -- built in
    obtain ⟨b1, b2, b3, b4⟩ := n3 k
    have b5 := n1 (by omega)
    rw [if_neg (by omega), if_neg (by omega), if_neg (by omega)]
    obtain ⟨x', y', eT⟩ : ∃ x y, sem M.2.2.2 ow.2 (eTy e) = btT (eLb e).2.2.1 x y := by
      rcases hw' with ⟨q, _⟩ | ⟨q, _⟩ | ⟨q, _⟩ | ⟨q, _, x, y, e3⟩
      · omega
      · omega
      · omega
      · exact ⟨x, y, e3⟩
    have hd : C_10_name G m a h = if (eLb e).2.2.1 < 5 then C_10_comes G m (12884901888 + ((eLb e).2.2.1 : Int)) h else C_10_comes G m (8589934592 + (if (eLb e).2.2.1 = 5 then 1 else 0)) h := by
      have o3 : ∀ z : Int, 0 ≤ z → z < 7 → C_10_of G 12884901888 z h = some (12884901888 + z) := fun z z1 z2 => by
        have := c_of (G := G) (h := h) (a := z) (k := 3) (by omega) (by omega) (by omega) (by omega)
        rw [Int.emod_eq_of_lt (by omega) (by omega)] at this
        exact this
      have o2 : ∀ z : Int, 0 ≤ z → z < 7 → C_10_of G 8589934592 z h = some (8589934592 + z) := fun z z1 z2 => by
        have := c_of (G := G) (h := h) (a := z) (k := 2) (by omega) (by omega) (by omega) (by omega)
        rw [Int.emod_eq_of_lt (by omega) (by omega)] at this
        exact this
      unfold C_10_name C_28_isBound C_28_isBound_12
      rw [gd_pos k28, gd_pos k28, b5, if_pos (by decide), gd_pos (.inl rfl), Option.bind_some, if_pos rfl, gd_pos k28, b1, if_pos rfl, gd_pos k28, b2, if_pos rfl, gd_pos k28, b3]
      unfold C_10_name_265 C_10_name_281
      by_cases q : (eLb e).2.2.1 < 5
      · rw [if_pos (by omega), if_pos q, gd_pos k28, o3 _ (by omega) (by omega), Option.bind_some, gd_pos I.1.1, bind_sm]
      · rw [if_neg (by omega), if_neg q, gd_pos k28]
        by_cases q5 : (eLb e).2.2.1 = 5
        · rw [if_neg (by omega), if_pos q5, o2 1 (by decide) (by decide), Option.bind_some, gd_pos I.1.1, bind_sm]
        · rw [if_pos (by omega), if_neg q5, o2 0 (by decide) (by decide), Option.bind_some, gd_pos I.1.1, bind_sm]
    rw [hd]
    by_cases q : (eLb e).2.2.1 < 5
    · rw [if_pos q, if_pos q]
      refine c_comes (mx := mx) hG wO hI i0 pp fs _ _ (sem M.2.2.2 ow.2 (eTy e)) h c H (.inr (.inr (.inl ⟨rfl, rfl⟩))) hfs (.inr (.inr (.inl ⟨rfl, (eLb e).2.2.1, x', y', q, rfl, eT⟩)))
    · rw [if_neg q, if_neg q]
      have eB : sem M.2.2.2 ow.2 (eTy e) = tBool := by
        rw [eT]
        have : (eLb e).2.2.1 = 5 ∨ (eLb e).2.2.1 = 6 := by omega
        rcases this with z | z <;> rw [z] <;> rfl
      refine c_comes (mx := mx) hG wO hI i0 pp fs _ _ tBool h c H (.inr (.inl ⟨rfl, rfl⟩)) (by rw [← eB]; exact hfs) (.inr (.inl ⟨rfl, rfl, ?_⟩))
      by_cases q5 : (eLb e).2.2.1 = 5
      · exact .inr (if_pos q5)
      · exact .inl (if_neg q5)
end LNA
