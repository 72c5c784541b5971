set_option maxRecDepth 100000
/-! THE COMPONENT'S MACHINE: what a thing is; a frame with a thing -/
section LC0
variable {G : om_G} {io : Nat → Nat} {ins : List INs} {M : MPg} {cd cs : Nat → Et → Nat → Nat → Nat → Prop} {h0 h h1 h2 Z : om_H} {m nu nu1 nu2 kk A B n mx c c' : Nat} {fs : List Nat} {ls : List Fr}
theorem exk_kd {a : Nat} (h1 : 24 ≤ kd h a) (h2 : kd h a ≤ 32) (h3 : kd h a ≠ 31) : ∃ k ∈ om_exk, kd h a = k + 1 := by
  have : kd h a = 24 ∨ kd h a = 25 ∨ kd h a = 26 ∨ kd h a = 27 ∨ kd h a = 28 ∨ kd h a = 29 ∨ kd h a = 30 ∨ kd h a = 32 := by omega
  rcases this with e | e | e | e | e | e | e | e
  · exact ⟨23, by decide, e⟩
  · exact ⟨24, by decide, e⟩
  · exact ⟨25, by decide, e⟩
  · exact ⟨26, by decide, e⟩
  · exact ⟨27, by decide, e⟩
  · exact ⟨28, by decide, e⟩
  · exact ⟨29, by decide, e⟩
  · exact ⟨31, by decide, e⟩
theorem vC_1 {v : Vt} {x : Int} (H : vC G io M cd h m v true x) (t : xtg v = 1) : x = 4294967296 * 1 + xnm v % 4294967296 := by
  cases v with
  | leaf => exact H.elim
  | inner t' a u l r =>
    have t' : t' = 1 := t
    rcases H with ⟨e, f⟩ | ⟨e, f⟩ | ⟨e, f⟩ | ⟨k, _, f, ⟨e, _⟩ | ⟨e, _⟩ | ⟨e, _⟩ | ⟨e, _⟩⟩
    · show x = _ + a.1 % 4294967296
      omega
    all_goals omega
theorem vC_2 {v : Vt} {x : Int} (H : vC G io M cd h m v true x) (t : xtg v = 2) : x = 8589934592 + xnm v := by
  cases v with
  | leaf => exact H.elim
  | inner t' a u l r =>
    have t' : t' = 2 := t
    rcases H with ⟨e, f⟩ | ⟨e, f⟩ | ⟨e, f⟩ | ⟨k, _, f, ⟨e, _⟩ | ⟨e, _⟩ | ⟨e, _⟩ | ⟨e, _⟩⟩
    · omega
    · exact f
    all_goals omega
theorem vC_3 {v : Vt} {x : Int} (H : vC G io M cd h m v true x) (t : xtg v = 3) : x = 12884901888 + xnm v := by
  cases v with
  | leaf => exact H.elim
  | inner t' a u l r =>
    have t' : t' = 3 := t
    rcases H with ⟨e, f⟩ | ⟨e, f⟩ | ⟨e, f⟩ | ⟨k, _, f, ⟨e, _⟩ | ⟨e, _⟩ | ⟨e, _⟩ | ⟨e, _⟩⟩
    · omega
    · omega
    · exact f
    all_goals omega
theorem vC_45 {v : Vt} {x : Int} (H : vC G io M cd h m v true x) (t : xtg v = 4 ∨ xtg v = 5) : ∃ k : Nat, (k : Int) < fI h 264 m ∧ x = 17179869184 + (k : Int) ∧ fR h 1694 (cO h m k) = om_cA G (if xtg v = 4 then 15 else 16) ∧ vC G io M cd h m (xl v) true (fI h 1697 (cO h m k)) ∧ vC G io M cd h m (xr v) true (fI h 1701 (cO h m k)) := by
  cases v with
  | leaf => exact H.elim
  | inner t' a u l r =>
    have tt : t' = 4 ∨ t' = 5 := t
    rcases H with ⟨e, f⟩ | ⟨e, f⟩ | ⟨e, f⟩ | ⟨k, hk, f, ⟨e, g1, g2, g3⟩ | ⟨e, g1, g2, g3⟩ | ⟨e, _⟩ | ⟨e, _⟩⟩
    · omega
    · omega
    · omega
    · exact ⟨k, hk, f, by rw [show xtg (.inner t' a u l r : Vt) = 4 from e, if_pos rfl]; exact g1, g2, g3⟩
    · exact ⟨k, hk, f, by rw [show xtg (.inner t' a u l r : Vt) = 5 from e, if_neg (by decide)]; exact g1, g2, g3⟩
    · omega
    · omega
theorem vC_6 {v : Vt} {x : Int} (H : vC G io M cd h m v true x) (t : xtg v = 6) : ∃ k : Nat, (k : Int) < fI h 264 m ∧ x = 17179869184 + (k : Int) ∧ fR h 1694 (cO h m k) = om_cA G 17 ∧ fI h 1697 (cO h m k) = xnm v ∧ vC G io M cd h m (xl v) true (fI h 1701 (cO h m k)) := by
  cases v with
  | leaf => exact H.elim
  | inner t' a u l r =>
    have tt : t' = 6 := t
    rcases H with ⟨e, f⟩ | ⟨e, f⟩ | ⟨e, f⟩ | ⟨k, hk, f, ⟨e, g1, g2, g3⟩ | ⟨e, g1, g2, g3⟩ | ⟨e, g1, g2, g3⟩ | ⟨e, _⟩⟩
    · omega
    · omega
    · omega
    · omega
    · omega
    · exact ⟨k, hk, f, g1, g2, g3⟩
    · omega
theorem vC_7 {v : Vt} {x : Int} (H : vC G io M cd h m v true x) (t : xtg v = 7) : ∃ k : Nat, (k : Int) < fI h 264 m ∧ x = 17179869184 + (k : Int) ∧ fR h 1694 (cO h m k) = om_cA G 14 ∧ cd (xow v).1 (xcd v) (fR h 1706 (cO h m k)) 0 (xls (xl v)).length ∧ vC G io M cd h m (xl v) false (fI h 1708 (cO h m k)) ∧ rC G io M.2.2.2 h m (gvW M (xow v).1) (xow v).2 (fR h 1718 (cO h m k)) := by
  cases v with
  | leaf => exact H.elim
  | inner t' a u l r =>
    have tt : t' = 7 := t
    rcases H with ⟨e, f⟩ | ⟨e, f⟩ | ⟨e, f⟩ | ⟨k, hk, f, ⟨e, _⟩ | ⟨e, _⟩ | ⟨e, _⟩ | ⟨e, g1, g2, g3, g4⟩⟩
    · omega
    · omega
    · omega
    · omega
    · omega
    · omega
    · exact ⟨k, hk, f, g1, g2, g3, g4⟩
/-- the cell of a thing -/
theorem c_cell {k : Nat} (I : MC G h m) (hk : k < (ll h (fR h 262 m)).length) : C_10_cell G m (17179869184 + (k : Int)) h = some (cO h m k) := by
  have k4 := I.2.1.1.2.1
  have e := c_low (G := G) (h := h) (a := (k : Int)) (k := 4) (by omega) (by omega)
  rw [show (4294967296 * 4 : Int) = 17179869184 by decide, Int.emod_eq_of_lt (by omega) (by omega)] at e
  obtain ⟨_, _, ⟨_, _, k40⟩, _⟩ := MC_at I hk
  unfold C_10_cell
  rw [gd_pos I.1.1, e, Option.bind_some, gd_pos I.2.1.1.1.2.1, MC_get I hk, Option.bind_some, gd_pos (.inr k40)]
set_option maxHeartbeats 1000000 in
/-- A FRAME COMES, with a thing -/
theorem c_frM {f : Fr} {lv : Nat} {x : Int} (H : mMc G io M cd h0 m h ls c mx) (hl : ls.length < 300) (hcd : cd f.2.2.2.1.1 f.2.1 (fR h 290 m) lv (xls f.2.2.1).length) (he : vC G io M cd h m f.2.2.1 false (fI h 296 m)) (hr : rC G io M.2.2.2 h m (gvW M f.2.2.2.1.1) f.2.2.2.1.2 (fR h 302 m)) (hv : 100 ≤ f.1 → vC G io M cd h m f.2.2.2.2 true x) (hz0 : f.1 = 15 ∨ f.1 = 16 ∨ f.1 = 17 → lv = 0) : ∃ h1, C_10_push G m (wtK G f.1) (lv : Int) h = some (1, h1) ∧ MC G h1 m ∧ fI h1 272 m = ((ls.length + 1 : Nat) : Int) ∧ fO h1 m ls.length = fO h m ls.length ∧ kd h1 (fO h m ls.length) = 12 ∧ mMc G io M cd h0 m (sI h1 369 (fO h m ls.length) x) (f :: ls) c (max mx (ls.length + 1)) ∧ mGc m h (sI h1 369 (fO h m ls.length) x) ∧ kZ m h (sI h1 369 (fO h m ls.length) x) ∧ (fI (sI h1 369 (fO h m ls.length) x) 296 m = fI h 296 m ∧ fI (sI h1 369 (fO h m ls.length) x) 292 m = fI h 292 m) ∧ (∀ g, fR (sI h1 369 (fO h m ls.length) x) g m = fR h g m) ∧ (∀ j, aI (sI h1 369 (fO h m ls.length) x) (fR h 302 m) j = aI h (fR h 302 m) j) ∧ fI (sI h1 369 (fO h m ls.length) x) 360 (fO h m ls.length) = (lv : Int) := by
  obtain ⟨a1, a2, a3, ⟨a4, a4', a4''⟩, ⟨a5, a5'⟩, a6, a7⟩ := H
  obtain ⟨⟨g1, g2, g3⟩, g4, g5, g6⟩ := MC_f a2 hl
  obtain ⟨n1, n2⟩ := MC_fm a2 hl
  obtain ⟨h1, p1, p2, ⟨p3, p4⟩, p5, ⟨p6, p7, p8, p9, p10⟩, p11, p12⟩ := c_pushM (wk := wtK G f.1) (lv := (lv : Int)) a2 a4 hl a5 a5'
  have I1 := MC_sk p2.1 a2
  have W : WSt m [272, 276] h (sI h1 369 (fO h m ls.length) x) := WSt_fI a2 p2 g3
  have g := WSt_gr a2 a3 W (by decide)
  have nF : m ≠ fO h m ls.length := fun z => n1 z.symm
  have eF : ∀ i, fO (sI h1 369 (fO h m ls.length) x) m i = fO h m i := fun i => fO_sk a2 W.1
  have r374 : fR (sI h1 369 (fO h m ls.length) x) 374 (fO h m ls.length) = fR h 374 (fO h m ls.length) := W.1.2.2.1 374 _ (by decide)
  refine ⟨h1, p1, I1, p3, fO_sk a2 p2.1, ((p2.1.2.1 _).1).trans g3, ⟨mFs_trans a1 (mFs_W a2 W), MC_sk W.1 a2, WSt_nu a3 W (by decide), ⟨by rw [fI_na nF]; exact p3, by rw [List.length_cons]; omega, by rw [List.length_cons]; omega⟩, ⟨by rw [fI_na nF]; exact p4, by omega⟩, by rw [W.2.2.1 280 (by decide)]; exact a6, ?_, ?_⟩, g, kZ_W W (by decide), ⟨by rw [W.2.2.1 296 (by decide)], by rw [W.2.2.1 292 (by decide)]⟩, p5, p12, by rw [fI_ne (by decide)]; exact p8⟩
  · rw [eF, r374, fI_ne (by decide), fI_ne (by decide), fI_eq]
    refine ⟨p6, ⟨lv, p8, ?_, hz0⟩, ?_, rC_gr g (fun j hj => ?_) hr, fun z => vC_gr g (hv z)⟩
    · show cd _ _ (fR h1 358 (fO h m ls.length)) lv _
      rw [p7]; exact hcd
    · rw [p9]; exact vC_gr g he
    · exact p10 j hj
  · refine fCm_keep g (fun i hi => ?_) a7
    obtain ⟨e1, e2⟩ := p11 i (by omega) (by omega)
    have ne := (MC_fne a2 (i := i) (j := ls.length) (by omega) hl (by omega)).1
    exact ⟨eF i, fun f => (fI_na ne).trans (e1.2.1 f), e1.2.2.1, e2.2.2.2.2.1⟩
end LC0
