set_option maxRecDepth 100000
/-! THE COMPONENT'S MACHINE: one step -/
/-- code of a state: resolved, or at the head of a use or chain (n deep) -/
def csN (G : om_G) (h0 : om_H) (m : Nat) (lvl : Nat → Nat) (cd : Nat → Et → Nat → Nat → Nat → Prop) : Nat → Nat → Et → Nat → Nat → Nat → Prop
  | 0, o, e, a, lv, d => cd o e a lv d
  | n + 1, o, e, a, lv, d => cd o e a lv d ∨ ((∀ h, mFs m h0 h → C_10_levels G a h = some (lvl a : Int)) ∧ (a < hz h0 ∧ lv = lvl a ∧ lvl a < 5000) ∧ ((kd h0 a = 30 ∧ csN G h0 m lvl cd n o e (fR h0 1490 a) 0 d) ∨ (kd h0 a = 32 ∧ csN G h0 m lvl cd n o e (fR h0 1518 a) 0 d)))
section LCT
variable {G : om_G} {io : Nat → Nat} {M : MPg} {B : MBd} {cd cs : Nat → Et → Nat → Nat → Nat → Prop} {h0 : om_H} {m : Nat} {lvl : Nat → Nat}
/-- the machine's own numbers are written -/
theorem mMc_o {h h1 : om_H} {ls : List Fr} {c mx : Nat} {fs : List Nat} (H : mMc G io M cd h0 m h ls c mx) (W : WSt m fs h h1) (hf : 264 ∉ fs ∧ 272 ∉ fs ∧ 276 ∉ fs ∧ 280 ∉ fs) (he : ∀ a, a ≠ m → eqA a h h1) : mMc G io M cd h0 m h1 ls c mx := mMc_W H W hf (fun i hi => by
  obtain ⟨n1, n2⟩ := MC_fm H.2.1 (i := i) (by have := H.2.2.2.1.2.1; omega)
  exact ⟨he _ n1, he _ n2⟩)
set_option maxHeartbeats 1000000 in
/-- ONE STEP (names are left to hN) -/
theorem c_stepS (hG : om_okG G) (wO : waitO G) (hI : intO G) (i0 : MC G h0 m) (pp : cdP G h0 m cd cs) (rp : rsP G h0 m lvl cd) {s : MS} (T : sTy M s) (hN : ∀ (h : om_H) (a lv : Nat), eTg s.1 = 10 → mMc G io M cd h0 m h s.2.2.2.1 s.2.2.2.2.1 s.2.2.2.2.2 → fR h 290 m = a → cd s.2.2.1.1 s.1 a lv (xls s.2.1).length → vC G io M cd h m s.2.1 false (fI h 296 m) → rC G io M.2.2.2 h m (gvW M s.2.2.1.1) s.2.2.1.2 (fR h 302 m) → mRc G io M cd cs h0 m h (C_10_name G m a h) (pstp M B s)) : ∀ (n f : Nat) (h : om_H) (lv st : Nat), n < f → mMc G io M cd h0 m h s.2.2.2.1 s.2.2.2.2.1 s.2.2.2.2.2 → fI h 292 m = (lv : Int) → csN G h0 m lvl cd n s.2.2.1.1 s.1 (fR h 290 m) lv (xls s.2.1).length → vC G io M cd h m s.2.1 false (fI h 296 m) → rC G io M.2.2.2 h m (gvW M s.2.2.1.1) s.2.2.1.2 (fR h 302 m) → fI h 284 m = (st : Int) → st < 2000000000 → mRc G io M cd cs h0 m (sI h 284 m ((st + 1 : Nat) : Int)) (C_10_stepD G f m h) (pstp M B s) := by
  have res : ∀ (f : Nat) (h : om_H) (lv st : Nat), 0 < f → mMc G io M cd h0 m h s.2.2.2.1 s.2.2.2.2.1 s.2.2.2.2.2 → fI h 292 m = (lv : Int) → cd s.2.2.1.1 s.1 (fR h 290 m) lv (xls s.2.1).length → vC G io M cd h m s.2.1 false (fI h 296 m) → rC G io M.2.2.2 h m (gvW M s.2.2.1.1) s.2.2.1.2 (fR h 302 m) → fI h 284 m = (st : Int) → st < 2000000000 → mRc G io M cd cs h0 m (sI h 284 m ((st + 1 : Nat) : Int)) (C_10_stepD G f m h) (pstp M B s) := fun f h lv st f0 H el hc he hr hs hs2 => by
    obtain ⟨g, ef⟩ : ∃ g, f = g + 1 := ⟨f - 1, by omega⟩
    have I := H.2.1
    have W : WSt m [284] h (sI h 284 m ((st + 1 : Nat) : Int)) := WSt_sI WSt_refl (by decide)
    have gg := WSt_gr I H.2.2.1 W (by decide)
    have H1 := mMc_o H W (by decide) (fun a n => eq_sI n)
    obtain ⟨r1, _⟩ := rp _ _ _ _ _ hc
    have w1 : w32 ((st : Int) + 1) = ((st + 1 : Nat) : Int) := (w32_s (by omega) (by omega)).trans (by omega)
    have un : C_10_stepD G f m h = C_10_step_19 G (C_10_stepD G g) m (fR h 290 m) (lvl (fR h 290 m) : Int) (sI h 284 m ((st + 1 : Nat) : Int)) := by
      rw [ef]
      show C_10_stepB G (C_10_stepD G g) m h = _
      unfold C_10_stepB
      rw [gd_pos I.1.1, hs, w1, r1 _ H1.1, Option.bind_some]
    rw [un]
    have he1 : vC G io M cd (sI h 284 m ((st + 1 : Nat) : Int)) m s.2.1 false (fI (sI h 284 m ((st + 1 : Nat) : Int)) 296 m) := by
      rw [fI_ne (by decide)]; exact vC_gr gg he
    have hr1 : rC G io M.2.2.2 (sI h 284 m ((st + 1 : Nat) : Int)) m (gvW M s.2.2.1.1) s.2.2.1.2 (fR (sI h 284 m ((st + 1 : Nat) : Int)) 302 m) := rC_gr gg (fun j _ => rfl) hr
    exact c_stepR (lv := lv) hG wO hI i0 pp rp H1 rfl (by rw [fI_ne (by decide)]; exact el) hc he1 hr1 T (fun t => hN _ _ lv t H1 rfl hc he1 hr1)
  intro n
  induction n with
  | zero => exact fun f h lv st f0 H el hc he hr hs hs2 => res f h lv st f0 H el hc he hr hs hs2
  | succ n ih =>
    intro f h lv st f0 H el hc he hr hs hs2
    rcases hc with hc | ⟨r1, ⟨az, elv, l5⟩, hk⟩
    · exact res f h lv st (by omega) H el hc he hr hs hs2
    · obtain ⟨g, ef⟩ : ∃ g, f = g + 1 := ⟨f - 1, by omega⟩
      have I := H.2.1
      have kk : kd h (fR h 290 m) = kd h0 (fR h 290 m) := H.1.1.2.2.1 _ az
      have W1 : WSt m [284, 292] h (sI h 284 m ((st + 1 : Nat) : Int)) := WSt_sI WSt_refl (by decide)
      have H1 := mMc_o H W1 (by decide) (fun a n => eq_sI n)
      have w1 : w32 ((st : Int) + 1) = ((st + 1 : Nat) : Int) := (w32_s (by omega) (by omega)).trans (by omega)
      have w2 : w32 (((st + 1 : Nat) : Int) - 1) = (st : Int) := (w32_s (by omega) (by omega)).trans (by omega)
      have w3 : w32 ((lvl (fR h 290 m) : Int) - (lv : Int)) = 0 := by rw [w32_s (by omega) (by omega)]; omega
      have E := H.1.1.2.2.2 (fR h 290 m) az (not_mOw i0 (by omega) (fun z => by
        have := i0.2.1.1.1.2.1
        rw [← z] at this
        omega))
      have un : C_10_stepD G f m h = C_10_step_19 G (C_10_stepD G g) m (fR h 290 m) (lvl (fR h 290 m) : Int) (sI h 284 m ((st + 1 : Nat) : Int)) := by
        rw [ef]
        show C_10_stepB G (C_10_stepD G g) m h = _
        unfold C_10_stepB
        rw [gd_pos I.1.1, hs, w1, r1 _ H1.1, Option.bind_some]
      have go : ∀ a', csN G h0 m lvl cd n s.2.2.1.1 s.1 a' 0 (xls s.2.1).length → mRc G io M cd cs h0 m (sI h 284 m ((st + 1 : Nat) : Int)) (C_10_stepD G g m (sI (sI (sR (sI h 284 m ((st + 1 : Nat) : Int)) 290 m a') 292 m 0) 284 m (st : Int))) (pstp M B s) := fun a' ha => by
        obtain ⟨h2, e2⟩ : ∃ h2, h2 = sI (sI (sR (sI h 284 m ((st + 1 : Nat) : Int)) 290 m a') 292 m 0) 284 m (st : Int) := ⟨_, rfl⟩
        have W2 : WSt m [284, 292] h h2 := by
          rw [e2]
          exact WSt_sI (WSt_sI (WSt_sR W1) (by decide)) (by decide)
        have g2 := WSt_gr I H.2.2.1 W2 (by decide)
        have H2 := mMc_o H W2 (by decide) (fun a n => by
          rw [e2]
          exact eqA_trans (eqA_trans (eqA_trans (eq_sI n) (eq_sR n)) (eq_sI n)) (eq_sI n))
        rw [← e2]
        have q := ih g h2 0 st (by omega) H2 (by rw [e2, fI_ne (by decide), fI_eq]; rfl) (by
          have : fR h2 290 m = a' := by rw [e2]; exact fR_eq
          rw [this]; exact ha) (by rw [W2.2.2.1 296 (by decide)]; exact vC_gr g2 he) (by
          rw [W2.2.2.2 302 (by decide)]
          exact rC_gr g2 (fun j _ => by rw [e2]; rfl) hr) (by rw [e2, fI_eq]) hs2
        refine mRc_tr ⟨?_, ?_⟩ q
        · rw [fI_eq, fI_eq]
        · rw [fI_ne (by decide), W2.2.2.1 316 (by decide), fI_ne (by decide)]
      rw [un]
      rcases hk with ⟨k30, hk⟩ | ⟨k32, hk⟩
      · have k30' : kd h (fR h 290 m) = 30 := kk.trans k30
        have xk := exk_kd (h := h) (a := fR h 290 m) (by omega) (by omega) (by omega)
        have := go (fR h0 1490 (fR h 290 m)) hk
        unfold C_10_step_19
        rw [gd_pos ⟨I.1.1, xk⟩, if_neg (fun z => z k30'), gd_pos (.inr k30'), fI_ne (show 292 ≠ 284 by decide), el, w3, if_neg (fun z => z rfl), gd_pos ⟨k30', I.1.1⟩, fI_eq, w2, bind_sm]
        show mRc G io M cd cs h0 m _ (C_10_stepD G g m (sI (sI (sR (sI h 284 m ((st + 1 : Nat) : Int)) 290 m (fR h 1490 (fR h 290 m))) 292 m 0) 284 m (st : Int))) _
        rw [E.2.2.1 1490]
        exact this
      · have k32' : kd h (fR h 290 m) = 32 := kk.trans k32
        have xk := exk_kd (h := h) (a := fR h 290 m) (by omega) (by omega) (by omega)
        have := go (fR h0 1518 (fR h 290 m)) hk
        unfold C_10_step_19
        rw [gd_pos ⟨I.1.1, xk⟩, if_pos (by show ¬ kd h (fR h 290 m) = 30; omega), gd_pos (show ∃ k ∈ om_exk, kd (sI h 284 m ((st + 1 : Nat) : Int)) (fR h 290 m) = k + 1 from xk), if_neg (fun z => z k32'), gd_pos (.inr k32'), fI_ne (show 292 ≠ 284 by decide), el, w3, if_neg (fun z => z rfl), gd_pos ⟨k32', I.1.1⟩, fI_eq, w2, bind_sm]
        show mRc G io M cd cs h0 m _ (C_10_stepD G g m (sI (sI (sR (sI h 284 m ((st + 1 : Nat) : Int)) 290 m (fR h 1518 (fR h 290 m))) 292 m 0) 284 m (st : Int))) _
        rw [E.2.2.1 1518]
        exact this
end LCT
