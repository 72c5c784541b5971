set_option maxRecDepth 100000
/-! THE COMPONENT'S MACHINE: a thing comes back, as pcm says -/
section LC4
variable {G : om_G} {io : Nat → Nat} {M : MPg} {cd cs : Nat → Et → Nat → Nat → Nat → Prop} {h0 : om_H} {m mx : Nat}
theorem vC_ne0 {h : om_H} {v : Vt} {x : Int} {T : Ty} (H : vC G io M cd h m v true x) (hv : vT M v (.inl T)) : x ≠ 0 := by
  cases v with
  | leaf => exact H.elim
  | inner t a u l r =>
    rcases H with ⟨e, f⟩ | ⟨e, f⟩ | ⟨e, f⟩ | ⟨k, _, f, _⟩
    · omega
    · have b : a.1 = 0 ∨ a.1 = 1 := by
        rcases hv with h | h | h | h | h | h | h
        · exact absurd h.1 (by omega)
        · exact h.2.2
        all_goals exact absurd h.1 (by omega)
      omega
    · have b : 0 ≤ a.1 := by
        rcases hv with h | h | h | h | h | h | h
        · exact absurd h.1 (by omega)
        · exact absurd h.1 (by omega)
        · obtain ⟨_, k, _, _, h1, h2, _⟩ := h
          omega
        all_goals exact absurd h.1 (by omega)
      omega
    · omega
set_option maxHeartbeats 2000000 in
/-- A THING COMES BACK -/
theorem c_comes (hG : om_okG G) (wO : waitO G) (hI : intO G) (i0 : MC G h0 m) (pp : cdP G h0 m cd cs) : ∀ (ls : List Fr) (v : Vt) (x : Int) (T : Ty) (h : om_H) (c : Nat), mMc G io M cd h0 m h ls c mx → vC G io M cd h m v true x → fTy M ls T → vT M v (.inl T) → mRc G io M cd cs h0 m h (C_10_comes G m x h) (pcm ls v c mx)
  | [], v, x, T, h, c, H, hx, _, _ => by
    refine .inl ⟨rfl, x, h, ?_, H, hx, kZ_refl⟩
    have st : C_10_comes_5s G m (x, 1, h) = some (.inr (.inl (x, h))) := by
      unfold C_10_comes_5s
      rw [if_neg (show ¬ (1 : Int) = 0 by decide)]
      show gd (kd h m = 11) (if fI h 280 m ≠ 1 then _ else gd (kd h m = 11) (if fI h 272 m ≠ 0 then _ else _)) = _
      rw [gd_pos H.2.1.1.1, H.2.2.2.2.2.1, if_neg (fun z => z rfl), gd_pos H.2.1.1.1, H.2.2.2.1.1, if_neg (fun z => z rfl)]
    unfold C_10_comes
    rw [om_loop_out st]
    show gd (kd h m = 11) ((C_10_show G m (sI (sI h 309 m x) 280 m 2)).bind fun p2 => some p2) = _
    rw [gd_pos H.2.1.1.1]
    exact bind_sm _
  | f :: ls, v, x, T, h, c, H, hx, hT, hv => by
    have sh := pcm_sh hT hv
    have hm : ls.length + 1 ≤ mx := H.2.2.2.1.2.2
    obtain ⟨hp, st, mm, gp, kp, e90, he, hr, ⟨lv, e60, hc, hz0⟩, kth, nl, kf⟩ := c_popM wO H x
    have P : Pop G io M cd cs h0 m hp ls c mx f (fO hp m ls.length) lv := ⟨i0, pp, mm, nl, hm, rfl, kf, e90, he, hr, e60, hz0, hc⟩
    have hx' := vC_gr gp hx
    have o80 : fI hp 280 m = 1 := mm.2.2.2.2.2.1
    unfold pcm
    rcases sh with ⟨h1, h2⟩ | ⟨h1, h2, h3, h4⟩ | ⟨h1, h2, h3⟩ | ⟨h1, h2, ⟨h3, h3a, h3b⟩, ⟨h4, h4a, h4b⟩, T', h5, h6⟩ | ⟨h1, h2⟩
    · rcases h1 with q | q | q
      · have eo : ((ordK f.1 : Nat) : Int) = 0 := by rw [q]; rfl
        rw [eo] at st
        obtain ⟨h', a1, a2, a3⟩ := c87_12 P (by omega) hx'
        rw [if_pos q]
        exact ⟨h', c_done (st.trans a1), a2, kZ_trans kp a3⟩
      · have eo : ((ordK f.1 : Nat) : Int) = 5 := by rw [q]; rfl
        rw [eo] at st
        obtain ⟨h', a1, a2, a3⟩ := c87_18 P (by omega) hx'
        rw [if_neg (by omega), if_pos q]
        exact ⟨h', c_done (st.trans a1), a2, kZ_trans kp a3⟩
      · have eo : ((ordK f.1 : Nat) : Int) = 2 := by rw [q]; rfl
        rw [eo] at st
        obtain ⟨a1, a2⟩ := c87_15 P q (by omega) hx'
        rw [if_neg (by omega), if_neg (by omega), if_pos q]
        by_cases h4 : c < 4000
        · obtain ⟨h', b1, b2, b3⟩ := a1 h4
          rw [if_pos h4]
          exact ⟨h', c_done (st.trans b1), b2, kZ_trans kp b3⟩
        · rw [if_neg h4]
          exact c_mkF mm h4 kp (c_done (st.trans (a2 h4)))
    · have eo : ((ordK f.1 : Nat) : Int) = 3 := by rw [h1]; rfl
      rw [eo] at st
      obtain ⟨h', a1, a2, a3⟩ := c87_16 P h1 h2 hx' h3 h4
      rw [if_neg (by omega), if_neg (by omega), if_neg (by omega), if_pos h1]
      exact ⟨h', c_done (st.trans a1), a2, kZ_trans kp a3⟩
    · have eo : ((ordK f.1 : Nat) : Int) = 4 := by rw [h1]; rfl
      rw [eo] at st
      rw [if_neg (by omega), if_neg (by omega), if_neg (by omega), if_neg (by omega), if_pos h1]
      rcases h3 with ⟨h3, h4⟩ | h3
      · obtain ⟨h', a1, a2, a3⟩ := c87_17n P h1 h2 hx' h3 h4
        rw [if_pos h3]
        exact ⟨h', c_done (st.trans a1), a2, kZ_trans kp a3⟩
      · obtain ⟨a1, a2⟩ := c87_17c P h1 h2 hx' h3
        rw [if_neg (by omega)]
        by_cases h4 : c + 1 < 4000
        · obtain ⟨h', b1, b2, b3⟩ := a1 h4
          rw [if_pos h4]
          exact ⟨h', c_done (st.trans b1), b2, kZ_trans kp b3⟩
        · obtain ⟨h', b1, b2, b3⟩ := a2 h4
          rw [if_neg h4]
          exact c_mkF b2 (by decide) (kZ_trans kp b3) (c_done (st.trans b1))
    · have eo : ((ordK f.1 : Nat) : Int) = 6 := by rw [h1]; rfl
      rw [eo] at st
      obtain ⟨y, a1, a2⟩ := c87_118 hI P h2 hx' h3 ⟨h3a, h3b⟩ (w := f.2.2.2.2) (kth (by omega)) h4 ⟨h4a, h4b⟩
      rw [if_neg (by omega), if_neg (by omega), if_neg (by omega), if_neg (by omega), if_neg (by omega), if_pos h1, c_again (st.trans a1)]
      exact mRc_tr kp (c_comes hG wO hI i0 pp ls _ y T' hp c mm a2 h5 h6)
    · have eo : ((ordK f.1 : Nat) : Int) = 1 := by rw [h1]; rfl
      rw [eo] at st
      have hw := kth (by omega)
      rw [if_neg (by omega), if_neg (by omega), if_neg (by omega), if_neg (by omega), if_neg (by omega), if_neg (by omega)]
      have fullC : ∀ {g : om_H}, mMc G io M cd h0 m g ls c mx → kZ m h g → ¬ c < 4000 → C_10_apply G m (fI hp 369 (fO hp m ls.length)) x hp = some (0, sI g 280 m 4) → mRc G io M cd cs h0 m h (C_10_comes G m x h) (.inr (4, .leaf, 4000, mx)) := fun {g} mg kg h4 e => by
        have a1 := c87_112 P e mg.2.1.1.1
        rw [if_pos (by show ¬ fI (sI g 280 m 4) 280 m = 1; rw [fI_eq]; decide)] at a1
        exact c_mkF mg h4 kg (c_done (st.trans a1))
      have goOn : ∀ {g : om_H} {y : Int} {u : Vt} {c1 : Nat} {T' : Ty}, mMc G io M cd h0 m g ls c1 mx → kZ m h g → C_10_apply G m (fI hp 369 (fO hp m ls.length)) x hp = some (y, g) → vC G io M cd g m u true y → fTy M ls T' → vT M u (.inl T') → mRc G io M cd cs h0 m h (C_10_comes G m x h) (pcm ls u c1 mx) := fun {g y u c1 T'} mg kg e hy h5 h6 => by
        have a1 := c87_112 P e mg.2.1.1.1
        have ne := vC_ne0 hy h6
        rw [if_neg (by show ¬ fI g 280 m ≠ 1; rw [mg.2.2.2.2.2.1]; exact fun z => z rfl), if_neg (show ¬ y = 0 from ne)] at a1
        rw [c_again (st.trans a1)]
        exact mRc_tr kg (c_comes hG wO hI i0 pp ls u y T' g c1 mg hy h5 h6)
      rcases h2 with ⟨w7, w14⟩ | ⟨w6, wn, T', h5, h6⟩ | ⟨w3, wn, v5, T', h5, h6⟩ | ⟨w3, wn, v5, T', h5, h6⟩ | ⟨w3, wn, T', h5, h6⟩
      · obtain ⟨a1, a2⟩ := ca_7 hG P hx' hw w7 w14
        rw [if_pos w7]
        by_cases h4 : c < 4000
        · obtain ⟨h', b1, b2, b3⟩ := a1 h4
          have d1 := c87_112 P b1 b2.1.2.1.1.1
          rw [if_neg (by show ¬ fI h' 280 m ≠ 1; rw [b2.1.2.2.2.2.2.1]; exact fun z => z rfl), if_pos rfl] at d1
          rw [if_pos h4]
          exact ⟨h', c_done (st.trans d1), b2, kZ_trans kp b3⟩
        · obtain ⟨h', b1, b2, b3⟩ := a2 h4
          rw [if_neg h4]
          exact fullC b2 (kZ_trans kp b3) h4 b1
      · obtain ⟨a1, a2⟩ := ca_6 hG P hx' hw w6 wn
        rw [if_neg (by omega), if_pos w6]
        by_cases h4 : c < 4000
        · obtain ⟨h', b1, b2, b3⟩ := a1 h4
          rw [if_pos h4]
          exact goOn (mMc_C mm b2 (by decide)) (kZ_trans kp (kZ_C b2 (by decide))) b1 b3 h5 h6
        · rw [if_neg h4]
          exact fullC mm kp h4 (a2 h4)
      · obtain ⟨_, a2, _⟩ := ca_3 P hx' hw w3
        obtain ⟨y, b1, b2⟩ := a2 v5 wn
        rw [if_neg (by omega), if_neg (by omega), if_pos wn]
        exact goOn mm kp b1 b2 h5 h6
      · obtain ⟨_, _, a2⟩ := ca_3 P hx' hw w3
        obtain ⟨y, b1, b2⟩ := a2 v5 wn
        rw [if_neg (by omega), if_neg (by omega), if_neg (by omega), if_pos wn]
        exact goOn mm kp b1 b2 h5 h6
      · obtain ⟨a1, _⟩ := ca_3 P hx' hw w3
        obtain ⟨a1, a2⟩ := a1 wn
        rw [if_neg (by omega), if_neg (by omega), if_neg (by omega), if_neg (by omega)]
        by_cases h4 : c < 4000
        · obtain ⟨h', b1, b2, b3⟩ := a1 h4
          rw [if_pos h4]
          exact goOn (mMc_C mm b2 (by decide)) (kZ_trans kp (kZ_C b2 (by decide))) b1 b3 h5 h6
        · rw [if_neg h4]
          exact fullC mm kp h4 (a2 h4)
end LC4
