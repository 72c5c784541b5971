set_option maxRecDepth 100000
/-! WHAT COMES OF RESOLVE WITHOUT A BREAK, out of resolve_all -/
section LRO
variable {G : om_G} {A : Nat} {S : List Int} {b m : Nat} {N : List (List Int)} {pr tb : Nat} {hr : om_H} {fl : List Nat} {σr : tS} {n : Nat}
theorem RA_of {t : Nat} {Z : Nat → Prop} {σ0 : tS} {h0 : om_H} {HZ HU j M : Nat} {qs : List dcl} (hm : m ≤ 1300) (H : At G A t N S b m j 0 M σr hr) (B : PB G A t S b m Z pr σ0 h0 HZ HU j M σr hr qs) (h00 : 0 < hz h0) (nd : ndN N) (P0 : PT1 S N b m σr ([], [], [], [], [], 0)) (Ty : ∀ K, TyK K σr n) (hn : n + 3 * M ≤ 126000) (T0 : ∀ cl, TB G hr N cl tb [] fl []) (hfl : fl.length ≤ 149990) (e78 : fR hr 78 pr = tb) (dD : ∀ y, DT hr tb fl y → y < hz h0) (hpr : pr < hz h0) (hZ : ∀ a, Z a → a < hz h0) (hL : ∀ f ∈ PFs, fR hr f pr ≠ fR hr 122 tb) :

    ∃ (ps : List PD) (rs : List (Nat × Nat × Nat × Nat)) (h' : om_H) (ul' fl' : List Nat) (y1 y2 y3 τ' : tS) (n' : Nat),
      (ps.length = qs.length ∧ qs.length ≤ 650 ∧ prR G A S b hr σr M (hz hr) 0 qs rs (fun _ => []) 0 (hz h0) ∧ prC A S hr qs ps (fun _ => []) (hz h0) (hz hr) ∧ ∀ (i : Nat) (p : PD), ps[i]? = some p → dTw S b m σr i p) ∧
      C_1_resolve G pr hr = some h' ∧
      (om_loop T_isProgram_159s (0, σr) = some y1 ∧ om_loop T_isProgram_195s (0, us (us (us y1 788 0) 856 0) 812 0) = some y2 ∧ om_loop T_isProgram_216s (0, y2) = some y3 ∧ om_loop T_isProgram_237s (0, y3) = some τ') ∧
      (RX G A S N (prgL hr qs (fun _ => []) 82) (pss S ps).1 pr tb [] (prgL hr qs (fun _ => []) 90) (pss S ps).2.1 ((prgL hr qs (fun _ => []) 82).map (fun c => ll hr (fR hr 1230 c))) (pss S ps).2.2.1 h' ul' fl' ∧
        hs (hz h0) (hz hr) hr h' ∧ (∀ y, y < hz h0 → ¬ DT hr tb fl y → y ≠ pr → eqA y hr h') ∧ (hz hr ≤ hz h' ∧ ∀ y, y < hz hr → kd h' y = kd hr y) ∧ ((∀ f, f ≠ 112 → fI h' f pr = fI hr f pr) ∧ ∀ f, fR h' f pr = fR hr f pr) ∧ ((∀ f, f ≠ 124 → fI h' f tb = fI hr f tb) ∧ ∀ f, fR h' f tb = fR hr f tb) ∧ CPl tb hr [] fl h' ul' fl' (16 * M) (600 * M) ∧ ul'.length ≤ 3 * M + 3 * qs.length ∧ (dj h' tb fl' pr (hz h0) (hz hr) ∧ ∀ y ∈ fl', y ∈ fl ∨ hz h0 ≤ y) ∧ ∀ y, ink 5 y qs rs → an h' y = an hr y ∧ ∀ k, aR h' y k = aR hr y k) ∧
      (TU S b m N (pss S ps).1 (pss S ps).2.1 (pss S ps).2.2.1 τ' n' ∧ n' ≤ n + 3 * M ∧ tx σr n τ' n' ∧ fr RFS RFA σr τ' ∧ (∀ g ∈ PA, g ≠ 550 → ∀ i, ga τ' g i = ga σr g i) ∧ rwT S N τ' 0 ps ([], [], [], [], [], 0) ∧ PT1 S N b m y1 (pss S ps) ∧ gs τ' 644 = gs y1 644 ∧ gs τ' 648 = gs y1 648 ∧ gs τ' 652 = gs y1 652 ∧ gs τ' 812 = 0 ∧ TM τ' N (pss S ps).2.1 (pss S ps).2.2.1) ∧
      (fI h' 112 pr = bp τ' ∧ (bp τ' = 2147483647 ∨ bp τ' ≤ 2000)) ∧
      (bp τ' = 2147483647 → RA G A S b m N pr tb (hz h0) (prgL hr qs (fun _ => []) 82) (prgL hr qs (fun _ => []) 90) ((prgL hr qs (fun _ => []) 82).map (fun c => ll hr (fR hr 1230 c))) (pss S ps).1 (pss S ps).2.1 (pss S ps).2.2.1 hr σr M qs ps rs h' ul' fl' τ' n') := by
  obtain ⟨ps, rs, h', ul', fl', y1, y2, y3, τ', n', ⟨a1, a2, a3, a4, a5⟩, b1, b2, ⟨c1, c2, c3, ⟨c4, c4'⟩, c5, c6, c7, c8, c9, c10⟩, ⟨d1, d2, d3, d4, d5, d6, d7, d8, d9, d10, d11, d12⟩, e1, e2⟩ := resolve_all hm H B h00 nd P0 Ty hn T0 hfl e78 dD hpr hZ hL
  refine ⟨ps, rs, h', ul', fl', y1, y2, y3, τ', n', ⟨a1, a2, a3, a4, a5⟩, b1, b2, ⟨c1, c2, c3, ⟨c4, c4'⟩, c5, c6, c7, c8, c9, c10⟩, ⟨d1, d2, d3, d4, d5, d6, d7, d8, d9, d10, d11, d12⟩, e1, fun mx => ?_⟩
  obtain ⟨f1, f2, f3, f4⟩ := e2 mx
  obtain ⟨B1, B2, B3, B4, B5, B6, B7, B8, B9⟩ := id B
  have hA : A < hz hr := by rw [← H.2.2]; exact H.2.1.2.2.2
  obtain ⟨ps', lps, lqs, Dt, PC0, CB⟩ := CB_of hm H B hA h00
  have X : txC hr A S := CB.1.1
  have hS : S.length ≤ 2000 := X.2.2.1
  have hM : M ≤ 2700 := by have := B4.2.2; omega
  refine ⟨⟨X, hA, h00, hM, hm, mx, hS, fun k hk => ?_, by rw [d8]; exact d7.2.2.1, by rw [d9]; exact d7.2.2.2.1, by rw [d10]; exact d7.2.2.2.2.2.1, hpr⟩, ⟨a3, a4, a1, ⟨a2, B6.2.1⟩, a5⟩, ⟨rfl, rfl, rfl, rfl, rfl, rfl⟩, c1, ⟨c2, c4, c10⟩, ⟨d1, d6, d12, d5, d4⟩, f1, f2, f3, f4⟩
  have hk' : k ∈ PFs := by
    simp only [List.mem_cons, List.not_mem_nil, or_false] at hk ⊢
    omega
  have cb := CB.2.2.1 k hk'
  have lt : fR hr k pr < hz h0 := hZ _ (B3.2.1 k hk').2
  have ek : fR h' k pr = fR hr k pr := c5.2 k
  have eq := c3 (fR hr k pr) lt (nDT (T0 (clF [])) ⟨by rw [cb.2.1]; decide, by rw [cb.2.1]; decide, by rw [cb.2.1]; decide⟩ (hL k hk')) (fun z => by
    have kp := c1.1.2.2.1.1.1
    have : kd hr pr = 2 := by rw [← c4' pr (by omega)]; exact kp
    rw [z, this] at cb
    exact absurd cb.2.1 (by decide))
  rw [ek]
  exact ⟨by rw [eq.1]; exact cb.2.1, by omega, by rw [eq.2.2.2.2.2.2.1]; exact cb.2.2.1⟩
end LRO
