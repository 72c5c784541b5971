set_option maxRecDepth 100000
/-! statics of the JDK's that are read -/
section OM43
variable {G : om_G}
theorem om_kz_high (hG : om_okG G) (s : State) (hs : om_K G s) : va_Z "java/lang/Integer$IntegerCache" "high" "I" (om_tv G (vI 127)) (om_Aa G) s (om_H0 G) := (hG.1 s hs).2.2.2.2.1.1
theorem om_kz_cache (hG : om_okG G) (s : State) (hs : om_K G s) : va_Z "java/lang/Integer$IntegerCache" "cache" "[Ljava/lang/Integer;" (om_tv G (vR (om_cA G 602))) (om_Aa G) s (om_H0 G) := by
  rw [show om_tv G (vR (om_cA G 602)) = .ref (om_ca G 602) from om_rv_ne (om_cA_0 hG (by omega))]
  exact (hG.1 s hs).2.2.2.2.1.2.1
theorem om_kz_comp (hG : om_okG G) (s : State) (hs : om_K G s) : va_Z "java/lang/String" "COMPACT_STRINGS" "Z" (om_tv G (vI 1)) (om_Aa G) s (om_H0 G) := (hG.1 s hs).2.2.2.2.2.2.1.1
end OM43
theorem fp_J1_7 : om_FP RJ1 7 1720 false [40] := om_FP1 ⟨_, 0, _, rfl, by decide, rfl, Or.inl q352, Or.inl rfl, rfl, fun h => by cases h⟩
