set_option maxRecDepth 100000
/-! EXS BECOME KNOWN ALIKE -/
section LXA
variable {G : om_G} {A : Nat} {S : List Int} {b m : Nat} {N : List (List Int)} {cs : List Nat} {K : KT} {pr Ln : Nat} {Ls : List (List Int)} {sc : List Nat} {tb : Nat} {rest : List (Nat × List Nat)} {fo : List Nat} {F : FT} {mo : List (List Nat)} {Ms : List FT} {rs so Lb z0 : Nat}
/-- AN EX BECOMES KNOWN ALIKE -/
theorem exs_rel : ∀ k, EA G A S b m N cs K pr Ln Ls sc tb rest fo F mo Ms rs so Lb z0 k
  | 0 => fun kT kC _ _ lo hi alo ahi a v h us fs σ n bLs bd sp _ _ _ W _ _ _ => W.elim
  | k + 1 => by
    have IH := exs_rel k
    intro kT kC hT hC lo hi alo ahi a v h us fs σ n bLs bd sp H HU B W R Z hl
    obtain ⟨kC', eC⟩ : ∃ kC', kC = kC' + 1 := ⟨kC - 1, by omega⟩
    subst eC
    show EKp G A S b m N cs K pr Ln Ls sc tb rest fo F mo Ms rs so Lb z0 kT (k + 1) lo hi alo ahi a v h us fs σ n bLs bd sp (C_35_exB G (C_35_exD G kC') rs a h)
    obtain ⟨i1, i2, i3, i4, w⟩ := W
    rcases w with w | w | w | w | w | w | w | w
    · exact case11 H HU R i1 i2 i3 i4 w
    · exact case10 H HU B R i1 i2 i3 i4 w
    · exact case14 IH (by omega) (by omega) H HU B R Z hl i1 i2 i3 i4 w
    · exact case15 IH (by omega) (by omega) H HU B R Z hl i1 i2 i3 i4 w
    · exact case16 IH (by omega) (by omega) H HU B R Z hl i1 i2 i3 i4 w
    · exact case17 IH (by omega) (by omega) H HU B R Z hl i1 i2 i3 i4 w
    · exact case30 IH (by omega) (by omega) H HU B R Z hl i1 i2 i3 i4 w
    · exact case32 IH (by omega) (by omega) H HU B R Z hl i1 i2 i3 i4 w
end LXA
