set_option maxRecDepth 100000
/-! the component: lines of a part from one on are others -/
theorem bgE_e {u : Int → Int} {l : Int} (hl : 0 ≤ l) : bgE (fun l => u (5 + l)) l = bg u l := by
  unfold bgE bg
  by_cases c : l = 0
  · rw [if_pos c, if_pos c]
  · rw [if_neg c, if_neg c]
    show u (5 + (l - 1)) + 1 = u (4 + l) + 1
    have e1 : 5 + (l - 1) = 4 + l := by omega
    rw [e1]
/-- a slug: where it lies is another -/
theorem rSg_3 {h h' : am_H} {L : am_Lb} {N g : Nat} {S S' : am_G} {s : Int} (ok : okLb h L) (n0 : N ≠ 0) (x : rSg h L N S s g) (a : fx (fun q => q = g) h h') (fr : ∀ f, am_fr h' f g = am_fr h f g) (fi : ∀ f, f ≠ 161 → f ≠ 162 → f ≠ 163 → am_fi h' f g = am_fi h f g) (e2 : S' 2 = S 2) (e4 : ∀ o, o ≠ 4 → o ≠ 5 → o ≠ 6 → S' 4 s o = S 4 s o) (v1 : am_fi h' 161 g = S' 4 s 6) (v2 : am_fi h' 162 g = S' 4 s 5) (v3 : am_fi h' 163 g = S' 4 s 4) : rSg h' L N S' s g := by
  obtain ⟨x1, x2, x3, x4, x5, x6, x7, x8, x9, x10, x11, x12⟩ := x
  have w := a.2.2.2 g x1.2.1
  have im : ∀ q, q ≤ am_sz h → q = g → (L q).1 ≠ 0 ∧ ¬ imT (am_ty h q) := fun q hq e => by
    rw [e, x1.2.2.2]
    refine ⟨n0, ?_⟩
    rw [x1.1]
    unfold imT
    split <;> omega
  have y7 := iSc_fx a leL_refl im x7
  have y11 := iSc_fx a leL_refl im x11
  unfold rSg
  rw [fr, fr, fi 155 (by decide) (by decide) (by decide), fi 156 (by decide) (by decide) (by decide), fi 157 (by decide) (by decide) (by decide), fi 158 (by decide) (by decide) (by decide), fi 159 (by decide) (by decide) (by decide), fi 165 (by decide) (by decide) (by decide), v1, v2, v3, e2, e4 7 (by decide) (by decide) (by decide), e4 0 (by decide) (by decide) (by decide), e4 1 (by decide) (by decide) (by decide), e4 2 (by decide) (by decide) (by decide), e4 8 (by decide) (by decide) (by decide), e4 9 (by decide) (by decide) (by decide), e4 10 (by decide) (by decide) (by decide), e4 11 (by decide) (by decide) (by decide)]
  refine ⟨⟨w.1.trans x1.1, Nat.le_trans x1.2.1 a.1, x1.2.2⟩, x2, x3, x4, x5, x6, ⟨xSc_e y7.1 rfl (fun i i0 i1 => ?_), y7.2⟩, rfl, rfl, rfl, ⟨xSc_e y11.1 rfl (fun i i0 i1 => ?_), y11.2⟩, x12⟩
  · exact (e4 (12 + i) (by omega) (by omega) (by omega)).symm
  · exact (e4 (432 + i) (by omega) (by omega) (by omega)).symm
