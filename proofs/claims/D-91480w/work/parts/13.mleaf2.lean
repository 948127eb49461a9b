set_option maxRecDepth 100000
theorem w_isRow_0 {d : Nat} {Q : am_K} {b : am_H} {r : Nat} {S : am_G} {V : Nat → Int → Int} {W : Nat → Int} {x1 : Int} {x2 : Int} (H : ((-2147483648 ≤ (S 0 0 7) - 1 ∧ (S 0 0 7) - 1 ≤ 2147483647)) ∧ ((¬ (0 ≤ x1 ∧ x1 ≤ (S 0 0 7) - 1) → Q (.inl (some (.inl 0))) (mo b r (ms S) V W)) ∧ (0 ≤ x1 ∧ x1 ≤ (S 0 0 7) - 1 → Q (.inl (some (.inl (am_b (0 ≤ x2 ∧ x2 ≤ 3))))) (mo b r (ms S) V W)))) : am_W m_X5_isRow (am_ev am_prog (d + 1)) Q 0 [some (.inr (.inl r)), some (.inl x1), some (.inl x2)] [] (mo b r (ms S) V W) := by
  obtain ⟨a1, H⟩ := H
  refine r_X5_isRow_0 ?_
  simp only [mo_ty, mo_f39, mo_t1, mo_n1, mo_a1, ms_r0 (k := 7) (p := 0) (i := 7) (by omega) (by omega) (by omega), true_or, or_true, true_and]
  refine ⟨(by omega), a1, ?_⟩
  refine c_isIn (am_av ?_)
  refine r_X5_isRow_9 ?_
  refine ⟨fun c => ?_, fun c => ?_⟩
  · replace c := am_b0 c
    replace H := H.1 c
    refine r_X5_isRow_17 ?_
    refine r_X5_isRow_18 ?_
    exact ⟨(by decide), H⟩
  · replace c := am_b1 c
    replace H := H.2 c
    refine r_X5_isRow_10 ?_
    refine ?_
    refine c_isIn (am_av ?_)
    have J : ∀ y : Int, y = am_b (0 ≤ x2 ∧ x2 ≤ 3) → am_W m_X5_isRow (am_ev am_prog (d + 1)) Q 18 [some (.inr (.inl r)), some (.inl x1), some (.inl x2)] [.inl y] (mo b r (ms S) V W) := by
      intro y hy
      subst hy
      refine r_X5_isRow_18 ?_
      exact ⟨(am_bz _), H⟩
    refine r_X5_isRow_14 ?_
    refine ⟨fun c => ?_, fun c => ?_⟩
    · replace c := am_b0 c
      exact r_X5_isRow_17 (J _ (am_bf (by omega)).symm)
    · replace c := am_b1 c
      exact r_X5_isRow_15 (J _ (am_bt c).symm)
theorem w_isEdition_0 {d : Nat} {Q : am_K} {b : am_H} {r : Nat} {S : am_G} {V : Nat → Int → Int} {W : Nat → Int} {x1 : Int} (H : ((-2147483648 ≤ (S 0 0 6) - 1 ∧ (S 0 0 6) - 1 ≤ 2147483647)) ∧ (Q (.inl (some (.inl (am_b ((-1) ≤ x1 ∧ x1 ≤ (S 0 0 6) - 1))))) (mo b r (ms S) V W))) : am_W m_X5_isEdition (am_ev am_prog (d + 1)) Q 0 [some (.inr (.inl r)), some (.inl x1)] [] (mo b r (ms S) V W) := by
  obtain ⟨a2, H⟩ := H
  refine r_X5_isEdition_0 ?_
  simp only [mo_ty, mo_f39, mo_t1, mo_n1, mo_a1, ms_r0 (k := 6) (p := 0) (i := 6) (by omega) (by omega) (by omega), true_or, or_true, true_and]
  refine ⟨(by omega), a2, ?_⟩
  refine c_isIn (am_av ?_)
  refine r_X5_isEdition_9 ?_
  exact ⟨(am_bz _), H⟩
theorem w_isLast_0 {d : Nat} {Q : am_K} {b : am_H} {r : Nat} {S : am_G} {V : Nat → Int → Int} {W : Nat → Int} {x1 : Int} {x2 : Int} (H : ((0 ≤ x1 ∧ x1 < 3000000)) ∧ (((-2147483648 ≤ (130 + 645 * x1) + 1 ∧ (130 + 645 * x1) + 1 ≤ 2147483647) ∧ (0 ≤ x1 ∧ x1 < 100) ∧ (-2147483648 ≤ (S 3 x1 1) - 1 ∧ (S 3 x1 1) - 1 ≤ 2147483647)) ∧ (Q (.inl (some (.inl (am_b (x2 = (S 3 x1 1) - 1))))) (mo b r (ms S) V W)))) : am_W m_X5_isLast (am_ev am_prog (d + 1)) Q 0 [some (.inr (.inl r)), some (.inl x1), some (.inl x2)] [] (mo b r (ms S) V W) := by
  refine r_X5_isLast_0 ?_
  simp only [mo_ty, mo_f39, true_or, or_true, true_and]
  refine ?_
  obtain ⟨a3, H⟩ := H
  refine c_part0 (by omega) (am_av ?_)
  obtain ⟨⟨a4, a5, a6⟩, H⟩ := H
  have J : ∀ y : Int, y = am_b (x2 = (S 3 x1 1) - 1) → am_W m_X5_isLast (am_ev am_prog (d + 1)) Q 14 [some (.inr (.inl r)), some (.inl x1), some (.inl x2)] [.inl y] (mo b r (ms S) V W) := by
    intro y hy
    subst hy
    refine r_X5_isLast_14 ?_
    exact ⟨(am_bz _), H⟩
  refine r_X5_isLast_5 ?_
  simp only [mo_t1, mo_n1, mo_a1, ms_r3 (k := (130 + 645 * x1) + 1) (p := x1) (i := 1) (by omega) (by omega) (by omega), true_or, or_true, true_and]
  refine ⟨a4, (by omega), a6, ⟨fun c => ?_, fun c => ?_⟩⟩
  · exact r_X5_isLast_13 (J _ (am_bf (by omega)).symm)
  · exact r_X5_isLast_11 (J _ (am_bt c).symm)
