set_option maxRecDepth 100000
theorem w_slug0_0 {E : am_E} {Q : am_K} {b : am_H} {r : Nat} {S : am_G} {V : Nat → Int → Int} {W : Nat → Int} {x0 : Int} (H : ((-2147483648 ≤ 852 * x0 ∧ 852 * x0 ≤ 2147483647) ∧ (-2147483648 ≤ 64630 + (852 * x0) ∧ 64630 + (852 * x0) ≤ 2147483647)) ∧ (Q (.inl (some (.inl (64630 + (852 * x0))))) (mo b r (ms S) V W))) : am_W m_X5_slug0 E Q 0 [some (.inl x0)] [] (mo b r (ms S) V W) := by
  obtain ⟨⟨a1, a2⟩, H⟩ := H
  refine r_X5_slug0_0 ?_
  exact ⟨a1, a2, H⟩
theorem w_isPart_0 {E : am_E} {Q : am_K} {b : am_H} {r : Nat} {S : am_G} {V : Nat → Int → Int} {W : Nat → Int} {x1 : Int} (H : (x1 < 0 → Q (.inl (some (.inl 0))) (mo b r (ms S) V W)) ∧ (0 ≤ x1 → ((0 ≤ x1 ∧ x1 ≤ 2147483647)) ∧ ((S 0 0 1 ≤ x1 / 5 → Q (.inl (some (.inl 0))) (mo b r (ms S) V W)) ∧ (x1 / 5 < S 0 0 1 → ((0 ≤ x1 ∧ x1 ≤ 2147483647) ∧ (-2147483648 ≤ 110 + (x1 / 5) ∧ 110 + (x1 / 5) ≤ 2147483647) ∧ (0 ≤ (x1 / 5) ∧ (x1 / 5) < 20)) ∧ (Q (.inl (some (.inl (am_b (x1 % 5 < S 2 2 (x1 / 5)))))) (mo b r (ms S) V W)))))) : am_W m_X5_isPart E Q 0 [some (.inr (.inl r)), some (.inl x1)] [] (mo b r (ms S) V W) := by
  refine r_X5_isPart_0 ?_
  refine ⟨fun c => ?_, fun c => ?_⟩
  · replace H := H.1 c
    refine r_X5_isPart_24 ?_
    refine r_X5_isPart_25 ?_
    exact ⟨(by decide), H⟩
  · replace H := H.2 c
    obtain ⟨a3, H⟩ := H
    refine r_X5_isPart_2 ?_
    simp only [am_td (x := x1) (y := 5) (by omega), am_tm (x := x1) (y := 5) (by omega), mo_ty, mo_f39, mo_t1, mo_n1, mo_a1, ms_r0 (k := 1) (p := 0) (i := 1) (by omega) (by omega) (by omega), true_or, or_true, true_and]
    refine ⟨⟨by decide, am_dk (by omega) (by omega)⟩, (by omega), ⟨fun c => ?_, fun c => ?_⟩⟩
    · replace H := H.1 c
      refine r_X5_isPart_24 ?_
      refine r_X5_isPart_25 ?_
      exact ⟨(by decide), H⟩
    · replace H := H.2 c
      obtain ⟨⟨a4, a5, a6⟩, H⟩ := H
      have J : ∀ y : Int, y = am_b (x1 % 5 < S 2 2 (x1 / 5)) → am_W m_X5_isPart E Q 25 [some (.inr (.inl r)), some (.inl x1)] [.inl y] (mo b r (ms S) V W) := by
        intro y hy
        subst hy
        refine r_X5_isPart_25 ?_
        exact ⟨(am_bz _), H⟩
      refine r_X5_isPart_10 ?_
      simp only [am_td (x := x1) (y := 5) (by omega), am_tm (x := x1) (y := 5) (by omega), mo_ty, mo_f39, mo_t1, mo_n1, mo_a1, ms_r2 (k := 110 + (x1 / 5)) (p := 2) (i := (x1 / 5)) (by omega) (by omega) (by omega), true_or, or_true, true_and]
      refine ⟨⟨by decide, am_dk (by omega) (by omega)⟩, ⟨by decide, am_dk (by omega) (by omega)⟩, a5, (by omega), ⟨fun c => ?_, fun c => ?_⟩⟩
      · exact r_X5_isPart_24 (J _ (am_bf (by omega)).symm)
      · exact r_X5_isPart_22 (J _ (am_bt c).symm)
theorem w_part0_0 {E : am_E} {Q : am_K} {b : am_H} {r : Nat} {S : am_G} {V : Nat → Int → Int} {W : Nat → Int} {x0 : Int} (H : ((-2147483648 ≤ 645 * x0 ∧ 645 * x0 ≤ 2147483647) ∧ (-2147483648 ≤ 130 + (645 * x0) ∧ 130 + (645 * x0) ≤ 2147483647)) ∧ (Q (.inl (some (.inl (130 + (645 * x0))))) (mo b r (ms S) V W))) : am_W m_X5_part0 E Q 0 [some (.inl x0)] [] (mo b r (ms S) V W) := by
  obtain ⟨⟨a7, a8⟩, H⟩ := H
  refine r_X5_part0_0 ?_
  exact ⟨a7, a8, H⟩
theorem w_many0_0 {E : am_E} {Q : am_K} {b : am_H} {r : Nat} {S : am_G} {V : Nat → Int → Int} {W : Nat → Int} {x1 : Int} {x2 : Int} (H : ((-2147483648 ≤ 6 * x2 ∧ 6 * x2 ≤ 2147483647) ∧ (-2147483648 ≤ (6 * x2) + x1 ∧ (6 * x2) + x1 ≤ 2147483647) ∧ (-2147483648 ≤ 181 * ((6 * x2) + x1) ∧ 181 * ((6 * x2) + x1) ≤ 2147483647) ∧ (-2147483648 ≤ 328492 + (181 * ((6 * x2) + x1)) ∧ 328492 + (181 * ((6 * x2) + x1)) ≤ 2147483647)) ∧ (Q (.inl (some (.inl (328492 + (181 * ((6 * x2) + x1)))))) (mo b r (ms S) V W))) : am_W m_X5_many0 E Q 0 [some (.inr (.inl r)), some (.inl x1), some (.inl x2)] [] (mo b r (ms S) V W) := by
  obtain ⟨⟨a9, a10, a11, a12⟩, H⟩ := H
  refine r_X5_many0_0 ?_
  exact ⟨a9, a10, a11, a12, H⟩
theorem w_isIn_0 {E : am_E} {Q : am_K} {b : am_H} {r : Nat} {S : am_G} {V : Nat → Int → Int} {W : Nat → Int} {x0 : Int} {x1 : Int} {x2 : Int} (H : (x0 < x1 → Q (.inl (some (.inl 0))) (mo b r (ms S) V W)) ∧ (x1 ≤ x0 → Q (.inl (some (.inl (am_b (x0 ≤ x2))))) (mo b r (ms S) V W))) : am_W m_X5_isIn E Q 0 [some (.inl x0), some (.inl x1), some (.inl x2)] [] (mo b r (ms S) V W) := by
  refine r_X5_isIn_0 ?_
  refine ⟨fun c => ?_, fun c => ?_⟩
  · replace H := H.1 c
    refine r_X5_isIn_8 ?_
    refine r_X5_isIn_9 ?_
    exact ⟨(by decide), H⟩
  · replace H := H.2 c
    have J : ∀ y : Int, y = am_b (x0 ≤ x2) → am_W m_X5_isIn E Q 9 [some (.inl x0), some (.inl x1), some (.inl x2)] [.inl y] (mo b r (ms S) V W) := by
      intro y hy
      subst hy
      refine r_X5_isIn_9 ?_
      exact ⟨(am_bz _), H⟩
    refine r_X5_isIn_3 ?_
    refine ⟨fun c => ?_, fun c => ?_⟩
    · exact r_X5_isIn_8 (J _ (am_bf (by omega)).symm)
    · exact r_X5_isIn_6 (J _ (am_bt c).symm)
theorem w_isSlug_0 {E : am_E} {Q : am_K} {b : am_H} {r : Nat} {S : am_G} {V : Nat → Int → Int} {W : Nat → Int} {x1 : Int} (H : (x1 < 0 → Q (.inl (some (.inl 0))) (mo b r (ms S) V W)) ∧ (0 ≤ x1 → Q (.inl (some (.inl (am_b (x1 < S 0 0 4))))) (mo b r (ms S) V W))) : am_W m_X5_isSlug E Q 0 [some (.inr (.inl r)), some (.inl x1)] [] (mo b r (ms S) V W) := by
  refine r_X5_isSlug_0 ?_
  refine ⟨fun c => ?_, fun c => ?_⟩
  · replace H := H.1 c
    refine r_X5_isSlug_10 ?_
    refine r_X5_isSlug_11 ?_
    exact ⟨(by decide), H⟩
  · replace H := H.2 c
    have J : ∀ y : Int, y = am_b (x1 < S 0 0 4) → am_W m_X5_isSlug E Q 11 [some (.inr (.inl r)), some (.inl x1)] [.inl y] (mo b r (ms S) V W) := by
      intro y hy
      subst hy
      refine r_X5_isSlug_11 ?_
      exact ⟨(am_bz _), H⟩
    refine r_X5_isSlug_2 ?_
    simp only [mo_ty, mo_f39, mo_t1, mo_n1, mo_a1, ms_r0 (k := 4) (p := 0) (i := 4) (by omega) (by omega) (by omega), true_or, or_true, true_and]
    refine ⟨(by omega), ⟨fun c => ?_, fun c => ?_⟩⟩
    · exact r_X5_isSlug_10 (J _ (am_bf (by omega)).symm)
    · exact r_X5_isSlug_8 (J _ (am_bt c).symm)
theorem w_isMachine_0 {E : am_E} {Q : am_K} {b : am_H} {r : Nat} {S : am_G} {V : Nat → Int → Int} {W : Nat → Int} {x1 : Int} (H : (x1 < 0 → Q (.inl (some (.inl 0))) (mo b r (ms S) V W)) ∧ (0 ≤ x1 → Q (.inl (some (.inl (am_b (x1 < S 0 0 3))))) (mo b r (ms S) V W))) : am_W m_X5_isMachine E Q 0 [some (.inr (.inl r)), some (.inl x1)] [] (mo b r (ms S) V W) := by
  refine r_X5_isMachine_0 ?_
  refine ⟨fun c => ?_, fun c => ?_⟩
  · replace H := H.1 c
    refine r_X5_isMachine_10 ?_
    refine r_X5_isMachine_11 ?_
    exact ⟨(by decide), H⟩
  · replace H := H.2 c
    have J : ∀ y : Int, y = am_b (x1 < S 0 0 3) → am_W m_X5_isMachine E Q 11 [some (.inr (.inl r)), some (.inl x1)] [.inl y] (mo b r (ms S) V W) := by
      intro y hy
      subst hy
      refine r_X5_isMachine_11 ?_
      exact ⟨(am_bz _), H⟩
    refine r_X5_isMachine_2 ?_
    simp only [mo_ty, mo_f39, mo_t1, mo_n1, mo_a1, ms_r0 (k := 3) (p := 0) (i := 3) (by omega) (by omega) (by omega), true_or, or_true, true_and]
    refine ⟨(by omega), ⟨fun c => ?_, fun c => ?_⟩⟩
    · exact r_X5_isMachine_10 (J _ (am_bf (by omega)).symm)
    · exact r_X5_isMachine_8 (J _ (am_bt c).symm)
theorem w_machine0_0 {E : am_E} {Q : am_K} {b : am_H} {r : Nat} {S : am_G} {V : Nat → Int → Int} {W : Nat → Int} {x0 : Int} (H : ((-2147483648 ≤ 183 * x0 ∧ 183 * x0 ≤ 2147483647) ∧ (-2147483648 ≤ 320230 + (183 * x0) ∧ 320230 + (183 * x0) ≤ 2147483647)) ∧ (Q (.inl (some (.inl (320230 + (183 * x0))))) (mo b r (ms S) V W))) : am_W m_X5_machine0 E Q 0 [some (.inl x0)] [] (mo b r (ms S) V W) := by
  obtain ⟨⟨a13, a14⟩, H⟩ := H
  refine r_X5_machine0_0 ?_
  exact ⟨a13, a14, H⟩
theorem w_isPage_0 {E : am_E} {Q : am_K} {b : am_H} {r : Nat} {S : am_G} {V : Nat → Int → Int} {W : Nat → Int} {x0 : Int} (H : (x0 < 0 → Q (.inl (some (.inl 0))) (mo b r (ms S) V W)) ∧ (0 ≤ x0 → Q (.inl (some (.inl (am_b (x0 < 6))))) (mo b r (ms S) V W))) : am_W m_X5_isPage E Q 0 [some (.inl x0)] [] (mo b r (ms S) V W) := by
  refine r_X5_isPage_0 ?_
  refine ⟨fun c => ?_, fun c => ?_⟩
  · replace H := H.1 c
    refine r_X5_isPage_7 ?_
    refine r_X5_isPage_8 ?_
    exact ⟨(by decide), H⟩
  · replace H := H.2 c
    have J : ∀ y : Int, y = am_b (x0 < 6) → am_W m_X5_isPage E Q 8 [some (.inl x0)] [.inl y] (mo b r (ms S) V W) := by
      intro y hy
      subst hy
      refine r_X5_isPage_8 ?_
      exact ⟨(am_bz _), H⟩
    refine r_X5_isPage_2 ?_
    refine ⟨fun c => ?_, fun c => ?_⟩
    · exact r_X5_isPage_7 (J _ (am_bf (by omega)).symm)
    · exact r_X5_isPage_5 (J _ (am_bt c).symm)
theorem w_begins_0 {E : am_E} {Q : am_K} {b : am_H} {r : Nat} {S : am_G} {V : Nat → Int → Int} {W : Nat → Int} {p1 : Int} {x2 : Int} (H : ((x2 : Int) ≠ 0 → ((-2147483648 ≤ (130 + 645 * p1) + 5 ∧ (130 + 645 * p1) + 5 ≤ 2147483647) ∧ (-2147483648 ≤ ((130 + 645 * p1) + 5) + x2 ∧ ((130 + 645 * p1) + 5) + x2 ≤ 2147483647) ∧ (-2147483648 ≤ (((130 + 645 * p1) + 5) + x2) - 1 ∧ (((130 + 645 * p1) + 5) + x2) - 1 ≤ 2147483647) ∧ (0 ≤ p1 ∧ p1 < 100) ∧ (0 ≤ 4 + x2 ∧ 4 + x2 < 645) ∧ (-2147483648 ≤ (S 3 p1 (4 + x2)) + 1 ∧ (S 3 p1 (4 + x2)) + 1 ≤ 2147483647)) ∧ (Q (.inl (some (.inl ((S 3 p1 (4 + x2)) + 1)))) (mo b r (ms S) V W))) ∧ ((x2 : Int) = 0 → Q (.inl (some (.inl 0))) (mo b r (ms S) V W))) : am_W m_X5_begins E Q 0 [some (.inr (.inl r)), some (.inl (130 + 645 * p1)), some (.inl x2)] [] (mo b r (ms S) V W) := by
  refine r_X5_begins_0 ?_
  refine ⟨fun c => ?_, fun c => ?_⟩
  · replace H := H.1 c
    obtain ⟨⟨a15, a16, a17, a18, a19, a20⟩, H⟩ := H
    refine r_X5_begins_4 ?_
    simp only [mo_ty, mo_f39, mo_t1, mo_n1, mo_a1, ms_r3 (k := (((130 + 645 * p1) + 5) + x2) - 1) (p := p1) (i := 4 + x2) (by omega) (by omega) (by omega), true_or, or_true, true_and]
    refine ⟨a15, a16, a17, (by omega), a20, ?_⟩
    refine r_X5_begins_16 ?_
    exact H
  · replace H := H.2 c
    refine r_X5_begins_2 ?_
    refine r_X5_begins_16 ?_
    exact H
theorem w_isLetter_0 {E : am_E} {Q : am_K} {b : am_H} {r : Nat} {S : am_G} {V : Nat → Int → Int} {W : Nat → Int} {x0 : Int} (H : (x0 < 97 → Q (.inl (some (.inl 0))) (mo b r (ms S) V W)) ∧ (97 ≤ x0 → Q (.inl (some (.inl (am_b (x0 ≤ 122))))) (mo b r (ms S) V W))) : am_W m_X5_isLetter E Q 0 [some (.inl x0)] [] (mo b r (ms S) V W) := by
  refine r_X5_isLetter_0 ?_
  refine ⟨fun c => ?_, fun c => ?_⟩
  · replace H := H.1 c
    refine r_X5_isLetter_8 ?_
    refine r_X5_isLetter_9 ?_
    exact ⟨(by decide), H⟩
  · replace H := H.2 c
    have J : ∀ y : Int, y = am_b (x0 ≤ 122) → am_W m_X5_isLetter E Q 9 [some (.inl x0)] [.inl y] (mo b r (ms S) V W) := by
      intro y hy
      subst hy
      refine r_X5_isLetter_9 ?_
      exact ⟨(am_bz _), H⟩
    refine r_X5_isLetter_3 ?_
    refine ⟨fun c => ?_, fun c => ?_⟩
    · exact r_X5_isLetter_8 (J _ (am_bf (by omega)).symm)
    · exact r_X5_isLetter_6 (J _ (am_bt c).symm)
theorem w_gapsOf_0 {E : am_E} {Q : am_K} {b : am_H} {r : Nat} {S : am_G} {V : Nat → Int → Int} {W : Nat → Int} {p1 : Int} {x2 : Int} {x3 : Int} (H : ((-2147483648 ≤ (130 + 645 * p1) + 85 ∧ (130 + 645 * p1) + 85 ≤ 2147483647) ∧ (-2147483648 ≤ ((130 + 645 * p1) + 85) + x3 ∧ ((130 + 645 * p1) + 85) + x3 ≤ 2147483647) ∧ (0 ≤ p1 ∧ p1 < 100) ∧ (0 ≤ 85 + x3 ∧ 85 + x3 < 645) ∧ (-2147483648 ≤ ((130 + 645 * p1) + 85) + x2 ∧ ((130 + 645 * p1) + 85) + x2 ≤ 2147483647) ∧ (0 ≤ 85 + x2 ∧ 85 + x2 < 645) ∧ (-2147483648 ≤ (S 3 p1 (85 + x3)) - (S 3 p1 (85 + x2)) ∧ (S 3 p1 (85 + x3)) - (S 3 p1 (85 + x2)) ≤ 2147483647)) ∧ (Q (.inl (some (.inl ((S 3 p1 (85 + x3)) - (S 3 p1 (85 + x2)))))) (mo b r (ms S) V W))) : am_W m_X5_gapsOf E Q 0 [some (.inr (.inl r)), some (.inl (130 + 645 * p1)), some (.inl x2), some (.inl x3)] [] (mo b r (ms S) V W) := by
  obtain ⟨⟨a21, a22, a23, a24, a25, a26, a27⟩, H⟩ := H
  refine r_X5_gapsOf_0 ?_
  simp only [mo_ty, mo_f39, mo_t1, mo_n1, mo_a1, ms_r3 (k := ((130 + 645 * p1) + 85) + x3) (p := p1) (i := 85 + x3) (by omega) (by omega) (by omega), ms_r3 (k := ((130 + 645 * p1) + 85) + x2) (p := p1) (i := 85 + x2) (by omega) (by omega) (by omega), true_or, or_true, true_and]
  exact ⟨a21, a22, (by omega), a21, a25, (by omega), a27, H⟩
theorem w_endsWord_0 {E : am_E} {Q : am_K} {b : am_H} {r : Nat} {S : am_G} {V : Nat → Int → Int} {W : Nat → Int} {p1 : Int} {x2 : Int} (H : ((-2147483648 ≤ (130 + 645 * p1) + 1 ∧ (130 + 645 * p1) + 1 ≤ 2147483647) ∧ (0 ≤ p1 ∧ p1 < 100) ∧ (-2147483648 ≤ (S 3 p1 1) - 1 ∧ (S 3 p1 1) - 1 ≤ 2147483647)) ∧ ((x2 = (S 3 p1 1) - 1 → Q (.inl (some (.inl 1))) (mo b r (ms S) V W)) ∧ (x2 ≠ (S 3 p1 1) - 1 → ((-2147483648 ≤ (130 + 645 * p1) + 85 ∧ (130 + 645 * p1) + 85 ≤ 2147483647) ∧ (-2147483648 ≤ ((130 + 645 * p1) + 85) + x2 ∧ ((130 + 645 * p1) + 85) + x2 ≤ 2147483647) ∧ (0 ≤ p1 ∧ p1 < 100) ∧ (0 ≤ 85 + x2 ∧ 85 + x2 < 645) ∧ (-2147483648 ≤ (((130 + 645 * p1) + 85) + x2) + 1 ∧ (((130 + 645 * p1) + 85) + x2) + 1 ≤ 2147483647) ∧ (0 ≤ 86 + x2 ∧ 86 + x2 < 645)) ∧ (Q (.inl (some (.inl (am_b (S 3 p1 (85 + x2) ≠ S 3 p1 (86 + x2)))))) (mo b r (ms S) V W))))) : am_W m_X5_endsWord E Q 0 [some (.inr (.inl r)), some (.inl (130 + 645 * p1)), some (.inl x2)] [] (mo b r (ms S) V W) := by
  obtain ⟨⟨a28, a29, a30⟩, H⟩ := H
  refine r_X5_endsWord_0 ?_
  simp only [mo_ty, mo_f39, mo_t1, mo_n1, mo_a1, ms_r3 (k := (130 + 645 * p1) + 1) (p := p1) (i := 1) (by omega) (by omega) (by omega), true_or, or_true, true_and]
  refine ⟨a28, (by omega), a30, ⟨fun c => ?_, fun c => ?_⟩⟩
  · replace H := H.1 c
    refine r_X5_endsWord_29 ?_
    refine r_X5_endsWord_32 ?_
    exact ⟨(by decide), H⟩
  · replace H := H.2 c
    obtain ⟨⟨a31, a32, a33, a34, a35, a36⟩, H⟩ := H
    have J : ∀ y : Int, y = am_b (S 3 p1 (85 + x2) ≠ S 3 p1 (86 + x2)) → am_W m_X5_endsWord E Q 32 [some (.inr (.inl r)), some (.inl (130 + 645 * p1)), some (.inl x2)] [.inl y] (mo b r (ms S) V W) := by
      intro y hy
      subst hy
      refine r_X5_endsWord_32 ?_
      exact ⟨(am_bz _), H⟩
    refine r_X5_endsWord_10 ?_
    simp only [mo_ty, mo_f39, mo_t1, mo_n1, mo_a1, ms_r3 (k := ((130 + 645 * p1) + 85) + x2) (p := p1) (i := 85 + x2) (by omega) (by omega) (by omega), ms_r3 (k := (((130 + 645 * p1) + 85) + x2) + 1) (p := p1) (i := 86 + x2) (by omega) (by omega) (by omega), true_or, or_true, true_and]
    refine ⟨a31, a32, (by omega), a31, a32, a35, (by omega), ⟨fun c => ?_, fun c => ?_⟩⟩
    · exact r_X5_endsWord_31 (J _ (am_bf (by omega)).symm)
    · exact r_X5_endsWord_29 (J _ (am_bt c).symm)
