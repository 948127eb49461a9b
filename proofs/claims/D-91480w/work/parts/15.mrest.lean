set_option maxRecDepth 100000
theorem w_check_0 {d : Nat} {Q : am_K} {b : am_H} {r : Nat} {S : am_G} {V : Nat → Int → Int} {W : Nat → Int} {o1 : Option am_V} {o2 : Option am_V} {o3 : Option am_V} {o4 : Option am_V} (H : am_W m_X5_check (am_ev am_prog (d + 3)) Q 5 [some (.inr (.inl r)), some (.inl 0), o2, o3, o4] [] (mo b r (ms S) V (am_up W 38 0))) : am_W m_X5_check (am_ev am_prog (d + 3)) Q 0 [some (.inr (.inl r)), o1, o2, o3, o4] [] (mo b r (ms S) V W) := by
  refine r_X5_check_0 ?_
  simp only [mo_ty, mo_si, true_or, or_true, true_and]
  refine ?_
  refine r_X5_check_3 ?_
  exact H
theorem w_check_5 {d : Nat} {Q : am_K} {b : am_H} {r : Nat} {S : am_G} {V : Nat → Int → Int} {W : Nat → Int} {x1 : Int} {o2 : Option am_V} {o3 : Option am_V} {o4 : Option am_V} (H : (S 0 0 7 ≤ x1 → Q (.inl (some (.inl (-1)))) (mo b r (ms S) V W)) ∧ (x1 < S 0 0 7 → am_W m_X5_check (am_ev am_prog (d + 3)) Q 13 [some (.inr (.inl r)), some (.inl x1), some (.inl 0), o3, o4] [] (mo b r (ms S) V W))) : am_W m_X5_check (am_ev am_prog (d + 3)) Q 5 [some (.inr (.inl r)), some (.inl x1), o2, o3, o4] [] (mo b r (ms S) V W) := by
  refine r_X5_check_5 ?_
  simp only [mo_ty, mo_f39, mo_t1, mo_n1, mo_a1, ms_r0 (k := 7) (p := 0) (i := 7) (by omega) (by omega) (by omega), true_or, or_true, true_and]
  refine ⟨(by omega), ⟨fun c => ?_, fun c => ?_⟩⟩
  · replace H := H.1 c
    refine r_X5_check_79 ?_
    exact H
  · replace H := H.2 c
    refine r_X5_check_11 ?_
    exact H
theorem w_check_13 {d : Nat} {Q : am_K} {b : am_H} {r : Nat} {S : am_G} {V : Nat → Int → Int} {W : Nat → Int} {x1 : Int} {x2 : Int} {o3 : Option am_V} {o4 : Option am_V} (H : (4 ≤ x2 → ((-2147483648 ≤ x1 + 1 ∧ x1 + 1 ≤ 2147483647)) ∧ (am_W m_X5_check (am_ev am_prog (d + 3)) Q 5 [some (.inr (.inl r)), some (.inl (x1 + 1)), some (.inl x2), o3, o4] [] (mo b r (ms S) V W))) ∧ (x2 < 4 → am_W m_X5_check (am_ev am_prog (d + 3)) Q 20 [some (.inr (.inl r)), some (.inl x1), some (.inl x2), some (.inl (-1)), some (.inl 0)] [] (mo b r (ms S) V W))) : am_W m_X5_check (am_ev am_prog (d + 3)) Q 13 [some (.inr (.inl r)), some (.inl x1), some (.inl x2), o3, o4] [] (mo b r (ms S) V W) := by
  refine r_X5_check_13 ?_
  refine ⟨fun c => ?_, fun c => ?_⟩
  · replace H := H.1 c
    obtain ⟨a1, H⟩ := H
    refine r_X5_check_77 ?_
    refine ⟨a1, ?_⟩
    exact H
  · replace H := H.2 c
    refine r_X5_check_16 ?_
    exact H
theorem w_check_20 {d : Nat} {Q : am_K} {b : am_H} {r : Nat} {S : am_G} {V : Nat → Int → Int} {W : Nat → Int} {x1 : Int} {x2 : Int} {x3 : Int} {x4 : Int} (H : (S 0 0 4 ≤ x4 → ((-2147483648 ≤ 5 * x1 ∧ 5 * x1 ≤ 2147483647) ∧ (-2147483648 ≤ 337180 + (5 * x1) ∧ 337180 + (5 * x1) ≤ 2147483647) ∧ (-2147483648 ≤ (337180 + (5 * x1)) + 1 ∧ (337180 + (5 * x1)) + 1 ≤ 2147483647) ∧ (-2147483648 ≤ ((337180 + (5 * x1)) + 1) + x2 ∧ ((337180 + (5 * x1)) + 1) + x2 ≤ 2147483647) ∧ (0 ≤ 1 + 5 * x1 + x2 ∧ 1 + 5 * x1 + x2 < 40)) ∧ ((S 10 0 (1 + 5 * x1 + x2) = x3 → ((-2147483648 ≤ x2 + 1 ∧ x2 + 1 ≤ 2147483647)) ∧ (am_W m_X5_check (am_ev am_prog (d + 3)) Q 13 [some (.inr (.inl r)), some (.inl x1), some (.inl (x2 + 1)), some (.inl x3), some (.inl x4)] [] (mo b r (ms S) V W))) ∧ (S 10 0 (1 + 5 * x1 + x2) ≠ x3 → ((-2147483648 ≤ 4 * x1 ∧ 4 * x1 ≤ 2147483647) ∧ (-2147483648 ≤ (4 * x1) + x2 ∧ (4 * x1) + x2 ≤ 2147483647)) ∧ (Q (.inl (some (.inl ((4 * x1) + x2)))) (mo b r (ms S) V W))))) ∧ (x4 < S 0 0 4 → ((0 ≤ x4 ∧ x4 < 2000000)) ∧ (((-2147483648 ≤ (64630 + 852 * x4) + 1 ∧ (64630 + 852 * x4) + 1 ≤ 2147483647) ∧ (0 ≤ x4 ∧ x4 < 300)) ∧ ((S 4 x4 1 ≠ x2 → ((-2147483648 ≤ x4 + 1 ∧ x4 + 1 ≤ 2147483647)) ∧ (am_W m_X5_check (am_ev am_prog (d + 3)) Q 20 [some (.inr (.inl r)), some (.inl x1), some (.inl x2), some (.inl x3), some (.inl (x4 + 1))] [] (mo b r (ms S) V W))) ∧ (S 4 x4 1 = x2 → ((0 ≤ x4 ∧ x4 < 2000000)) ∧ (((-2147483648 ≤ (64630 + 852 * x4) + 2 ∧ (64630 + 852 * x4) + 2 ≤ 2147483647) ∧ (0 ≤ x4 ∧ x4 < 300) ∧ (-2147483648 ≤ 5 * x1 ∧ 5 * x1 ≤ 2147483647) ∧ (-2147483648 ≤ 337180 + (5 * x1) ∧ 337180 + (5 * x1) ≤ 2147483647) ∧ (0 ≤ 5 * x1 ∧ 5 * x1 < 40)) ∧ ((S 4 x4 2 ≠ S 10 0 (5 * x1) → ((-2147483648 ≤ x4 + 1 ∧ x4 + 1 ≤ 2147483647)) ∧ (am_W m_X5_check (am_ev am_prog (d + 3)) Q 20 [some (.inr (.inl r)), some (.inl x1), some (.inl x2), some (.inl x3), some (.inl (x4 + 1))] [] (mo b r (ms S) V W))) ∧ (S 4 x4 2 = S 10 0 (5 * x1) → ((-2147483648 ≤ x4 + 1 ∧ x4 + 1 ≤ 2147483647)) ∧ (am_W m_X5_check (am_ev am_prog (d + 3)) Q 20 [some (.inr (.inl r)), some (.inl x1), some (.inl x2), some (.inl x4), some (.inl (x4 + 1))] [] (mo b r (ms S) V W)))))))))) : am_W m_X5_check (am_ev am_prog (d + 3)) Q 20 [some (.inr (.inl r)), some (.inl x1), some (.inl x2), some (.inl x3), some (.inl x4)] [] (mo b r (ms S) V W) := by
  refine r_X5_check_20 ?_
  simp only [mo_ty, mo_f39, mo_t1, mo_n1, mo_a1, ms_r0 (k := 4) (p := 0) (i := 4) (by omega) (by omega) (by omega), true_or, or_true, true_and]
  refine ⟨(by omega), ⟨fun c => ?_, fun c => ?_⟩⟩
  · replace H := H.1 c
    obtain ⟨⟨a2, a3, a4, a5, a6⟩, H⟩ := H
    refine r_X5_check_55 ?_
    simp only [mo_ty, mo_f39, mo_t1, mo_n1, mo_a1, ms_r10 (k := ((337180 + (5 * x1)) + 1) + x2) (p := 0) (i := 1 + 5 * x1 + x2) (by omega) (by omega) (by omega), true_or, or_true, true_and]
    refine ⟨a2, a3, a4, a5, (by omega), ⟨fun c => ?_, fun c => ?_⟩⟩
    · replace H := H.1 c
      obtain ⟨a7, H⟩ := H
      refine r_X5_check_75 ?_
      refine ⟨a7, ?_⟩
      exact H
    · replace H := H.2 c
      obtain ⟨⟨a8, a9⟩, H⟩ := H
      refine r_X5_check_69 ?_
      exact ⟨a8, a9, H⟩
  · replace H := H.2 c
    refine r_X5_check_26 ?_
    simp only [mo_ty, mo_f39, true_or, or_true, true_and]
    refine ?_
    obtain ⟨a10, H⟩ := H
    refine c_slug0 (by omega) (am_av ?_)
    obtain ⟨⟨a11, a12⟩, H⟩ := H
    refine r_X5_check_30 ?_
    simp only [mo_t1, mo_n1, mo_a1, ms_r4 (k := (64630 + 852 * x4) + 1) (p := x4) (i := 1) (by omega) (by omega) (by omega), true_or, or_true, true_and]
    refine ⟨a11, (by omega), ⟨fun c => ?_, fun c => ?_⟩⟩
    · replace H := H.1 c
      obtain ⟨a13, H⟩ := H
      refine r_X5_check_53 ?_
      refine ⟨a13, ?_⟩
      exact H
    · replace H := H.2 c
      refine r_X5_check_35 ?_
      simp only [mo_ty, mo_f39, true_or, or_true, true_and]
      refine ?_
      obtain ⟨a14, H⟩ := H
      refine c_slug0 (by omega) (am_av ?_)
      obtain ⟨⟨a15, a16, a17, a18, a19⟩, H⟩ := H
      refine r_X5_check_39 ?_
      simp only [mo_t1, mo_n1, mo_a1, ms_r4 (k := (64630 + 852 * x4) + 2) (p := x4) (i := 2) (by omega) (by omega) (by omega), mo_ty, mo_f39, ms_r10 (k := 337180 + (5 * x1)) (p := 0) (i := 5 * x1) (by omega) (by omega) (by omega), true_or, or_true, true_and]
      refine ⟨a15, (by omega), a17, a18, (by omega), ⟨fun c => ?_, fun c => ?_⟩⟩
      · replace H := H.1 c
        obtain ⟨a20, H⟩ := H
        refine r_X5_check_53 ?_
        refine ⟨a20, ?_⟩
        exact H
      · replace H := H.2 c
        refine r_X5_check_51 ?_
        obtain ⟨a21, H⟩ := H
        refine r_X5_check_53 ?_
        refine ⟨a21, ?_⟩
        exact H
theorem w_least_0 {d : Nat} {Q : am_K} {b : am_H} {r : Nat} {S : am_G} {V : Nat → Int → Int} {W : Nat → Int} {o1 : Option am_V} (H : am_W m_X5_least (am_ev am_prog (d + 3)) Q 8 [some (.inr (.inl r)), some (.inl 0)] [] (mo b r (ms S) V (am_up (am_up W 38 0) 94 0))) : am_W m_X5_least (am_ev am_prog (d + 3)) Q 0 [some (.inr (.inl r)), o1] [] (mo b r (ms S) V W) := by
  refine r_X5_least_0 ?_
  simp only [mo_ty, mo_si, true_or, or_true, true_and]
  refine ?_
  refine r_X5_least_3 ?_
  simp only [mo_ty, mo_si, true_or, or_true, true_and]
  refine ?_
  refine r_X5_least_6 ?_
  exact H
theorem w_least_8 {d : Nat} {Q : am_K} {b : am_H} {r : Nat} {S : am_G} {V : Nat → Int → Int} {W : Nat → Int} {x1 : Int} (H : (100 ≤ x1 → am_W m_X5_least (am_ev am_prog (d + 3)) Q 68 [some (.inr (.inl r)), some (.inl 0)] [] (mo b r (ms S) V W)) ∧ (x1 < 100 → (5 ≤ W 94 → am_W m_X5_least (am_ev am_prog (d + 3)) Q 68 [some (.inr (.inl r)), some (.inl 0)] [] (mo b r (ms S) V W)) ∧ (W 94 < 5 → ((-2147483648 ≤ x1 ∧ x1 ≤ 2147483647) ∧ S 0 0 1 ≤ 20) ∧ ((¬ (0 ≤ x1 ∧ x1 / 5 < S 0 0 1 ∧ x1 % 5 < S 2 2 (x1 / 5)) → ((-2147483648 ≤ x1 + 1 ∧ x1 + 1 ≤ 2147483647)) ∧ (am_W m_X5_least (am_ev am_prog (d + 3)) Q 8 [some (.inr (.inl r)), some (.inl (x1 + 1))] [] (mo b r (ms S) V W))) ∧ (0 ≤ x1 ∧ x1 / 5 < S 0 0 1 ∧ x1 % 5 < S 2 2 (x1 / 5) → ((0 ≤ x1 ∧ x1 < 3000000)) ∧ (((-2147483648 ≤ (130 + 645 * x1) + 2 ∧ (130 + 645 * x1) + 2 ≤ 2147483647) ∧ (0 ≤ x1 ∧ x1 < 100)) ∧ (((S 3 x1 2 : Int) ≠ 1 → am_ev am_prog (d + 3) 113 [.inr (.inl r), .inl x1, .inl (S 0 0 0)] (mo b r (ms S) V W) (am_aft (am_hand m_X5_least Q (am_W m_X5_least (am_ev am_prog (d + 3)) Q) 35) (am_W m_X5_least (am_ev am_prog (d + 3)) Q) 35 [some (.inr (.inl r)), some (.inl x1)] [])) ∧ ((S 3 x1 2 : Int) = 1 → ((-2147483648 ≤ x1 + 1 ∧ x1 + 1 ≤ 2147483647)) ∧ (am_W m_X5_least (am_ev am_prog (d + 3)) Q 8 [some (.inr (.inl r)), some (.inl (x1 + 1))] [] (mo b r (ms S) V W)))))))))) : am_W m_X5_least (am_ev am_prog (d + 3)) Q 8 [some (.inr (.inl r)), some (.inl x1)] [] (mo b r (ms S) V W) := by
  refine r_X5_least_8 ?_
  refine ⟨fun c => ?_, fun c => ?_⟩
  · replace H := H.1 c
    refine r_X5_least_66 ?_
    exact H
  · replace H := H.2 c
    refine r_X5_least_11 ?_
    simp only [mo_ty, mo_i, true_or, or_true, true_and]
    refine ⟨fun c => ?_, fun c => ?_⟩
    · replace H := H.1 c
      refine r_X5_least_66 ?_
      exact H
    · replace H := H.2 c
      refine r_X5_least_15 ?_
      simp only [mo_ty, true_or, or_true, true_and]
      refine ?_
      obtain ⟨⟨a23, a24⟩, H⟩ := H
      refine c_isPart (by omega) (by omega) (am_av ?_)
      refine r_X5_least_18 ?_
      refine ⟨fun c => ?_, fun c => ?_⟩
      · replace c := am_b0 c
        replace H := H.1 c
        obtain ⟨a25, H⟩ := H
        refine r_X5_least_64 ?_
        refine ⟨a25, ?_⟩
        exact H
      · replace c := am_b1 c
        replace H := H.2 c
        refine r_X5_least_19 ?_
        simp only [mo_ty, mo_f39, true_or, or_true, true_and]
        refine ?_
        obtain ⟨a26, H⟩ := H
        refine c_part0 (by omega) (am_av ?_)
        obtain ⟨⟨a27, a28⟩, H⟩ := H
        refine r_X5_least_23 ?_
        simp only [mo_t1, mo_n1, mo_a1, ms_r3 (k := (130 + 645 * x1) + 2) (p := x1) (i := 2) (by omega) (by omega) (by omega), true_or, or_true, true_and]
        refine ⟨a27, (by omega), ⟨fun c => ?_, fun c => ?_⟩⟩
        · replace H := H.1 c
          refine r_X5_least_29 ?_
          simp only [mo_ty, mo_f39, mo_t1, mo_n1, mo_a1, ms_r0 (k := 0) (p := 0) (i := 0) (by omega) (by omega) (by omega), true_or, or_true, true_and]
          exact ⟨(by omega), H⟩
        · replace H := H.2 c
          refine r_X5_least_28 ?_
          obtain ⟨a29, H⟩ := H
          refine r_X5_least_64 ?_
          refine ⟨a29, ?_⟩
          exact H
theorem w_least_36 {d : Nat} {Q : am_K} {b : am_H} {r : Nat} {S : am_G} {V : Nat → Int → Int} {W : Nat → Int} {x1 : Int} (H : ((V 14 0 : Int) ≠ (-1) → ((0 ≤ W 94 ∧ W 94 < 5)) ∧ (((0 ≤ W 94 ∧ W 94 < 5)) ∧ (((-2147483648 ≤ (W 94) + 1 ∧ (W 94) + 1 ≤ 2147483647)) ∧ (((-2147483648 ≤ x1 + 1 ∧ x1 + 1 ≤ 2147483647)) ∧ (am_W m_X5_least (am_ev am_prog (d + 3)) Q 8 [some (.inr (.inl r)), some (.inl (x1 + 1))] [] (mo b r (ms S) (am_up (am_up V 33 (am_uz (V 33) (W 94) x1)) 34 (am_uz (V 34) (W 94) (V 15 0))) (am_up W 94 ((W 94) + 1)))))))) ∧ ((V 14 0 : Int) = (-1) → ((-2147483648 ≤ x1 + 1 ∧ x1 + 1 ≤ 2147483647)) ∧ (am_W m_X5_least (am_ev am_prog (d + 3)) Q 8 [some (.inr (.inl r)), some (.inl (x1 + 1))] [] (mo b r (ms S) V W)))) : am_W m_X5_least (am_ev am_prog (d + 3)) Q 36 [some (.inr (.inl r)), some (.inl x1)] [] (mo b r (ms S) V W) := by
  refine r_X5_least_36 ?_
  simp only [mo_ty, mo_f69, mo_t14, mo_n14, mo_a14, true_or, or_true, true_and]
  refine ⟨(by decide), ⟨fun c => ?_, fun c => ?_⟩⟩
  · replace H := H.1 c
    obtain ⟨a30, H⟩ := H
    refine r_X5_least_43 ?_
    simp only [mo_ty, mo_f91, mo_i, mo_t33, mo_n33, mo_s33, true_or, or_true, true_and]
    refine ⟨a30, ?_⟩
    obtain ⟨a31, H⟩ := H
    refine r_X5_least_49 ?_
    simp only [mo_ty, mo_f92, mo_i, mo_f70, mo_t15, mo_n15, mo_a15, am_up_ne (by decide : (15 : Nat) ≠ 33), mo_t34, mo_n34, mo_s34, am_up_ne (by decide : (34 : Nat) ≠ 33), true_or, or_true, true_and]
    refine ⟨(by decide), a31, ?_⟩
    obtain ⟨a32, H⟩ := H
    refine r_X5_least_58 ?_
    simp only [mo_ty, mo_i, mo_si, true_or, or_true, true_and]
    refine ⟨a32, ?_⟩
    obtain ⟨a33, H⟩ := H
    refine r_X5_least_64 ?_
    refine ⟨a33, ?_⟩
    exact H
  · replace H := H.2 c
    refine r_X5_least_42 ?_
    obtain ⟨a34, H⟩ := H
    refine r_X5_least_64 ?_
    refine ⟨a34, ?_⟩
    exact H
theorem w_least_68 {d : Nat} {Q : am_K} {b : am_H} {r : Nat} {S : am_G} {V : Nat → Int → Int} {W : Nat → Int} {x1 : Int} (H : (S 0 0 3 ≤ x1 → am_ev am_prog (d + 3) 111 [.inr (.inl r), .inl 0, .inl 0, .inl 0] (mo b r (ms S) V (am_up W 95 (-1))) (am_aft (am_hand m_X5_least Q (am_W m_X5_least (am_ev am_prog (d + 3)) Q) 95) (am_W m_X5_least (am_ev am_prog (d + 3)) Q) 95 [some (.inr (.inl r)), some (.inl x1)] [])) ∧ (x1 < S 0 0 3 → am_ev am_prog (d + 3) 112 [.inr (.inl r), .inl x1] (mo b r (ms S) V W) (am_aft (am_hand m_X5_least Q (am_W m_X5_least (am_ev am_prog (d + 3)) Q) 83) (am_W m_X5_least (am_ev am_prog (d + 3)) Q) 83 [some (.inr (.inl r)), some (.inl x1)] [.inl (S 0 0 0), .inl x1, .inr (.inl (r + 35))]))) : am_W m_X5_least (am_ev am_prog (d + 3)) Q 68 [some (.inr (.inl r)), some (.inl x1)] [] (mo b r (ms S) V W) := by
  refine r_X5_least_68 ?_
  simp only [mo_ty, mo_f39, mo_t1, mo_n1, mo_a1, ms_r0 (k := 3) (p := 0) (i := 3) (by omega) (by omega) (by omega), true_or, or_true, true_and]
  refine ⟨(by omega), ⟨fun c => ?_, fun c => ?_⟩⟩
  · replace H := H.1 c
    refine r_X5_least_88 ?_
    simp only [mo_ty, mo_si, true_or, or_true, true_and]
    refine ?_
    refine r_X5_least_91 ?_
    simp only [mo_ty, true_or, or_true, true_and]
    exact H
  · replace H := H.2 c
    refine r_X5_least_74 ?_
    simp only [mo_ty, mo_f93, mo_f39, mo_t1, mo_n1, mo_a1, ms_r0 (k := 0) (p := 0) (i := 0) (by omega) (by omega) (by omega), true_or, or_true, true_and]
    exact ⟨(by omega), H⟩
theorem w_least_84 {d : Nat} {Q : am_K} {b : am_H} {r : Nat} {S : am_G} {V : Nat → Int → Int} {W : Nat → Int} {x1 : Int} {y3 : Int} {y2 : Int} {y1 : Int} (H : ((-2147483648 ≤ y2 + y3 ∧ y2 + y3 ≤ 2147483647) ∧ (0 ≤ y1 ∧ y1 < 4)) ∧ (((-2147483648 ≤ x1 + 1 ∧ x1 + 1 ≤ 2147483647)) ∧ (am_W m_X5_least (am_ev am_prog (d + 3)) Q 68 [some (.inr (.inl r)), some (.inl (x1 + 1))] [] (mo b r (ms S) (am_up V 35 (am_uz (V 35) y1 (y2 + y3))) W)))) : am_W m_X5_least (am_ev am_prog (d + 3)) Q 84 [some (.inr (.inl r)), some (.inl x1)] [.inl y3, .inl y2, .inl y1, .inr (.inl (r + 35))] (mo b r (ms S) V W) := by
  obtain ⟨⟨a35, a36⟩, H⟩ := H
  refine r_X5_least_84 ?_
  simp only [mo_t35, mo_n35, mo_s35, true_or, or_true, true_and]
  refine ⟨a35, a36, ?_⟩
  obtain ⟨a37, H⟩ := H
  refine r_X5_least_86 ?_
  refine ⟨a37, ?_⟩
  exact H
theorem w_least_96 {d : Nat} {Q : am_K} {b : am_H} {r : Nat} {S : am_G} {V : Nat → Int → Int} {W : Nat → Int} {x1 : Int} (H : Q (.inl (some (.inl (W 95)))) (mo b r (ms S) V W)) : am_W m_X5_least (am_ev am_prog (d + 3)) Q 96 [some (.inr (.inl r)), some (.inl x1)] [] (mo b r (ms S) V W) := by
  refine r_X5_least_96 ?_
  simp only [mo_ty, mo_i, true_or, or_true, true_and]
  exact H
theorem w_fault_0 {d : Nat} {Q : am_K} {b : am_H} {r : Nat} {S : am_G} {V : Nat → Int → Int} {W : Nat → Int}  (H : Q (.inl (some (.inl (W 47)))) (mo b r (ms S) V (am_up W 38 0))) : am_W m_X5_fault (am_ev am_prog (d + 3)) Q 0 [some (.inr (.inl r))] [] (mo b r (ms S) V W) := by
  refine r_X5_fault_0 ?_
  simp only [mo_ty, mo_si, true_or, or_true, true_and]
  refine ?_
  refine r_X5_fault_3 ?_
  simp only [mo_ty, mo_i, am_up_ne (by decide : (47 : Nat) ≠ 38), true_or, or_true, true_and]
  exact H
theorem w_edition_0 {d : Nat} {Q : am_K} {b : am_H} {r : Nat} {S : am_G} {V : Nat → Int → Int} {W : Nat → Int} {o1 : Option am_V} {o2 : Option am_V} {o3 : Option am_V} (H : ((S 0 0 6 : Int) ≠ 8 → am_W m_X5_edition (am_ev am_prog (d + 3)) Q 23 [some (.inr (.inl r)), some (.inl (S 0 0 6)), some (.inl 0), o3] [] (mo b r (ms S) V (am_up W 38 0))) ∧ ((S 0 0 6 : Int) = 8 → Q (.inl (some (.inl 0))) (mo b r (ms S) V (am_up W 38 1)))) : am_W m_X5_edition (am_ev am_prog (d + 3)) Q 0 [some (.inr (.inl r)), o1, o2, o3] [] (mo b r (ms S) V W) := by
  refine r_X5_edition_0 ?_
  simp only [mo_ty, mo_f39, mo_t1, mo_n1, mo_a1, ms_r0 (k := 6) (p := 0) (i := 6) (by omega) (by omega) (by omega), true_or, or_true, true_and]
  refine ⟨(by omega), ⟨fun c => ?_, fun c => ?_⟩⟩
  · replace H := H.1 c
    refine r_X5_edition_9 ?_
    refine r_X5_edition_10 ?_
    simp only [mo_ty, mo_si, true_or, or_true, true_and]
    refine ?_
    refine r_X5_edition_11 ?_
    simp only [mo_ty, mo_i, am_up_eq, true_or, or_true, true_and, Int.reduceLE, Int.reduceLT, Int.reduceEq, Int.reduceNe, ne_eq, false_imp_iff, true_imp_iff, and_true, true_and, not_true_eq_false, not_false_eq_true, not_true, Int.reduceNeg]
    refine ?_
    refine r_X5_edition_16 ?_
    simp only [mo_ty, mo_f39, mo_t1, mo_n1, mo_a1, ms_r0 (k := 6) (p := 0) (i := 6) (by omega) (by omega) (by omega), true_or, or_true, true_and]
    refine ⟨(by omega), ?_⟩
    exact H
  · replace H := H.2 c
    refine r_X5_edition_7 ?_
    refine r_X5_edition_10 ?_
    simp only [mo_ty, mo_si, true_or, or_true, true_and]
    refine ?_
    refine r_X5_edition_11 ?_
    simp only [mo_ty, mo_i, am_up_eq, true_or, or_true, true_and, Int.reduceLE, Int.reduceLT, Int.reduceEq, Int.reduceNe, ne_eq, false_imp_iff, true_imp_iff, and_true, true_and, not_true_eq_false, not_false_eq_true, not_true, Int.reduceNeg]
    refine ?_
    refine r_X5_edition_14 ?_
    exact H
theorem w_edition_23 {d : Nat} {Q : am_K} {b : am_H} {r : Nat} {S : am_G} {V : Nat → Int → Int} {W : Nat → Int} {x1 : Int} {x2 : Int} {o3 : Option am_V} (H : (6 ≤ x2 → ((-2147483648 ≤ (S 0 0 6) + 1 ∧ (S 0 0 6) + 1 ≤ 2147483647)) ∧ (Q (.inl (some (.inl x1))) (mo b r (ms (u3 S 0 0 6 ((S 0 0 6) + 1))) V W))) ∧ (x2 < 6 → ((0 ≤ x2 ∧ x2 < 1000) ∧ (0 ≤ x1 ∧ x1 < 1000)) ∧ (((-2147483648 ≤ 185 * x2 ∧ 185 * x2 ≤ 2147483647) ∧ (-2147483648 ≤ 327382 + (185 * x2) ∧ 327382 + (185 * x2) ≤ 2147483647) ∧ (-2147483648 ≤ (327382 + (185 * x2)) + 2 ∧ (327382 + (185 * x2)) + 2 ≤ 2147483647) ∧ (0 ≤ x2 ∧ x2 < 6) ∧ (0 ≤ 6 * x1 + x2 ∧ 6 * x1 + x2 < 48)) ∧ (am_W m_X5_edition (am_ev am_prog (d + 3)) Q 45 [some (.inr (.inl r)), some (.inl x1), some (.inl x2), some (.inl 0)] [] (mo b r (ms (u3 S 9 (6 * x1 + x2) 0 (S 8 x2 2))) V W))))) : am_W m_X5_edition (am_ev am_prog (d + 3)) Q 23 [some (.inr (.inl r)), some (.inl x1), some (.inl x2), o3] [] (mo b r (ms S) V W) := by
  refine r_X5_edition_23 ?_
  refine ⟨fun c => ?_, fun c => ?_⟩
  · replace H := H.1 c
    obtain ⟨a38, H⟩ := H
    refine r_X5_edition_84 ?_
    simp only [mo_ty, mo_f39, mo_t1, mo_n1, mo_a1, ms_r0 (k := 6) (p := 0) (i := 6) (by omega) (by omega) (by omega), mo_s1, ms_w0 (k := 6) (p := 0) (i := 6) (by omega) (by omega) (by omega), true_or, or_true, true_and]
    refine ⟨(by omega), a38, (by omega), ?_⟩
    refine r_X5_edition_92 ?_
    exact H
  · replace H := H.2 c
    refine r_X5_edition_26 ?_
    simp only [mo_ty, mo_f39, true_or, or_true, true_and]
    refine ?_
    obtain ⟨⟨a39, a40⟩, H⟩ := H
    refine c_many0 (by omega) (by omega) (am_av ?_)
    obtain ⟨⟨a41, a42, a43, a44, a45⟩, H⟩ := H
    refine r_X5_edition_32 ?_
    simp only [mo_ty, mo_f39, mo_t1, mo_n1, mo_a1, ms_r8 (k := (327382 + (185 * x2)) + 2) (p := x2) (i := 2) (by omega) (by omega) (by omega), mo_s1, ms_w9 (k := 328492 + 181 * (6 * x1 + x2)) (p := 6 * x1 + x2) (i := 0) (by omega) (by omega) (by omega), true_or, or_true, true_and]
    refine ⟨a41, a42, a43, (by omega), (by omega), ?_⟩
    refine r_X5_edition_43 ?_
    exact H
theorem w_edition_45 {d : Nat} {Q : am_K} {b : am_H} {r : Nat} {S : am_G} {V : Nat → Int → Int} {W : Nat → Int} {x1 : Int} {x2 : Int} {x3 : Int} (H : ((-2147483648 ≤ 185 * x2 ∧ 185 * x2 ≤ 2147483647) ∧ (-2147483648 ≤ 327382 + (185 * x2) ∧ 327382 + (185 * x2) ≤ 2147483647) ∧ (-2147483648 ≤ (327382 + (185 * x2)) + 2 ∧ (327382 + (185 * x2)) + 2 ≤ 2147483647) ∧ (0 ≤ x2 ∧ x2 < 6)) ∧ ((S 8 x2 2 ≤ x3 → ((-2147483648 ≤ x2 + 1 ∧ x2 + 1 ≤ 2147483647)) ∧ (am_W m_X5_edition (am_ev am_prog (d + 3)) Q 23 [some (.inr (.inl r)), some (.inl x1), some (.inl (x2 + 1)), some (.inl x3)] [] (mo b r (ms S) V W))) ∧ (x3 < S 8 x2 2 → ((0 ≤ x2 ∧ x2 < 1000) ∧ (0 ≤ x1 ∧ x1 < 1000)) ∧ (((-2147483648 ≤ (328492 + 181 * (6 * x1 + x2)) + 1 ∧ (328492 + 181 * (6 * x1 + x2)) + 1 ≤ 2147483647) ∧ (-2147483648 ≤ ((328492 + 181 * (6 * x1 + x2)) + 1) + x3 ∧ ((328492 + 181 * (6 * x1 + x2)) + 1) + x3 ≤ 2147483647) ∧ (-2147483648 ≤ 185 * x2 ∧ 185 * x2 ≤ 2147483647) ∧ (-2147483648 ≤ 327382 + (185 * x2) ∧ 327382 + (185 * x2) ≤ 2147483647) ∧ (-2147483648 ≤ (327382 + (185 * x2)) + 5 ∧ (327382 + (185 * x2)) + 5 ≤ 2147483647) ∧ (-2147483648 ≤ ((327382 + (185 * x2)) + 5) + x3 ∧ ((327382 + (185 * x2)) + 5) + x3 ≤ 2147483647) ∧ (0 ≤ x2 ∧ x2 < 6) ∧ (0 ≤ 5 + x3 ∧ 5 + x3 < 185) ∧ (0 ≤ 6 * x1 + x2 ∧ 6 * x1 + x2 < 48) ∧ (0 ≤ 1 + x3 ∧ 1 + x3 < 181)) ∧ (((-2147483648 ≤ x3 + 1 ∧ x3 + 1 ≤ 2147483647)) ∧ (am_W m_X5_edition (am_ev am_prog (d + 3)) Q 45 [some (.inr (.inl r)), some (.inl x1), some (.inl x2), some (.inl (x3 + 1))] [] (mo b r (ms (u3 S 9 (6 * x1 + x2) (1 + x3) (S 8 x2 (5 + x3)))) V W))))))) : am_W m_X5_edition (am_ev am_prog (d + 3)) Q 45 [some (.inr (.inl r)), some (.inl x1), some (.inl x2), some (.inl x3)] [] (mo b r (ms S) V W) := by
  obtain ⟨⟨a46, a47, a48, a49⟩, H⟩ := H
  refine r_X5_edition_45 ?_
  simp only [mo_ty, mo_f39, mo_t1, mo_n1, mo_a1, ms_r8 (k := (327382 + (185 * x2)) + 2) (p := x2) (i := 2) (by omega) (by omega) (by omega), true_or, or_true, true_and]
  refine ⟨a46, a47, a48, (by omega), ⟨fun c => ?_, fun c => ?_⟩⟩
  · replace H := H.1 c
    obtain ⟨a50, H⟩ := H
    refine r_X5_edition_82 ?_
    refine ⟨a50, ?_⟩
    exact H
  · replace H := H.2 c
    refine r_X5_edition_57 ?_
    simp only [mo_ty, mo_f39, true_or, or_true, true_and]
    refine ?_
    obtain ⟨⟨a51, a52⟩, H⟩ := H
    refine c_many0 (by omega) (by omega) (am_av ?_)
    obtain ⟨⟨a53, a54, a55, a56, a57, a58, a59, a60, a61, a62⟩, H⟩ := H
    refine r_X5_edition_63 ?_
    simp only [mo_ty, mo_f39, mo_t1, mo_n1, mo_a1, ms_r8 (k := ((327382 + (185 * x2)) + 5) + x3) (p := x2) (i := 5 + x3) (by omega) (by omega) (by omega), mo_s1, ms_w9 (k := ((328492 + 181 * (6 * x1 + x2)) + 1) + x3) (p := 6 * x1 + x2) (i := 1 + x3) (by omega) (by omega) (by omega), true_or, or_true, true_and]
    refine ⟨a53, a54, a55, a56, a57, a58, (by omega), (by omega), ?_⟩
    obtain ⟨a63, H⟩ := H
    refine r_X5_edition_80 ?_
    refine ⟨a63, ?_⟩
    exact H
theorem w_thrown_0 {d : Nat} {Q : am_K} {b : am_H} {r : Nat} {S : am_G} {V : Nat → Int → Int} {W : Nat → Int}  (H : Q (.inl (some (.inl (W 38)))) (mo b r (ms S) V W)) : am_W m_X5_thrown (am_ev am_prog (d + 3)) Q 0 [some (.inr (.inl r))] [] (mo b r (ms S) V W) := by
  refine r_X5_thrown_0 ?_
  simp only [mo_ty, mo_i, true_or, or_true, true_and]
  exact H
theorem w_count_0 {d : Nat} {Q : am_K} {b : am_H} {r : Nat} {S : am_G} {V : Nat → Int → Int} {W : Nat → Int} {x1 : Int} {o2 : Option am_V} {o3 : Option am_V} {o4 : Option am_V} {o5 : Option am_V} {o6 : Option am_V} (H : am_ev am_prog (d + 3) 141 [.inr (.inl r), .inl (S 0 0 0)] (mo b r (ms S) V (am_up W 38 0)) (am_aft (am_hand m_X5_count Q (am_W m_X5_count (am_ev am_prog (d + 3)) Q) 8) (am_W m_X5_count (am_ev am_prog (d + 3)) Q) 8 [some (.inr (.inl r)), some (.inl x1), o2, o3, o4, o5, o6] [])) : am_W m_X5_count (am_ev am_prog (d + 3)) Q 0 [some (.inr (.inl r)), some (.inl x1), o2, o3, o4, o5, o6] [] (mo b r (ms S) V W) := by
  refine r_X5_count_0 ?_
  simp only [mo_ty, mo_si, true_or, or_true, true_and]
  refine ?_
  refine r_X5_count_3 ?_
  simp only [mo_ty, mo_f39, mo_t1, mo_n1, mo_a1, ms_r0 (k := 0) (p := 0) (i := 0) (by omega) (by omega) (by omega), true_or, or_true, true_and]
  exact ⟨(by omega), H⟩
theorem w_count_9 {d : Nat} {Q : am_K} {b : am_H} {r : Nat} {S : am_G} {V : Nat → Int → Int} {W : Nat → Int} {x1 : Int} {o2 : Option am_V} {o3 : Option am_V} {o4 : Option am_V} {o5 : Option am_V} {o6 : Option am_V} {y0 : Int} {p0 : Int} (H : ((x1 : Int) ≠ 0 → ((x1 : Int) ≠ 1 → ((x1 : Int) ≠ 2 → ((x1 : Int) ≠ 3 → ((x1 : Int) ≠ 4 → ((x1 : Int) ≠ 10 → ((x1 : Int) ≠ 11 → ((x1 : Int) ≠ 12 → ((x1 : Int) ≠ 13 → ((x1 : Int) ≠ 14 → (5 ≤ x1 ∧ x1 ≤ 9 → am_W m_X5_count (am_ev am_prog (d + 3)) Q 105 [some (.inr (.inl r)), some (.inl x1), some (.inl y0), some (.inl 0), some (.inl 0), o5, o6] [] (mo b r (ms S) V W)) ∧ (¬ (5 ≤ x1 ∧ x1 ≤ 9) → Q (.inl (some (.inl (-1)))) (mo b r (ms S) V W))) ∧ ((x1 : Int) = 14 → Q (.inl (some (.inl (S 0 0 7)))) (mo b r (ms S) V W))) ∧ ((x1 : Int) = 13 → Q (.inl (some (.inl (S 0 0 2)))) (mo b r (ms S) V W))) ∧ ((x1 : Int) = 12 → am_ev am_prog (d + 3) 142 [.inr (.inl r)] (mo b r (ms S) V W) (am_aft (am_hand m_X5_count Q (am_W m_X5_count (am_ev am_prog (d + 3)) Q) 76) (am_W m_X5_count (am_ev am_prog (d + 3)) Q) 76 [some (.inr (.inl r)), some (.inl x1), some (.inl y0), o3, o4, o5, o6] []))) ∧ ((x1 : Int) = 11 → Q (.inl (some (.inl (S 0 0 6)))) (mo b r (ms S) V W))) ∧ ((x1 : Int) = 10 → Q (.inl (some (.inl (S 0 0 5)))) (mo b r (ms S) V W))) ∧ ((x1 : Int) = 4 → Q (.inl (some (.inl (S 0 0 4)))) (mo b r (ms S) V W))) ∧ ((x1 : Int) = 3 → Q (.inl (some (.inl (S 0 0 3)))) (mo b r (ms S) V W))) ∧ ((x1 : Int) = 2 → ((y0 : Int) ≠ (-1) → ((-2147483648 ≤ y0 + 1 ∧ y0 + 1 ≤ 2147483647) ∧ y0 = 320962 + 562 * p0 ∧ (0 ≤ p0 ∧ p0 < 10)) ∧ (Q (.inl (some (.inl (S 6 p0 1)))) (mo b r (ms S) V W))) ∧ ((y0 : Int) = (-1) → Q (.inl (some (.inl 0))) (mo b r (ms S) V W)))) ∧ ((x1 : Int) = 1 → Q (.inl (some (.inl (S 0 0 1)))) (mo b r (ms S) V W))) ∧ ((x1 : Int) = 0 → Q (.inl (some (.inl (S 0 0 0)))) (mo b r (ms S) V W))) : am_W m_X5_count (am_ev am_prog (d + 3)) Q 9 [some (.inr (.inl r)), some (.inl x1), o2, o3, o4, o5, o6] [.inl y0] (mo b r (ms S) V W) := by
  refine r_X5_count_9 ?_
  refine ⟨fun c => ?_, fun c => ?_⟩
  · replace H := H.1 c
    refine r_X5_count_17 ?_
    refine ⟨fun c => ?_, fun c => ?_⟩
    · replace H := H.1 c
      refine r_X5_count_25 ?_
      refine ⟨fun c => ?_, fun c => ?_⟩
      · replace H := H.1 c
        refine r_X5_count_40 ?_
        refine ⟨fun c => ?_, fun c => ?_⟩
        · replace H := H.1 c
          refine r_X5_count_48 ?_
          refine ⟨fun c => ?_, fun c => ?_⟩
          · replace H := H.1 c
            refine r_X5_count_56 ?_
            refine ⟨fun c => ?_, fun c => ?_⟩
            · replace H := H.1 c
              refine r_X5_count_64 ?_
              refine ⟨fun c => ?_, fun c => ?_⟩
              · replace H := H.1 c
                refine r_X5_count_72 ?_
                refine ⟨fun c => ?_, fun c => ?_⟩
                · replace H := H.1 c
                  refine r_X5_count_78 ?_
                  refine ⟨fun c => ?_, fun c => ?_⟩
                  · replace H := H.1 c
                    refine r_X5_count_86 ?_
                    refine ⟨fun c => ?_, fun c => ?_⟩
                    · replace H := H.1 c
                      refine r_X5_count_94 ?_
                      refine ?_
                      refine c_isIn (am_av ?_)
                      refine r_X5_count_98 ?_
                      refine ⟨fun c => ?_, fun c => ?_⟩
                      · replace c := am_b1 c
                        replace H := H.1 c
                        refine r_X5_count_101 ?_
                        exact H
                      · replace c := am_b0 c
                        replace H := H.2 c
                        refine r_X5_count_99 ?_
                        exact H
                    · replace H := H.2 c
                      refine r_X5_count_89 ?_
                      simp only [mo_ty, mo_f39, mo_t1, mo_n1, mo_a1, ms_r0 (k := 7) (p := 0) (i := 7) (by omega) (by omega) (by omega), true_or, or_true, true_and]
                      exact ⟨(by omega), H⟩
                  · replace H := H.2 c
                    refine r_X5_count_81 ?_
                    simp only [mo_ty, mo_f39, mo_t1, mo_n1, mo_a1, ms_r0 (k := 2) (p := 0) (i := 2) (by omega) (by omega) (by omega), true_or, or_true, true_and]
                    exact ⟨(by omega), H⟩
                · replace H := H.2 c
                  refine r_X5_count_75 ?_
                  simp only [mo_ty, true_or, or_true, true_and]
                  exact H
              · replace H := H.2 c
                refine r_X5_count_67 ?_
                simp only [mo_ty, mo_f39, mo_t1, mo_n1, mo_a1, ms_r0 (k := 6) (p := 0) (i := 6) (by omega) (by omega) (by omega), true_or, or_true, true_and]
                exact ⟨(by omega), H⟩
            · replace H := H.2 c
              refine r_X5_count_59 ?_
              simp only [mo_ty, mo_f39, mo_t1, mo_n1, mo_a1, ms_r0 (k := 5) (p := 0) (i := 5) (by omega) (by omega) (by omega), true_or, or_true, true_and]
              exact ⟨(by omega), H⟩
          · replace H := H.2 c
            refine r_X5_count_51 ?_
            simp only [mo_ty, mo_f39, mo_t1, mo_n1, mo_a1, ms_r0 (k := 4) (p := 0) (i := 4) (by omega) (by omega) (by omega), true_or, or_true, true_and]
            exact ⟨(by omega), H⟩
        · replace H := H.2 c
          refine r_X5_count_43 ?_
          simp only [mo_ty, mo_f39, mo_t1, mo_n1, mo_a1, ms_r0 (k := 3) (p := 0) (i := 3) (by omega) (by omega) (by omega), true_or, or_true, true_and]
          exact ⟨(by omega), H⟩
      · replace H := H.2 c
        refine r_X5_count_28 ?_
        refine ⟨fun c => ?_, fun c => ?_⟩
        · replace H := H.1 c
          obtain ⟨⟨a64, a65, a66⟩, H⟩ := H
          refine r_X5_count_33 ?_
          simp only [mo_ty, mo_f39, mo_t1, mo_n1, mo_a1, ms_r6 (k := y0 + 1) (p := p0) (i := 1) (by omega) (by omega) (by omega), true_or, or_true, true_and]
          refine ⟨a64, (by omega), ?_⟩
          refine r_X5_count_39 ?_
          exact H
        · replace H := H.2 c
          refine r_X5_count_31 ?_
          refine r_X5_count_39 ?_
          exact H
    · replace H := H.2 c
      refine r_X5_count_20 ?_
      simp only [mo_ty, mo_f39, mo_t1, mo_n1, mo_a1, ms_r0 (k := 1) (p := 0) (i := 1) (by omega) (by omega) (by omega), true_or, or_true, true_and]
      exact ⟨(by omega), H⟩
  · replace H := H.2 c
    refine r_X5_count_12 ?_
    simp only [mo_ty, mo_f39, mo_t1, mo_n1, mo_a1, ms_r0 (k := 0) (p := 0) (i := 0) (by omega) (by omega) (by omega), true_or, or_true, true_and]
    exact ⟨(by omega), H⟩
theorem w_count_77 {d : Nat} {Q : am_K} {b : am_H} {r : Nat} {S : am_G} {V : Nat → Int → Int} {W : Nat → Int} {x1 : Int} {x2 : Int} {o3 : Option am_V} {o4 : Option am_V} {o5 : Option am_V} {o6 : Option am_V} {y0 : Int} (H : Q (.inl (some (.inl y0))) (mo b r (ms S) V W)) : am_W m_X5_count (am_ev am_prog (d + 3)) Q 77 [some (.inr (.inl r)), some (.inl x1), some (.inl x2), o3, o4, o5, o6] [.inl y0] (mo b r (ms S) V W) := by
  refine r_X5_count_77 ?_
  exact H
theorem w_count_105 {d : Nat} {Q : am_K} {b : am_H} {r : Nat} {S : am_G} {V : Nat → Int → Int} {W : Nat → Int} {x1 : Int} {x2 : Int} {x3 : Int} {x4 : Int} {o5 : Option am_V} {o6 : Option am_V} (H : (S 0 0 4 ≤ x4 → Q (.inl (some (.inl x3))) (mo b r (ms S) V W)) ∧ (x4 < S 0 0 4 → ((0 ≤ x4 ∧ x4 < 2000000)) ∧ ((8 ≤ x1 → ((x1 : Int) ≠ 8 → ((-2147483648 ≤ (64630 + 852 * x4) + 4 ∧ (64630 + 852 * x4) + 4 ≤ 2147483647) ∧ (0 ≤ x4 ∧ x4 < 300)) ∧ (((S 4 x4 4 : Int) ≠ 0 → ((-2147483648 ≤ x3 + 0 ∧ x3 + 0 ≤ 2147483647) ∧ (-2147483648 ≤ x4 + 1 ∧ x4 + 1 ≤ 2147483647)) ∧ (am_W m_X5_count (am_ev am_prog (d + 3)) Q 105 [some (.inr (.inl r)), some (.inl x1), some (.inl x2), some (.inl (x3 + 0)), some (.inl (x4 + 1)), some (.inl (64630 + 852 * x4)), some (.inl 0)] [] (mo b r (ms S) V W))) ∧ ((S 4 x4 4 : Int) = 0 → am_ev am_prog (d + 3) 144 [.inr (.inl r), .inl x4] (mo b r (ms S) V W) (am_aft (am_hand m_X5_count Q (am_W m_X5_count (am_ev am_prog (d + 3)) Q) 155) (am_W m_X5_count (am_ev am_prog (d + 3)) Q) 155 [some (.inr (.inl r)), some (.inl x1), some (.inl x2), some (.inl x3), some (.inl x4), some (.inl (64630 + 852 * x4)), o6] [])))) ∧ ((x1 : Int) = 8 → ((-2147483648 ≤ (64630 + 852 * x4) + 7 ∧ (64630 + 852 * x4) + 7 ≤ 2147483647) ∧ (0 ≤ x4 ∧ x4 < 300)) ∧ (((-2147483648 ≤ x3 + (am_b ((S 4 x4 7 : Int) = 1)) ∧ x3 + (am_b ((S 4 x4 7 : Int) = 1)) ≤ 2147483647) ∧ (-2147483648 ≤ x4 + 1 ∧ x4 + 1 ≤ 2147483647)) ∧ (am_W m_X5_count (am_ev am_prog (d + 3)) Q 105 [some (.inr (.inl r)), some (.inl x1), some (.inl x2), some (.inl (x3 + (am_b ((S 4 x4 7 : Int) = 1)))), some (.inl (x4 + 1)), some (.inl (64630 + 852 * x4)), some (.inl (am_b ((S 4 x4 7 : Int) = 1)))] [] (mo b r (ms S) V W))))) ∧ (x1 < 8 → ((-2147483648 ≤ (64630 + 852 * x4) + 4 ∧ (64630 + 852 * x4) + 4 ≤ 2147483647) ∧ (0 ≤ x4 ∧ x4 < 300) ∧ (-2147483648 ≤ x1 - 5 ∧ x1 - 5 ≤ 2147483647)) ∧ (((-2147483648 ≤ x3 + (am_b (S 4 x4 4 = x1 - 5)) ∧ x3 + (am_b (S 4 x4 4 = x1 - 5)) ≤ 2147483647) ∧ (-2147483648 ≤ x4 + 1 ∧ x4 + 1 ≤ 2147483647)) ∧ (am_W m_X5_count (am_ev am_prog (d + 3)) Q 105 [some (.inr (.inl r)), some (.inl x1), some (.inl x2), some (.inl (x3 + (am_b (S 4 x4 4 = x1 - 5)))), some (.inl (x4 + 1)), some (.inl (64630 + 852 * x4)), some (.inl (am_b (S 4 x4 4 = x1 - 5)))] [] (mo b r (ms S) V W))))))) : am_W m_X5_count (am_ev am_prog (d + 3)) Q 105 [some (.inr (.inl r)), some (.inl x1), some (.inl x2), some (.inl x3), some (.inl x4), o5, o6] [] (mo b r (ms S) V W) := by
  refine r_X5_count_105 ?_
  simp only [mo_ty, mo_f39, mo_t1, mo_n1, mo_a1, ms_r0 (k := 4) (p := 0) (i := 4) (by omega) (by omega) (by omega), true_or, or_true, true_and]
  refine ⟨(by omega), ⟨fun c => ?_, fun c => ?_⟩⟩
  · replace H := H.1 c
    refine r_X5_count_171 ?_
    exact H
  · replace H := H.2 c
    refine r_X5_count_111 ?_
    refine ?_
    obtain ⟨a67, H⟩ := H
    refine c_slug0 (by omega) (am_av ?_)
    refine r_X5_count_113 ?_
    refine ⟨fun c => ?_, fun c => ?_⟩
    · replace H := H.1 c
      refine r_X5_count_131 ?_
      refine ⟨fun c => ?_, fun c => ?_⟩
      · replace H := H.1 c
        obtain ⟨⟨a68, a69⟩, H⟩ := H
        refine r_X5_count_146 ?_
        simp only [mo_ty, mo_f39, mo_t1, mo_n1, mo_a1, ms_r4 (k := (64630 + 852 * x4) + 4) (p := x4) (i := 4) (by omega) (by omega) (by omega), true_or, or_true, true_and]
        refine ⟨a68, (by omega), ⟨fun c => ?_, fun c => ?_⟩⟩
        · replace H := H.1 c
          refine r_X5_count_159 ?_
          refine r_X5_count_160 ?_
          refine ⟨fun c => ?_, fun c => absurd c (by decide)⟩
          refine r_X5_count_166 ?_
          obtain ⟨⟨a70, a71⟩, H⟩ := H
          refine r_X5_count_167 ?_
          refine ⟨a70, a71, ?_⟩
          exact H
        · replace H := H.2 c
          refine r_X5_count_153 ?_
          simp only [mo_ty, true_or, or_true, true_and]
          exact H
      · replace H := H.2 c
        obtain ⟨⟨a72, a73⟩, H⟩ := H
        have J : ∀ y : Int, y = am_b ((S 4 x4 7 : Int) = 1) → am_W m_X5_count (am_ev am_prog (d + 3)) Q 160 [some (.inr (.inl r)), some (.inl x1), some (.inl x2), some (.inl x3), some (.inl x4), some (.inl (64630 + 852 * x4)), o6] [.inl y] (mo b r (ms S) V W) := by
          intro y hy
          subst hy
          have J : ∀ y : Int, y = am_b ((S 4 x4 7 : Int) = 1) → am_W m_X5_count (am_ev am_prog (d + 3)) Q 167 [some (.inr (.inl r)), some (.inl x1), some (.inl x2), some (.inl x3), some (.inl x4), some (.inl (64630 + 852 * x4)), some (.inl (am_b ((S 4 x4 7 : Int) = 1)))] [.inl y, .inl x3] (mo b r (ms S) V W) := by
            intro y hy
            subst hy
            obtain ⟨⟨a74, a75⟩, H⟩ := H
            refine r_X5_count_167 ?_
            refine ⟨a74, a75, ?_⟩
            exact H
          refine r_X5_count_160 ?_
          refine ⟨fun c => ?_, fun c => ?_⟩
          · replace c := am_b0 c
            exact r_X5_count_166 (J _ (am_bf (by omega)).symm)
          · replace c := am_b1 c
            exact r_X5_count_164 (J _ (am_bt c).symm)
        refine r_X5_count_134 ?_
        simp only [mo_ty, mo_f39, mo_t1, mo_n1, mo_a1, ms_r4 (k := (64630 + 852 * x4) + 7) (p := x4) (i := 7) (by omega) (by omega) (by omega), true_or, or_true, true_and]
        refine ⟨a72, (by omega), ⟨fun c => ?_, fun c => ?_⟩⟩
        · exact r_X5_count_144 (J _ (am_bf (by omega)).symm)
        · exact r_X5_count_142 (J _ (am_bt c).symm)
    · replace H := H.2 c
      obtain ⟨⟨a76, a77, a78⟩, H⟩ := H
      have J : ∀ y : Int, y = am_b (S 4 x4 4 = x1 - 5) → am_W m_X5_count (am_ev am_prog (d + 3)) Q 160 [some (.inr (.inl r)), some (.inl x1), some (.inl x2), some (.inl x3), some (.inl x4), some (.inl (64630 + 852 * x4)), o6] [.inl y] (mo b r (ms S) V W) := by
        intro y hy
        subst hy
        have J : ∀ y : Int, y = am_b (S 4 x4 4 = x1 - 5) → am_W m_X5_count (am_ev am_prog (d + 3)) Q 167 [some (.inr (.inl r)), some (.inl x1), some (.inl x2), some (.inl x3), some (.inl x4), some (.inl (64630 + 852 * x4)), some (.inl (am_b (S 4 x4 4 = x1 - 5)))] [.inl y, .inl x3] (mo b r (ms S) V W) := by
          intro y hy
          subst hy
          obtain ⟨⟨a79, a80⟩, H⟩ := H
          refine r_X5_count_167 ?_
          refine ⟨a79, a80, ?_⟩
          exact H
        refine r_X5_count_160 ?_
        refine ⟨fun c => ?_, fun c => ?_⟩
        · replace c := am_b0 c
          exact r_X5_count_166 (J _ (am_bf (by omega)).symm)
        · replace c := am_b1 c
          exact r_X5_count_164 (J _ (am_bt c).symm)
      refine r_X5_count_117 ?_
      simp only [mo_ty, mo_f39, mo_t1, mo_n1, mo_a1, ms_r4 (k := (64630 + 852 * x4) + 4) (p := x4) (i := 4) (by omega) (by omega) (by omega), true_or, or_true, true_and]
      refine ⟨a76, (by omega), a78, ⟨fun c => ?_, fun c => ?_⟩⟩
      · exact r_X5_count_129 (J _ (am_bf (by omega)).symm)
      · exact r_X5_count_127 (J _ (am_bt c).symm)
theorem w_count_156 {d : Nat} {Q : am_K} {b : am_H} {r : Nat} {S : am_G} {V : Nat → Int → Int} {W : Nat → Int} {x1 : Int} {x2 : Int} {x3 : Int} {x4 : Int} {x5 : Int} {o6 : Option am_V} {y0 : Int} (H : ((-2147483648 ≤ x3 + (am_b ((y0 : Int) ≠ 0)) ∧ x3 + (am_b ((y0 : Int) ≠ 0)) ≤ 2147483647) ∧ (-2147483648 ≤ x4 + 1 ∧ x4 + 1 ≤ 2147483647)) ∧ (am_W m_X5_count (am_ev am_prog (d + 3)) Q 105 [some (.inr (.inl r)), some (.inl x1), some (.inl x2), some (.inl (x3 + (am_b ((y0 : Int) ≠ 0)))), some (.inl (x4 + 1)), some (.inl x5), some (.inl (am_b ((y0 : Int) ≠ 0)))] [] (mo b r (ms S) V W))) : am_W m_X5_count (am_ev am_prog (d + 3)) Q 156 [some (.inr (.inl r)), some (.inl x1), some (.inl x2), some (.inl x3), some (.inl x4), some (.inl x5), o6] [.inl y0] (mo b r (ms S) V W) := by
  have J : ∀ y : Int, y = am_b ((y0 : Int) ≠ 0) → am_W m_X5_count (am_ev am_prog (d + 3)) Q 160 [some (.inr (.inl r)), some (.inl x1), some (.inl x2), some (.inl x3), some (.inl x4), some (.inl x5), o6] [.inl y] (mo b r (ms S) V W) := by
    intro y hy
    subst hy
    have J : ∀ y : Int, y = am_b ((y0 : Int) ≠ 0) → am_W m_X5_count (am_ev am_prog (d + 3)) Q 167 [some (.inr (.inl r)), some (.inl x1), some (.inl x2), some (.inl x3), some (.inl x4), some (.inl x5), some (.inl (am_b ((y0 : Int) ≠ 0)))] [.inl y, .inl x3] (mo b r (ms S) V W) := by
      intro y hy
      subst hy
      obtain ⟨⟨a81, a82⟩, H⟩ := H
      refine r_X5_count_167 ?_
      refine ⟨a81, a82, ?_⟩
      exact H
    refine r_X5_count_160 ?_
    refine ⟨fun c => ?_, fun c => ?_⟩
    · replace c := am_b0 c
      exact r_X5_count_166 (J _ (am_bf (by omega)).symm)
    · replace c := am_b1 c
      exact r_X5_count_164 (J _ (am_bt c).symm)
  refine r_X5_count_156 ?_
  refine ⟨fun c => ?_, fun c => ?_⟩
  · exact r_X5_count_159 (J _ (am_bf (by omega)).symm)
  · exact r_X5_count_157 (J _ (am_bt c).symm)
theorem w_end_0 {d : Nat} {Q : am_K} {b : am_H} {r : Nat} {S : am_G} {V : Nat → Int → Int} {W : Nat → Int} {x1 : Int} (H : (x1 < 0 → Q (.inl (some (.inl 0))) (mo b r (ms S) V (am_up W 38 0))) ∧ (0 ≤ x1 → (x1 ≤ W 44 → Q (.inl (some (.inl 1))) (mo b r (ms S) V (am_up (am_up W 38 0) 44 x1))) ∧ (W 44 < x1 → Q (.inl (some (.inl 0))) (mo b r (ms S) V (am_up W 38 0))))) : am_W m_X5_end (am_ev am_prog (d + 3)) Q 0 [some (.inr (.inl r)), some (.inl x1)] [] (mo b r (ms S) V W) := by
  refine r_X5_end_0 ?_
  simp only [mo_ty, mo_si, true_or, or_true, true_and]
  refine ?_
  refine r_X5_end_3 ?_
  refine ⟨fun c => ?_, fun c => ?_⟩
  · replace H := H.1 c
    refine r_X5_end_9 ?_
    exact ⟨(by decide), H⟩
  · replace H := H.2 c
    refine r_X5_end_5 ?_
    simp only [mo_ty, mo_i, am_up_ne (by decide : (44 : Nat) ≠ 38), true_or, or_true, true_and]
    refine ⟨fun c => ?_, fun c => ?_⟩
    · replace H := H.1 c
      refine r_X5_end_11 ?_
      simp only [mo_ty, mo_si, true_or, or_true, true_and]
      refine ?_
      refine r_X5_end_14 ?_
      exact ⟨(by decide), H⟩
    · replace H := H.2 c
      refine r_X5_end_9 ?_
      exact ⟨(by decide), H⟩
theorem w_pie_0 {d : Nat} {Q : am_K} {b : am_H} {r : Nat} {S : am_G} {V : Nat → Int → Int} {W : Nat → Int} {x1 : Int} {o2 : Option am_V} (H : (0 ≤ x1 ∧ x1 < S 0 0 4 → ((0 ≤ x1 ∧ x1 < 2000000)) ∧ (((-2147483648 ≤ (64630 + 852 * x1) + 4 ∧ (64630 + 852 * x1) + 4 ≤ 2147483647) ∧ (0 ≤ x1 ∧ x1 < 300)) ∧ (((S 4 x1 4 : Int) = 0 → ((-2147483648 ≤ (64630 + 852 * x1) + 6 ∧ (64630 + 852 * x1) + 6 ≤ 2147483647) ∧ (0 ≤ x1 ∧ x1 < 300)) ∧ (((0 ≤ S 4 x1 6 ∧ S 4 x1 6 < 3000000)) ∧ (((-2147483648 ≤ (130 + 645 * (S 4 x1 6)) + 45 ∧ (130 + 645 * (S 4 x1 6)) + 45 ≤ 2147483647) ∧ (-2147483648 ≤ (64630 + 852 * x1) + 5 ∧ (64630 + 852 * x1) + 5 ≤ 2147483647) ∧ (0 ≤ x1 ∧ x1 < 300) ∧ (-2147483648 ≤ ((130 + 645 * (S 4 x1 6)) + 45) + (S 4 x1 5) ∧ ((130 + 645 * (S 4 x1 6)) + 45) + (S 4 x1 5) ≤ 2147483647) ∧ (0 ≤ S 4 x1 6 ∧ S 4 x1 6 < 100) ∧ (0 ≤ 45 + S 4 x1 5 ∧ 45 + S 4 x1 5 < 645)) ∧ (((-2147483648 ≤ (64630 + 852 * x1) + 4 ∧ (64630 + 852 * x1) + 4 ≤ 2147483647) ∧ (0 ≤ x1 ∧ x1 < 300)) ∧ (((-2147483648 ≤ (64630 + 852 * x1) + 5 ∧ (64630 + 852 * x1) + 5 ≤ 2147483647) ∧ (0 ≤ x1 ∧ x1 < 300)) ∧ (((-2147483648 ≤ (64630 + 852 * x1) + 6 ∧ (64630 + 852 * x1) + 6 ≤ 2147483647) ∧ (0 ≤ x1 ∧ x1 < 300)) ∧ (Q (.inl (some (.inl 1))) (mo b r (ms (u3 (u3 (u3 (u3 S 3 (S 4 x1 6) (45 + S 4 x1 5) 0) 4 x1 4 1) 4 x1 5 (-1)) 4 x1 6 (-1))) V (am_up W 38 0))))))))) ∧ ((S 4 x1 4 : Int) ≠ 0 → Q (.inl (some (.inl 0))) (mo b r (ms S) V (am_up W 38 0)))))) ∧ (¬ (0 ≤ x1 ∧ x1 < S 0 0 4) → Q (.inl (some (.inl 0))) (mo b r (ms S) V (am_up W 38 1)))) : am_W m_X5_pie (am_ev am_prog (d + 3)) Q 0 [some (.inr (.inl r)), some (.inl x1), o2] [] (mo b r (ms S) V W) := by
  refine r_X5_pie_0 ?_
  simp only [mo_ty, true_or, or_true, true_and]
  refine ?_
  refine c_isSlug (am_av ?_)
  refine r_X5_pie_4 ?_
  refine ⟨fun c => ?_, fun c => ?_⟩
  · replace c := am_b1 c
    replace H := H.1 c
    refine r_X5_pie_7 ?_
    refine r_X5_pie_8 ?_
    simp only [mo_ty, mo_si, true_or, or_true, true_and]
    refine ?_
    refine r_X5_pie_9 ?_
    simp only [mo_ty, mo_i, am_up_eq, true_or, or_true, true_and, Int.reduceLE, Int.reduceLT, Int.reduceEq, Int.reduceNe, ne_eq, false_imp_iff, true_imp_iff, and_true, true_and, not_true_eq_false, not_false_eq_true, not_true, Int.reduceNeg]
    refine ?_
    refine r_X5_pie_14 ?_
    refine ?_
    obtain ⟨a83, H⟩ := H
    refine c_slug0 (by omega) (am_av ?_)
    obtain ⟨⟨a84, a85⟩, H⟩ := H
    refine r_X5_pie_16 ?_
    simp only [mo_ty, mo_f39, mo_t1, mo_n1, mo_a1, ms_r4 (k := (64630 + 852 * x1) + 4) (p := x1) (i := 4) (by omega) (by omega) (by omega), true_or, or_true, true_and]
    refine ⟨a84, (by omega), ⟨fun c => ?_, fun c => ?_⟩⟩
    · replace H := H.1 c
      obtain ⟨⟨a86, a87⟩, H⟩ := H
      refine r_X5_pie_26 ?_
      simp only [mo_ty, mo_f39, mo_t1, mo_n1, mo_a1, ms_r4 (k := (64630 + 852 * x1) + 6) (p := x1) (i := 6) (by omega) (by omega) (by omega), true_or, or_true, true_and]
      refine ⟨a86, (by omega), ?_⟩
      obtain ⟨a88, H⟩ := H
      refine c_part0 (by omega) (am_av ?_)
      obtain ⟨⟨a89, a90, a91, a92, a93, a94⟩, H⟩ := H
      refine r_X5_pie_35 ?_
      simp only [mo_ty, mo_f39, mo_t1, mo_n1, mo_a1, ms_r4 (k := (64630 + 852 * x1) + 5) (p := x1) (i := 5) (by omega) (by omega) (by omega), mo_s1, ms_w3 (k := ((130 + 645 * (S 4 x1 6)) + 45) + (S 4 x1 5)) (p := S 4 x1 6) (i := 45 + S 4 x1 5) (by omega) (by omega) (by omega), true_or, or_true, true_and]
      refine ⟨a89, a90, (by omega), a92, (by omega), ?_⟩
      obtain ⟨⟨a95, a96⟩, H⟩ := H
      refine r_X5_pie_46 ?_
      simp only [mo_ty, mo_f39, mo_t1, mo_n1, mo_s1, ms_w4 (k := (64630 + 852 * x1) + 4) (p := x1) (i := 4) (by omega) (by omega) (by omega), true_or, or_true, true_and]
      refine ⟨a95, (by omega), ?_⟩
      obtain ⟨⟨a97, a98⟩, H⟩ := H
      refine r_X5_pie_53 ?_
      simp only [mo_ty, mo_f39, mo_t1, mo_n1, mo_s1, ms_w4 (k := (64630 + 852 * x1) + 5) (p := x1) (i := 5) (by omega) (by omega) (by omega), true_or, or_true, true_and]
      refine ⟨a97, (by omega), ?_⟩
      obtain ⟨⟨a99, a100⟩, H⟩ := H
      refine r_X5_pie_60 ?_
      simp only [mo_ty, mo_f39, mo_t1, mo_n1, mo_s1, ms_w4 (k := (64630 + 852 * x1) + 6) (p := x1) (i := 6) (by omega) (by omega) (by omega), true_or, or_true, true_and]
      refine ⟨a99, (by omega), ?_⟩
      refine r_X5_pie_67 ?_
      exact ⟨(by decide), H⟩
    · replace H := H.2 c
      refine r_X5_pie_24 ?_
      exact ⟨(by decide), H⟩
  · replace c := am_b0 c
    replace H := H.2 c
    refine r_X5_pie_5 ?_
    refine r_X5_pie_8 ?_
    simp only [mo_ty, mo_si, true_or, or_true, true_and]
    refine ?_
    refine r_X5_pie_9 ?_
    simp only [mo_ty, mo_i, am_up_eq, true_or, or_true, true_and, Int.reduceLE, Int.reduceLT, Int.reduceEq, Int.reduceNe, ne_eq, false_imp_iff, true_imp_iff, and_true, true_and, not_true_eq_false, not_false_eq_true, not_true, Int.reduceNeg]
    refine ?_
    refine r_X5_pie_12 ?_
    exact ⟨(by decide), H⟩
theorem w_minutes_0 {d : Nat} {Q : am_K} {b : am_H} {r : Nat} {S : am_G} {V : Nat → Int → Int} {W : Nat → Int} {x1 : Int} {o2 : Option am_V} (H : (0 ≤ x1 ∧ x1 ≤ 120 → am_W m_X5_minutes (am_ev am_prog (d + 3)) Q 17 [some (.inr (.inl r)), some (.inl x1), some (.inl 0)] [] (mo b r (ms S) V (am_up W 38 0))) ∧ (¬ (0 ≤ x1 ∧ x1 ≤ 120) → Q (.inl (some (.inl 0))) (mo b r (ms S) V (am_up W 38 1)))) : am_W m_X5_minutes (am_ev am_prog (d + 3)) Q 0 [some (.inr (.inl r)), some (.inl x1), o2] [] (mo b r (ms S) V W) := by
  refine r_X5_minutes_0 ?_
  refine ?_
  refine c_isIn (am_av ?_)
  refine r_X5_minutes_5 ?_
  refine ⟨fun c => ?_, fun c => ?_⟩
  · replace c := am_b1 c
    replace H := H.1 c
    refine r_X5_minutes_8 ?_
    refine r_X5_minutes_9 ?_
    simp only [mo_ty, mo_si, true_or, or_true, true_and]
    refine ?_
    refine r_X5_minutes_10 ?_
    simp only [mo_ty, mo_i, am_up_eq, true_or, or_true, true_and, Int.reduceLE, Int.reduceLT, Int.reduceEq, Int.reduceNe, ne_eq, false_imp_iff, true_imp_iff, and_true, true_and, not_true_eq_false, not_false_eq_true, not_true, Int.reduceNeg]
    refine ?_
    refine r_X5_minutes_15 ?_
    exact H
  · replace c := am_b0 c
    replace H := H.2 c
    refine r_X5_minutes_6 ?_
    refine r_X5_minutes_9 ?_
    simp only [mo_ty, mo_si, true_or, or_true, true_and]
    refine ?_
    refine r_X5_minutes_10 ?_
    simp only [mo_ty, mo_i, am_up_eq, true_or, or_true, true_and, Int.reduceLE, Int.reduceLT, Int.reduceEq, Int.reduceNe, ne_eq, false_imp_iff, true_imp_iff, and_true, true_and, not_true_eq_false, not_false_eq_true, not_true, Int.reduceNeg]
    refine ?_
    refine r_X5_minutes_13 ?_
    exact H
theorem w_minutes_17 {d : Nat} {Q : am_K} {b : am_H} {r : Nat} {S : am_G} {V : Nat → Int → Int} {W : Nat → Int} {x1 : Int} {x2 : Int} (H : (x1 ≤ x2 → Q (.inl (some (.inl (S 0 0 0)))) (mo b r (ms S) V W)) ∧ (x2 < x1 → (600 ≤ S 0 0 0 → Q (.inl (some (.inl (S 0 0 0)))) (mo b r (ms S) V W)) ∧ (S 0 0 0 < 600 → am_ev am_prog (d + 3) 148 [.inr (.inl r)] (mo b r (ms S) V W) (am_aft (am_hand m_X5_minutes Q (am_W m_X5_minutes (am_ev am_prog (d + 3)) Q) 27) (am_W m_X5_minutes (am_ev am_prog (d + 3)) Q) 27 [some (.inr (.inl r)), some (.inl x1), some (.inl x2)] [])))) : am_W m_X5_minutes (am_ev am_prog (d + 3)) Q 17 [some (.inr (.inl r)), some (.inl x1), some (.inl x2)] [] (mo b r (ms S) V W) := by
  refine r_X5_minutes_17 ?_
  refine ⟨fun c => ?_, fun c => ?_⟩
  · replace H := H.1 c
    refine r_X5_minutes_30 ?_
    simp only [mo_ty, mo_f39, mo_t1, mo_n1, mo_a1, ms_r0 (k := 0) (p := 0) (i := 0) (by omega) (by omega) (by omega), true_or, or_true, true_and]
    exact ⟨(by omega), H⟩
  · replace H := H.2 c
    refine r_X5_minutes_20 ?_
    simp only [mo_ty, mo_f39, mo_t1, mo_n1, mo_a1, ms_r0 (k := 0) (p := 0) (i := 0) (by omega) (by omega) (by omega), true_or, or_true, true_and]
    refine ⟨(by omega), ⟨fun c => ?_, fun c => ?_⟩⟩
    · replace H := H.1 c
      refine r_X5_minutes_30 ?_
      simp only [mo_ty, mo_f39, mo_t1, mo_n1, mo_a1, ms_r0 (k := 0) (p := 0) (i := 0) (by omega) (by omega) (by omega), true_or, or_true, true_and]
      exact ⟨(by omega), H⟩
    · replace H := H.2 c
      refine r_X5_minutes_26 ?_
      simp only [mo_ty, true_or, or_true, true_and]
      exact H
theorem w_minutes_28 {d : Nat} {Q : am_K} {b : am_H} {r : Nat} {S : am_G} {V : Nat → Int → Int} {W : Nat → Int} {x1 : Int} {x2 : Int} (H : ((-2147483648 ≤ x2 + 1 ∧ x2 + 1 ≤ 2147483647)) ∧ (am_W m_X5_minutes (am_ev am_prog (d + 3)) Q 17 [some (.inr (.inl r)), some (.inl x1), some (.inl (x2 + 1))] [] (mo b r (ms S) V W))) : am_W m_X5_minutes (am_ev am_prog (d + 3)) Q 28 [some (.inr (.inl r)), some (.inl x1), some (.inl x2)] [] (mo b r (ms S) V W) := by
  obtain ⟨a101, H⟩ := H
  refine r_X5_minutes_28 ?_
  refine ⟨a101, ?_⟩
  exact H
theorem w_style_0 {d : Nat} {Q : am_K} {b : am_H} {r : Nat} {S : am_G} {V : Nat → Int → Int} {W : Nat → Int} {x1 : Int} {o2 : Option am_V} {o3 : Option am_V} (H : am_ev am_prog (d + 3) 149 [.inr (.inl r)] (mo b r (ms S) V W) (am_aft (am_hand m_X5_style Q (am_W m_X5_style (am_ev am_prog (d + 3)) Q) 1) (am_W m_X5_style (am_ev am_prog (d + 3)) Q) 1 [some (.inr (.inl r)), some (.inl x1), o2, o3] [])) : am_W m_X5_style (am_ev am_prog (d + 3)) Q 0 [some (.inr (.inl r)), some (.inl x1), o2, o3] [] (mo b r (ms S) V W) := by
  refine r_X5_style_0 ?_
  simp only [mo_ty, true_or, or_true, true_and]
  exact H
theorem w_style_2 {d : Nat} {Q : am_K} {b : am_H} {r : Nat} {S : am_G} {V : Nat → Int → Int} {W : Nat → Int} {x1 : Int} {o2 : Option am_V} {o3 : Option am_V} (H : (S 0 0 0 ≤ x1 ∧ x1 ≤ 600 → am_ev am_prog (d + 3) 150 [.inr (.inl r)] (mo b r (ms S) V (am_up (am_up W 38 0) 47 (-1))) (am_aft (am_hand m_X5_style Q (am_W m_X5_style (am_ev am_prog (d + 3)) Q) 24) (am_W m_X5_style (am_ev am_prog (d + 3)) Q) 24 [some (.inr (.inl r)), some (.inl x1), o2, o3] [])) ∧ (¬ (S 0 0 0 ≤ x1 ∧ x1 ≤ 600) → Q (.inl (some (.inl 0))) (mo b r (ms S) V (am_up W 38 1)))) : am_W m_X5_style (am_ev am_prog (d + 3)) Q 2 [some (.inr (.inl r)), some (.inl x1), o2, o3] [] (mo b r (ms S) V W) := by
  refine r_X5_style_2 ?_
  simp only [mo_ty, mo_f39, mo_t1, mo_n1, mo_a1, ms_r0 (k := 0) (p := 0) (i := 0) (by omega) (by omega) (by omega), true_or, or_true, true_and]
  refine ⟨(by omega), ?_⟩
  refine c_isIn (am_av ?_)
  refine r_X5_style_10 ?_
  refine ⟨fun c => ?_, fun c => ?_⟩
  · replace c := am_b1 c
    replace H := H.1 c
    refine r_X5_style_13 ?_
    refine r_X5_style_14 ?_
    simp only [mo_ty, mo_si, true_or, or_true, true_and]
    refine ?_
    refine r_X5_style_15 ?_
    simp only [mo_ty, mo_i, am_up_eq, true_or, or_true, true_and, Int.reduceLE, Int.reduceLT, Int.reduceEq, Int.reduceNe, ne_eq, false_imp_iff, true_imp_iff, and_true, true_and, not_true_eq_false, not_false_eq_true, not_true, Int.reduceNeg]
    refine ?_
    refine r_X5_style_20 ?_
    simp only [mo_ty, mo_si, true_or, or_true, true_and]
    refine ?_
    refine r_X5_style_23 ?_
    simp only [mo_ty, true_or, or_true, true_and]
    exact H
  · replace c := am_b0 c
    replace H := H.2 c
    refine r_X5_style_11 ?_
    refine r_X5_style_14 ?_
    simp only [mo_ty, mo_si, true_or, or_true, true_and]
    refine ?_
    refine r_X5_style_15 ?_
    simp only [mo_ty, mo_i, am_up_eq, true_or, or_true, true_and, Int.reduceLE, Int.reduceLT, Int.reduceEq, Int.reduceNe, ne_eq, false_imp_iff, true_imp_iff, and_true, true_and, not_true_eq_false, not_false_eq_true, not_true, Int.reduceNeg]
    refine ?_
    refine r_X5_style_18 ?_
    exact H
theorem w_style_25 {d : Nat} {Q : am_K} {b : am_H} {r : Nat} {S : am_G} {V : Nat → Int → Int} {W : Nat → Int} {x1 : Int} {o2 : Option am_V} {o3 : Option am_V} {y0 : Int} (H : ((y0 : Int) ≠ 0 → ((S 0 0 2 : Int) ≠ 10 → (W 38 ≤ 0 → ((-2147483648 ≤ 562 * (S 0 0 2) ∧ 562 * (S 0 0 2) ≤ 2147483647) ∧ (-2147483648 ≤ 320962 + (562 * (S 0 0 2)) ∧ 320962 + (562 * (S 0 0 2)) ≤ 2147483647)) ∧ (am_W m_X5_style (am_ev am_prog (d + 3)) Q 55 [some (.inr (.inl r)), some (.inl x1), some (.inl (320962 + (562 * (S 0 0 2)))), some (.inl 2)] [] (mo b r (ms S) V W))) ∧ (0 < W 38 → Q (.inl (some (.inl 0))) (mo b r (ms S) V W))) ∧ ((S 0 0 2 : Int) = 10 → Q (.inl (some (.inl 0))) (mo b r (ms S) V (am_up W 38 2)))) ∧ ((y0 : Int) = 0 → Q (.inl (some (.inl 0))) (mo b r (ms S) V (am_up W 38 1)))) : am_W m_X5_style (am_ev am_prog (d + 3)) Q 25 [some (.inr (.inl r)), some (.inl x1), o2, o3] [.inl y0] (mo b r (ms S) V W) := by
  refine r_X5_style_25 ?_
  refine ⟨fun c => ?_, fun c => ?_⟩
  · replace H := H.1 c
    refine r_X5_style_30 ?_
    simp only [mo_ty, mo_f39, mo_t1, mo_n1, mo_a1, ms_r0 (k := 2) (p := 0) (i := 2) (by omega) (by omega) (by omega), true_or, or_true, true_and]
    refine ⟨(by omega), ⟨fun c => ?_, fun c => ?_⟩⟩
    · replace H := H.1 c
      refine r_X5_style_39 ?_
      simp only [mo_ty, mo_i, true_or, or_true, true_and]
      refine ⟨fun c => ?_, fun c => ?_⟩
      · replace H := H.1 c
        obtain ⟨⟨a102, a103⟩, H⟩ := H
        refine r_X5_style_44 ?_
        simp only [mo_ty, mo_f39, mo_t1, mo_n1, mo_a1, ms_r0 (k := 2) (p := 0) (i := 2) (by omega) (by omega) (by omega), true_or, or_true, true_and]
        refine ⟨(by omega), a102, a103, ?_⟩
        exact H
      · replace H := H.2 c
        refine r_X5_style_42 ?_
        exact H
    · replace H := H.2 c
      refine r_X5_style_36 ?_
      simp only [mo_ty, mo_si, true_or, or_true, true_and]
      refine ?_
      refine r_X5_style_39 ?_
      simp only [mo_ty, mo_i, am_up_eq, true_or, or_true, true_and, Int.reduceLE, Int.reduceLT, Int.reduceEq, Int.reduceNe, ne_eq, false_imp_iff, true_imp_iff, and_true, true_and, not_true_eq_false, not_false_eq_true, not_true, Int.reduceNeg]
      refine ?_
      refine r_X5_style_42 ?_
      exact H
  · replace H := H.2 c
    refine r_X5_style_26 ?_
    simp only [mo_ty, mo_si, true_or, or_true, true_and]
    refine ?_
    refine r_X5_style_29 ?_
    refine r_X5_style_39 ?_
    simp only [mo_ty, mo_i, am_up_eq, true_or, or_true, true_and, Int.reduceLE, Int.reduceLT, Int.reduceEq, Int.reduceNe, ne_eq, false_imp_iff, true_imp_iff, and_true, true_and, not_true_eq_false, not_false_eq_true, not_true, Int.reduceNeg]
    refine ?_
    refine r_X5_style_42 ?_
    exact H
theorem w_style_55 {d : Nat} {Q : am_K} {b : am_H} {r : Nat} {S : am_G} {V : Nat → Int → Int} {W : Nat → Int} {x1 : Int} {p2 : Int} {x3 : Int} (H : (W 58 ≤ x3 → ((0 ≤ p2 ∧ p2 < 10)) ∧ (((-2147483648 ≤ (320962 + 562 * p2) + 1 ∧ (320962 + 562 * p2) + 1 ≤ 2147483647) ∧ (0 ≤ p2 ∧ p2 < 10)) ∧ (((-2147483648 ≤ (S 0 0 2) + 1 ∧ (S 0 0 2) + 1 ≤ 2147483647)) ∧ (Q (.inl (some (.inl (W 57)))) (mo b r (ms (u3 (u3 (u3 S 6 p2 0 x1) 6 p2 1 (W 57)) 0 0 2 ((S 0 0 2) + 1))) V W))))) ∧ (x3 < W 58 → ((-2147483648 ≤ (320962 + 562 * p2) + x3 ∧ (320962 + 562 * p2) + x3 ≤ 2147483647) ∧ (0 ≤ x3 ∧ x3 < 562) ∧ (0 ≤ p2 ∧ p2 < 10)) ∧ (((-2147483648 ≤ x3 + 1 ∧ x3 + 1 ≤ 2147483647)) ∧ (am_W m_X5_style (am_ev am_prog (d + 3)) Q 55 [some (.inr (.inl r)), some (.inl x1), some (.inl (320962 + 562 * p2)), some (.inl (x3 + 1))] [] (mo b r (ms (u3 S 6 p2 x3 (V 10 x3))) V W))))) : am_W m_X5_style (am_ev am_prog (d + 3)) Q 55 [some (.inr (.inl r)), some (.inl x1), some (.inl (320962 + 562 * p2)), some (.inl x3)] [] (mo b r (ms S) V W) := by
  refine r_X5_style_55 ?_
  simp only [mo_ty, mo_i, true_or, or_true, true_and]
  refine ⟨fun c => ?_, fun c => ?_⟩
  · replace H := H.1 c
    obtain ⟨a104, H⟩ := H
    refine r_X5_style_71 ?_
    simp only [mo_ty, mo_f39, mo_t1, mo_n1, mo_s1, ms_w6 (k := 320962 + 562 * p2) (p := p2) (i := 0) (by omega) (by omega) (by omega), true_or, or_true, true_and]
    refine ⟨(by omega), ?_⟩
    obtain ⟨⟨a105, a106⟩, H⟩ := H
    refine r_X5_style_76 ?_
    simp only [mo_ty, mo_f39, mo_i, mo_t1, mo_n1, mo_s1, ms_w6 (k := (320962 + 562 * p2) + 1) (p := p2) (i := 1) (by omega) (by omega) (by omega), true_or, or_true, true_and]
    refine ⟨a105, (by omega), ?_⟩
    obtain ⟨a107, H⟩ := H
    refine r_X5_style_84 ?_
    simp only [mo_ty, mo_f39, mo_t1, mo_n1, mo_a1, ms_r0 (k := 2) (p := 0) (i := 2) (by omega) (by omega) (by omega), u3_nc (by decide : (0 : Nat) ≠ 6), mo_s1, ms_w0 (k := 2) (p := 0) (i := 2) (by omega) (by omega) (by omega), true_or, or_true, true_and]
    refine ⟨(by omega), a107, (by omega), ?_⟩
    refine r_X5_style_92 ?_
    simp only [mo_ty, mo_i, true_or, or_true, true_and]
    exact H
  · replace H := H.2 c
    obtain ⟨⟨a108, a109, a110⟩, H⟩ := H
    refine r_X5_style_59 ?_
    simp only [mo_ty, mo_f39, mo_f56, mo_t10, mo_n10, mo_a10, mo_t1, mo_n1, mo_s1, ms_w6 (k := (320962 + 562 * p2) + x3) (p := p2) (i := x3) (by omega) (by omega) (by omega), true_or, or_true, true_and]
    refine ⟨a108, a109, (by omega), ?_⟩
    obtain ⟨a111, H⟩ := H
    refine r_X5_style_69 ?_
    refine ⟨a111, ?_⟩
    exact H
theorem w_proof_0 {d : Nat} {Q : am_K} {b : am_H} {r : Nat} {S : am_G} {V : Nat → Int → Int} {W : Nat → Int} {x1 : Int} {o2 : Option am_V} {o3 : Option am_V} {o4 : Option am_V} {o5 : Option am_V} {o6 : Option am_V} {o7 : Option am_V} {o8 : Option am_V} {o9 : Option am_V} {o10 : Option am_V} {o11 : Option am_V} (H : (0 ≤ x1 ∧ x1 ≤ 5 → am_W m_X5_proof (am_ev am_prog (d + 3)) Q 27 [some (.inr (.inl r)), some (.inl x1), some (.inl 0), some (.inl 0), some (.inl 0), some (.inl 0), some (.inl 0), some (.inl 0), o8, o9, o10, o11] [] (mo b r (ms S) V (am_up W 38 0))) ∧ (¬ (0 ≤ x1 ∧ x1 ≤ 5) → Q (.inl (some (.inl 0))) (mo b r (ms S) V (am_up W 38 1)))) : am_W m_X5_proof (am_ev am_prog (d + 3)) Q 0 [some (.inr (.inl r)), some (.inl x1), o2, o3, o4, o5, o6, o7, o8, o9, o10, o11] [] (mo b r (ms S) V W) := by
  refine r_X5_proof_0 ?_
  refine ?_
  refine c_isIn (am_av ?_)
  refine r_X5_proof_5 ?_
  refine ⟨fun c => ?_, fun c => ?_⟩
  · replace c := am_b1 c
    replace H := H.1 c
    refine r_X5_proof_8 ?_
    refine r_X5_proof_9 ?_
    simp only [mo_ty, mo_si, true_or, or_true, true_and]
    refine ?_
    refine r_X5_proof_10 ?_
    simp only [mo_ty, mo_i, am_up_eq, true_or, or_true, true_and, Int.reduceLE, Int.reduceLT, Int.reduceEq, Int.reduceNe, ne_eq, false_imp_iff, true_imp_iff, and_true, true_and, not_true_eq_false, not_false_eq_true, not_true, Int.reduceNeg]
    refine ?_
    refine r_X5_proof_15 ?_
    exact H
  · replace c := am_b0 c
    replace H := H.2 c
    refine r_X5_proof_6 ?_
    refine r_X5_proof_9 ?_
    simp only [mo_ty, mo_si, true_or, or_true, true_and]
    refine ?_
    refine r_X5_proof_10 ?_
    simp only [mo_ty, mo_i, am_up_eq, true_or, or_true, true_and, Int.reduceLE, Int.reduceLT, Int.reduceEq, Int.reduceNe, ne_eq, false_imp_iff, true_imp_iff, and_true, true_and, not_true_eq_false, not_false_eq_true, not_true, Int.reduceNeg]
    refine ?_
    refine r_X5_proof_13 ?_
    exact H
theorem w_proof_27 {d : Nat} {Q : am_K} {b : am_H} {r : Nat} {S : am_G} {V : Nat → Int → Int} {W : Nat → Int} {x1 : Int} {x2 : Int} {x3 : Int} {x4 : Int} {x5 : Int} {x6 : Int} {x7 : Int} {o8 : Option am_V} {o9 : Option am_V} {o10 : Option am_V} {o11 : Option am_V} (H : (S 0 0 4 ≤ x7 → ((x1 : Int) ≠ 3 → ((x1 : Int) ≠ 0 → ((x1 : Int) ≠ 1 → ((x1 : Int) ≠ 2 → ((x1 : Int) ≠ 4 → Q (.inl (some (.inl x6))) (mo b r (ms S) V W)) ∧ ((x1 : Int) = 4 → Q (.inl (some (.inl x5))) (mo b r (ms S) V W))) ∧ ((x1 : Int) = 2 → Q (.inl (some (.inl x4))) (mo b r (ms S) V W))) ∧ ((x1 : Int) = 1 → Q (.inl (some (.inl x3))) (mo b r (ms S) V W))) ∧ ((x1 : Int) = 0 → Q (.inl (some (.inl x2))) (mo b r (ms S) V W))) ∧ ((x1 : Int) = 3 → ((x4 : Int) ≠ 0 → ((-2147483648 ≤ x2 - x4 ∧ x2 - x4 ≤ 2147483647) ∧ (-2147483648 ≤ x3 - x4 ∧ x3 - x4 ≤ 2147483647) ∧ (-2147483648 ≤ (x2 - x4) * (x3 - x4) ∧ (x2 - x4) * (x3 - x4) ≤ 2147483647) ∧ (0 ≤ (x2 - x4) * (x3 - x4) ∧ (x2 - x4) * (x3 - x4) ≤ 2147483647) ∧ 0 < x4) ∧ (Q (.inl (some (.inl (((x2 - x4) * (x3 - x4)) / x4)))) (mo b r (ms S) V W))) ∧ ((x4 : Int) = 0 → Q (.inl (some (.inl (-1)))) (mo b r (ms S) V W)))) ∧ (x7 < S 0 0 4 → ((0 ≤ x7 ∧ x7 < 2000000)) ∧ (((-2147483648 ≤ (64630 + 852 * x7) + 4 ∧ (64630 + 852 * x7) + 4 ≤ 2147483647) ∧ (0 ≤ x7 ∧ x7 < 300)) ∧ (((S 4 x7 4 : Int) = 0 → ((-2147483648 ≤ (64630 + 852 * x7) + 10 ∧ (64630 + 852 * x7) + 10 ≤ 2147483647) ∧ (0 ≤ x7 ∧ x7 < 300) ∧ (-2147483648 ≤ ((64630 + 852 * x7) + 10) + 1 ∧ ((64630 + 852 * x7) + 10) + 1 ≤ 2147483647) ∧ (-2147483648 ≤ x2 + (S 4 x7 10) ∧ x2 + (S 4 x7 10) ≤ 2147483647) ∧ (-2147483648 ≤ x3 + (S 4 x7 11) ∧ x3 + (S 4 x7 11) ≤ 2147483647) ∧ (-2147483648 ≤ (S 4 x7 10) * (S 4 x7 11) ∧ (S 4 x7 10) * (S 4 x7 11) ≤ 2147483647) ∧ (-2147483648 ≤ x4 + ((S 4 x7 10) * (S 4 x7 11)) ∧ x4 + ((S 4 x7 10) * (S 4 x7 11)) ≤ 2147483647)) ∧ (am_ev am_prog (d + 3) 144 [.inr (.inl r), .inl x7] (mo b r (ms S) V W) (am_aft (am_hand m_X5_proof Q (am_W m_X5_proof (am_ev am_prog (d + 3)) Q) 76) (am_W m_X5_proof (am_ev am_prog (d + 3)) Q) 76 [some (.inr (.inl r)), some (.inl x1), some (.inl (x2 + (S 4 x7 10))), some (.inl (x3 + (S 4 x7 11))), some (.inl (x4 + ((S 4 x7 10) * (S 4 x7 11)))), some (.inl x5), some (.inl x6), some (.inl x7), some (.inl (64630 + 852 * x7)), some (.inl (S 4 x7 10)), some (.inl (S 4 x7 11)), o11] []))) ∧ ((S 4 x7 4 : Int) ≠ 0 → ((-2147483648 ≤ x7 + 1 ∧ x7 + 1 ≤ 2147483647)) ∧ (am_W m_X5_proof (am_ev am_prog (d + 3)) Q 27 [some (.inr (.inl r)), some (.inl x1), some (.inl x2), some (.inl x3), some (.inl x4), some (.inl x5), some (.inl x6), some (.inl (x7 + 1)), some (.inl (64630 + 852 * x7)), o9, o10, o11] [] (mo b r (ms S) V W))))))) : am_W m_X5_proof (am_ev am_prog (d + 3)) Q 27 [some (.inr (.inl r)), some (.inl x1), some (.inl x2), some (.inl x3), some (.inl x4), some (.inl x5), some (.inl x6), some (.inl x7), o8, o9, o10, o11] [] (mo b r (ms S) V W) := by
  refine r_X5_proof_27 ?_
  simp only [mo_ty, mo_f39, mo_t1, mo_n1, mo_a1, ms_r0 (k := 4) (p := 0) (i := 4) (by omega) (by omega) (by omega), true_or, or_true, true_and]
  refine ⟨(by omega), ⟨fun c => ?_, fun c => ?_⟩⟩
  · replace H := H.1 c
    refine r_X5_proof_104 ?_
    refine ⟨fun c => ?_, fun c => ?_⟩
    · replace H := H.1 c
      refine r_X5_proof_121 ?_
      refine ⟨fun c => ?_, fun c => ?_⟩
      · replace H := H.1 c
        refine r_X5_proof_125 ?_
        refine ⟨fun c => ?_, fun c => ?_⟩
        · replace H := H.1 c
          refine r_X5_proof_130 ?_
          refine ⟨fun c => ?_, fun c => ?_⟩
          · replace H := H.1 c
            refine r_X5_proof_135 ?_
            refine ⟨fun c => ?_, fun c => ?_⟩
            · replace H := H.1 c
              refine r_X5_proof_140 ?_
              refine r_X5_proof_141 ?_
              exact H
            · replace H := H.2 c
              refine r_X5_proof_138 ?_
              refine r_X5_proof_141 ?_
              exact H
          · replace H := H.2 c
            refine r_X5_proof_133 ?_
            refine r_X5_proof_141 ?_
            exact H
        · replace H := H.2 c
          refine r_X5_proof_128 ?_
          refine r_X5_proof_141 ?_
          exact H
      · replace H := H.2 c
        refine r_X5_proof_123 ?_
        refine r_X5_proof_141 ?_
        exact H
    · replace H := H.2 c
      refine r_X5_proof_107 ?_
      refine ⟨fun c => ?_, fun c => ?_⟩
      · replace H := H.1 c
        obtain ⟨⟨a112, a113, a114, a115, a116⟩, H⟩ := H
        refine r_X5_proof_111 ?_
        simp only [am_td (x := (x2 - x4) * (x3 - x4)) (y := x4) (by omega), am_tm (x := (x2 - x4) * (x3 - x4)) (y := x4) (by omega), true_or, or_true, true_and]
        refine ⟨a112, a113, a114, ⟨by omega, am_dk (by omega) (by omega)⟩, ?_⟩
        refine r_X5_proof_120 ?_
        exact H
      · replace H := H.2 c
        refine r_X5_proof_109 ?_
        refine r_X5_proof_120 ?_
        exact H
  · replace H := H.2 c
    refine r_X5_proof_33 ?_
    refine ?_
    obtain ⟨a117, H⟩ := H
    refine c_slug0 (by omega) (am_av ?_)
    obtain ⟨⟨a118, a119⟩, H⟩ := H
    refine r_X5_proof_35 ?_
    simp only [mo_ty, mo_f39, mo_t1, mo_n1, mo_a1, ms_r4 (k := (64630 + 852 * x7) + 4) (p := x7) (i := 4) (by omega) (by omega) (by omega), true_or, or_true, true_and]
    refine ⟨a118, (by omega), ⟨fun c => ?_, fun c => ?_⟩⟩
    · replace H := H.1 c
      obtain ⟨⟨a120, a121, a122, a123, a124, a125, a126⟩, H⟩ := H
      refine r_X5_proof_44 ?_
      simp only [mo_ty, mo_f39, mo_t1, mo_n1, mo_a1, ms_r4 (k := (64630 + 852 * x7) + 10) (p := x7) (i := 10) (by omega) (by omega) (by omega), ms_r4 (k := ((64630 + 852 * x7) + 10) + 1) (p := x7) (i := 11) (by omega) (by omega) (by omega), true_or, or_true, true_and]
      exact ⟨a120, (by omega), a120, a122, (by omega), a123, a124, a125, a126, H⟩
    · replace H := H.2 c
      refine r_X5_proof_43 ?_
      obtain ⟨a127, H⟩ := H
      refine r_X5_proof_102 ?_
      refine ⟨a127, ?_⟩
      exact H
theorem w_proof_77 {d : Nat} {Q : am_K} {b : am_H} {r : Nat} {S : am_G} {V : Nat → Int → Int} {W : Nat → Int} {x1 : Int} {x2 : Int} {x3 : Int} {x4 : Int} {x5 : Int} {x6 : Int} {x7 : Int} {x8 : Int} {x9 : Int} {x10 : Int} {o11 : Option am_V} {y0 : Int} (H : ((-2147483648 ≤ x9 + x10 ∧ x9 + x10 ≤ 2147483647)) ∧ ((x9 + x10 ≤ 0 → ((-2147483648 ≤ x5 + 0 ∧ x5 + 0 ≤ 2147483647) ∧ (-2147483648 ≤ x9 + x10 ∧ x9 + x10 ≤ 2147483647)) ∧ (((x9 + x10 : Int) ≠ 0 → ((-2147483648 ≤ x6 + 0 ∧ x6 + 0 ≤ 2147483647)) ∧ (((-2147483648 ≤ x7 + 1 ∧ x7 + 1 ≤ 2147483647)) ∧ (am_W m_X5_proof (am_ev am_prog (d + 3)) Q 27 [some (.inr (.inl r)), some (.inl x1), some (.inl x2), some (.inl x3), some (.inl x4), some (.inl (x5 + 0)), some (.inl (x6 + 0)), some (.inl (x7 + 1)), some (.inl x8), some (.inl x9), some (.inl x10), some (.inl y0)] [] (mo b r (ms S) V W)))) ∧ ((x9 + x10 : Int) = 0 → ((-2147483648 ≤ x6 + (am_b ((y0 : Int) ≠ 0)) ∧ x6 + (am_b ((y0 : Int) ≠ 0)) ≤ 2147483647)) ∧ (((-2147483648 ≤ x7 + 1 ∧ x7 + 1 ≤ 2147483647)) ∧ (am_W m_X5_proof (am_ev am_prog (d + 3)) Q 27 [some (.inr (.inl r)), some (.inl x1), some (.inl x2), some (.inl x3), some (.inl x4), some (.inl (x5 + 0)), some (.inl (x6 + (am_b ((y0 : Int) ≠ 0)))), some (.inl (x7 + 1)), some (.inl x8), some (.inl x9), some (.inl x10), some (.inl y0)] [] (mo b r (ms S) V W)))))) ∧ (0 < x9 + x10 → ((-2147483648 ≤ x5 + (am_b ((y0 : Int) = 0)) ∧ x5 + (am_b ((y0 : Int) = 0)) ≤ 2147483647) ∧ (-2147483648 ≤ x9 + x10 ∧ x9 + x10 ≤ 2147483647)) ∧ (((x9 + x10 : Int) ≠ 0 → ((-2147483648 ≤ x6 + 0 ∧ x6 + 0 ≤ 2147483647)) ∧ (((-2147483648 ≤ x7 + 1 ∧ x7 + 1 ≤ 2147483647)) ∧ (am_W m_X5_proof (am_ev am_prog (d + 3)) Q 27 [some (.inr (.inl r)), some (.inl x1), some (.inl x2), some (.inl x3), some (.inl x4), some (.inl (x5 + (am_b ((y0 : Int) = 0)))), some (.inl (x6 + 0)), some (.inl (x7 + 1)), some (.inl x8), some (.inl x9), some (.inl x10), some (.inl y0)] [] (mo b r (ms S) V W)))) ∧ ((x9 + x10 : Int) = 0 → ((-2147483648 ≤ x6 + (am_b ((y0 : Int) ≠ 0)) ∧ x6 + (am_b ((y0 : Int) ≠ 0)) ≤ 2147483647)) ∧ (((-2147483648 ≤ x7 + 1 ∧ x7 + 1 ≤ 2147483647)) ∧ (am_W m_X5_proof (am_ev am_prog (d + 3)) Q 27 [some (.inr (.inl r)), some (.inl x1), some (.inl x2), some (.inl x3), some (.inl x4), some (.inl (x5 + (am_b ((y0 : Int) = 0)))), some (.inl (x6 + (am_b ((y0 : Int) ≠ 0)))), some (.inl (x7 + 1)), some (.inl x8), some (.inl x9), some (.inl x10), some (.inl y0)] [] (mo b r (ms S) V W)))))))) : am_W m_X5_proof (am_ev am_prog (d + 3)) Q 77 [some (.inr (.inl r)), some (.inl x1), some (.inl x2), some (.inl x3), some (.inl x4), some (.inl x5), some (.inl x6), some (.inl x7), some (.inl x8), some (.inl x9), some (.inl x10), o11] [.inl y0] (mo b r (ms S) V W) := by
  obtain ⟨a128, H⟩ := H
  refine r_X5_proof_77 ?_
  refine ⟨a128, ⟨fun c => ?_, fun c => ?_⟩⟩
  · replace H := H.1 c
    refine r_X5_proof_87 ?_
    obtain ⟨⟨a129, a130⟩, H⟩ := H
    refine r_X5_proof_88 ?_
    refine ⟨a129, a130, ⟨fun c => ?_, fun c => ?_⟩⟩
    · replace H := H.1 c
      refine r_X5_proof_99 ?_
      obtain ⟨a131, H⟩ := H
      refine r_X5_proof_100 ?_
      refine ⟨a131, ?_⟩
      obtain ⟨a132, H⟩ := H
      refine r_X5_proof_102 ?_
      refine ⟨a132, ?_⟩
      exact H
    · replace H := H.2 c
      have J : ∀ y : Int, y = am_b ((y0 : Int) ≠ 0) → am_W m_X5_proof (am_ev am_prog (d + 3)) Q 100 [some (.inr (.inl r)), some (.inl x1), some (.inl x2), some (.inl x3), some (.inl x4), some (.inl (x5 + 0)), some (.inl x6), some (.inl x7), some (.inl x8), some (.inl x9), some (.inl x10), some (.inl y0)] [.inl y, .inl x6] (mo b r (ms S) V W) := by
        intro y hy
        subst hy
        obtain ⟨a133, H⟩ := H
        refine r_X5_proof_100 ?_
        refine ⟨a133, ?_⟩
        obtain ⟨a134, H⟩ := H
        refine r_X5_proof_102 ?_
        refine ⟨a134, ?_⟩
        exact H
      refine r_X5_proof_95 ?_
      refine ⟨fun c => ?_, fun c => ?_⟩
      · exact r_X5_proof_99 (J _ (am_bf (by omega)).symm)
      · exact r_X5_proof_97 (J _ (am_bt c).symm)
  · replace H := H.2 c
    have J : ∀ y : Int, y = am_b ((y0 : Int) = 0) → am_W m_X5_proof (am_ev am_prog (d + 3)) Q 88 [some (.inr (.inl r)), some (.inl x1), some (.inl x2), some (.inl x3), some (.inl x4), some (.inl x5), some (.inl x6), some (.inl x7), some (.inl x8), some (.inl x9), some (.inl x10), some (.inl y0)] [.inl y, .inl x5] (mo b r (ms S) V W) := by
      intro y hy
      subst hy
      obtain ⟨⟨a135, a136⟩, H⟩ := H
      refine r_X5_proof_88 ?_
      refine ⟨a135, a136, ⟨fun c => ?_, fun c => ?_⟩⟩
      · replace H := H.1 c
        refine r_X5_proof_99 ?_
        obtain ⟨a137, H⟩ := H
        refine r_X5_proof_100 ?_
        refine ⟨a137, ?_⟩
        obtain ⟨a138, H⟩ := H
        refine r_X5_proof_102 ?_
        refine ⟨a138, ?_⟩
        exact H
      · replace H := H.2 c
        have J : ∀ y : Int, y = am_b ((y0 : Int) ≠ 0) → am_W m_X5_proof (am_ev am_prog (d + 3)) Q 100 [some (.inr (.inl r)), some (.inl x1), some (.inl x2), some (.inl x3), some (.inl x4), some (.inl (x5 + (am_b ((y0 : Int) = 0)))), some (.inl x6), some (.inl x7), some (.inl x8), some (.inl x9), some (.inl x10), some (.inl y0)] [.inl y, .inl x6] (mo b r (ms S) V W) := by
          intro y hy
          subst hy
          obtain ⟨a139, H⟩ := H
          refine r_X5_proof_100 ?_
          refine ⟨a139, ?_⟩
          obtain ⟨a140, H⟩ := H
          refine r_X5_proof_102 ?_
          refine ⟨a140, ?_⟩
          exact H
        refine r_X5_proof_95 ?_
        refine ⟨fun c => ?_, fun c => ?_⟩
        · exact r_X5_proof_99 (J _ (am_bf (by omega)).symm)
        · exact r_X5_proof_97 (J _ (am_bt c).symm)
    refine r_X5_proof_83 ?_
    refine ⟨fun c => ?_, fun c => ?_⟩
    · exact r_X5_proof_87 (J _ (am_bf (by omega)).symm)
    · exact r_X5_proof_85 (J _ (am_bt c).symm)
theorem w_ahead_36 {d : Nat} {Q : am_K} {b : am_H} {r : Nat} {S : am_G} {V : Nat → Int → Int} {W : Nat → Int} {x1 : Int} {o2 : Option am_V} (H : (600 ≤ S 0 0 0 → am_ev am_prog (d + 3) 142 [.inr (.inl r)] (mo b r (ms S) V W) (am_aft (am_hand m_X5_ahead Q (am_W m_X5_ahead (am_ev am_prog (d + 3)) Q) 49) (am_W m_X5_ahead (am_ev am_prog (d + 3)) Q) 49 [some (.inr (.inl r)), some (.inl x1), o2] [])) ∧ (S 0 0 0 < 600 → am_ev am_prog (d + 3) 142 [.inr (.inl r)] (mo b r (ms S) V W) (am_aft (am_hand m_X5_ahead Q (am_W m_X5_ahead (am_ev am_prog (d + 3)) Q) 43) (am_W m_X5_ahead (am_ev am_prog (d + 3)) Q) 43 [some (.inr (.inl r)), some (.inl x1), o2] []))) : am_W m_X5_ahead (am_ev am_prog (d + 3)) Q 36 [some (.inr (.inl r)), some (.inl x1), o2] [] (mo b r (ms S) V W) := by
  refine r_X5_ahead_36 ?_
  simp only [mo_ty, mo_f39, mo_t1, mo_n1, mo_a1, ms_r0 (k := 0) (p := 0) (i := 0) (by omega) (by omega) (by omega), true_or, or_true, true_and]
  refine ⟨(by omega), ⟨fun c => ?_, fun c => ?_⟩⟩
  · replace H := H.1 c
    refine r_X5_ahead_48 ?_
    simp only [mo_ty, true_or, or_true, true_and]
    exact H
  · replace H := H.2 c
    refine r_X5_ahead_42 ?_
    simp only [mo_ty, true_or, or_true, true_and]
    exact H
theorem w_ahead_44 {d : Nat} {Q : am_K} {b : am_H} {r : Nat} {S : am_G} {V : Nat → Int → Int} {W : Nat → Int} {x1 : Int} {o2 : Option am_V} {y0 : Int} (H : (y0 ≤ 0 → am_ev am_prog (d + 3) 142 [.inr (.inl r)] (mo b r (ms S) V W) (am_aft (am_hand m_X5_ahead Q (am_W m_X5_ahead (am_ev am_prog (d + 3)) Q) 49) (am_W m_X5_ahead (am_ev am_prog (d + 3)) Q) 49 [some (.inr (.inl r)), some (.inl x1), o2] [])) ∧ (0 < y0 → am_ev am_prog (d + 3) 148 [.inr (.inl r)] (mo b r (ms S) V W) (am_aft (am_hand m_X5_ahead Q (am_W m_X5_ahead (am_ev am_prog (d + 3)) Q) 46) (am_W m_X5_ahead (am_ev am_prog (d + 3)) Q) 46 [some (.inr (.inl r)), some (.inl x1), o2] []))) : am_W m_X5_ahead (am_ev am_prog (d + 3)) Q 44 [some (.inr (.inl r)), some (.inl x1), o2] [.inl y0] (mo b r (ms S) V W) := by
  refine r_X5_ahead_44 ?_
  refine ⟨fun c => ?_, fun c => ?_⟩
  · replace H := H.1 c
    refine r_X5_ahead_48 ?_
    simp only [mo_ty, true_or, or_true, true_and]
    exact H
  · replace H := H.2 c
    refine r_X5_ahead_45 ?_
    simp only [mo_ty, true_or, or_true, true_and]
    exact H
theorem w_ahead_47 {d : Nat} {Q : am_K} {b : am_H} {r : Nat} {S : am_G} {V : Nat → Int → Int} {W : Nat → Int} {x1 : Int} {o2 : Option am_V} (H : am_W m_X5_ahead (am_ev am_prog (d + 3)) Q 36 [some (.inr (.inl r)), some (.inl x1), o2] [] (mo b r (ms S) V W)) : am_W m_X5_ahead (am_ev am_prog (d + 3)) Q 47 [some (.inr (.inl r)), some (.inl x1), o2] [] (mo b r (ms S) V W) := by
  refine r_X5_ahead_47 ?_
  exact H
theorem w_judge_0 {d : Nat} {Q : am_K} {b : am_H} {r : Nat} {S : am_G} {V : Nat → Int → Int} {W : Nat → Int} {x1 : Int} {o2 : Option am_V} (H : ((-2147483648 ≤ x1 ∧ x1 ≤ 2147483647) ∧ S 0 0 1 ≤ 20) ∧ ((0 ≤ x1 ∧ x1 / 5 < S 0 0 1 ∧ x1 % 5 < S 2 2 (x1 / 5) → ((0 ≤ x1 ∧ x1 < 3000000)) ∧ (((-2147483648 ≤ (130 + 645 * x1) + 3 ∧ (130 + 645 * x1) + 3 ≤ 2147483647) ∧ (0 ≤ x1 ∧ x1 < 100)) ∧ (((S 3 x1 3 : Int) ≠ 0 → am_W m_X5_judge (am_ev am_prog (d + 3)) Q 26 [some (.inr (.inl r)), some (.inl x1), some (.inl 0)] [] (mo b r (ms S) V (am_up W 38 0))) ∧ ((S 3 x1 3 : Int) = 0 → Q (.inl (some (.inl 0))) (mo b r (ms S) V (am_up W 38 2)))))) ∧ (¬ (0 ≤ x1 ∧ x1 / 5 < S 0 0 1 ∧ x1 % 5 < S 2 2 (x1 / 5)) → Q (.inl (some (.inl 0))) (mo b r (ms S) V (am_up W 38 1))))) : am_W m_X5_judge (am_ev am_prog (d + 3)) Q 0 [some (.inr (.inl r)), some (.inl x1), o2] [] (mo b r (ms S) V W) := by
  refine r_X5_judge_0 ?_
  simp only [mo_ty, true_or, or_true, true_and]
  refine ?_
  obtain ⟨⟨a141, a142⟩, H⟩ := H
  refine c_isPart (by omega) (by omega) (am_av ?_)
  refine r_X5_judge_4 ?_
  refine ⟨fun c => ?_, fun c => ?_⟩
  · replace c := am_b1 c
    replace H := H.1 c
    refine r_X5_judge_7 ?_
    simp only [mo_ty, mo_f39, true_or, or_true, true_and]
    refine ?_
    obtain ⟨a143, H⟩ := H
    refine c_part0 (by omega) (am_av ?_)
    obtain ⟨⟨a144, a145⟩, H⟩ := H
    refine r_X5_judge_11 ?_
    simp only [mo_t1, mo_n1, mo_a1, ms_r3 (k := (130 + 645 * x1) + 3) (p := x1) (i := 3) (by omega) (by omega) (by omega), true_or, or_true, true_and]
    refine ⟨a144, (by omega), ⟨fun c => ?_, fun c => ?_⟩⟩
    · replace H := H.1 c
      refine r_X5_judge_17 ?_
      refine r_X5_judge_18 ?_
      simp only [mo_ty, mo_si, true_or, or_true, true_and]
      refine ?_
      refine r_X5_judge_19 ?_
      simp only [mo_ty, mo_i, am_up_eq, true_or, or_true, true_and, Int.reduceLE, Int.reduceLT, Int.reduceEq, Int.reduceNe, ne_eq, false_imp_iff, true_imp_iff, and_true, true_and, not_true_eq_false, not_false_eq_true, not_true, Int.reduceNeg]
      refine ?_
      refine r_X5_judge_24 ?_
      exact H
    · replace H := H.2 c
      refine r_X5_judge_15 ?_
      refine r_X5_judge_18 ?_
      simp only [mo_ty, mo_si, true_or, or_true, true_and]
      refine ?_
      refine r_X5_judge_19 ?_
      simp only [mo_ty, mo_i, am_up_eq, true_or, or_true, true_and, Int.reduceLE, Int.reduceLT, Int.reduceEq, Int.reduceNe, ne_eq, false_imp_iff, true_imp_iff, and_true, true_and, not_true_eq_false, not_false_eq_true, not_true, Int.reduceNeg]
      refine ?_
      refine r_X5_judge_22 ?_
      exact H
  · replace c := am_b0 c
    replace H := H.2 c
    refine r_X5_judge_5 ?_
    refine r_X5_judge_18 ?_
    simp only [mo_ty, mo_si, true_or, or_true, true_and]
    refine ?_
    refine r_X5_judge_19 ?_
    simp only [mo_ty, mo_i, am_up_eq, true_or, or_true, true_and, Int.reduceLE, Int.reduceLT, Int.reduceEq, Int.reduceNe, ne_eq, false_imp_iff, true_imp_iff, and_true, true_and, not_true_eq_false, not_false_eq_true, not_true, Int.reduceNeg]
    refine ?_
    refine r_X5_judge_22 ?_
    exact H
theorem w_judge_26 {d : Nat} {Q : am_K} {b : am_H} {r : Nat} {S : am_G} {V : Nat → Int → Int} {W : Nat → Int} {x1 : Int} {x2 : Int} (H : ((0 ≤ x1 ∧ x1 < 3000000)) ∧ (((-2147483648 ≤ (130 + 645 * x1) + 4 ∧ (130 + 645 * x1) + 4 ≤ 2147483647) ∧ (0 ≤ x1 ∧ x1 < 100)) ∧ ((S 3 x1 4 ≤ x2 → Q (.inl (some (.inl (-1)))) (mo b r (ms S) V W)) ∧ (x2 < S 3 x1 4 → am_ev am_prog (d + 3) 153 [.inr (.inl r), .inl x1, .inl x2] (mo b r (ms S) V W) (am_aft (am_hand m_X5_judge Q (am_W m_X5_judge (am_ev am_prog (d + 3)) Q) 38) (am_W m_X5_judge (am_ev am_prog (d + 3)) Q) 38 [some (.inr (.inl r)), some (.inl x1), some (.inl x2)] []))))) : am_W m_X5_judge (am_ev am_prog (d + 3)) Q 26 [some (.inr (.inl r)), some (.inl x1), some (.inl x2)] [] (mo b r (ms S) V W) := by
  refine r_X5_judge_26 ?_
  simp only [mo_ty, mo_f39, true_or, or_true, true_and]
  refine ?_
  obtain ⟨a146, H⟩ := H
  refine c_part0 (by omega) (am_av ?_)
  obtain ⟨⟨a147, a148⟩, H⟩ := H
  refine r_X5_judge_31 ?_
  simp only [mo_t1, mo_n1, mo_a1, ms_r3 (k := (130 + 645 * x1) + 4) (p := x1) (i := 4) (by omega) (by omega) (by omega), true_or, or_true, true_and]
  refine ⟨a147, (by omega), ⟨fun c => ?_, fun c => ?_⟩⟩
  · replace H := H.1 c
    refine r_X5_judge_44 ?_
    exact H
  · replace H := H.2 c
    refine r_X5_judge_35 ?_
    simp only [mo_ty, true_or, or_true, true_and]
    exact H
theorem w_judge_39 {d : Nat} {Q : am_K} {b : am_H} {r : Nat} {S : am_G} {V : Nat → Int → Int} {W : Nat → Int} {x1 : Int} {x2 : Int} {y0 : Int} (H : ((y0 : Int) ≠ 0 → ((-2147483648 ≤ x2 + 1 ∧ x2 + 1 ≤ 2147483647)) ∧ (am_W m_X5_judge (am_ev am_prog (d + 3)) Q 26 [some (.inr (.inl r)), some (.inl x1), some (.inl (x2 + 1))] [] (mo b r (ms S) V W))) ∧ ((y0 : Int) = 0 → Q (.inl (some (.inl x2))) (mo b r (ms S) V W))) : am_W m_X5_judge (am_ev am_prog (d + 3)) Q 39 [some (.inr (.inl r)), some (.inl x1), some (.inl x2)] [.inl y0] (mo b r (ms S) V W) := by
  refine r_X5_judge_39 ?_
  refine ⟨fun c => ?_, fun c => ?_⟩
  · replace H := H.1 c
    obtain ⟨a149, H⟩ := H
    refine r_X5_judge_42 ?_
    refine ⟨a149, ?_⟩
    exact H
  · replace H := H.2 c
    refine r_X5_judge_40 ?_
    exact H
theorem w_fit_0 {d : Nat} {Q : am_K} {b : am_H} {r : Nat} {S : am_G} {V : Nat → Int → Int} {W : Nat → Int} {x1 : Int} {x2 : Int} (H : am_ev am_prog (d + 3) 168 [.inr (.inl r), .inl x1, .inl x2] (mo b r (ms S) V W) (am_aft (am_hand m_X5_fit Q (am_W m_X5_fit (am_ev am_prog (d + 3)) Q) 4) (am_W m_X5_fit (am_ev am_prog (d + 3)) Q) 4 [some (.inr (.inl r)), some (.inl x1), some (.inl x2)] [.inr (.inl r)])) : am_W m_X5_fit (am_ev am_prog (d + 3)) Q 0 [some (.inr (.inl r)), some (.inl x1), some (.inl x2)] [] (mo b r (ms S) V W) := by
  refine r_X5_fit_0 ?_
  simp only [mo_ty, true_or, or_true, true_and]
  exact H
theorem w_fit_5 {d : Nat} {Q : am_K} {b : am_H} {r : Nat} {S : am_G} {V : Nat → Int → Int} {W : Nat → Int} {x1 : Int} {x2 : Int} {y1 : Int} (H : (y1 ≤ 0 → am_ev am_prog (d + 3) 169 [.inr (.inl r), .inl x1, .inl x2] (mo b r (ms S) V (am_up W 38 y1)) (am_aft (am_hand m_X5_fit Q (am_W m_X5_fit (am_ev am_prog (d + 3)) Q) 14) (am_W m_X5_fit (am_ev am_prog (d + 3)) Q) 14 [some (.inr (.inl r)), some (.inl x1), some (.inl x2)] [])) ∧ (0 < y1 → Q (.inl (some (.inl 0))) (mo b r (ms S) V (am_up W 38 y1)))) : am_W m_X5_fit (am_ev am_prog (d + 3)) Q 5 [some (.inr (.inl r)), some (.inl x1), some (.inl x2)] [.inl y1, .inr (.inl r)] (mo b r (ms S) V W) := by
  refine r_X5_fit_5 ?_
  simp only [mo_ty, mo_si, true_or, or_true, true_and]
  refine ?_
  refine r_X5_fit_6 ?_
  simp only [mo_ty, mo_i, am_up_eq, true_or, or_true, true_and]
  refine ⟨fun c => ?_, fun c => ?_⟩
  · replace H := H.1 c
    refine r_X5_fit_11 ?_
    simp only [mo_ty, true_or, or_true, true_and]
    exact H
  · replace H := H.2 c
    refine r_X5_fit_9 ?_
    exact H
theorem w_fit_15 {d : Nat} {Q : am_K} {b : am_H} {r : Nat} {S : am_G} {V : Nat → Int → Int} {W : Nat → Int} {x1 : Int} {x2 : Int} (H : Q (.inl (some (.inl (W 90)))) (mo b r (ms S) V W)) : am_W m_X5_fit (am_ev am_prog (d + 3)) Q 15 [some (.inr (.inl r)), some (.inl x1), some (.inl x2)] [] (mo b r (ms S) V W) := by
  refine r_X5_fit_15 ?_
  simp only [mo_ty, mo_i, true_or, or_true, true_and]
  exact H
theorem w_story_0 {d : Nat} {Q : am_K} {b : am_H} {r : Nat} {S : am_G} {V : Nat → Int → Int} {W : Nat → Int} {x1 : Int} {x2 : Int} {o3 : Option am_V} {o4 : Option am_V} {o5 : Option am_V} {o6 : Option am_V} {o7 : Option am_V} (H : am_ev am_prog (d + 3) 149 [.inr (.inl r)] (mo b r (ms S) V W) (am_aft (am_hand m_X5_story Q (am_W m_X5_story (am_ev am_prog (d + 3)) Q) 1) (am_W m_X5_story (am_ev am_prog (d + 3)) Q) 1 [some (.inr (.inl r)), some (.inl x1), some (.inl x2), o3, o4, o5, o6, o7] [])) : am_W m_X5_story (am_ev am_prog (d + 3)) Q 0 [some (.inr (.inl r)), some (.inl x1), some (.inl x2), o3, o4, o5, o6, o7] [] (mo b r (ms S) V W) := by
  refine r_X5_story_0 ?_
  simp only [mo_ty, true_or, or_true, true_and]
  exact H
theorem w_story_2 {d : Nat} {Q : am_K} {b : am_H} {r : Nat} {S : am_G} {V : Nat → Int → Int} {W : Nat → Int} {x1 : Int} {x2 : Int} {o3 : Option am_V} {o4 : Option am_V} {o5 : Option am_V} {o6 : Option am_V} {o7 : Option am_V} (H : (0 ≤ x1 ∧ x1 ≤ 1 → (0 ≤ x2 ∧ x2 ≤ 600 → am_ev am_prog (d + 3) 170 [.inr (.inl r)] (mo b r (ms S) V (am_up (am_up W 38 0) 47 (-1))) (am_aft (am_hand m_X5_story Q (am_W m_X5_story (am_ev am_prog (d + 3)) Q) 28) (am_W m_X5_story (am_ev am_prog (d + 3)) Q) 28 [some (.inr (.inl r)), some (.inl x1), some (.inl x2), o3, o4, o5, o6, o7] [])) ∧ (¬ (0 ≤ x2 ∧ x2 ≤ 600) → Q (.inl (some (.inl 0))) (mo b r (ms S) V (am_up W 38 2)))) ∧ (¬ (0 ≤ x1 ∧ x1 ≤ 1) → Q (.inl (some (.inl 0))) (mo b r (ms S) V (am_up W 38 1)))) : am_W m_X5_story (am_ev am_prog (d + 3)) Q 2 [some (.inr (.inl r)), some (.inl x1), some (.inl x2), o3, o4, o5, o6, o7] [] (mo b r (ms S) V W) := by
  refine r_X5_story_2 ?_
  refine ?_
  refine c_isIn (am_av ?_)
  refine r_X5_story_7 ?_
  refine ⟨fun c => ?_, fun c => ?_⟩
  · replace c := am_b1 c
    replace H := H.1 c
    refine r_X5_story_10 ?_
    refine ?_
    refine c_isIn (am_av ?_)
    refine r_X5_story_14 ?_
    refine ⟨fun c => ?_, fun c => ?_⟩
    · replace c := am_b1 c
      replace H := H.1 c
      refine r_X5_story_17 ?_
      refine r_X5_story_18 ?_
      simp only [mo_ty, mo_si, true_or, or_true, true_and]
      refine ?_
      refine r_X5_story_19 ?_
      simp only [mo_ty, mo_i, am_up_eq, true_or, or_true, true_and, Int.reduceLE, Int.reduceLT, Int.reduceEq, Int.reduceNe, ne_eq, false_imp_iff, true_imp_iff, and_true, true_and, not_true_eq_false, not_false_eq_true, not_true, Int.reduceNeg]
      refine ?_
      refine r_X5_story_24 ?_
      simp only [mo_ty, mo_si, true_or, or_true, true_and]
      refine ?_
      refine r_X5_story_27 ?_
      simp only [mo_ty, true_or, or_true, true_and]
      exact H
    · replace c := am_b0 c
      replace H := H.2 c
      refine r_X5_story_15 ?_
      refine r_X5_story_18 ?_
      simp only [mo_ty, mo_si, true_or, or_true, true_and]
      refine ?_
      refine r_X5_story_19 ?_
      simp only [mo_ty, mo_i, am_up_eq, true_or, or_true, true_and, Int.reduceLE, Int.reduceLT, Int.reduceEq, Int.reduceNe, ne_eq, false_imp_iff, true_imp_iff, and_true, true_and, not_true_eq_false, not_false_eq_true, not_true, Int.reduceNeg]
      refine ?_
      refine r_X5_story_22 ?_
      exact H
  · replace c := am_b0 c
    replace H := H.2 c
    refine r_X5_story_8 ?_
    refine r_X5_story_18 ?_
    simp only [mo_ty, mo_si, true_or, or_true, true_and]
    refine ?_
    refine r_X5_story_19 ?_
    simp only [mo_ty, mo_i, am_up_eq, true_or, or_true, true_and, Int.reduceLE, Int.reduceLT, Int.reduceEq, Int.reduceNe, ne_eq, false_imp_iff, true_imp_iff, and_true, true_and, not_true_eq_false, not_false_eq_true, not_true, Int.reduceNeg]
    refine ?_
    refine r_X5_story_22 ?_
    exact H
theorem w_story_29 {d : Nat} {Q : am_K} {b : am_H} {r : Nat} {S : am_G} {V : Nat → Int → Int} {W : Nat → Int} {x1 : Int} {x2 : Int} {o3 : Option am_V} {o4 : Option am_V} {o5 : Option am_V} {o6 : Option am_V} {o7 : Option am_V} {y0 : Int} (H : ((y0 : Int) ≠ 0 → ((S 0 0 1 : Int) ≠ 20 → (W 38 ≤ 0 → ((-2147483648 ≤ 70 + (S 0 0 1) ∧ 70 + (S 0 0 1) ≤ 2147483647) ∧ (0 ≤ S 0 0 1 ∧ S 0 0 1 < 20)) ∧ (((-2147483648 ≤ 90 + (S 0 0 1) ∧ 90 + (S 0 0 1) ≤ 2147483647) ∧ (0 ≤ S 0 0 1 ∧ S 0 0 1 < 20)) ∧ (((-2147483648 ≤ 110 + (S 0 0 1) ∧ 110 + (S 0 0 1) ≤ 2147483647) ∧ (-2147483648 ≤ (W 55) + 1 ∧ (W 55) + 1 ≤ 2147483647) ∧ (0 ≤ S 0 0 1 ∧ S 0 0 1 < 20)) ∧ (am_W m_X5_story (am_ev am_prog (d + 3)) Q 79 [some (.inr (.inl r)), some (.inl x1), some (.inl x2), some (.inl (S 0 0 1)), some (.inl 0), o5, o6, o7] [] (mo b r (ms (u3 (u3 (u3 S 2 0 (S 0 0 1) x1) 2 1 (S 0 0 1) x2) 2 2 (S 0 0 1) ((W 55) + 1))) V W))))) ∧ (0 < W 38 → Q (.inl (some (.inl 0))) (mo b r (ms S) V W))) ∧ ((S 0 0 1 : Int) = 20 → Q (.inl (some (.inl 0))) (mo b r (ms S) V (am_up W 38 3)))) ∧ ((y0 : Int) = 0 → Q (.inl (some (.inl 0))) (mo b r (ms S) V (am_up W 38 2)))) : am_W m_X5_story (am_ev am_prog (d + 3)) Q 29 [some (.inr (.inl r)), some (.inl x1), some (.inl x2), o3, o4, o5, o6, o7] [.inl y0] (mo b r (ms S) V W) := by
  refine r_X5_story_29 ?_
  refine ⟨fun c => ?_, fun c => ?_⟩
  · replace H := H.1 c
    refine r_X5_story_34 ?_
    simp only [mo_ty, mo_f39, mo_t1, mo_n1, mo_a1, ms_r0 (k := 1) (p := 0) (i := 1) (by omega) (by omega) (by omega), true_or, or_true, true_and]
    refine ⟨(by omega), ⟨fun c => ?_, fun c => ?_⟩⟩
    · replace H := H.1 c
      refine r_X5_story_43 ?_
      simp only [mo_ty, mo_i, true_or, or_true, true_and]
      refine ⟨fun c => ?_, fun c => ?_⟩
      · replace H := H.1 c
        obtain ⟨⟨a150, a151⟩, H⟩ := H
        refine r_X5_story_48 ?_
        simp only [mo_ty, mo_f39, mo_t1, mo_n1, mo_a1, ms_r0 (k := 1) (p := 0) (i := 1) (by omega) (by omega) (by omega), mo_s1, ms_w2 (k := 70 + (S 0 0 1)) (p := 0) (i := S 0 0 1) (by omega) (by omega) (by omega), true_or, or_true, true_and]
        refine ⟨(by omega), a150, (by omega), ?_⟩
        obtain ⟨⟨a152, a153⟩, H⟩ := H
        refine r_X5_story_60 ?_
        simp only [mo_ty, mo_f39, mo_t1, mo_n1, mo_s1, ms_w2 (k := 90 + (S 0 0 1)) (p := 1) (i := S 0 0 1) (by omega) (by omega) (by omega), true_or, or_true, true_and]
        refine ⟨a152, (by omega), ?_⟩
        obtain ⟨⟨a154, a155, a156⟩, H⟩ := H
        refine r_X5_story_67 ?_
        simp only [mo_ty, mo_f39, mo_i, mo_t1, mo_n1, mo_s1, ms_w2 (k := 110 + (S 0 0 1)) (p := 2) (i := S 0 0 1) (by omega) (by omega) (by omega), true_or, or_true, true_and]
        refine ⟨a154, a155, (by omega), ?_⟩
        refine r_X5_story_77 ?_
        exact H
      · replace H := H.2 c
        refine r_X5_story_46 ?_
        exact H
    · replace H := H.2 c
      refine r_X5_story_40 ?_
      simp only [mo_ty, mo_si, true_or, or_true, true_and]
      refine ?_
      refine r_X5_story_43 ?_
      simp only [mo_ty, mo_i, am_up_eq, true_or, or_true, true_and, Int.reduceLE, Int.reduceLT, Int.reduceEq, Int.reduceNe, ne_eq, false_imp_iff, true_imp_iff, and_true, true_and, not_true_eq_false, not_false_eq_true, not_true, Int.reduceNeg]
      refine ?_
      refine r_X5_story_46 ?_
      exact H
  · replace H := H.2 c
    refine r_X5_story_30 ?_
    simp only [mo_ty, mo_si, true_or, or_true, true_and]
    refine ?_
    refine r_X5_story_33 ?_
    refine r_X5_story_43 ?_
    simp only [mo_ty, mo_i, am_up_eq, true_or, or_true, true_and, Int.reduceLE, Int.reduceLT, Int.reduceEq, Int.reduceNe, ne_eq, false_imp_iff, true_imp_iff, and_true, true_and, not_true_eq_false, not_false_eq_true, not_true, Int.reduceNeg]
    refine ?_
    refine r_X5_story_46 ?_
    exact H
theorem w_story_79 {d : Nat} {Q : am_K} {b : am_H} {r : Nat} {S : am_G} {V : Nat → Int → Int} {W : Nat → Int} {x1 : Int} {x2 : Int} {x3 : Int} {x4 : Int} {o5 : Option am_V} {o6 : Option am_V} {o7 : Option am_V} (H : (W 55 < x4 → ((-2147483648 ≤ (S 0 0 1) + 1 ∧ (S 0 0 1) + 1 ≤ 2147483647)) ∧ (Q (.inl (some (.inl x3))) (mo b r (ms (u3 S 0 0 1 ((S 0 0 1) + 1))) V W))) ∧ (x4 ≤ W 55 → ((-2147483648 ≤ 5 * x3 ∧ 5 * x3 ≤ 2147483647) ∧ (-2147483648 ≤ (5 * x3) + x4 ∧ (5 * x3) + x4 ≤ 2147483647)) ∧ (((0 ≤ (5 * x3) + x4 ∧ (5 * x3) + x4 < 3000000)) ∧ (((-2147483648 ≤ (130 + 645 * ((5 * x3) + x4)) + 0 ∧ (130 + 645 * ((5 * x3) + x4)) + 0 ≤ 2147483647) ∧ (0 ≤ x4 ∧ x4 < 5) ∧ (0 ≤ (5 * x3) + x4 ∧ (5 * x3) + x4 < 100)) ∧ (((-2147483648 ≤ (130 + 645 * ((5 * x3) + x4)) + 1 ∧ (130 + 645 * ((5 * x3) + x4)) + 1 ≤ 2147483647) ∧ (0 ≤ x4 ∧ x4 < 5) ∧ (0 ≤ (5 * x3) + x4 ∧ (5 * x3) + x4 < 100)) ∧ (am_W m_X5_story (am_ev am_prog (d + 3)) Q 112 [some (.inr (.inl r)), some (.inl x1), some (.inl x2), some (.inl x3), some (.inl x4), some (.inl (130 + 645 * ((5 * x3) + x4))), some (.inl 0), o7] [] (mo b r (ms (u3 (u3 S 3 ((5 * x3) + x4) 0 (V 9 x4)) 3 ((5 * x3) + x4) 1 (V 8 x4))) V W))))))) : am_W m_X5_story (am_ev am_prog (d + 3)) Q 79 [some (.inr (.inl r)), some (.inl x1), some (.inl x2), some (.inl x3), some (.inl x4), o5, o6, o7] [] (mo b r (ms S) V W) := by
  refine r_X5_story_79 ?_
  simp only [mo_ty, mo_i, true_or, or_true, true_and]
  refine ⟨fun c => ?_, fun c => ?_⟩
  · replace H := H.1 c
    obtain ⟨a157, H⟩ := H
    refine r_X5_story_185 ?_
    simp only [mo_ty, mo_f39, mo_t1, mo_n1, mo_a1, ms_r0 (k := 1) (p := 0) (i := 1) (by omega) (by omega) (by omega), mo_s1, ms_w0 (k := 1) (p := 0) (i := 1) (by omega) (by omega) (by omega), true_or, or_true, true_and]
    refine ⟨(by omega), a157, (by omega), ?_⟩
    refine r_X5_story_193 ?_
    exact H
  · replace H := H.2 c
    obtain ⟨⟨a158, a159⟩, H⟩ := H
    refine r_X5_story_83 ?_
    refine ⟨a158, a159, ?_⟩
    obtain ⟨a160, H⟩ := H
    refine c_part0 (by omega) (am_av ?_)
    obtain ⟨⟨a161, a162, a163⟩, H⟩ := H
    refine r_X5_story_89 ?_
    simp only [mo_ty, mo_f39, mo_f54, mo_t9, mo_n9, mo_a9, mo_t1, mo_n1, mo_s1, ms_w3 (k := (130 + 645 * ((5 * x3) + x4)) + 0) (p := (5 * x3) + x4) (i := 0) (by omega) (by omega) (by omega), true_or, or_true, true_and]
    refine ⟨a161, a162, (by omega), ?_⟩
    obtain ⟨⟨a164, a165, a166⟩, H⟩ := H
    refine r_X5_story_100 ?_
    simp only [mo_ty, mo_f39, mo_f53, mo_t8, mo_n8, mo_a8, mo_t1, mo_n1, mo_s1, ms_w3 (k := (130 + 645 * ((5 * x3) + x4)) + 1) (p := (5 * x3) + x4) (i := 1) (by omega) (by omega) (by omega), true_or, or_true, true_and]
    refine ⟨a164, a165, (by omega), ?_⟩
    refine r_X5_story_110 ?_
    exact H
theorem w_story_112 {d : Nat} {Q : am_K} {b : am_H} {r : Nat} {S : am_G} {V : Nat → Int → Int} {W : Nat → Int} {x1 : Int} {x2 : Int} {x3 : Int} {x4 : Int} {p5 : Int} {x6 : Int} {o7 : Option am_V} (H : ((0 ≤ x4 ∧ x4 < 5)) ∧ ((V 8 x4 ≤ x6 → ((-2147483648 ≤ x4 + 1 ∧ x4 + 1 ≤ 2147483647)) ∧ (am_W m_X5_story (am_ev am_prog (d + 3)) Q 79 [some (.inr (.inl r)), some (.inl x1), some (.inl x2), some (.inl x3), some (.inl (x4 + 1)), some (.inl (130 + 645 * p5)), some (.inl x6), o7] [] (mo b r (ms S) V W))) ∧ (x6 < V 8 x4 → ((-2147483648 ≤ (130 + 645 * p5) + 85 ∧ (130 + 645 * p5) + 85 ≤ 2147483647) ∧ (-2147483648 ≤ ((130 + 645 * p5) + 85) + x6 ∧ ((130 + 645 * p5) + 85) + x6 ≤ 2147483647) ∧ (-2147483648 ≤ 40 * x4 ∧ 40 * x4 ≤ 2147483647) ∧ (-2147483648 ≤ (40 * x4) + x6 ∧ (40 * x4) + x6 ≤ 2147483647) ∧ (0 ≤ (40 * x4) + x6 ∧ (40 * x4) + x6 < 200) ∧ (0 ≤ p5 ∧ p5 < 100) ∧ (0 ≤ 85 + x6 ∧ 85 + x6 < 645)) ∧ (((-2147483648 ≤ (130 + 645 * p5) + 125 ∧ (130 + 645 * p5) + 125 ≤ 2147483647) ∧ (-2147483648 ≤ ((130 + 645 * p5) + 125) + x6 ∧ ((130 + 645 * p5) + 125) + x6 ≤ 2147483647) ∧ (-2147483648 ≤ 40 * x4 ∧ 40 * x4 ≤ 2147483647) ∧ (-2147483648 ≤ (40 * x4) + x6 ∧ (40 * x4) + x6 ≤ 2147483647) ∧ (0 ≤ (40 * x4) + x6 ∧ (40 * x4) + x6 < 200) ∧ (0 ≤ p5 ∧ p5 < 100) ∧ (0 ≤ 125 + x6 ∧ 125 + x6 < 645)) ∧ (am_W m_X5_story (am_ev am_prog (d + 3)) Q 152 [some (.inr (.inl r)), some (.inl x1), some (.inl x2), some (.inl x3), some (.inl x4), some (.inl (130 + 645 * p5)), some (.inl x6), some (.inl 0)] [] (mo b r (ms (u3 (u3 S 3 p5 (85 + x6) (V 5 ((40 * x4) + x6))) 3 p5 (125 + x6) (V 6 ((40 * x4) + x6)))) V W)))))) : am_W m_X5_story (am_ev am_prog (d + 3)) Q 112 [some (.inr (.inl r)), some (.inl x1), some (.inl x2), some (.inl x3), some (.inl x4), some (.inl (130 + 645 * p5)), some (.inl x6), o7] [] (mo b r (ms S) V W) := by
  obtain ⟨a169, H⟩ := H
  refine r_X5_story_112 ?_
  simp only [mo_ty, mo_f53, mo_t8, mo_n8, mo_a8, true_or, or_true, true_and]
  refine ⟨a169, ⟨fun c => ?_, fun c => ?_⟩⟩
  · replace H := H.1 c
    obtain ⟨a170, H⟩ := H
    refine r_X5_story_183 ?_
    refine ⟨a170, ?_⟩
    exact H
  · replace H := H.2 c
    obtain ⟨⟨a171, a172, a173, a174, a175, a176, a177⟩, H⟩ := H
    refine r_X5_story_118 ?_
    simp only [mo_ty, mo_f39, mo_f50, mo_t5, mo_n5, mo_a5, mo_t1, mo_n1, mo_s1, ms_w3 (k := ((130 + 645 * p5) + 85) + x6) (p := p5) (i := 85 + x6) (by omega) (by omega) (by omega), true_or, or_true, true_and]
    refine ⟨a171, a172, a173, a174, a175, (by omega), ?_⟩
    obtain ⟨⟨a178, a179, a180, a181, a182, a183, a184⟩, H⟩ := H
    refine r_X5_story_134 ?_
    simp only [mo_ty, mo_f39, mo_f51, mo_t6, mo_n6, mo_a6, mo_t1, mo_n1, mo_s1, ms_w3 (k := ((130 + 645 * p5) + 125) + x6) (p := p5) (i := 125 + x6) (by omega) (by omega) (by omega), true_or, or_true, true_and]
    refine ⟨a178, a179, a180, a181, a182, (by omega), ?_⟩
    refine r_X5_story_150 ?_
    exact H
theorem w_story_152 {d : Nat} {Q : am_K} {b : am_H} {r : Nat} {S : am_G} {V : Nat → Int → Int} {W : Nat → Int} {x1 : Int} {x2 : Int} {x3 : Int} {x4 : Int} {p5 : Int} {x6 : Int} {x7 : Int} (H : (12 ≤ x7 → ((-2147483648 ≤ x6 + 1 ∧ x6 + 1 ≤ 2147483647)) ∧ (am_W m_X5_story (am_ev am_prog (d + 3)) Q 112 [some (.inr (.inl r)), some (.inl x1), some (.inl x2), some (.inl x3), some (.inl x4), some (.inl (130 + 645 * p5)), some (.inl (x6 + 1)), some (.inl x7)] [] (mo b r (ms S) V W))) ∧ (x7 < 12 → ((-2147483648 ≤ (130 + 645 * p5) + 165 ∧ (130 + 645 * p5) + 165 ≤ 2147483647) ∧ (-2147483648 ≤ 12 * x6 ∧ 12 * x6 ≤ 2147483647) ∧ (-2147483648 ≤ ((130 + 645 * p5) + 165) + (12 * x6) ∧ ((130 + 645 * p5) + 165) + (12 * x6) ≤ 2147483647) ∧ (-2147483648 ≤ (((130 + 645 * p5) + 165) + (12 * x6)) + x7 ∧ (((130 + 645 * p5) + 165) + (12 * x6)) + x7 ≤ 2147483647) ∧ (-2147483648 ≤ 40 * x4 ∧ 40 * x4 ≤ 2147483647) ∧ (-2147483648 ≤ (40 * x4) + x6 ∧ (40 * x4) + x6 ≤ 2147483647) ∧ (-2147483648 ≤ 12 * ((40 * x4) + x6) ∧ 12 * ((40 * x4) + x6) ≤ 2147483647) ∧ (-2147483648 ≤ (12 * ((40 * x4) + x6)) + x7 ∧ (12 * ((40 * x4) + x6)) + x7 ≤ 2147483647) ∧ (0 ≤ (12 * ((40 * x4) + x6)) + x7 ∧ (12 * ((40 * x4) + x6)) + x7 < 2400) ∧ (0 ≤ p5 ∧ p5 < 100) ∧ (0 ≤ 165 + 12 * x6 + x7 ∧ 165 + 12 * x6 + x7 < 645)) ∧ (((-2147483648 ≤ x7 + 1 ∧ x7 + 1 ≤ 2147483647)) ∧ (am_W m_X5_story (am_ev am_prog (d + 3)) Q 152 [some (.inr (.inl r)), some (.inl x1), some (.inl x2), some (.inl x3), some (.inl x4), some (.inl (130 + 645 * p5)), some (.inl x6), some (.inl (x7 + 1))] [] (mo b r (ms (u3 S 3 p5 (165 + 12 * x6 + x7) (V 7 ((12 * ((40 * x4) + x6)) + x7)))) V W))))) : am_W m_X5_story (am_ev am_prog (d + 3)) Q 152 [some (.inr (.inl r)), some (.inl x1), some (.inl x2), some (.inl x3), some (.inl x4), some (.inl (130 + 645 * p5)), some (.inl x6), some (.inl x7)] [] (mo b r (ms S) V W) := by
  refine r_X5_story_152 ?_
  refine ⟨fun c => ?_, fun c => ?_⟩
  · replace H := H.1 c
    obtain ⟨a186, H⟩ := H
    refine r_X5_story_181 ?_
    refine ⟨a186, ?_⟩
    exact H
  · replace H := H.2 c
    obtain ⟨⟨a187, a188, a189, a190, a191, a192, a193, a194, a195, a196, a197⟩, H⟩ := H
    refine r_X5_story_155 ?_
    simp only [mo_ty, mo_f39, mo_f52, mo_t7, mo_n7, mo_a7, mo_t1, mo_n1, mo_s1, ms_w3 (k := (((130 + 645 * p5) + 165) + (12 * x6)) + x7) (p := p5) (i := 165 + 12 * x6 + x7) (by omega) (by omega) (by omega), true_or, or_true, true_and]
    refine ⟨a187, a188, a189, a190, a191, a192, a193, a194, a195, (by omega), ?_⟩
    obtain ⟨a198, H⟩ := H
    refine r_X5_story_179 ?_
    refine ⟨a198, ?_⟩
    exact H
theorem w_read_0 {d : Nat} {Q : am_K} {b : am_H} {r : Nat} {S : am_G} {V : Nat → Int → Int} {W : Nat → Int} {x1 : Int} {x2 : Int} {o3 : Option am_V} {o4 : Option am_V} (H : (¬ (0 ≤ x1 ∧ x1 ≤ 1) → Q (.inl (some (.inl 0))) (mo b r (ms S) V (am_up W 38 1))) ∧ (0 ≤ x1 ∧ x1 ≤ 1 → (0 ≤ x2 ∧ x2 < S 0 0 4 → ((0 ≤ x2 ∧ x2 < 2000000)) ∧ (((-2147483648 ≤ (64630 + 852 * x2) + 10 ∧ (64630 + 852 * x2) + 10 ≤ 2147483647) ∧ (-2147483648 ≤ ((64630 + 852 * x2) + 10) + x1 ∧ ((64630 + 852 * x2) + 10) + x1 ≤ 2147483647) ∧ (0 ≤ x2 ∧ x2 < 300) ∧ (0 ≤ 10 + x1 ∧ 10 + x1 < 852)) ∧ (((0 ≤ x2 ∧ x2 < 300) ∧ (0 ≤ 10 + x1 ∧ 10 + x1 < 852)) ∧ (Q (.inl (some (.inl (am_b ((S 4 x2 (10 + x1) : Int) ≠ 1))))) (mo b r (ms (u3 S 4 x2 (10 + x1) 1)) V (am_up W 38 0)))))) ∧ (¬ (0 ≤ x2 ∧ x2 < S 0 0 4) → Q (.inl (some (.inl 0))) (mo b r (ms S) V (am_up W 38 1))))) : am_W m_X5_read (am_ev am_prog (d + 3)) Q 0 [some (.inr (.inl r)), some (.inl x1), some (.inl x2), o3, o4] [] (mo b r (ms S) V W) := by
  refine r_X5_read_0 ?_
  refine ?_
  refine c_isIn (am_av ?_)
  refine r_X5_read_5 ?_
  refine ⟨fun c => ?_, fun c => ?_⟩
  · replace c := am_b0 c
    replace H := H.1 c
    refine r_X5_read_10 ?_
    refine r_X5_read_13 ?_
    simp only [mo_ty, mo_si, true_or, or_true, true_and]
    refine ?_
    refine r_X5_read_14 ?_
    simp only [mo_ty, mo_i, am_up_eq, true_or, or_true, true_and, Int.reduceLE, Int.reduceLT, Int.reduceEq, Int.reduceNe, ne_eq, false_imp_iff, true_imp_iff, and_true, true_and, not_true_eq_false, not_false_eq_true, not_true, Int.reduceNeg]
    refine ?_
    refine r_X5_read_17 ?_
    exact ⟨(by decide), H⟩
  · replace c := am_b1 c
    replace H := H.2 c
    refine r_X5_read_6 ?_
    simp only [mo_ty, true_or, or_true, true_and]
    refine ?_
    refine c_isSlug (am_av ?_)
    refine r_X5_read_9 ?_
    refine ⟨fun c => ?_, fun c => ?_⟩
    · replace c := am_b1 c
      replace H := H.1 c
      refine r_X5_read_12 ?_
      refine r_X5_read_13 ?_
      simp only [mo_ty, mo_si, true_or, or_true, true_and]
      refine ?_
      refine r_X5_read_14 ?_
      simp only [mo_ty, mo_i, am_up_eq, true_or, or_true, true_and, Int.reduceLE, Int.reduceLT, Int.reduceEq, Int.reduceNe, ne_eq, false_imp_iff, true_imp_iff, and_true, true_and, not_true_eq_false, not_false_eq_true, not_true, Int.reduceNeg]
      refine ?_
      refine r_X5_read_19 ?_
      refine ?_
      obtain ⟨a199, H⟩ := H
      refine c_slug0 (by omega) (am_av ?_)
      obtain ⟨⟨a200, a201, a202, a203⟩, H⟩ := H
      have J : ∀ y : Int, y = am_b ((S 4 x2 (10 + x1) : Int) = 1) → am_W m_X5_read (am_ev am_prog (d + 3)) Q 35 [some (.inr (.inl r)), some (.inl x1), some (.inl x2), some (.inl (((64630 + 852 * x2) + 10) + x1)), o4] [.inl y] (mo b r (ms S) V (am_up W 38 0)) := by
        intro y hy
        subst hy
        obtain ⟨⟨a204, a205⟩, H⟩ := H
        refine r_X5_read_35 ?_
        simp only [mo_ty, mo_f39, mo_t1, mo_n1, mo_s1, ms_w4 (k := ((64630 + 852 * x2) + 10) + x1) (p := x2) (i := 10 + x1) (by omega) (by omega) (by omega), true_or, or_true, true_and]
        refine ⟨(by omega), ?_⟩
        have J : ∀ y : Int, y = am_b ((S 4 x2 (10 + x1) : Int) ≠ 1) → am_W m_X5_read (am_ev am_prog (d + 3)) Q 46 [some (.inr (.inl r)), some (.inl x1), some (.inl x2), some (.inl (((64630 + 852 * x2) + 10) + x1)), some (.inl (am_b ((S 4 x2 (10 + x1) : Int) = 1)))] [.inl y] (mo b r (ms (u3 S 4 x2 (10 + x1) 1)) V (am_up W 38 0)) := by
          intro y hy
          subst hy
          refine r_X5_read_46 ?_
          exact ⟨(am_bz _), H⟩
        refine r_X5_read_41 ?_
        refine ⟨fun c => ?_, fun c => ?_⟩
        · replace c := am_b1 c
          exact r_X5_read_45 (J _ (am_bf (by omega)).symm)
        · replace c := am_b0 c
          exact r_X5_read_43 (J _ (am_bt c).symm)
      refine r_X5_read_21 ?_
      simp only [mo_ty, mo_f39, mo_t1, mo_n1, mo_a1, ms_r4 (k := ((64630 + 852 * x2) + 10) + x1) (p := x2) (i := 10 + x1) (by omega) (by omega) (by omega), true_or, or_true, true_and]
      refine ⟨a200, a201, (by omega), ⟨fun c => ?_, fun c => ?_⟩⟩
      · exact r_X5_read_34 (J _ (am_bf (by omega)).symm)
      · exact r_X5_read_32 (J _ (am_bt c).symm)
    · replace c := am_b0 c
      replace H := H.2 c
      refine r_X5_read_10 ?_
      refine r_X5_read_13 ?_
      simp only [mo_ty, mo_si, true_or, or_true, true_and]
      refine ?_
      refine r_X5_read_14 ?_
      simp only [mo_ty, mo_i, am_up_eq, true_or, or_true, true_and, Int.reduceLE, Int.reduceLT, Int.reduceEq, Int.reduceNe, ne_eq, false_imp_iff, true_imp_iff, and_true, true_and, not_true_eq_false, not_false_eq_true, not_true, Int.reduceNeg]
      refine ?_
      refine r_X5_read_17 ?_
      exact ⟨(by decide), H⟩
theorem w_says_0 {d : Nat} {Q : am_K} {b : am_H} {r : Nat} {S : am_G} {V : Nat → Int → Int} {W : Nat → Int} {x1 : Int} {x2 : Int} (H : (0 ≤ x1 ∧ x1 < S 0 0 4 → ((0 ≤ x1 ∧ x1 < 2000000)) ∧ (((-2147483648 ≤ (64630 + 852 * x1) + 9 ∧ (64630 + 852 * x1) + 9 ≤ 2147483647) ∧ (0 ≤ x1 ∧ x1 < 300) ∧ (-2147483648 ≤ (S 4 x1 9) - 1 ∧ (S 4 x1 9) - 1 ≤ 2147483647)) ∧ ((¬ (0 ≤ x2 ∧ x2 ≤ (S 4 x1 9) - 1) → Q (.inl (some (.inl (-1)))) (mo b r (ms S) V (am_up W 38 0))) ∧ (0 ≤ x2 ∧ x2 ≤ (S 4 x1 9) - 1 → ((0 ≤ x1 ∧ x1 < 2000000)) ∧ (((-2147483648 ≤ (64630 + 852 * x1) + 432 ∧ (64630 + 852 * x1) + 432 ≤ 2147483647) ∧ (-2147483648 ≤ ((64630 + 852 * x1) + 432) + x2 ∧ ((64630 + 852 * x1) + 432) + x2 ≤ 2147483647) ∧ (0 ≤ x1 ∧ x1 < 300) ∧ (0 ≤ 432 + x2 ∧ 432 + x2 < 852)) ∧ (Q (.inl (some (.inl (S 4 x1 (432 + x2))))) (mo b r (ms S) V (am_up W 38 0)))))))) ∧ (¬ (0 ≤ x1 ∧ x1 < S 0 0 4) → Q (.inl (some (.inl 0))) (mo b r (ms S) V (am_up W 38 1)))) : am_W m_X5_says (am_ev am_prog (d + 3)) Q 0 [some (.inr (.inl r)), some (.inl x1), some (.inl x2)] [] (mo b r (ms S) V W) := by
  refine r_X5_says_0 ?_
  simp only [mo_ty, true_or, or_true, true_and]
  refine ?_
  refine c_isSlug (am_av ?_)
  refine r_X5_says_4 ?_
  refine ⟨fun c => ?_, fun c => ?_⟩
  · replace c := am_b1 c
    replace H := H.1 c
    refine r_X5_says_7 ?_
    refine r_X5_says_8 ?_
    simp only [mo_ty, mo_si, true_or, or_true, true_and]
    refine ?_
    refine r_X5_says_9 ?_
    simp only [mo_ty, mo_i, am_up_eq, true_or, or_true, true_and, Int.reduceLE, Int.reduceLT, Int.reduceEq, Int.reduceNe, ne_eq, false_imp_iff, true_imp_iff, and_true, true_and, not_true_eq_false, not_false_eq_true, not_true, Int.reduceNeg]
    refine ?_
    refine r_X5_says_14 ?_
    simp only [mo_ty, mo_f39, true_or, or_true, true_and]
    refine ?_
    obtain ⟨a206, H⟩ := H
    refine c_slug0 (by omega) (am_av ?_)
    obtain ⟨⟨a207, a208, a209⟩, H⟩ := H
    refine r_X5_says_20 ?_
    simp only [mo_t1, mo_n1, mo_a1, ms_r4 (k := (64630 + 852 * x1) + 9) (p := x1) (i := 9) (by omega) (by omega) (by omega), true_or, or_true, true_and]
    refine ⟨a207, (by omega), a209, ?_⟩
    refine c_isIn (am_av ?_)
    refine r_X5_says_26 ?_
    refine ⟨fun c => ?_, fun c => ?_⟩
    · replace c := am_b0 c
      replace H := H.1 c
      refine r_X5_says_37 ?_
      refine r_X5_says_38 ?_
      exact H
    · replace c := am_b1 c
      replace H := H.2 c
      refine r_X5_says_27 ?_
      simp only [mo_ty, mo_f39, true_or, or_true, true_and]
      refine ?_
      obtain ⟨a210, H⟩ := H
      refine c_slug0 (by omega) (am_av ?_)
      obtain ⟨⟨a211, a212, a213, a214⟩, H⟩ := H
      refine r_X5_says_31 ?_
      simp only [mo_t1, mo_n1, mo_a1, ms_r4 (k := ((64630 + 852 * x1) + 432) + x2) (p := x1) (i := 432 + x2) (by omega) (by omega) (by omega), true_or, or_true, true_and]
      refine ⟨a211, a212, (by omega), ?_⟩
      refine r_X5_says_38 ?_
      exact H
  · replace c := am_b0 c
    replace H := H.2 c
    refine r_X5_says_5 ?_
    refine r_X5_says_8 ?_
    simp only [mo_ty, mo_si, true_or, or_true, true_and]
    refine ?_
    refine r_X5_says_9 ?_
    simp only [mo_ty, mo_i, am_up_eq, true_or, or_true, true_and, Int.reduceLE, Int.reduceLT, Int.reduceEq, Int.reduceNe, ne_eq, false_imp_iff, true_imp_iff, and_true, true_and, not_true_eq_false, not_false_eq_true, not_true, Int.reduceNeg]
    refine ?_
    refine r_X5_says_12 ?_
    exact H
theorem w_locked_0 {d : Nat} {Q : am_K} {b : am_H} {r : Nat} {S : am_G} {V : Nat → Int → Int} {W : Nat → Int} {x1 : Int} {x2 : Int} {o3 : Option am_V} (H : (0 ≤ x1 ∧ x1 < 6 → (0 ≤ x2 ∧ x2 ≤ 4 → ((-2147483648 ≤ 185 * x1 ∧ 185 * x1 ≤ 2147483647) ∧ (-2147483648 ≤ 327382 + (185 * x1) ∧ 327382 + (185 * x1) ≤ 2147483647)) ∧ (((x2 : Int) ≠ 0 → ((x2 : Int) ≠ 1 → ((x2 : Int) ≠ 2 → ((-2147483648 ≤ (327382 + (185 * x1)) + x2 ∧ (327382 + (185 * x1)) + x2 ≤ 2147483647) ∧ (-2147483648 ≤ ((327382 + (185 * x1)) + x2) - 3 ∧ ((327382 + (185 * x1)) + x2) - 3 ≤ 2147483647) ∧ (0 ≤ x1 ∧ x1 < 6) ∧ (0 ≤ -3 + x2 ∧ -3 + x2 < 185)) ∧ (Q (.inl (some (.inl (S 8 x1 (-3 + x2))))) (mo b r (ms S) V (am_up W 38 0)))) ∧ ((x2 : Int) = 2 → ((-2147483648 ≤ (327382 + (185 * x1)) + 4 ∧ (327382 + (185 * x1)) + 4 ≤ 2147483647) ∧ (0 ≤ x1 ∧ x1 < 6)) ∧ (Q (.inl (some (.inl (S 8 x1 4)))) (mo b r (ms S) V (am_up W 38 0))))) ∧ ((x2 : Int) = 1 → ((-2147483648 ≤ (327382 + (185 * x1)) + 3 ∧ (327382 + (185 * x1)) + 3 ≤ 2147483647) ∧ (0 ≤ x1 ∧ x1 < 6)) ∧ (Q (.inl (some (.inl (S 8 x1 3)))) (mo b r (ms S) V (am_up W 38 0))))) ∧ ((x2 : Int) = 0 → ((-2147483648 ≤ (327382 + (185 * x1)) + 2 ∧ (327382 + (185 * x1)) + 2 ≤ 2147483647) ∧ (0 ≤ x1 ∧ x1 < 6)) ∧ (Q (.inl (some (.inl (S 8 x1 2)))) (mo b r (ms S) V (am_up W 38 0)))))) ∧ (¬ (0 ≤ x2 ∧ x2 ≤ 4) → Q (.inl (some (.inl 0))) (mo b r (ms S) V (am_up W 38 2)))) ∧ (¬ (0 ≤ x1 ∧ x1 < 6) → Q (.inl (some (.inl 0))) (mo b r (ms S) V (am_up W 38 1)))) : am_W m_X5_locked (am_ev am_prog (d + 3)) Q 0 [some (.inr (.inl r)), some (.inl x1), some (.inl x2), o3] [] (mo b r (ms S) V W) := by
  refine r_X5_locked_0 ?_
  refine ?_
  refine c_isPage (am_av ?_)
  refine r_X5_locked_3 ?_
  refine ⟨fun c => ?_, fun c => ?_⟩
  · replace c := am_b1 c
    replace H := H.1 c
    refine r_X5_locked_6 ?_
    refine ?_
    refine c_isIn (am_av ?_)
    refine r_X5_locked_10 ?_
    refine ⟨fun c => ?_, fun c => ?_⟩
    · replace c := am_b1 c
      replace H := H.1 c
      refine r_X5_locked_13 ?_
      refine r_X5_locked_14 ?_
      simp only [mo_ty, mo_si, true_or, or_true, true_and]
      refine ?_
      refine r_X5_locked_15 ?_
      simp only [mo_ty, mo_i, am_up_eq, true_or, or_true, true_and, Int.reduceLE, Int.reduceLT, Int.reduceEq, Int.reduceNe, ne_eq, false_imp_iff, true_imp_iff, and_true, true_and, not_true_eq_false, not_false_eq_true, not_true, Int.reduceNeg]
      refine ?_
      obtain ⟨⟨a215, a216⟩, H⟩ := H
      refine r_X5_locked_20 ?_
      refine ⟨a215, a216, ⟨fun c => ?_, fun c => ?_⟩⟩
      · replace H := H.1 c
        refine r_X5_locked_35 ?_
        refine ⟨fun c => ?_, fun c => ?_⟩
        · replace H := H.1 c
          refine r_X5_locked_45 ?_
          refine ⟨fun c => ?_, fun c => ?_⟩
          · replace H := H.1 c
            obtain ⟨⟨a217, a218, a219, a220⟩, H⟩ := H
            refine r_X5_locked_55 ?_
            simp only [mo_ty, mo_f39, mo_t1, mo_n1, mo_a1, ms_r8 (k := ((327382 + (185 * x1)) + x2) - 3) (p := x1) (i := -3 + x2) (by omega) (by omega) (by omega), true_or, or_true, true_and]
            refine ⟨a217, a218, (by omega), ?_⟩
            refine r_X5_locked_63 ?_
            exact H
          · replace H := H.2 c
            obtain ⟨⟨a221, a222⟩, H⟩ := H
            refine r_X5_locked_48 ?_
            simp only [mo_ty, mo_f39, mo_t1, mo_n1, mo_a1, ms_r8 (k := (327382 + (185 * x1)) + 4) (p := x1) (i := 4) (by omega) (by omega) (by omega), true_or, or_true, true_and]
            refine ⟨a221, (by omega), ?_⟩
            refine r_X5_locked_63 ?_
            exact H
        · replace H := H.2 c
          obtain ⟨⟨a223, a224⟩, H⟩ := H
          refine r_X5_locked_38 ?_
          simp only [mo_ty, mo_f39, mo_t1, mo_n1, mo_a1, ms_r8 (k := (327382 + (185 * x1)) + 3) (p := x1) (i := 3) (by omega) (by omega) (by omega), true_or, or_true, true_and]
          refine ⟨a223, (by omega), ?_⟩
          refine r_X5_locked_63 ?_
          exact H
      · replace H := H.2 c
        obtain ⟨⟨a225, a226⟩, H⟩ := H
        refine r_X5_locked_28 ?_
        simp only [mo_ty, mo_f39, mo_t1, mo_n1, mo_a1, ms_r8 (k := (327382 + (185 * x1)) + 2) (p := x1) (i := 2) (by omega) (by omega) (by omega), true_or, or_true, true_and]
        refine ⟨a225, (by omega), ?_⟩
        refine r_X5_locked_63 ?_
        exact H
    · replace c := am_b0 c
      replace H := H.2 c
      refine r_X5_locked_11 ?_
      refine r_X5_locked_14 ?_
      simp only [mo_ty, mo_si, true_or, or_true, true_and]
      refine ?_
      refine r_X5_locked_15 ?_
      simp only [mo_ty, mo_i, am_up_eq, true_or, or_true, true_and, Int.reduceLE, Int.reduceLT, Int.reduceEq, Int.reduceNe, ne_eq, false_imp_iff, true_imp_iff, and_true, true_and, not_true_eq_false, not_false_eq_true, not_true, Int.reduceNeg]
      refine ?_
      refine r_X5_locked_18 ?_
      exact H
  · replace c := am_b0 c
    replace H := H.2 c
    refine r_X5_locked_4 ?_
    refine r_X5_locked_14 ?_
    simp only [mo_ty, mo_si, true_or, or_true, true_and]
    refine ?_
    refine r_X5_locked_15 ?_
    simp only [mo_ty, mo_i, am_up_eq, true_or, or_true, true_and, Int.reduceLE, Int.reduceLT, Int.reduceEq, Int.reduceNe, ne_eq, false_imp_iff, true_imp_iff, and_true, true_and, not_true_eq_false, not_false_eq_true, not_true, Int.reduceNeg]
    refine ?_
    refine r_X5_locked_18 ?_
    exact H
theorem w_row_0 {d : Nat} {Q : am_K} {b : am_H} {r : Nat} {S : am_G} {V : Nat → Int → Int} {W : Nat → Int} {x1 : Int} {x2 : Int} (H : ((-2147483648 ≤ S 0 0 7 - 1 ∧ S 0 0 7 - 1 ≤ 2147483647)) ∧ (((0 ≤ x1 ∧ x1 ≤ S 0 0 7 - 1) ∧ (0 ≤ x2 ∧ x2 ≤ 3) → ((-2147483648 ≤ 5 * x1 ∧ 5 * x1 ≤ 2147483647) ∧ (-2147483648 ≤ 337180 + (5 * x1) ∧ 337180 + (5 * x1) ≤ 2147483647) ∧ (-2147483648 ≤ (337180 + (5 * x1)) + 1 ∧ (337180 + (5 * x1)) + 1 ≤ 2147483647) ∧ (-2147483648 ≤ ((337180 + (5 * x1)) + 1) + x2 ∧ ((337180 + (5 * x1)) + 1) + x2 ≤ 2147483647) ∧ (0 ≤ 1 + 5 * x1 + x2 ∧ 1 + 5 * x1 + x2 < 40)) ∧ (Q (.inl (some (.inl (S 10 0 (1 + 5 * x1 + x2))))) (mo b r (ms S) V (am_up W 38 0)))) ∧ (¬ ((0 ≤ x1 ∧ x1 ≤ S 0 0 7 - 1) ∧ (0 ≤ x2 ∧ x2 ≤ 3)) → Q (.inl (some (.inl 0))) (mo b r (ms S) V (am_up W 38 1))))) : am_W m_X5_row (am_ev am_prog (d + 3)) Q 0 [some (.inr (.inl r)), some (.inl x1), some (.inl x2)] [] (mo b r (ms S) V W) := by
  refine r_X5_row_0 ?_
  simp only [mo_ty, true_or, or_true, true_and]
  refine ?_
  obtain ⟨a227, H⟩ := H
  refine c_isRow (by omega) (am_av ?_)
  refine r_X5_row_5 ?_
  refine ⟨fun c => ?_, fun c => ?_⟩
  · replace c := am_b1 c
    replace H := H.1 c
    refine r_X5_row_8 ?_
    refine r_X5_row_9 ?_
    simp only [mo_ty, mo_si, true_or, or_true, true_and]
    refine ?_
    refine r_X5_row_10 ?_
    simp only [mo_ty, mo_i, am_up_eq, true_or, or_true, true_and, Int.reduceLE, Int.reduceLT, Int.reduceEq, Int.reduceNe, ne_eq, false_imp_iff, true_imp_iff, and_true, true_and, not_true_eq_false, not_false_eq_true, not_true, Int.reduceNeg]
    refine ?_
    obtain ⟨⟨a228, a229, a230, a231, a232⟩, H⟩ := H
    refine r_X5_row_15 ?_
    simp only [mo_ty, mo_f39, mo_t1, mo_n1, mo_a1, ms_r10 (k := ((337180 + (5 * x1)) + 1) + x2) (p := 0) (i := 1 + 5 * x1 + x2) (by omega) (by omega) (by omega), true_or, or_true, true_and]
    exact ⟨a228, a229, a230, a231, (by omega), H⟩
  · replace c := am_b0 c
    replace H := H.2 c
    refine r_X5_row_6 ?_
    refine r_X5_row_9 ?_
    simp only [mo_ty, mo_si, true_or, or_true, true_and]
    refine ?_
    refine r_X5_row_10 ?_
    simp only [mo_ty, mo_i, am_up_eq, true_or, or_true, true_and, Int.reduceLE, Int.reduceLT, Int.reduceEq, Int.reduceNe, ne_eq, false_imp_iff, true_imp_iff, and_true, true_and, not_true_eq_false, not_false_eq_true, not_true, Int.reduceNeg]
    refine ?_
    refine r_X5_row_13 ?_
    exact H
theorem w_change_0 {d : Nat} {Q : am_K} {b : am_H} {r : Nat} {S : am_G} {V : Nat → Int → Int} {W : Nat → Int} {x1 : Int} {x2 : Int} {o3 : Option am_V} {o4 : Option am_V} {o5 : Option am_V} {o6 : Option am_V} (H : (¬ (0 ≤ x1 ∧ x1 < S 0 0 4) → Q (.inl (some (.inl 0))) (mo b r (ms S) V (am_up W 38 1))) ∧ (0 ≤ x1 ∧ x1 < S 0 0 4 → (0 ≤ x2 ∧ x2 < S 0 0 4 → ((0 ≤ x1 ∧ x1 < 2000000)) ∧ (((0 ≤ x2 ∧ x2 < 2000000)) ∧ (((-2147483648 ≤ (64630 + 852 * x1) + 4 ∧ (64630 + 852 * x1) + 4 ≤ 2147483647) ∧ (0 ≤ x1 ∧ x1 < 300)) ∧ (((S 4 x1 4 : Int) ≠ 0 → Q (.inl (some (.inl 0))) (mo b r (ms S) V (am_up W 38 0))) ∧ ((S 4 x1 4 : Int) = 0 → ((-2147483648 ≤ (64630 + 852 * x2) + 4 ∧ (64630 + 852 * x2) + 4 ≤ 2147483647) ∧ (0 ≤ x2 ∧ x2 < 300)) ∧ (((S 4 x2 4 : Int) = 0 → ((-2147483648 ≤ (64630 + 852 * x1) + 6 ∧ (64630 + 852 * x1) + 6 ≤ 2147483647) ∧ (0 ≤ x1 ∧ x1 < 300) ∧ (-2147483648 ≤ (64630 + 852 * x1) + 5 ∧ (64630 + 852 * x1) + 5 ≤ 2147483647) ∧ (-2147483648 ≤ (64630 + 852 * x2) + 6 ∧ (64630 + 852 * x2) + 6 ≤ 2147483647) ∧ (0 ≤ x2 ∧ x2 < 300) ∧ (-2147483648 ≤ (64630 + 852 * x2) + 5 ∧ (64630 + 852 * x2) + 5 ≤ 2147483647)) ∧ (am_ev am_prog (d + 3) 173 [.inr (.inl r), .inl x1, .inl (S 4 x2 6), .inl (S 4 x2 5)] (mo b r (ms S) V (am_up W 38 0)) (am_aft (am_hand m_X5_change Q (am_W m_X5_change (am_ev am_prog (d + 3)) Q) 68) (am_W m_X5_change (am_ev am_prog (d + 3)) Q) 68 [some (.inr (.inl r)), some (.inl x1), some (.inl x2), some (.inl (64630 + 852 * x1)), some (.inl (64630 + 852 * x2)), some (.inl (S 4 x1 6)), some (.inl (S 4 x1 5))] []))) ∧ ((S 4 x2 4 : Int) ≠ 0 → Q (.inl (some (.inl 0))) (mo b r (ms S) V (am_up W 38 0))))))))) ∧ (¬ (0 ≤ x2 ∧ x2 < S 0 0 4) → Q (.inl (some (.inl 0))) (mo b r (ms S) V (am_up W 38 1))))) : am_W m_X5_change (am_ev am_prog (d + 3)) Q 0 [some (.inr (.inl r)), some (.inl x1), some (.inl x2), o3, o4, o5, o6] [] (mo b r (ms S) V W) := by
  refine r_X5_change_0 ?_
  simp only [mo_ty, true_or, or_true, true_and]
  refine ?_
  refine c_isSlug (am_av ?_)
  refine r_X5_change_4 ?_
  refine ⟨fun c => ?_, fun c => ?_⟩
  · replace c := am_b0 c
    replace H := H.1 c
    refine r_X5_change_9 ?_
    refine r_X5_change_12 ?_
    simp only [mo_ty, mo_si, true_or, or_true, true_and]
    refine ?_
    refine r_X5_change_13 ?_
    simp only [mo_ty, mo_i, am_up_eq, true_or, or_true, true_and, Int.reduceLE, Int.reduceLT, Int.reduceEq, Int.reduceNe, ne_eq, false_imp_iff, true_imp_iff, and_true, true_and, not_true_eq_false, not_false_eq_true, not_true, Int.reduceNeg]
    refine ?_
    refine r_X5_change_16 ?_
    exact ⟨(by decide), H⟩
  · replace c := am_b1 c
    replace H := H.2 c
    refine r_X5_change_5 ?_
    simp only [mo_ty, true_or, or_true, true_and]
    refine ?_
    refine c_isSlug (am_av ?_)
    refine r_X5_change_8 ?_
    refine ⟨fun c => ?_, fun c => ?_⟩
    · replace c := am_b1 c
      replace H := H.1 c
      refine r_X5_change_11 ?_
      refine r_X5_change_12 ?_
      simp only [mo_ty, mo_si, true_or, or_true, true_and]
      refine ?_
      refine r_X5_change_13 ?_
      simp only [mo_ty, mo_i, am_up_eq, true_or, or_true, true_and, Int.reduceLE, Int.reduceLT, Int.reduceEq, Int.reduceNe, ne_eq, false_imp_iff, true_imp_iff, and_true, true_and, not_true_eq_false, not_false_eq_true, not_true, Int.reduceNeg]
      refine ?_
      refine r_X5_change_18 ?_
      refine ?_
      obtain ⟨a233, H⟩ := H
      refine c_slug0 (by omega) (am_av ?_)
      refine r_X5_change_20 ?_
      refine ?_
      obtain ⟨a234, H⟩ := H
      refine c_slug0 (by omega) (am_av ?_)
      obtain ⟨⟨a235, a236⟩, H⟩ := H
      refine r_X5_change_23 ?_
      simp only [mo_ty, mo_f39, mo_t1, mo_n1, mo_a1, ms_r4 (k := (64630 + 852 * x1) + 4) (p := x1) (i := 4) (by omega) (by omega) (by omega), true_or, or_true, true_and]
      refine ⟨a235, (by omega), ⟨fun c => ?_, fun c => ?_⟩⟩
      · replace H := H.1 c
        refine r_X5_change_38 ?_
        exact ⟨(by decide), H⟩
      · replace H := H.2 c
        obtain ⟨⟨a237, a238⟩, H⟩ := H
        refine r_X5_change_31 ?_
        simp only [mo_ty, mo_f39, mo_t1, mo_n1, mo_a1, ms_r4 (k := (64630 + 852 * x2) + 4) (p := x2) (i := 4) (by omega) (by omega) (by omega), true_or, or_true, true_and]
        refine ⟨a237, (by omega), ⟨fun c => ?_, fun c => ?_⟩⟩
        · replace H := H.1 c
          obtain ⟨⟨a239, a240, a241, a242, a243, a244⟩, H⟩ := H
          refine r_X5_change_40 ?_
          simp only [mo_ty, mo_f39, mo_t1, mo_n1, mo_a1, ms_r4 (k := (64630 + 852 * x1) + 6) (p := x1) (i := 6) (by omega) (by omega) (by omega), ms_r4 (k := (64630 + 852 * x1) + 5) (p := x1) (i := 5) (by omega) (by omega) (by omega), ms_r4 (k := (64630 + 852 * x2) + 6) (p := x2) (i := 6) (by omega) (by omega) (by omega), ms_r4 (k := (64630 + 852 * x2) + 5) (p := x2) (i := 5) (by omega) (by omega) (by omega), true_or, or_true, true_and]
          exact ⟨a239, (by omega), a241, (by omega), a242, (by omega), a244, (by omega), H⟩
        · replace H := H.2 c
          refine r_X5_change_38 ?_
          exact ⟨(by decide), H⟩
    · replace c := am_b0 c
      replace H := H.2 c
      refine r_X5_change_9 ?_
      refine r_X5_change_12 ?_
      simp only [mo_ty, mo_si, true_or, or_true, true_and]
      refine ?_
      refine r_X5_change_13 ?_
      simp only [mo_ty, mo_i, am_up_eq, true_or, or_true, true_and, Int.reduceLE, Int.reduceLT, Int.reduceEq, Int.reduceNe, ne_eq, false_imp_iff, true_imp_iff, and_true, true_and, not_true_eq_false, not_false_eq_true, not_true, Int.reduceNeg]
      refine ?_
      refine r_X5_change_16 ?_
      exact ⟨(by decide), H⟩
theorem w_change_69 {d : Nat} {Q : am_K} {b : am_H} {r : Nat} {S : am_G} {V : Nat → Int → Int} {W : Nat → Int} {x1 : Int} {x2 : Int} {x3 : Int} {x4 : Int} {x5 : Int} {x6 : Int} (H : am_ev am_prog (d + 3) 173 [.inr (.inl r), .inl x2, .inl x5, .inl x6] (mo b r (ms S) V W) (am_aft (am_hand m_X5_change Q (am_W m_X5_change (am_ev am_prog (d + 3)) Q) 73) (am_W m_X5_change (am_ev am_prog (d + 3)) Q) 73 [some (.inr (.inl r)), some (.inl x1), some (.inl x2), some (.inl x3), some (.inl x4), some (.inl x5), some (.inl x6)] [])) : am_W m_X5_change (am_ev am_prog (d + 3)) Q 69 [some (.inr (.inl r)), some (.inl x1), some (.inl x2), some (.inl x3), some (.inl x4), some (.inl x5), some (.inl x6)] [] (mo b r (ms S) V W) := by
  refine r_X5_change_69 ?_
  simp only [mo_ty, true_or, or_true, true_and]
  exact H
theorem w_change_74 {d : Nat} {Q : am_K} {b : am_H} {r : Nat} {S : am_G} {V : Nat → Int → Int} {W : Nat → Int} {x1 : Int} {x2 : Int} {x3 : Int} {x4 : Int} {x5 : Int} {x6 : Int} (H : Q (.inl (some (.inl 1))) (mo b r (ms S) V W)) : am_W m_X5_change (am_ev am_prog (d + 3)) Q 74 [some (.inr (.inl r)), some (.inl x1), some (.inl x2), some (.inl x3), some (.inl x4), some (.inl x5), some (.inl x6)] [] (mo b r (ms S) V W) := by
  refine r_X5_change_74 ?_
  exact ⟨(by decide), H⟩
theorem w_runs_0 {d : Nat} {Q : am_K} {b : am_H} {r : Nat} {S : am_G} {V : Nat → Int → Int} {W : Nat → Int} {x1 : Int} {x2 : Int} {o3 : Option am_V} (H : (0 ≤ x1 ∧ x1 < S 0 0 3 → (0 ≤ x2 ∧ x2 ≤ 5 → ((0 ≤ x1 ∧ x1 < 2000000)) ∧ (((x2 : Int) ≠ 0 → ((x2 : Int) ≠ 1 → ((x2 : Int) ≠ 2 → ((x2 : Int) ≠ 3 → ((x2 : Int) ≠ 4 → ((-2147483648 ≤ (320230 + 183 * x1) + 29 ∧ (320230 + 183 * x1) + 29 ≤ 2147483647) ∧ (0 ≤ x1 ∧ x1 < 4)) ∧ (((S 5 x1 29 : Int) ≠ 0 → ((-2147483648 ≤ (320230 + 183 * x1) + 33 ∧ (320230 + 183 * x1) + 33 ≤ 2147483647) ∧ (0 ≤ x1 ∧ x1 < 4)) ∧ (Q (.inl (some (.inl (S 5 x1 33)))) (mo b r (ms S) V (am_up W 38 0)))) ∧ ((S 5 x1 29 : Int) = 0 → Q (.inl (some (.inl (-1)))) (mo b r (ms S) V (am_up W 38 0))))) ∧ ((x2 : Int) = 4 → ((-2147483648 ≤ (320230 + 183 * x1) + 28 ∧ (320230 + 183 * x1) + 28 ≤ 2147483647) ∧ (0 ≤ x1 ∧ x1 < 4)) ∧ (Q (.inl (some (.inl (S 5 x1 28)))) (mo b r (ms S) V (am_up W 38 0))))) ∧ ((x2 : Int) = 3 → ((-2147483648 ≤ (320230 + 183 * x1) + 32 ∧ (320230 + 183 * x1) + 32 ≤ 2147483647) ∧ (0 ≤ x1 ∧ x1 < 4)) ∧ (Q (.inl (some (.inl (S 5 x1 32)))) (mo b r (ms S) V (am_up W 38 0))))) ∧ ((x2 : Int) = 2 → ((-2147483648 ≤ (320230 + 183 * x1) + 31 ∧ (320230 + 183 * x1) + 31 ≤ 2147483647) ∧ (0 ≤ x1 ∧ x1 < 4)) ∧ (Q (.inl (some (.inl (S 5 x1 31)))) (mo b r (ms S) V (am_up W 38 0))))) ∧ ((x2 : Int) = 1 → ((-2147483648 ≤ (320230 + 183 * x1) + 30 ∧ (320230 + 183 * x1) + 30 ≤ 2147483647) ∧ (0 ≤ x1 ∧ x1 < 4)) ∧ (Q (.inl (some (.inl (S 5 x1 30)))) (mo b r (ms S) V (am_up W 38 0))))) ∧ ((x2 : Int) = 0 → ((-2147483648 ≤ (320230 + 183 * x1) + 29 ∧ (320230 + 183 * x1) + 29 ≤ 2147483647) ∧ (0 ≤ x1 ∧ x1 < 4)) ∧ (Q (.inl (some (.inl (S 5 x1 29)))) (mo b r (ms S) V (am_up W 38 0)))))) ∧ (¬ (0 ≤ x2 ∧ x2 ≤ 5) → Q (.inl (some (.inl 0))) (mo b r (ms S) V (am_up W 38 2)))) ∧ (¬ (0 ≤ x1 ∧ x1 < S 0 0 3) → Q (.inl (some (.inl 0))) (mo b r (ms S) V (am_up W 38 1)))) : am_W m_X5_runs (am_ev am_prog (d + 3)) Q 0 [some (.inr (.inl r)), some (.inl x1), some (.inl x2), o3] [] (mo b r (ms S) V W) := by
  refine r_X5_runs_0 ?_
  simp only [mo_ty, true_or, or_true, true_and]
  refine ?_
  refine c_isMachine (am_av ?_)
  refine r_X5_runs_4 ?_
  refine ⟨fun c => ?_, fun c => ?_⟩
  · replace c := am_b1 c
    replace H := H.1 c
    refine r_X5_runs_7 ?_
    refine ?_
    refine c_isIn (am_av ?_)
    refine r_X5_runs_11 ?_
    refine ⟨fun c => ?_, fun c => ?_⟩
    · replace c := am_b1 c
      replace H := H.1 c
      refine r_X5_runs_14 ?_
      refine r_X5_runs_15 ?_
      simp only [mo_ty, mo_si, true_or, or_true, true_and]
      refine ?_
      refine r_X5_runs_16 ?_
      simp only [mo_ty, mo_i, am_up_eq, true_or, or_true, true_and, Int.reduceLE, Int.reduceLT, Int.reduceEq, Int.reduceNe, ne_eq, false_imp_iff, true_imp_iff, and_true, true_and, not_true_eq_false, not_false_eq_true, not_true, Int.reduceNeg]
      refine ?_
      refine r_X5_runs_21 ?_
      refine ?_
      obtain ⟨a245, H⟩ := H
      refine c_machine0 (by omega) (am_av ?_)
      refine r_X5_runs_23 ?_
      refine ⟨fun c => ?_, fun c => ?_⟩
      · replace H := H.1 c
        refine r_X5_runs_33 ?_
        refine ⟨fun c => ?_, fun c => ?_⟩
        · replace H := H.1 c
          refine r_X5_runs_43 ?_
          refine ⟨fun c => ?_, fun c => ?_⟩
          · replace H := H.1 c
            refine r_X5_runs_53 ?_
            refine ⟨fun c => ?_, fun c => ?_⟩
            · replace H := H.1 c
              refine r_X5_runs_63 ?_
              refine ⟨fun c => ?_, fun c => ?_⟩
              · replace H := H.1 c
                obtain ⟨⟨a246, a247⟩, H⟩ := H
                refine r_X5_runs_73 ?_
                simp only [mo_ty, mo_f39, mo_t1, mo_n1, mo_a1, ms_r5 (k := (320230 + 183 * x1) + 29) (p := x1) (i := 29) (by omega) (by omega) (by omega), true_or, or_true, true_and]
                refine ⟨a246, (by omega), ⟨fun c => ?_, fun c => ?_⟩⟩
                · replace H := H.1 c
                  obtain ⟨⟨a248, a249⟩, H⟩ := H
                  refine r_X5_runs_82 ?_
                  simp only [mo_ty, mo_f39, mo_t1, mo_n1, mo_a1, ms_r5 (k := (320230 + 183 * x1) + 33) (p := x1) (i := 33) (by omega) (by omega) (by omega), true_or, or_true, true_and]
                  refine ⟨a248, (by omega), ?_⟩
                  refine r_X5_runs_88 ?_
                  exact H
                · replace H := H.2 c
                  refine r_X5_runs_80 ?_
                  refine r_X5_runs_88 ?_
                  exact H
              · replace H := H.2 c
                obtain ⟨⟨a250, a251⟩, H⟩ := H
                refine r_X5_runs_66 ?_
                simp only [mo_ty, mo_f39, mo_t1, mo_n1, mo_a1, ms_r5 (k := (320230 + 183 * x1) + 28) (p := x1) (i := 28) (by omega) (by omega) (by omega), true_or, or_true, true_and]
                refine ⟨a250, (by omega), ?_⟩
                refine r_X5_runs_88 ?_
                exact H
            · replace H := H.2 c
              obtain ⟨⟨a252, a253⟩, H⟩ := H
              refine r_X5_runs_56 ?_
              simp only [mo_ty, mo_f39, mo_t1, mo_n1, mo_a1, ms_r5 (k := (320230 + 183 * x1) + 32) (p := x1) (i := 32) (by omega) (by omega) (by omega), true_or, or_true, true_and]
              refine ⟨a252, (by omega), ?_⟩
              refine r_X5_runs_88 ?_
              exact H
          · replace H := H.2 c
            obtain ⟨⟨a254, a255⟩, H⟩ := H
            refine r_X5_runs_46 ?_
            simp only [mo_ty, mo_f39, mo_t1, mo_n1, mo_a1, ms_r5 (k := (320230 + 183 * x1) + 31) (p := x1) (i := 31) (by omega) (by omega) (by omega), true_or, or_true, true_and]
            refine ⟨a254, (by omega), ?_⟩
            refine r_X5_runs_88 ?_
            exact H
        · replace H := H.2 c
          obtain ⟨⟨a256, a257⟩, H⟩ := H
          refine r_X5_runs_36 ?_
          simp only [mo_ty, mo_f39, mo_t1, mo_n1, mo_a1, ms_r5 (k := (320230 + 183 * x1) + 30) (p := x1) (i := 30) (by omega) (by omega) (by omega), true_or, or_true, true_and]
          refine ⟨a256, (by omega), ?_⟩
          refine r_X5_runs_88 ?_
          exact H
      · replace H := H.2 c
        obtain ⟨⟨a258, a259⟩, H⟩ := H
        refine r_X5_runs_26 ?_
        simp only [mo_ty, mo_f39, mo_t1, mo_n1, mo_a1, ms_r5 (k := (320230 + 183 * x1) + 29) (p := x1) (i := 29) (by omega) (by omega) (by omega), true_or, or_true, true_and]
        refine ⟨a258, (by omega), ?_⟩
        refine r_X5_runs_88 ?_
        exact H
    · replace c := am_b0 c
      replace H := H.2 c
      refine r_X5_runs_12 ?_
      refine r_X5_runs_15 ?_
      simp only [mo_ty, mo_si, true_or, or_true, true_and]
      refine ?_
      refine r_X5_runs_16 ?_
      simp only [mo_ty, mo_i, am_up_eq, true_or, or_true, true_and, Int.reduceLE, Int.reduceLT, Int.reduceEq, Int.reduceNe, ne_eq, false_imp_iff, true_imp_iff, and_true, true_and, not_true_eq_false, not_false_eq_true, not_true, Int.reduceNeg]
      refine ?_
      refine r_X5_runs_19 ?_
      exact H
  · replace c := am_b0 c
    replace H := H.2 c
    refine r_X5_runs_5 ?_
    refine r_X5_runs_15 ?_
    simp only [mo_ty, mo_si, true_or, or_true, true_and]
    refine ?_
    refine r_X5_runs_16 ?_
    simp only [mo_ty, mo_i, am_up_eq, true_or, or_true, true_and, Int.reduceLE, Int.reduceLT, Int.reduceEq, Int.reduceNe, ne_eq, false_imp_iff, true_imp_iff, and_true, true_and, not_true_eq_false, not_false_eq_true, not_true, Int.reduceNeg]
    refine ?_
    refine r_X5_runs_19 ?_
    exact H
theorem w_best_0 {d : Nat} {Q : am_K} {b : am_H} {r : Nat} {S : am_G} {V : Nat → Int → Int} {W : Nat → Int} {x1 : Int} {x2 : Int} (H : ((-2147483648 ≤ x1 ∧ x1 ≤ 2147483647) ∧ S 0 0 1 ≤ 20) ∧ ((0 ≤ x1 ∧ x1 / 5 < S 0 0 1 ∧ x1 % 5 < S 2 2 (x1 / 5) → (0 ≤ x2 ∧ x2 ≤ 2 → am_ev am_prog (d + 3) 113 [.inr (.inl r), .inl x1, .inl (S 0 0 0)] (mo b r (ms S) V (am_up W 38 0)) (am_aft (am_hand m_X5_best Q (am_W m_X5_best (am_ev am_prog (d + 3)) Q) 27) (am_W m_X5_best (am_ev am_prog (d + 3)) Q) 27 [some (.inr (.inl r)), some (.inl x1), some (.inl x2)] [])) ∧ (¬ (0 ≤ x2 ∧ x2 ≤ 2) → Q (.inl (some (.inl 0))) (mo b r (ms S) V (am_up W 38 2)))) ∧ (¬ (0 ≤ x1 ∧ x1 / 5 < S 0 0 1 ∧ x1 % 5 < S 2 2 (x1 / 5)) → Q (.inl (some (.inl 0))) (mo b r (ms S) V (am_up W 38 1))))) : am_W m_X5_best (am_ev am_prog (d + 3)) Q 0 [some (.inr (.inl r)), some (.inl x1), some (.inl x2)] [] (mo b r (ms S) V W) := by
  refine r_X5_best_0 ?_
  simp only [mo_ty, true_or, or_true, true_and]
  refine ?_
  obtain ⟨⟨a260, a261⟩, H⟩ := H
  refine c_isPart (by omega) (by omega) (am_av ?_)
  refine r_X5_best_4 ?_
  refine ⟨fun c => ?_, fun c => ?_⟩
  · replace c := am_b1 c
    replace H := H.1 c
    refine r_X5_best_7 ?_
    refine ?_
    refine c_isIn (am_av ?_)
    refine r_X5_best_11 ?_
    refine ⟨fun c => ?_, fun c => ?_⟩
    · replace c := am_b1 c
      replace H := H.1 c
      refine r_X5_best_14 ?_
      refine r_X5_best_15 ?_
      simp only [mo_ty, mo_si, true_or, or_true, true_and]
      refine ?_
      refine r_X5_best_16 ?_
      simp only [mo_ty, mo_i, am_up_eq, true_or, or_true, true_and, Int.reduceLE, Int.reduceLT, Int.reduceEq, Int.reduceNe, ne_eq, false_imp_iff, true_imp_iff, and_true, true_and, not_true_eq_false, not_false_eq_true, not_true, Int.reduceNeg]
      refine ?_
      refine r_X5_best_21 ?_
      simp only [mo_ty, mo_f39, mo_t1, mo_n1, mo_a1, ms_r0 (k := 0) (p := 0) (i := 0) (by omega) (by omega) (by omega), true_or, or_true, true_and]
      exact ⟨(by omega), H⟩
    · replace c := am_b0 c
      replace H := H.2 c
      refine r_X5_best_12 ?_
      refine r_X5_best_15 ?_
      simp only [mo_ty, mo_si, true_or, or_true, true_and]
      refine ?_
      refine r_X5_best_16 ?_
      simp only [mo_ty, mo_i, am_up_eq, true_or, or_true, true_and, Int.reduceLE, Int.reduceLT, Int.reduceEq, Int.reduceNe, ne_eq, false_imp_iff, true_imp_iff, and_true, true_and, not_true_eq_false, not_false_eq_true, not_true, Int.reduceNeg]
      refine ?_
      refine r_X5_best_19 ?_
      exact H
  · replace c := am_b0 c
    replace H := H.2 c
    refine r_X5_best_5 ?_
    refine r_X5_best_15 ?_
    simp only [mo_ty, mo_si, true_or, or_true, true_and]
    refine ?_
    refine r_X5_best_16 ?_
    simp only [mo_ty, mo_i, am_up_eq, true_or, or_true, true_and, Int.reduceLE, Int.reduceLT, Int.reduceEq, Int.reduceNe, ne_eq, false_imp_iff, true_imp_iff, and_true, true_and, not_true_eq_false, not_false_eq_true, not_true, Int.reduceNeg]
    refine ?_
    refine r_X5_best_19 ?_
    exact H
theorem w_best_28 {d : Nat} {Q : am_K} {b : am_H} {r : Nat} {S : am_G} {V : Nat → Int → Int} {W : Nat → Int} {x1 : Int} {x2 : Int} (H : ((x2 : Int) ≠ 2 → ((V 14 0 : Int) ≠ (-1) → ((x2 : Int) ≠ 0 → Q (.inl (some (.inl (V 14 0)))) (mo b r (ms S) V W)) ∧ ((x2 : Int) = 0 → Q (.inl (some (.inl (V 15 0)))) (mo b r (ms S) V W))) ∧ ((V 14 0 : Int) = (-1) → Q (.inl (some (.inl (-1)))) (mo b r (ms S) V W))) ∧ ((x2 : Int) = 2 → am_ev am_prog (d + 3) 174 [.inr (.inl r), .inl x1] (mo b r (ms S) V W) (am_aft (am_hand m_X5_best Q (am_W m_X5_best (am_ev am_prog (d + 3)) Q) 33) (am_W m_X5_best (am_ev am_prog (d + 3)) Q) 33 [some (.inr (.inl r)), some (.inl x1), some (.inl x2)] []))) : am_W m_X5_best (am_ev am_prog (d + 3)) Q 28 [some (.inr (.inl r)), some (.inl x1), some (.inl x2)] [] (mo b r (ms S) V W) := by
  refine r_X5_best_28 ?_
  refine ⟨fun c => ?_, fun c => ?_⟩
  · replace H := H.1 c
    refine r_X5_best_35 ?_
    simp only [mo_ty, mo_f69, mo_t14, mo_n14, mo_a14, true_or, or_true, true_and]
    refine ⟨(by decide), ⟨fun c => ?_, fun c => ?_⟩⟩
    · replace H := H.1 c
      refine r_X5_best_43 ?_
      refine ⟨fun c => ?_, fun c => ?_⟩
      · replace H := H.1 c
        refine r_X5_best_50 ?_
        simp only [mo_ty, mo_f69, mo_t14, mo_n14, mo_a14, true_or, or_true, true_and]
        refine ⟨(by decide), ?_⟩
        refine r_X5_best_54 ?_
        exact H
      · replace H := H.2 c
        refine r_X5_best_45 ?_
        simp only [mo_ty, mo_f70, mo_t15, mo_n15, mo_a15, true_or, or_true, true_and]
        refine ⟨(by decide), ?_⟩
        refine r_X5_best_54 ?_
        exact H
    · replace H := H.2 c
      refine r_X5_best_41 ?_
      refine r_X5_best_54 ?_
      exact H
  · replace H := H.2 c
    refine r_X5_best_31 ?_
    simp only [mo_ty, true_or, or_true, true_and]
    exact H
theorem w_best_34 {d : Nat} {Q : am_K} {b : am_H} {r : Nat} {S : am_G} {V : Nat → Int → Int} {W : Nat → Int} {x1 : Int} {x2 : Int} {y0 : Int} (H : Q (.inl (some (.inl y0))) (mo b r (ms S) V W)) : am_W m_X5_best (am_ev am_prog (d + 3)) Q 34 [some (.inr (.inl r)), some (.inl x1), some (.inl x2)] [.inl y0] (mo b r (ms S) V W) := by
  refine r_X5_best_34 ?_
  exact H
theorem w_lies_0 {d : Nat} {Q : am_K} {b : am_H} {r : Nat} {S : am_G} {V : Nat → Int → Int} {W : Nat → Int} {x1 : Int} {x2 : Int} (H : ((-2147483648 ≤ x1 ∧ x1 ≤ 2147483647) ∧ S 0 0 1 ≤ 20) ∧ ((0 ≤ x1 ∧ x1 / 5 < S 0 0 1 ∧ x1 % 5 < S 2 2 (x1 / 5) → am_ev am_prog (d + 3) 175 [.inr (.inl r), .inl x1, .inl x2] (mo b r (ms S) V W) (am_aft (am_hand m_X5_lies Q (am_W m_X5_lies (am_ev am_prog (d + 3)) Q) 10) (am_W m_X5_lies (am_ev am_prog (d + 3)) Q) 10 [some (.inr (.inl r)), some (.inl x1), some (.inl x2)] [.inr (.inl r)])) ∧ (¬ (0 ≤ x1 ∧ x1 / 5 < S 0 0 1 ∧ x1 % 5 < S 2 2 (x1 / 5)) → am_W m_X5_lies (am_ev am_prog (d + 3)) Q 11 [some (.inr (.inl r)), some (.inl x1), some (.inl x2)] [.inl 1, .inr (.inl r)] (mo b r (ms S) V W)))) : am_W m_X5_lies (am_ev am_prog (d + 3)) Q 0 [some (.inr (.inl r)), some (.inl x1), some (.inl x2)] [] (mo b r (ms S) V W) := by
  refine r_X5_lies_0 ?_
  simp only [mo_ty, true_or, or_true, true_and]
  refine ?_
  obtain ⟨⟨a262, a263⟩, H⟩ := H
  refine c_isPart (by omega) (by omega) (am_av ?_)
  refine r_X5_lies_4 ?_
  refine ⟨fun c => ?_, fun c => ?_⟩
  · replace c := am_b1 c
    replace H := H.1 c
    refine r_X5_lies_7 ?_
    simp only [mo_ty, true_or, or_true, true_and]
    exact H
  · replace c := am_b0 c
    replace H := H.2 c
    refine r_X5_lies_5 ?_
    exact H
theorem w_lies_11 {d : Nat} {Q : am_K} {b : am_H} {r : Nat} {S : am_G} {V : Nat → Int → Int} {W : Nat → Int} {x1 : Int} {x2 : Int} {y1 : Int} (H : (y1 ≤ 0 → ((0 ≤ x1 ∧ x1 < 3000000)) ∧ (((-2147483648 ≤ (130 + 645 * x1) + 45 ∧ (130 + 645 * x1) + 45 ≤ 2147483647) ∧ (-2147483648 ≤ ((130 + 645 * x1) + 45) + x2 ∧ ((130 + 645 * x1) + 45) + x2 ≤ 2147483647) ∧ (0 ≤ x1 ∧ x1 < 100) ∧ (0 ≤ 45 + x2 ∧ 45 + x2 < 645) ∧ (-2147483648 ≤ (S 3 x1 (45 + x2)) - 1 ∧ (S 3 x1 (45 + x2)) - 1 ≤ 2147483647)) ∧ (Q (.inl (some (.inl ((S 3 x1 (45 + x2)) - 1)))) (mo b r (ms S) V (am_up W 38 y1))))) ∧ (0 < y1 → Q (.inl (some (.inl 0))) (mo b r (ms S) V (am_up W 38 y1)))) : am_W m_X5_lies (am_ev am_prog (d + 3)) Q 11 [some (.inr (.inl r)), some (.inl x1), some (.inl x2)] [.inl y1, .inr (.inl r)] (mo b r (ms S) V W) := by
  refine r_X5_lies_11 ?_
  simp only [mo_ty, mo_si, true_or, or_true, true_and]
  refine ?_
  refine r_X5_lies_12 ?_
  simp only [mo_ty, mo_i, am_up_eq, true_or, or_true, true_and]
  refine ⟨fun c => ?_, fun c => ?_⟩
  · replace H := H.1 c
    refine r_X5_lies_17 ?_
    simp only [mo_ty, mo_f39, true_or, or_true, true_and]
    refine ?_
    obtain ⟨a264, H⟩ := H
    refine c_part0 (by omega) (am_av ?_)
    obtain ⟨⟨a265, a266, a267, a268, a269⟩, H⟩ := H
    refine r_X5_lies_21 ?_
    simp only [mo_t1, mo_n1, mo_a1, ms_r3 (k := ((130 + 645 * x1) + 45) + x2) (p := x1) (i := 45 + x2) (by omega) (by omega) (by omega), true_or, or_true, true_and]
    exact ⟨a265, a266, (by omega), a269, H⟩
  · replace H := H.2 c
    refine r_X5_lies_15 ?_
    exact H
theorem w_machine_0 {d : Nat} {Q : am_K} {b : am_H} {r : Nat} {S : am_G} {V : Nat → Int → Int} {W : Nat → Int} {x1 : Int} {x2 : Int} {o3 : Option am_V} {o4 : Option am_V} (H : (¬ (0 ≤ x1 ∧ x1 ≤ 40) → Q (.inl (some (.inl 0))) (mo b r (ms S) V (am_up W 38 1))) ∧ (0 ≤ x1 ∧ x1 ≤ 40 → (0 ≤ x2 ∧ x2 ≤ 9 → ((S 0 0 3 : Int) ≠ 4 → ((0 ≤ S 0 0 3 ∧ S 0 0 3 < 2000000)) ∧ (am_W m_X5_machine (am_ev am_prog (d + 3)) Q 36 [some (.inr (.inl r)), some (.inl x1), some (.inl x2), some (.inl (320230 + 183 * (S 0 0 3))), some (.inl 0)] [] (mo b r (ms S) V (am_up W 38 0)))) ∧ ((S 0 0 3 : Int) = 4 → Q (.inl (some (.inl 0))) (mo b r (ms S) V (am_up W 38 2)))) ∧ (¬ (0 ≤ x2 ∧ x2 ≤ 9) → Q (.inl (some (.inl 0))) (mo b r (ms S) V (am_up W 38 1))))) : am_W m_X5_machine (am_ev am_prog (d + 3)) Q 0 [some (.inr (.inl r)), some (.inl x1), some (.inl x2), o3, o4] [] (mo b r (ms S) V W) := by
  refine r_X5_machine_0 ?_
  refine ?_
  refine c_isIn (am_av ?_)
  refine r_X5_machine_5 ?_
  refine ⟨fun c => ?_, fun c => ?_⟩
  · replace c := am_b0 c
    replace H := H.1 c
    refine r_X5_machine_11 ?_
    refine r_X5_machine_22 ?_
    simp only [mo_ty, mo_si, true_or, or_true, true_and]
    refine ?_
    refine r_X5_machine_23 ?_
    simp only [mo_ty, mo_i, am_up_eq, true_or, or_true, true_and, Int.reduceLE, Int.reduceLT, Int.reduceEq, Int.reduceNe, ne_eq, false_imp_iff, true_imp_iff, and_true, true_and, not_true_eq_false, not_false_eq_true, not_true, Int.reduceNeg]
    refine ?_
    refine r_X5_machine_26 ?_
    exact H
  · replace c := am_b1 c
    replace H := H.2 c
    refine r_X5_machine_6 ?_
    refine ?_
    refine c_isIn (am_av ?_)
    refine r_X5_machine_10 ?_
    refine ⟨fun c => ?_, fun c => ?_⟩
    · replace c := am_b1 c
      replace H := H.1 c
      refine r_X5_machine_13 ?_
      simp only [mo_ty, mo_f39, mo_t1, mo_n1, mo_a1, ms_r0 (k := 3) (p := 0) (i := 3) (by omega) (by omega) (by omega), true_or, or_true, true_and]
      refine ⟨(by omega), ⟨fun c => ?_, fun c => ?_⟩⟩
      · replace H := H.1 c
        refine r_X5_machine_21 ?_
        refine r_X5_machine_22 ?_
        simp only [mo_ty, mo_si, true_or, or_true, true_and]
        refine ?_
        refine r_X5_machine_23 ?_
        simp only [mo_ty, mo_i, am_up_eq, true_or, or_true, true_and, Int.reduceLE, Int.reduceLT, Int.reduceEq, Int.reduceNe, ne_eq, false_imp_iff, true_imp_iff, and_true, true_and, not_true_eq_false, not_false_eq_true, not_true, Int.reduceNeg]
        refine ?_
        refine r_X5_machine_28 ?_
        simp only [mo_ty, mo_f39, mo_t1, mo_n1, mo_a1, ms_r0 (k := 3) (p := 0) (i := 3) (by omega) (by omega) (by omega), true_or, or_true, true_and]
        refine ⟨(by omega), ?_⟩
        obtain ⟨a270, H⟩ := H
        refine c_machine0 (by omega) (am_av ?_)
        refine r_X5_machine_33 ?_
        exact H
      · replace H := H.2 c
        refine r_X5_machine_19 ?_
        refine r_X5_machine_22 ?_
        simp only [mo_ty, mo_si, true_or, or_true, true_and]
        refine ?_
        refine r_X5_machine_23 ?_
        simp only [mo_ty, mo_i, am_up_eq, true_or, or_true, true_and, Int.reduceLE, Int.reduceLT, Int.reduceEq, Int.reduceNe, ne_eq, false_imp_iff, true_imp_iff, and_true, true_and, not_true_eq_false, not_false_eq_true, not_true, Int.reduceNeg]
        refine ?_
        refine r_X5_machine_26 ?_
        exact H
    · replace c := am_b0 c
      replace H := H.2 c
      refine r_X5_machine_11 ?_
      refine r_X5_machine_22 ?_
      simp only [mo_ty, mo_si, true_or, or_true, true_and]
      refine ?_
      refine r_X5_machine_23 ?_
      simp only [mo_ty, mo_i, am_up_eq, true_or, or_true, true_and, Int.reduceLE, Int.reduceLT, Int.reduceEq, Int.reduceNe, ne_eq, false_imp_iff, true_imp_iff, and_true, true_and, not_true_eq_false, not_false_eq_true, not_true, Int.reduceNeg]
      refine ?_
      refine r_X5_machine_26 ?_
      exact H
theorem w_machine_36 {d : Nat} {Q : am_K} {b : am_H} {r : Nat} {S : am_G} {V : Nat → Int → Int} {W : Nat → Int} {x1 : Int} {x2 : Int} {p3 : Int} {x4 : Int} (H : (27 ≤ x4 → ((-2147483648 ≤ (320230 + 183 * p3) + 27 ∧ (320230 + 183 * p3) + 27 ≤ 2147483647) ∧ (0 ≤ p3 ∧ p3 < 4)) ∧ (((-2147483648 ≤ (S 0 0 3) + 1 ∧ (S 0 0 3) + 1 ≤ 2147483647)) ∧ (((-2147483648 ≤ ((S 0 0 3) + 1) - 1 ∧ ((S 0 0 3) + 1) - 1 ≤ 2147483647)) ∧ (Q (.inl (some (.inl (((S 0 0 3) + 1) - 1)))) (mo b r (ms (u3 (u3 S 5 p3 27 x2) 0 0 3 ((S 0 0 3) + 1))) V W))))) ∧ (x4 < 27 → ((-2147483648 ≤ (320230 + 183 * p3) + x4 ∧ (320230 + 183 * p3) + x4 ≤ 2147483647) ∧ (0 ≤ p3 ∧ p3 < 4) ∧ (0 ≤ x4 ∧ x4 < 183)) ∧ (((-2147483648 ≤ x4 + 1 ∧ x4 + 1 ≤ 2147483647)) ∧ (am_W m_X5_machine (am_ev am_prog (d + 3)) Q 36 [some (.inr (.inl r)), some (.inl x1), some (.inl x2), some (.inl (320230 + 183 * p3)), some (.inl (x4 + 1))] [] (mo b r (ms (u3 S 5 p3 x4 x1)) V W))))) : am_W m_X5_machine (am_ev am_prog (d + 3)) Q 36 [some (.inr (.inl r)), some (.inl x1), some (.inl x2), some (.inl (320230 + 183 * p3)), some (.inl x4)] [] (mo b r (ms S) V W) := by
  refine r_X5_machine_36 ?_
  refine ⟨fun c => ?_, fun c => ?_⟩
  · replace H := H.1 c
    obtain ⟨⟨a271, a272⟩, H⟩ := H
    refine r_X5_machine_48 ?_
    simp only [mo_ty, mo_f39, mo_t1, mo_n1, mo_s1, ms_w5 (k := (320230 + 183 * p3) + 27) (p := p3) (i := 27) (by omega) (by omega) (by omega), true_or, or_true, true_and]
    refine ⟨a271, (by omega), ?_⟩
    obtain ⟨a273, H⟩ := H
    refine r_X5_machine_55 ?_
    simp only [mo_ty, mo_f39, mo_t1, mo_n1, mo_a1, ms_r0 (k := 3) (p := 0) (i := 3) (by omega) (by omega) (by omega), u3_nc (by decide : (0 : Nat) ≠ 5), mo_s1, ms_w0 (k := 3) (p := 0) (i := 3) (by omega) (by omega) (by omega), true_or, or_true, true_and]
    refine ⟨(by omega), a273, (by omega), ?_⟩
    obtain ⟨a274, H⟩ := H
    refine r_X5_machine_63 ?_
    simp only [mo_ty, mo_f39, mo_t1, mo_n1, mo_a1, ms_r0 (k := 3) (p := 0) (i := 3) (by omega) (by omega) (by omega), u3_eq, true_or, or_true, true_and]
    exact ⟨(by omega), a274, H⟩
  · replace H := H.2 c
    obtain ⟨⟨a275, a276, a277⟩, H⟩ := H
    refine r_X5_machine_39 ?_
    simp only [mo_ty, mo_f39, mo_t1, mo_n1, mo_s1, ms_w5 (k := (320230 + 183 * p3) + x4) (p := p3) (i := x4) (by omega) (by omega) (by omega), true_or, or_true, true_and]
    refine ⟨a275, (by omega), ?_⟩
    obtain ⟨a278, H⟩ := H
    refine r_X5_machine_46 ?_
    refine ⟨a278, ?_⟩
    exact H
theorem w_part_0 {d : Nat} {Q : am_K} {b : am_H} {r : Nat} {S : am_G} {V : Nat → Int → Int} {W : Nat → Int} {x1 : Int} {x2 : Int} {o3 : Option am_V} {o4 : Option am_V} {o5 : Option am_V} (H : ((-2147483648 ≤ x1 ∧ x1 ≤ 2147483647) ∧ S 0 0 1 ≤ 20) ∧ ((0 ≤ x1 ∧ x1 / 5 < S 0 0 1 ∧ x1 % 5 < S 2 2 (x1 / 5) → (0 ≤ x2 ∧ x2 ≤ 7 → ((0 ≤ x1 ∧ x1 < 3000000)) ∧ (((x2 : Int) ≠ 0 → ((x2 : Int) ≠ 1 → ((x2 : Int) ≠ 2 → ((x2 : Int) ≠ 3 → ((x2 : Int) ≠ 4 → ((x2 : Int) ≠ 5 → ((x2 : Int) ≠ 6 → am_W m_X5_part (am_ev am_prog (d + 3)) Q 137 [some (.inr (.inl r)), some (.inl x1), some (.inl x2), some (.inl (130 + 645 * x1)), some (.inl 0), some (.inl 0)] [] (mo b r (ms S) V (am_up W 38 0))) ∧ ((x2 : Int) = 6 → am_W m_X5_part (am_ev am_prog (d + 3)) Q 104 [some (.inr (.inl r)), some (.inl x1), some (.inl x2), some (.inl (130 + 645 * x1)), some (.inl 0), some (.inl 0)] [] (mo b r (ms S) V (am_up W 38 0)))) ∧ ((x2 : Int) = 5 → ((-2147483648 ≤ (130 + 645 * x1) + 3 ∧ (130 + 645 * x1) + 3 ≤ 2147483647) ∧ (0 ≤ x1 ∧ x1 < 100)) ∧ (((S 3 x1 3 : Int) ≠ 1 → Q (.inl (some (.inl (-1)))) (mo b r (ms S) V (am_up W 38 0))) ∧ ((S 3 x1 3 : Int) = 1 → ((-2147483648 ≤ (130 + 645 * x1) + 4 ∧ (130 + 645 * x1) + 4 ≤ 2147483647) ∧ (0 ≤ x1 ∧ x1 < 100)) ∧ (Q (.inl (some (.inl (S 3 x1 4)))) (mo b r (ms S) V (am_up W 38 0))))))) ∧ ((x2 : Int) = 4 → ((-2147483648 ≤ (130 + 645 * x1) + 2 ∧ (130 + 645 * x1) + 2 ≤ 2147483647) ∧ (0 ≤ x1 ∧ x1 < 100)) ∧ (Q (.inl (some (.inl (S 3 x1 2)))) (mo b r (ms S) V (am_up W 38 0))))) ∧ ((x2 : Int) = 3 → ((0 ≤ x1 ∧ x1 ≤ 2147483647) ∧ (-2147483648 ≤ 90 + (x1 / 5) ∧ 90 + (x1 / 5) ≤ 2147483647) ∧ (0 ≤ (x1 / 5) ∧ (x1 / 5) < 20)) ∧ (Q (.inl (some (.inl (S 2 1 (x1 / 5))))) (mo b r (ms S) V (am_up W 38 0))))) ∧ ((x2 : Int) = 2 → ((0 ≤ x1 ∧ x1 ≤ 2147483647) ∧ (-2147483648 ≤ 70 + (x1 / 5) ∧ 70 + (x1 / 5) ≤ 2147483647) ∧ (0 ≤ (x1 / 5) ∧ (x1 / 5) < 20)) ∧ (Q (.inl (some (.inl (S 2 0 (x1 / 5))))) (mo b r (ms S) V (am_up W 38 0))))) ∧ ((x2 : Int) = 1 → ((-2147483648 ≤ (130 + 645 * x1) + 1 ∧ (130 + 645 * x1) + 1 ≤ 2147483647) ∧ (0 ≤ x1 ∧ x1 < 100)) ∧ (Q (.inl (some (.inl (S 3 x1 1)))) (mo b r (ms S) V (am_up W 38 0))))) ∧ ((x2 : Int) = 0 → ((-2147483648 ≤ (130 + 645 * x1) + 0 ∧ (130 + 645 * x1) + 0 ≤ 2147483647) ∧ (0 ≤ x1 ∧ x1 < 100)) ∧ (Q (.inl (some (.inl (S 3 x1 0)))) (mo b r (ms S) V (am_up W 38 0)))))) ∧ (¬ (0 ≤ x2 ∧ x2 ≤ 7) → Q (.inl (some (.inl 0))) (mo b r (ms S) V (am_up W 38 2)))) ∧ (¬ (0 ≤ x1 ∧ x1 / 5 < S 0 0 1 ∧ x1 % 5 < S 2 2 (x1 / 5)) → Q (.inl (some (.inl 0))) (mo b r (ms S) V (am_up W 38 1))))) : am_W m_X5_part (am_ev am_prog (d + 3)) Q 0 [some (.inr (.inl r)), some (.inl x1), some (.inl x2), o3, o4, o5] [] (mo b r (ms S) V W) := by
  refine r_X5_part_0 ?_
  simp only [mo_ty, true_or, or_true, true_and]
  refine ?_
  obtain ⟨⟨a279, a280⟩, H⟩ := H
  refine c_isPart (by omega) (by omega) (am_av ?_)
  refine r_X5_part_4 ?_
  refine ⟨fun c => ?_, fun c => ?_⟩
  · replace c := am_b1 c
    replace H := H.1 c
    refine r_X5_part_7 ?_
    refine ?_
    refine c_isIn (am_av ?_)
    refine r_X5_part_11 ?_
    refine ⟨fun c => ?_, fun c => ?_⟩
    · replace c := am_b1 c
      replace H := H.1 c
      refine r_X5_part_14 ?_
      refine r_X5_part_15 ?_
      simp only [mo_ty, mo_si, true_or, or_true, true_and]
      refine ?_
      refine r_X5_part_16 ?_
      simp only [mo_ty, mo_i, am_up_eq, true_or, or_true, true_and, Int.reduceLE, Int.reduceLT, Int.reduceEq, Int.reduceNe, ne_eq, false_imp_iff, true_imp_iff, and_true, true_and, not_true_eq_false, not_false_eq_true, not_true, Int.reduceNeg]
      refine ?_
      refine r_X5_part_21 ?_
      refine ?_
      obtain ⟨a281, H⟩ := H
      refine c_part0 (by omega) (am_av ?_)
      refine r_X5_part_23 ?_
      refine ⟨fun c => ?_, fun c => ?_⟩
      · replace H := H.1 c
        refine r_X5_part_33 ?_
        refine ⟨fun c => ?_, fun c => ?_⟩
        · replace H := H.1 c
          refine r_X5_part_43 ?_
          refine ⟨fun c => ?_, fun c => ?_⟩
          · replace H := H.1 c
            refine r_X5_part_55 ?_
            refine ⟨fun c => ?_, fun c => ?_⟩
            · replace H := H.1 c
              refine r_X5_part_67 ?_
              refine ⟨fun c => ?_, fun c => ?_⟩
              · replace H := H.1 c
                refine r_X5_part_77 ?_
                refine ⟨fun c => ?_, fun c => ?_⟩
                · replace H := H.1 c
                  refine r_X5_part_97 ?_
                  refine ⟨fun c => ?_, fun c => ?_⟩
                  · replace H := H.1 c
                    refine r_X5_part_135 ?_
                    exact H
                  · replace H := H.2 c
                    refine r_X5_part_102 ?_
                    exact H
                · replace H := H.2 c
                  obtain ⟨⟨a282, a283⟩, H⟩ := H
                  refine r_X5_part_80 ?_
                  simp only [mo_ty, mo_f39, mo_t1, mo_n1, mo_a1, ms_r3 (k := (130 + 645 * x1) + 3) (p := x1) (i := 3) (by omega) (by omega) (by omega), true_or, or_true, true_and]
                  refine ⟨a282, (by omega), ⟨fun c => ?_, fun c => ?_⟩⟩
                  · replace H := H.1 c
                    refine r_X5_part_95 ?_
                    refine r_X5_part_96 ?_
                    exact H
                  · replace H := H.2 c
                    obtain ⟨⟨a284, a285⟩, H⟩ := H
                    refine r_X5_part_88 ?_
                    simp only [mo_ty, mo_f39, mo_t1, mo_n1, mo_a1, ms_r3 (k := (130 + 645 * x1) + 4) (p := x1) (i := 4) (by omega) (by omega) (by omega), true_or, or_true, true_and]
                    refine ⟨a284, (by omega), ?_⟩
                    refine r_X5_part_96 ?_
                    exact H
              · replace H := H.2 c
                obtain ⟨⟨a286, a287⟩, H⟩ := H
                refine r_X5_part_70 ?_
                simp only [mo_ty, mo_f39, mo_t1, mo_n1, mo_a1, ms_r3 (k := (130 + 645 * x1) + 2) (p := x1) (i := 2) (by omega) (by omega) (by omega), true_or, or_true, true_and]
                exact ⟨a286, (by omega), H⟩
            · replace H := H.2 c
              obtain ⟨⟨a288, a289, a290⟩, H⟩ := H
              refine r_X5_part_58 ?_
              simp only [mo_ty, mo_f39, am_td (x := x1) (y := 5) (by omega), am_tm (x := x1) (y := 5) (by omega), mo_t1, mo_n1, mo_a1, ms_r2 (k := 90 + (x1 / 5)) (p := 1) (i := (x1 / 5)) (by omega) (by omega) (by omega), true_or, or_true, true_and]
              exact ⟨⟨by decide, am_dk (by omega) (by omega)⟩, a289, (by omega), H⟩
          · replace H := H.2 c
            obtain ⟨⟨a291, a292, a293⟩, H⟩ := H
            refine r_X5_part_46 ?_
            simp only [mo_ty, mo_f39, am_td (x := x1) (y := 5) (by omega), am_tm (x := x1) (y := 5) (by omega), mo_t1, mo_n1, mo_a1, ms_r2 (k := 70 + (x1 / 5)) (p := 0) (i := (x1 / 5)) (by omega) (by omega) (by omega), true_or, or_true, true_and]
            exact ⟨⟨by decide, am_dk (by omega) (by omega)⟩, a292, (by omega), H⟩
        · replace H := H.2 c
          obtain ⟨⟨a294, a295⟩, H⟩ := H
          refine r_X5_part_36 ?_
          simp only [mo_ty, mo_f39, mo_t1, mo_n1, mo_a1, ms_r3 (k := (130 + 645 * x1) + 1) (p := x1) (i := 1) (by omega) (by omega) (by omega), true_or, or_true, true_and]
          exact ⟨a294, (by omega), H⟩
      · replace H := H.2 c
        obtain ⟨⟨a296, a297⟩, H⟩ := H
        refine r_X5_part_26 ?_
        simp only [mo_ty, mo_f39, mo_t1, mo_n1, mo_a1, ms_r3 (k := (130 + 645 * x1) + 0) (p := x1) (i := 0) (by omega) (by omega) (by omega), true_or, or_true, true_and]
        exact ⟨a296, (by omega), H⟩
    · replace c := am_b0 c
      replace H := H.2 c
      refine r_X5_part_12 ?_
      refine r_X5_part_15 ?_
      simp only [mo_ty, mo_si, true_or, or_true, true_and]
      refine ?_
      refine r_X5_part_16 ?_
      simp only [mo_ty, mo_i, am_up_eq, true_or, or_true, true_and, Int.reduceLE, Int.reduceLT, Int.reduceEq, Int.reduceNe, ne_eq, false_imp_iff, true_imp_iff, and_true, true_and, not_true_eq_false, not_false_eq_true, not_true, Int.reduceNeg]
      refine ?_
      refine r_X5_part_19 ?_
      exact H
  · replace c := am_b0 c
    replace H := H.2 c
    refine r_X5_part_5 ?_
    refine r_X5_part_15 ?_
    simp only [mo_ty, mo_si, true_or, or_true, true_and]
    refine ?_
    refine r_X5_part_16 ?_
    simp only [mo_ty, mo_i, am_up_eq, true_or, or_true, true_and, Int.reduceLE, Int.reduceLT, Int.reduceEq, Int.reduceNe, ne_eq, false_imp_iff, true_imp_iff, and_true, true_and, not_true_eq_false, not_false_eq_true, not_true, Int.reduceNeg]
    refine ?_
    refine r_X5_part_19 ?_
    exact H
theorem w_part_104 {d : Nat} {Q : am_K} {b : am_H} {r : Nat} {S : am_G} {V : Nat → Int → Int} {W : Nat → Int} {x1 : Int} {x2 : Int} {p3 : Int} {x4 : Int} {x5 : Int} (H : ((-2147483648 ≤ (130 + 645 * p3) + 3 ∧ (130 + 645 * p3) + 3 ≤ 2147483647) ∧ (0 ≤ p3 ∧ p3 < 100)) ∧ (((S 3 p3 3 : Int) ≠ 1 → Q (.inl (some (.inl x4))) (mo b r (ms S) V W)) ∧ ((S 3 p3 3 : Int) = 1 → ((-2147483648 ≤ (130 + 645 * p3) + 4 ∧ (130 + 645 * p3) + 4 ≤ 2147483647) ∧ (0 ≤ p3 ∧ p3 < 100)) ∧ ((S 3 p3 4 ≤ x5 → Q (.inl (some (.inl x4))) (mo b r (ms S) V W)) ∧ (x5 < S 3 p3 4 → am_ev am_prog (d + 3) 153 [.inr (.inl r), .inl x1, .inl x5] (mo b r (ms S) V W) (am_aft (am_hand m_X5_part Q (am_W m_X5_part (am_ev am_prog (d + 3)) Q) 124) (am_W m_X5_part (am_ev am_prog (d + 3)) Q) 124 [some (.inr (.inl r)), some (.inl x1), some (.inl x2), some (.inl (130 + 645 * p3)), some (.inl x4), some (.inl x5)] [.inl x4])))))) : am_W m_X5_part (am_ev am_prog (d + 3)) Q 104 [some (.inr (.inl r)), some (.inl x1), some (.inl x2), some (.inl (130 + 645 * p3)), some (.inl x4), some (.inl x5)] [] (mo b r (ms S) V W) := by
  obtain ⟨⟨a298, a299⟩, H⟩ := H
  refine r_X5_part_104 ?_
  simp only [mo_ty, mo_f39, mo_t1, mo_n1, mo_a1, ms_r3 (k := (130 + 645 * p3) + 3) (p := p3) (i := 3) (by omega) (by omega) (by omega), true_or, or_true, true_and]
  refine ⟨a298, (by omega), ⟨fun c => ?_, fun c => ?_⟩⟩
  · replace H := H.1 c
    refine r_X5_part_133 ?_
    exact H
  · replace H := H.2 c
    obtain ⟨⟨a300, a301⟩, H⟩ := H
    refine r_X5_part_112 ?_
    simp only [mo_ty, mo_f39, mo_t1, mo_n1, mo_a1, ms_r3 (k := (130 + 645 * p3) + 4) (p := p3) (i := 4) (by omega) (by omega) (by omega), true_or, or_true, true_and]
    refine ⟨a300, (by omega), ⟨fun c => ?_, fun c => ?_⟩⟩
    · replace H := H.1 c
      refine r_X5_part_133 ?_
      exact H
    · replace H := H.2 c
      refine r_X5_part_120 ?_
      simp only [mo_ty, true_or, or_true, true_and]
      exact H
theorem w_part_125 {d : Nat} {Q : am_K} {b : am_H} {r : Nat} {S : am_G} {V : Nat → Int → Int} {W : Nat → Int} {x1 : Int} {x2 : Int} {x3 : Int} {x4 : Int} {x5 : Int} {y1 : Int} {y0 : Int} (H : ((-2147483648 ≤ y0 + (am_b ((y1 : Int) ≠ 0)) ∧ y0 + (am_b ((y1 : Int) ≠ 0)) ≤ 2147483647) ∧ (-2147483648 ≤ x5 + 1 ∧ x5 + 1 ≤ 2147483647)) ∧ (am_W m_X5_part (am_ev am_prog (d + 3)) Q 104 [some (.inr (.inl r)), some (.inl x1), some (.inl x2), some (.inl x3), some (.inl (y0 + (am_b ((y1 : Int) ≠ 0)))), some (.inl (x5 + 1))] [] (mo b r (ms S) V W))) : am_W m_X5_part (am_ev am_prog (d + 3)) Q 125 [some (.inr (.inl r)), some (.inl x1), some (.inl x2), some (.inl x3), some (.inl x4), some (.inl x5)] [.inl y1, .inl y0] (mo b r (ms S) V W) := by
  have J : ∀ y : Int, y = am_b ((y1 : Int) ≠ 0) → am_W m_X5_part (am_ev am_prog (d + 3)) Q 129 [some (.inr (.inl r)), some (.inl x1), some (.inl x2), some (.inl x3), some (.inl x4), some (.inl x5)] [.inl y, .inl y0] (mo b r (ms S) V W) := by
    intro y hy
    subst hy
    obtain ⟨⟨a302, a303⟩, H⟩ := H
    refine r_X5_part_129 ?_
    refine ⟨a302, a303, ?_⟩
    exact H
  refine r_X5_part_125 ?_
  refine ⟨fun c => ?_, fun c => ?_⟩
  · exact r_X5_part_128 (J _ (am_bf (by omega)).symm)
  · exact r_X5_part_126 (J _ (am_bt c).symm)
theorem w_part_137 {d : Nat} {Q : am_K} {b : am_H} {r : Nat} {S : am_G} {V : Nat → Int → Int} {W : Nat → Int} {x1 : Int} {x2 : Int} {x3 : Int} {x4 : Int} {x5 : Int} (H : (S 0 0 4 ≤ x5 → Q (.inl (some (.inl x4))) (mo b r (ms S) V W)) ∧ (x5 < S 0 0 4 → ((0 ≤ x5 ∧ x5 < 2000000)) ∧ (((-2147483648 ≤ (64630 + 852 * x5) + 0 ∧ (64630 + 852 * x5) + 0 ≤ 2147483647) ∧ (0 ≤ x5 ∧ x5 < 300)) ∧ ((S 4 x5 0 ≠ x1 → ((-2147483648 ≤ x4 + 0 ∧ x4 + 0 ≤ 2147483647) ∧ (-2147483648 ≤ x5 + 1 ∧ x5 + 1 ≤ 2147483647)) ∧ (am_W m_X5_part (am_ev am_prog (d + 3)) Q 137 [some (.inr (.inl r)), some (.inl x1), some (.inl x2), some (.inl x3), some (.inl (x4 + 0)), some (.inl (x5 + 1))] [] (mo b r (ms S) V W))) ∧ (S 4 x5 0 = x1 → ((0 ≤ x5 ∧ x5 < 2000000)) ∧ (((-2147483648 ≤ (64630 + 852 * x5) + 4 ∧ (64630 + 852 * x5) + 4 ≤ 2147483647) ∧ (0 ≤ x5 ∧ x5 < 300)) ∧ (((-2147483648 ≤ x4 + (am_b ((S 4 x5 4 : Int) ≠ 0)) ∧ x4 + (am_b ((S 4 x5 4 : Int) ≠ 0)) ≤ 2147483647) ∧ (-2147483648 ≤ x5 + 1 ∧ x5 + 1 ≤ 2147483647)) ∧ (am_W m_X5_part (am_ev am_prog (d + 3)) Q 137 [some (.inr (.inl r)), some (.inl x1), some (.inl x2), some (.inl x3), some (.inl (x4 + (am_b ((S 4 x5 4 : Int) ≠ 0)))), some (.inl (x5 + 1))] [] (mo b r (ms S) V W))))))))) : am_W m_X5_part (am_ev am_prog (d + 3)) Q 137 [some (.inr (.inl r)), some (.inl x1), some (.inl x2), some (.inl x3), some (.inl x4), some (.inl x5)] [] (mo b r (ms S) V W) := by
  refine r_X5_part_137 ?_
  simp only [mo_ty, mo_f39, mo_t1, mo_n1, mo_a1, ms_r0 (k := 4) (p := 0) (i := 4) (by omega) (by omega) (by omega), true_or, or_true, true_and]
  refine ⟨(by omega), ⟨fun c => ?_, fun c => ?_⟩⟩
  · replace H := H.1 c
    refine r_X5_part_168 ?_
    exact H
  · replace H := H.2 c
    refine r_X5_part_143 ?_
    simp only [mo_ty, mo_f39, true_or, or_true, true_and]
    refine ?_
    obtain ⟨a304, H⟩ := H
    refine c_slug0 (by omega) (am_av ?_)
    obtain ⟨⟨a305, a306⟩, H⟩ := H
    refine r_X5_part_148 ?_
    simp only [mo_t1, mo_n1, mo_a1, ms_r4 (k := (64630 + 852 * x5) + 0) (p := x5) (i := 0) (by omega) (by omega) (by omega), true_or, or_true, true_and]
    refine ⟨a305, (by omega), ⟨fun c => ?_, fun c => ?_⟩⟩
    · replace H := H.1 c
      refine r_X5_part_163 ?_
      obtain ⟨⟨a307, a308⟩, H⟩ := H
      refine r_X5_part_164 ?_
      refine ⟨a307, a308, ?_⟩
      exact H
    · replace H := H.2 c
      refine r_X5_part_153 ?_
      simp only [mo_ty, mo_f39, true_or, or_true, true_and]
      refine ?_
      obtain ⟨a309, H⟩ := H
      refine c_slug0 (by omega) (am_av ?_)
      obtain ⟨⟨a310, a311⟩, H⟩ := H
      have J : ∀ y : Int, y = am_b ((S 4 x5 4 : Int) ≠ 0) → am_W m_X5_part (am_ev am_prog (d + 3)) Q 164 [some (.inr (.inl r)), some (.inl x1), some (.inl x2), some (.inl x3), some (.inl x4), some (.inl x5)] [.inl y, .inl x4] (mo b r (ms S) V W) := by
        intro y hy
        subst hy
        obtain ⟨⟨a312, a313⟩, H⟩ := H
        refine r_X5_part_164 ?_
        refine ⟨a312, a313, ?_⟩
        exact H
      refine r_X5_part_157 ?_
      simp only [mo_t1, mo_n1, mo_a1, ms_r4 (k := (64630 + 852 * x5) + 4) (p := x5) (i := 4) (by omega) (by omega) (by omega), true_or, or_true, true_and]
      refine ⟨a310, (by omega), ⟨fun c => ?_, fun c => ?_⟩⟩
      · exact r_X5_part_163 (J _ (am_bf (by omega)).symm)
      · exact r_X5_part_161 (J _ (am_bt c).symm)
theorem w_slug_0 {d : Nat} {Q : am_K} {b : am_H} {r : Nat} {S : am_G} {V : Nat → Int → Int} {W : Nat → Int} {x1 : Int} {x2 : Int} {o3 : Option am_V} (H : (0 ≤ x1 ∧ x1 < S 0 0 4 → (0 ≤ x2 ∧ x2 ≤ 9 → ((0 ≤ x1 ∧ x1 < 2000000)) ∧ (((x2 : Int) ≠ 8 → (5 ≤ x2 → ((x2 : Int) ≠ 5 → ((x2 : Int) ≠ 6 → ((x2 : Int) ≠ 7 → ((-2147483648 ≤ (64630 + 852 * x1) + 8 ∧ (64630 + 852 * x1) + 8 ≤ 2147483647) ∧ (0 ≤ x1 ∧ x1 < 300)) ∧ (Q (.inl (some (.inl (S 4 x1 8)))) (mo b r (ms S) V (am_up W 38 0)))) ∧ ((x2 : Int) = 7 → ((-2147483648 ≤ (64630 + 852 * x1) + 7 ∧ (64630 + 852 * x1) + 7 ≤ 2147483647) ∧ (0 ≤ x1 ∧ x1 < 300)) ∧ (Q (.inl (some (.inl (S 4 x1 7)))) (mo b r (ms S) V (am_up W 38 0))))) ∧ ((x2 : Int) = 6 → ((-2147483648 ≤ (64630 + 852 * x1) + 6 ∧ (64630 + 852 * x1) + 6 ≤ 2147483647) ∧ (0 ≤ x1 ∧ x1 < 300)) ∧ (Q (.inl (some (.inl (S 4 x1 6)))) (mo b r (ms S) V (am_up W 38 0))))) ∧ ((x2 : Int) = 5 → ((-2147483648 ≤ (64630 + 852 * x1) + 5 ∧ (64630 + 852 * x1) + 5 ≤ 2147483647) ∧ (0 ≤ x1 ∧ x1 < 300)) ∧ (Q (.inl (some (.inl (S 4 x1 5)))) (mo b r (ms S) V (am_up W 38 0))))) ∧ (x2 < 5 → ((-2147483648 ≤ (64630 + 852 * x1) + x2 ∧ (64630 + 852 * x1) + x2 ≤ 2147483647) ∧ (0 ≤ x1 ∧ x1 < 300) ∧ (0 ≤ x2 ∧ x2 < 852)) ∧ (Q (.inl (some (.inl (S 4 x1 x2)))) (mo b r (ms S) V (am_up W 38 0))))) ∧ ((x2 : Int) = 8 → am_ev am_prog (d + 3) 144 [.inr (.inl r), .inl x1] (mo b r (ms S) V (am_up W 38 0)) (am_aft (am_hand m_X5_slug Q (am_W m_X5_slug (am_ev am_prog (d + 3)) Q) 29) (am_W m_X5_slug (am_ev am_prog (d + 3)) Q) 29 [some (.inr (.inl r)), some (.inl x1), some (.inl x2), some (.inl (64630 + 852 * x1))] [])))) ∧ (¬ (0 ≤ x2 ∧ x2 ≤ 9) → Q (.inl (some (.inl 0))) (mo b r (ms S) V (am_up W 38 2)))) ∧ (¬ (0 ≤ x1 ∧ x1 < S 0 0 4) → Q (.inl (some (.inl 0))) (mo b r (ms S) V (am_up W 38 1)))) : am_W m_X5_slug (am_ev am_prog (d + 3)) Q 0 [some (.inr (.inl r)), some (.inl x1), some (.inl x2), o3] [] (mo b r (ms S) V W) := by
  refine r_X5_slug_0 ?_
  simp only [mo_ty, true_or, or_true, true_and]
  refine ?_
  refine c_isSlug (am_av ?_)
  refine r_X5_slug_4 ?_
  refine ⟨fun c => ?_, fun c => ?_⟩
  · replace c := am_b1 c
    replace H := H.1 c
    refine r_X5_slug_7 ?_
    refine ?_
    refine c_isIn (am_av ?_)
    refine r_X5_slug_11 ?_
    refine ⟨fun c => ?_, fun c => ?_⟩
    · replace c := am_b1 c
      replace H := H.1 c
      refine r_X5_slug_14 ?_
      refine r_X5_slug_15 ?_
      simp only [mo_ty, mo_si, true_or, or_true, true_and]
      refine ?_
      refine r_X5_slug_16 ?_
      simp only [mo_ty, mo_i, am_up_eq, true_or, or_true, true_and, Int.reduceLE, Int.reduceLT, Int.reduceEq, Int.reduceNe, ne_eq, false_imp_iff, true_imp_iff, and_true, true_and, not_true_eq_false, not_false_eq_true, not_true, Int.reduceNeg]
      refine ?_
      refine r_X5_slug_21 ?_
      refine ?_
      obtain ⟨a314, H⟩ := H
      refine c_slug0 (by omega) (am_av ?_)
      refine r_X5_slug_23 ?_
      refine ⟨fun c => ?_, fun c => ?_⟩
      · replace H := H.1 c
        refine r_X5_slug_35 ?_
        refine ⟨fun c => ?_, fun c => ?_⟩
        · replace H := H.1 c
          refine r_X5_slug_45 ?_
          refine ⟨fun c => ?_, fun c => ?_⟩
          · replace H := H.1 c
            refine r_X5_slug_55 ?_
            refine ⟨fun c => ?_, fun c => ?_⟩
            · replace H := H.1 c
              refine r_X5_slug_65 ?_
              refine ⟨fun c => ?_, fun c => ?_⟩
              · replace H := H.1 c
                obtain ⟨⟨a315, a316⟩, H⟩ := H
                refine r_X5_slug_75 ?_
                simp only [mo_ty, mo_f39, mo_t1, mo_n1, mo_a1, ms_r4 (k := (64630 + 852 * x1) + 8) (p := x1) (i := 8) (by omega) (by omega) (by omega), true_or, or_true, true_and]
                refine ⟨a315, (by omega), ?_⟩
                refine r_X5_slug_81 ?_
                exact H
              · replace H := H.2 c
                obtain ⟨⟨a317, a318⟩, H⟩ := H
                refine r_X5_slug_68 ?_
                simp only [mo_ty, mo_f39, mo_t1, mo_n1, mo_a1, ms_r4 (k := (64630 + 852 * x1) + 7) (p := x1) (i := 7) (by omega) (by omega) (by omega), true_or, or_true, true_and]
                refine ⟨a317, (by omega), ?_⟩
                refine r_X5_slug_81 ?_
                exact H
            · replace H := H.2 c
              obtain ⟨⟨a319, a320⟩, H⟩ := H
              refine r_X5_slug_58 ?_
              simp only [mo_ty, mo_f39, mo_t1, mo_n1, mo_a1, ms_r4 (k := (64630 + 852 * x1) + 6) (p := x1) (i := 6) (by omega) (by omega) (by omega), true_or, or_true, true_and]
              refine ⟨a319, (by omega), ?_⟩
              refine r_X5_slug_81 ?_
              exact H
          · replace H := H.2 c
            obtain ⟨⟨a321, a322⟩, H⟩ := H
            refine r_X5_slug_48 ?_
            simp only [mo_ty, mo_f39, mo_t1, mo_n1, mo_a1, ms_r4 (k := (64630 + 852 * x1) + 5) (p := x1) (i := 5) (by omega) (by omega) (by omega), true_or, or_true, true_and]
            refine ⟨a321, (by omega), ?_⟩
            refine r_X5_slug_81 ?_
            exact H
        · replace H := H.2 c
          obtain ⟨⟨a323, a324, a325⟩, H⟩ := H
          refine r_X5_slug_38 ?_
          simp only [mo_ty, mo_f39, mo_t1, mo_n1, mo_a1, ms_r4 (k := (64630 + 852 * x1) + x2) (p := x1) (i := x2) (by omega) (by omega) (by omega), true_or, or_true, true_and]
          refine ⟨a323, (by omega), ?_⟩
          refine r_X5_slug_81 ?_
          exact H
      · replace H := H.2 c
        refine r_X5_slug_27 ?_
        simp only [mo_ty, true_or, or_true, true_and]
        exact H
    · replace c := am_b0 c
      replace H := H.2 c
      refine r_X5_slug_12 ?_
      refine r_X5_slug_15 ?_
      simp only [mo_ty, mo_si, true_or, or_true, true_and]
      refine ?_
      refine r_X5_slug_16 ?_
      simp only [mo_ty, mo_i, am_up_eq, true_or, or_true, true_and, Int.reduceLE, Int.reduceLT, Int.reduceEq, Int.reduceNe, ne_eq, false_imp_iff, true_imp_iff, and_true, true_and, not_true_eq_false, not_false_eq_true, not_true, Int.reduceNeg]
      refine ?_
      refine r_X5_slug_19 ?_
      exact H
  · replace c := am_b0 c
    replace H := H.2 c
    refine r_X5_slug_5 ?_
    refine r_X5_slug_15 ?_
    simp only [mo_ty, mo_si, true_or, or_true, true_and]
    refine ?_
    refine r_X5_slug_16 ?_
    simp only [mo_ty, mo_i, am_up_eq, true_or, or_true, true_and, Int.reduceLE, Int.reduceLT, Int.reduceEq, Int.reduceNe, ne_eq, false_imp_iff, true_imp_iff, and_true, true_and, not_true_eq_false, not_false_eq_true, not_true, Int.reduceNeg]
    refine ?_
    refine r_X5_slug_19 ?_
    exact H
theorem w_slug_30 {d : Nat} {Q : am_K} {b : am_H} {r : Nat} {S : am_G} {V : Nat → Int → Int} {W : Nat → Int} {x1 : Int} {x2 : Int} {x3 : Int} {y0 : Int} (H : Q (.inl (some (.inl (am_b ((y0 : Int) ≠ 0))))) (mo b r (ms S) V W)) : am_W m_X5_slug (am_ev am_prog (d + 3)) Q 30 [some (.inr (.inl r)), some (.inl x1), some (.inl x2), some (.inl x3)] [.inl y0] (mo b r (ms S) V W) := by
  have J : ∀ y : Int, y = am_b ((y0 : Int) ≠ 0) → am_W m_X5_slug (am_ev am_prog (d + 3)) Q 34 [some (.inr (.inl r)), some (.inl x1), some (.inl x2), some (.inl x3)] [.inl y] (mo b r (ms S) V W) := by
    intro y hy
    subst hy
    refine r_X5_slug_34 ?_
    exact H
  refine r_X5_slug_30 ?_
  refine ⟨fun c => ?_, fun c => ?_⟩
  · exact r_X5_slug_33 (J _ (am_bf (by omega)).symm)
  · exact r_X5_slug_31 (J _ (am_bt c).symm)
theorem w_give_0 {d : Nat} {Q : am_K} {b : am_H} {r : Nat} {S : am_G} {V : Nat → Int → Int} {W : Nat → Int} {x1 : Int} {x2 : Int} {o3 : Option am_V} {o4 : Option am_V} {o5 : Option am_V} (H : ((-2147483648 ≤ x1 ∧ x1 ≤ 2147483647) ∧ S 0 0 1 ≤ 20) ∧ ((¬ (0 ≤ x1 ∧ x1 / 5 < S 0 0 1 ∧ x1 % 5 < S 2 2 (x1 / 5)) → Q (.inl (some (.inl 0))) (mo b r (ms S) V (am_up W 38 1))) ∧ (0 ≤ x1 ∧ x1 / 5 < S 0 0 1 ∧ x1 % 5 < S 2 2 (x1 / 5) → (0 ≤ x2 ∧ x2 < S 0 0 3 → ((0 ≤ x1 ∧ x1 < 3000000)) ∧ (((-2147483648 ≤ (130 + 645 * x1) + 2 ∧ (130 + 645 * x1) + 2 ≤ 2147483647) ∧ (0 ≤ x1 ∧ x1 < 100)) ∧ (((0 ≤ x2 ∧ x2 < 2000000)) ∧ (((-2147483648 ≤ (320230 + 183 * x2) + 29 ∧ (320230 + 183 * x2) + 29 ≤ 2147483647) ∧ (0 ≤ x2 ∧ x2 < 4)) ∧ ((S 5 x2 29 < 30 → ((S 3 x1 2 : Int) ≠ 1 → ((-2147483648 ≤ (130 + 645 * x1) + 2 ∧ (130 + 645 * x1) + 2 ≤ 2147483647) ∧ (0 ≤ x1 ∧ x1 < 100)) ∧ (am_ev am_prog (d + 3) 176 [.inr (.inl r), .inl x2, .inl x1, .inl 0, .inl 0, .inl 0, .inl 1] (mo b r (ms (u3 S 3 x1 2 1)) V (am_up (am_up W 38 0) 38 0)) (am_aft (am_hand m_X5_give Q (am_W m_X5_give (am_ev am_prog (d + 3)) Q) 76) (am_W m_X5_give (am_ev am_prog (d + 3)) Q) 76 [some (.inr (.inl r)), some (.inl x1), some (.inl x2), some (.inl (130 + 645 * x1)), some (.inl (am_b ((S 3 x1 2 : Int) = 1))), some (.inl (am_b (S 5 x2 29 < 30)))] []))) ∧ ((S 3 x1 2 : Int) = 1 → Q (.inl (some (.inl (-1)))) (mo b r (ms S) V (am_up (am_up W 38 0) 38 0)))) ∧ (30 ≤ S 5 x2 29 → Q (.inl (some (.inl 0))) (mo b r (ms S) V (am_up (am_up W 38 0) 38 2)))))))) ∧ (¬ (0 ≤ x2 ∧ x2 < S 0 0 3) → Q (.inl (some (.inl 0))) (mo b r (ms S) V (am_up W 38 1)))))) : am_W m_X5_give (am_ev am_prog (d + 3)) Q 0 [some (.inr (.inl r)), some (.inl x1), some (.inl x2), o3, o4, o5] [] (mo b r (ms S) V W) := by
  refine r_X5_give_0 ?_
  simp only [mo_ty, true_or, or_true, true_and]
  refine ?_
  obtain ⟨⟨a326, a327⟩, H⟩ := H
  refine c_isPart (by omega) (by omega) (am_av ?_)
  refine r_X5_give_4 ?_
  refine ⟨fun c => ?_, fun c => ?_⟩
  · replace c := am_b0 c
    replace H := H.1 c
    refine r_X5_give_9 ?_
    refine r_X5_give_12 ?_
    simp only [mo_ty, mo_si, true_or, or_true, true_and]
    refine ?_
    refine r_X5_give_13 ?_
    simp only [mo_ty, mo_i, am_up_eq, true_or, or_true, true_and, Int.reduceLE, Int.reduceLT, Int.reduceEq, Int.reduceNe, ne_eq, false_imp_iff, true_imp_iff, and_true, true_and, not_true_eq_false, not_false_eq_true, not_true, Int.reduceNeg]
    refine ?_
    refine r_X5_give_16 ?_
    exact H
  · replace c := am_b1 c
    replace H := H.2 c
    refine r_X5_give_5 ?_
    simp only [mo_ty, true_or, or_true, true_and]
    refine ?_
    refine c_isMachine (am_av ?_)
    refine r_X5_give_8 ?_
    refine ⟨fun c => ?_, fun c => ?_⟩
    · replace c := am_b1 c
      replace H := H.1 c
      refine r_X5_give_11 ?_
      refine r_X5_give_12 ?_
      simp only [mo_ty, mo_si, true_or, or_true, true_and]
      refine ?_
      refine r_X5_give_13 ?_
      simp only [mo_ty, mo_i, am_up_eq, true_or, or_true, true_and, Int.reduceLE, Int.reduceLT, Int.reduceEq, Int.reduceNe, ne_eq, false_imp_iff, true_imp_iff, and_true, true_and, not_true_eq_false, not_false_eq_true, not_true, Int.reduceNeg]
      refine ?_
      refine r_X5_give_18 ?_
      refine ?_
      obtain ⟨a328, H⟩ := H
      refine c_part0 (by omega) (am_av ?_)
      obtain ⟨⟨a329, a330⟩, H⟩ := H
      have J : ∀ y : Int, y = am_b ((S 3 x1 2 : Int) = 1) → am_W m_X5_give (am_ev am_prog (d + 3)) Q 32 [some (.inr (.inl r)), some (.inl x1), some (.inl x2), some (.inl (130 + 645 * x1)), o4, o5] [.inl y] (mo b r (ms S) V (am_up W 38 0)) := by
        intro y hy
        subst hy
        refine r_X5_give_32 ?_
        simp only [mo_ty, mo_f39, true_or, or_true, true_and]
        refine ?_
        obtain ⟨a331, H⟩ := H
        refine c_machine0 (by omega) (am_av ?_)
        obtain ⟨⟨a332, a333⟩, H⟩ := H
        have J : ∀ y : Int, y = am_b (S 5 x2 29 < 30) → am_W m_X5_give (am_ev am_prog (d + 3)) Q 45 [some (.inr (.inl r)), some (.inl x1), some (.inl x2), some (.inl (130 + 645 * x1)), some (.inl (am_b ((S 3 x1 2 : Int) = 1))), o5] [.inl y] (mo b r (ms S) V (am_up W 38 0)) := by
          intro y hy
          subst hy
          refine r_X5_give_45 ?_
          refine ⟨fun c => ?_, fun c => ?_⟩
          · replace c := am_b1 c
            replace H := H.1 c
            refine r_X5_give_51 ?_
            refine r_X5_give_52 ?_
            simp only [mo_ty, mo_si, true_or, or_true, true_and]
            refine ?_
            refine r_X5_give_53 ?_
            simp only [mo_ty, mo_i, am_up_eq, true_or, or_true, true_and, Int.reduceLE, Int.reduceLT, Int.reduceEq, Int.reduceNe, ne_eq, false_imp_iff, true_imp_iff, and_true, true_and, not_true_eq_false, not_false_eq_true, not_true, Int.reduceNeg]
            refine ?_
            refine r_X5_give_58 ?_
            refine ⟨fun c => ?_, fun c => ?_⟩
            · replace c := am_b0 c
              replace c : (S 3 x1 2 : Int) ≠ 1 := by omega
              replace H := H.1 c
              obtain ⟨⟨a334, a335⟩, H⟩ := H
              refine r_X5_give_62 ?_
              simp only [mo_ty, mo_f39, mo_t1, mo_n1, mo_s1, ms_w3 (k := (130 + 645 * x1) + 2) (p := x1) (i := 2) (by omega) (by omega) (by omega), true_or, or_true, true_and]
              refine ⟨a334, (by omega), ?_⟩
              refine r_X5_give_69 ?_
              simp only [mo_ty, true_or, or_true, true_and]
              exact H
            · replace c := am_b1 c
              replace H := H.2 c
              refine r_X5_give_60 ?_
              exact H
          · replace c := am_b0 c
            replace c : 30 ≤ S 5 x2 29 := by omega
            replace H := H.2 c
            refine r_X5_give_49 ?_
            refine r_X5_give_52 ?_
            simp only [mo_ty, mo_si, true_or, or_true, true_and]
            refine ?_
            refine r_X5_give_53 ?_
            simp only [mo_ty, mo_i, am_up_eq, true_or, or_true, true_and, Int.reduceLE, Int.reduceLT, Int.reduceEq, Int.reduceNe, ne_eq, false_imp_iff, true_imp_iff, and_true, true_and, not_true_eq_false, not_false_eq_true, not_true, Int.reduceNeg]
            refine ?_
            refine r_X5_give_56 ?_
            exact H
        refine r_X5_give_37 ?_
        simp only [mo_t1, mo_n1, mo_a1, ms_r5 (k := (320230 + 183 * x2) + 29) (p := x2) (i := 29) (by omega) (by omega) (by omega), true_or, or_true, true_and]
        refine ⟨a332, (by omega), ⟨fun c => ?_, fun c => ?_⟩⟩
        · exact r_X5_give_44 (J _ (am_bf (by omega)).symm)
        · exact r_X5_give_42 (J _ (am_bt c).symm)
      refine r_X5_give_20 ?_
      simp only [mo_ty, mo_f39, mo_t1, mo_n1, mo_a1, ms_r3 (k := (130 + 645 * x1) + 2) (p := x1) (i := 2) (by omega) (by omega) (by omega), true_or, or_true, true_and]
      refine ⟨a329, (by omega), ⟨fun c => ?_, fun c => ?_⟩⟩
      · exact r_X5_give_31 (J _ (am_bf (by omega)).symm)
      · exact r_X5_give_29 (J _ (am_bt c).symm)
    · replace c := am_b0 c
      replace H := H.2 c
      refine r_X5_give_9 ?_
      refine r_X5_give_12 ?_
      simp only [mo_ty, mo_si, true_or, or_true, true_and]
      refine ?_
      refine r_X5_give_13 ?_
      simp only [mo_ty, mo_i, am_up_eq, true_or, or_true, true_and, Int.reduceLE, Int.reduceLT, Int.reduceEq, Int.reduceNe, ne_eq, false_imp_iff, true_imp_iff, and_true, true_and, not_true_eq_false, not_false_eq_true, not_true, Int.reduceNeg]
      refine ?_
      refine r_X5_give_16 ?_
      exact H
theorem w_give_77 {d : Nat} {Q : am_K} {b : am_H} {r : Nat} {S : am_G} {V : Nat → Int → Int} {W : Nat → Int} {x1 : Int} {x2 : Int} {x3 : Int} {x4 : Int} {x5 : Int} {y0 : Int} (H : Q (.inl (some (.inl y0))) (mo b r (ms S) V W)) : am_W m_X5_give (am_ev am_prog (d + 3)) Q 77 [some (.inr (.inl r)), some (.inl x1), some (.inl x2), some (.inl x3), some (.inl x4), some (.inl x5)] [.inl y0] (mo b r (ms S) V W) := by
  refine r_X5_give_77 ?_
  exact H
theorem w_ends_0 {d : Nat} {Q : am_K} {b : am_H} {r : Nat} {S : am_G} {V : Nat → Int → Int} {W : Nat → Int} {x1 : Int} {x2 : Int} {o3 : Option am_V} {o4 : Option am_V} {o5 : Option am_V} (H : ((-2147483648 ≤ x1 ∧ x1 ≤ 2147483647) ∧ S 0 0 1 ≤ 20) ∧ ((0 ≤ x1 ∧ x1 / 5 < S 0 0 1 ∧ x1 % 5 < S 2 2 (x1 / 5) → ((0 ≤ x1 ∧ x1 < 3000000)) ∧ (((-2147483648 ≤ (130 + 645 * x1) + 3 ∧ (130 + 645 * x1) + 3 ≤ 2147483647) ∧ (0 ≤ x1 ∧ x1 < 100)) ∧ (((S 3 x1 3 : Int) ≠ 1 → am_ev am_prog (d + 3) 113 [.inr (.inl r), .inl x1, .inl (S 0 0 0)] (mo b r (ms S) V (am_up W 38 0)) (am_aft (am_hand m_X5_ends Q (am_W m_X5_ends (am_ev am_prog (d + 3)) Q) 54) (am_W m_X5_ends (am_ev am_prog (d + 3)) Q) 54 [some (.inr (.inl r)), some (.inl x1), some (.inl x2), some (.inl (130 + 645 * x1)), o4, o5] [])) ∧ ((S 3 x1 3 : Int) = 1 → ((-2147483648 ≤ (130 + 645 * x1) + 4 ∧ (130 + 645 * x1) + 4 ≤ 2147483647) ∧ (0 ≤ x1 ∧ x1 < 100) ∧ (-2147483648 ≤ (S 3 x1 4) - 1 ∧ (S 3 x1 4) - 1 ≤ 2147483647)) ∧ ((¬ (0 ≤ x2 ∧ x2 ≤ (S 3 x1 4) - 1) → Q (.inl (some (.inl (-1)))) (mo b r (ms S) V (am_up W 38 0))) ∧ (0 ≤ x2 ∧ x2 ≤ (S 3 x1 4) - 1 → ((-2147483648 ≤ (130 + 645 * x1) + 5 ∧ (130 + 645 * x1) + 5 ≤ 2147483647) ∧ (-2147483648 ≤ ((130 + 645 * x1) + 5) + x2 ∧ ((130 + 645 * x1) + 5) + x2 ≤ 2147483647) ∧ (0 ≤ x1 ∧ x1 < 100) ∧ (0 ≤ 5 + x2 ∧ 5 + x2 < 645)) ∧ (Q (.inl (some (.inl (S 3 x1 (5 + x2))))) (mo b r (ms S) V (am_up W 38 0))))))))) ∧ (¬ (0 ≤ x1 ∧ x1 / 5 < S 0 0 1 ∧ x1 % 5 < S 2 2 (x1 / 5)) → Q (.inl (some (.inl 0))) (mo b r (ms S) V (am_up W 38 1))))) : am_W m_X5_ends (am_ev am_prog (d + 3)) Q 0 [some (.inr (.inl r)), some (.inl x1), some (.inl x2), o3, o4, o5] [] (mo b r (ms S) V W) := by
  refine r_X5_ends_0 ?_
  simp only [mo_ty, true_or, or_true, true_and]
  refine ?_
  obtain ⟨⟨a336, a337⟩, H⟩ := H
  refine c_isPart (by omega) (by omega) (am_av ?_)
  refine r_X5_ends_4 ?_
  refine ⟨fun c => ?_, fun c => ?_⟩
  · replace c := am_b1 c
    replace H := H.1 c
    refine r_X5_ends_7 ?_
    refine r_X5_ends_8 ?_
    simp only [mo_ty, mo_si, true_or, or_true, true_and]
    refine ?_
    refine r_X5_ends_9 ?_
    simp only [mo_ty, mo_i, am_up_eq, true_or, or_true, true_and, Int.reduceLE, Int.reduceLT, Int.reduceEq, Int.reduceNe, ne_eq, false_imp_iff, true_imp_iff, and_true, true_and, not_true_eq_false, not_false_eq_true, not_true, Int.reduceNeg]
    refine ?_
    refine r_X5_ends_14 ?_
    refine ?_
    obtain ⟨a338, H⟩ := H
    refine c_part0 (by omega) (am_av ?_)
    obtain ⟨⟨a339, a340⟩, H⟩ := H
    refine r_X5_ends_16 ?_
    simp only [mo_ty, mo_f39, mo_t1, mo_n1, mo_a1, ms_r3 (k := (130 + 645 * x1) + 3) (p := x1) (i := 3) (by omega) (by omega) (by omega), true_or, or_true, true_and]
    refine ⟨a339, (by omega), ⟨fun c => ?_, fun c => ?_⟩⟩
    · replace H := H.1 c
      refine r_X5_ends_48 ?_
      simp only [mo_ty, mo_f39, mo_t1, mo_n1, mo_a1, ms_r0 (k := 0) (p := 0) (i := 0) (by omega) (by omega) (by omega), true_or, or_true, true_and]
      exact ⟨(by omega), H⟩
    · replace H := H.2 c
      obtain ⟨⟨a341, a342, a343⟩, H⟩ := H
      refine r_X5_ends_25 ?_
      simp only [mo_ty, mo_f39, mo_t1, mo_n1, mo_a1, ms_r3 (k := (130 + 645 * x1) + 4) (p := x1) (i := 4) (by omega) (by omega) (by omega), true_or, or_true, true_and]
      refine ⟨a341, (by omega), a343, ?_⟩
      refine c_isIn (am_av ?_)
      refine r_X5_ends_36 ?_
      refine ⟨fun c => ?_, fun c => ?_⟩
      · replace c := am_b0 c
        replace H := H.1 c
        refine r_X5_ends_46 ?_
        refine r_X5_ends_47 ?_
        exact H
      · replace c := am_b1 c
        replace H := H.2 c
        obtain ⟨⟨a344, a345, a346, a347⟩, H⟩ := H
        refine r_X5_ends_37 ?_
        simp only [mo_ty, mo_f39, mo_t1, mo_n1, mo_a1, ms_r3 (k := ((130 + 645 * x1) + 5) + x2) (p := x1) (i := 5 + x2) (by omega) (by omega) (by omega), true_or, or_true, true_and]
        refine ⟨a344, a345, (by omega), ?_⟩
        refine r_X5_ends_47 ?_
        exact H
  · replace c := am_b0 c
    replace H := H.2 c
    refine r_X5_ends_5 ?_
    refine r_X5_ends_8 ?_
    simp only [mo_ty, mo_si, true_or, or_true, true_and]
    refine ?_
    refine r_X5_ends_9 ?_
    simp only [mo_ty, mo_i, am_up_eq, true_or, or_true, true_and, Int.reduceLE, Int.reduceLT, Int.reduceEq, Int.reduceNe, ne_eq, false_imp_iff, true_imp_iff, and_true, true_and, not_true_eq_false, not_false_eq_true, not_true, Int.reduceNeg]
    refine ?_
    refine r_X5_ends_12 ?_
    exact H
theorem w_ends_55 {d : Nat} {Q : am_K} {b : am_H} {r : Nat} {S : am_G} {V : Nat → Int → Int} {W : Nat → Int} {x1 : Int} {x2 : Int} {x3 : Int} {o4 : Option am_V} {o5 : Option am_V} (H : ((V 14 0 : Int) = (-1) → Q (.inl (some (.inl (-1)))) (mo b r (ms S) V W)) ∧ ((V 14 0 : Int) ≠ (-1) → ((-2147483648 ≤ (V 15 0) - 1 ∧ (V 15 0) - 1 ≤ 2147483647)) ∧ ((0 ≤ x2 ∧ x2 ≤ (V 15 0) - 1 → am_W m_X5_ends (am_ev am_prog (d + 3)) Q 77 [some (.inr (.inl r)), some (.inl x1), some (.inl x2), some (.inl x3), some (.inl 0), some (.inl 0)] [] (mo b r (ms S) V W)) ∧ (¬ (0 ≤ x2 ∧ x2 ≤ (V 15 0) - 1) → Q (.inl (some (.inl (-1)))) (mo b r (ms S) V W))))) : am_W m_X5_ends (am_ev am_prog (d + 3)) Q 55 [some (.inr (.inl r)), some (.inl x1), some (.inl x2), some (.inl x3), o4, o5] [] (mo b r (ms S) V W) := by
  refine r_X5_ends_55 ?_
  simp only [mo_ty, mo_f69, mo_t14, mo_n14, mo_a14, true_or, or_true, true_and]
  refine ⟨(by decide), ⟨fun c => ?_, fun c => ?_⟩⟩
  · replace H := H.1 c
    refine r_X5_ends_71 ?_
    exact H
  · replace H := H.2 c
    obtain ⟨a348, H⟩ := H
    refine r_X5_ends_61 ?_
    simp only [mo_ty, mo_f70, mo_t15, mo_n15, mo_a15, true_or, or_true, true_and]
    refine ⟨(by decide), a348, ?_⟩
    refine c_isIn (am_av ?_)
    refine r_X5_ends_70 ?_
    refine ⟨fun c => ?_, fun c => ?_⟩
    · replace c := am_b1 c
      replace H := H.1 c
      refine r_X5_ends_73 ?_
      exact H
    · replace c := am_b0 c
      replace H := H.2 c
      refine r_X5_ends_71 ?_
      exact H
theorem w_ends_77 {d : Nat} {Q : am_K} {b : am_H} {r : Nat} {S : am_G} {V : Nat → Int → Int} {W : Nat → Int} {x1 : Int} {x2 : Int} {x3 : Int} {x4 : Int} {x5 : Int} (H : (x2 ≤ x5 → ((0 ≤ x4 ∧ x4 < 41) ∧ (-2147483648 ≤ (V 16 x4) - 1 ∧ (V 16 x4) - 1 ≤ 2147483647)) ∧ (Q (.inl (some (.inl ((V 16 x4) - 1)))) (mo b r (ms S) V W))) ∧ (x5 < x2 → ((0 ≤ x4 ∧ x4 < 41) ∧ (-2147483648 ≤ x5 + 1 ∧ x5 + 1 ≤ 2147483647)) ∧ (am_W m_X5_ends (am_ev am_prog (d + 3)) Q 77 [some (.inr (.inl r)), some (.inl x1), some (.inl x2), some (.inl x3), some (.inl (V 16 x4)), some (.inl (x5 + 1))] [] (mo b r (ms S) V W)))) : am_W m_X5_ends (am_ev am_prog (d + 3)) Q 77 [some (.inr (.inl r)), some (.inl x1), some (.inl x2), some (.inl x3), some (.inl x4), some (.inl x5)] [] (mo b r (ms S) V W) := by
  refine r_X5_ends_77 ?_
  refine ⟨fun c => ?_, fun c => ?_⟩
  · replace H := H.1 c
    obtain ⟨⟨a349, a350⟩, H⟩ := H
    refine r_X5_ends_87 ?_
    simp only [mo_ty, mo_f71, mo_t16, mo_n16, mo_a16, true_or, or_true, true_and]
    exact ⟨a349, a350, H⟩
  · replace H := H.2 c
    obtain ⟨⟨a351, a352⟩, H⟩ := H
    refine r_X5_ends_80 ?_
    simp only [mo_ty, mo_f71, mo_t16, mo_n16, mo_a16, true_or, or_true, true_and]
    refine ⟨a351, a352, ?_⟩
    exact H
theorem w_lock_0 {d : Nat} {Q : am_K} {b : am_H} {r : Nat} {S : am_G} {V : Nat → Int → Int} {W : Nat → Int} {x1 : Int} {x2 : Int} {o3 : Option am_V} {o4 : Option am_V} {o5 : Option am_V} {o6 : Option am_V} {o7 : Option am_V} {o8 : Option am_V} {o9 : Option am_V} {o10 : Option am_V} (H : am_ev am_prog (d + 3) 168 [.inr (.inl r), .inl x1, .inl x2] (mo b r (ms S) V W) (am_aft (am_hand m_X5_lock Q (am_W m_X5_lock (am_ev am_prog (d + 3)) Q) 4) (am_W m_X5_lock (am_ev am_prog (d + 3)) Q) 4 [some (.inr (.inl r)), some (.inl x1), some (.inl x2), o3, o4, o5, o6, o7, o8, o9, o10] [.inr (.inl r)])) : am_W m_X5_lock (am_ev am_prog (d + 3)) Q 0 [some (.inr (.inl r)), some (.inl x1), some (.inl x2), o3, o4, o5, o6, o7, o8, o9, o10] [] (mo b r (ms S) V W) := by
  refine r_X5_lock_0 ?_
  simp only [mo_ty, true_or, or_true, true_and]
  exact H
theorem w_lock_5 {d : Nat} {Q : am_K} {b : am_H} {r : Nat} {S : am_G} {V : Nat → Int → Int} {W : Nat → Int} {x1 : Int} {x2 : Int} {o3 : Option am_V} {o4 : Option am_V} {o5 : Option am_V} {o6 : Option am_V} {o7 : Option am_V} {o8 : Option am_V} {o9 : Option am_V} {o10 : Option am_V} {y1 : Int} (H : (y1 ≤ 0 → am_ev am_prog (d + 3) 169 [.inr (.inl r), .inl x1, .inl x2] (mo b r (ms S) V (am_up W 38 y1)) (am_aft (am_hand m_X5_lock Q (am_W m_X5_lock (am_ev am_prog (d + 3)) Q) 14) (am_W m_X5_lock (am_ev am_prog (d + 3)) Q) 14 [some (.inr (.inl r)), some (.inl x1), some (.inl x2), o3, o4, o5, o6, o7, o8, o9, o10] [])) ∧ (0 < y1 → Q (.inl (some (.inl 0))) (mo b r (ms S) V (am_up W 38 y1)))) : am_W m_X5_lock (am_ev am_prog (d + 3)) Q 5 [some (.inr (.inl r)), some (.inl x1), some (.inl x2), o3, o4, o5, o6, o7, o8, o9, o10] [.inl y1, .inr (.inl r)] (mo b r (ms S) V W) := by
  refine r_X5_lock_5 ?_
  simp only [mo_ty, mo_si, true_or, or_true, true_and]
  refine ?_
  refine r_X5_lock_6 ?_
  simp only [mo_ty, mo_i, am_up_eq, true_or, or_true, true_and]
  refine ⟨fun c => ?_, fun c => ?_⟩
  · replace H := H.1 c
    refine r_X5_lock_11 ?_
    simp only [mo_ty, true_or, or_true, true_and]
    exact H
  · replace H := H.2 c
    refine r_X5_lock_9 ?_
    exact H
theorem w_lock_15 {d : Nat} {Q : am_K} {b : am_H} {r : Nat} {S : am_G} {V : Nat → Int → Int} {W : Nat → Int} {x1 : Int} {x2 : Int} {o3 : Option am_V} {o4 : Option am_V} {o5 : Option am_V} {o6 : Option am_V} {o7 : Option am_V} {o8 : Option am_V} {o9 : Option am_V} {o10 : Option am_V} (H : am_W m_X5_lock (am_ev am_prog (d + 3)) Q 25 [some (.inr (.inl r)), some (.inl x1), some (.inl x2), some (.inl (am_b ((W 90 : Int) ≠ (-1)))), some (.inl 0), o5, o6, o7, o8, o9, o10] [] (mo b r (ms S) V W)) : am_W m_X5_lock (am_ev am_prog (d + 3)) Q 15 [some (.inr (.inl r)), some (.inl x1), some (.inl x2), o3, o4, o5, o6, o7, o8, o9, o10] [] (mo b r (ms S) V W) := by
  have J : ∀ y : Int, y = am_b ((W 90 : Int) ≠ (-1)) → am_W m_X5_lock (am_ev am_prog (d + 3)) Q 22 [some (.inr (.inl r)), some (.inl x1), some (.inl x2), o3, o4, o5, o6, o7, o8, o9, o10] [.inl y] (mo b r (ms S) V W) := by
    intro y hy
    subst hy
    refine r_X5_lock_22 ?_
    exact H
  refine r_X5_lock_15 ?_
  simp only [mo_ty, mo_i, true_or, or_true, true_and]
  refine ⟨fun c => ?_, fun c => ?_⟩
  · exact r_X5_lock_21 (J _ (am_bf (by omega)).symm)
  · exact r_X5_lock_19 (J _ (am_bt c).symm)
theorem w_lock_25 {d : Nat} {Q : am_K} {b : am_H} {r : Nat} {S : am_G} {V : Nat → Int → Int} {W : Nat → Int} {x1 : Int} {x2 : Int} {x3 : Int} {x4 : Int} {o5 : Option am_V} {o6 : Option am_V} {o7 : Option am_V} {o8 : Option am_V} {o9 : Option am_V} {o10 : Option am_V} (H : (W 89 ≤ x4 → ((x3 : Int) ≠ 0 → ((-2147483648 ≤ 185 * x1 ∧ 185 * x1 ≤ 2147483647) ∧ (-2147483648 ≤ 327382 + (185 * x1) ∧ 327382 + (185 * x1) ≤ 2147483647)) ∧ (am_W m_X5_lock (am_ev am_prog (d + 3)) Q 90 [some (.inr (.inl r)), some (.inl x1), some (.inl x2), some (.inl x3), some (.inl (327382 + (185 * x1))), some (.inl 0), some (.inl 0), o7, o8, o9, o10] [] (mo b r (ms S) V W))) ∧ ((x3 : Int) = 0 → Q (.inl (some (.inl (-1)))) (mo b r (ms S) V W))) ∧ (x4 < W 89 → ((x3 : Int) = 0 → ((x3 : Int) ≠ 0 → ((-2147483648 ≤ 185 * x1 ∧ 185 * x1 ≤ 2147483647) ∧ (-2147483648 ≤ 327382 + (185 * x1) ∧ 327382 + (185 * x1) ≤ 2147483647)) ∧ (am_W m_X5_lock (am_ev am_prog (d + 3)) Q 90 [some (.inr (.inl r)), some (.inl x1), some (.inl x2), some (.inl x3), some (.inl (327382 + (185 * x1))), some (.inl 0), some (.inl 0), o7, o8, o9, o10] [] (mo b r (ms S) V W))) ∧ ((x3 : Int) = 0 → Q (.inl (some (.inl (-1)))) (mo b r (ms S) V W))) ∧ ((x3 : Int) ≠ 0 → am_W m_X5_lock (am_ev am_prog (d + 3)) Q 33 [some (.inr (.inl r)), some (.inl x1), some (.inl x2), some (.inl x3), some (.inl x4), some (.inl 0), o6, o7, o8, o9, o10] [] (mo b r (ms S) V W)))) : am_W m_X5_lock (am_ev am_prog (d + 3)) Q 25 [some (.inr (.inl r)), some (.inl x1), some (.inl x2), some (.inl x3), some (.inl x4), o5, o6, o7, o8, o9, o10] [] (mo b r (ms S) V W) := by
  refine r_X5_lock_25 ?_
  simp only [mo_ty, mo_i, true_or, or_true, true_and]
  refine ⟨fun c => ?_, fun c => ?_⟩
  · replace H := H.1 c
    refine r_X5_lock_76 ?_
    refine ⟨fun c => ?_, fun c => ?_⟩
    · replace H := H.1 c
      obtain ⟨⟨a353, a354⟩, H⟩ := H
      refine r_X5_lock_80 ?_
      refine ⟨a353, a354, ?_⟩
      exact H
    · replace H := H.2 c
      refine r_X5_lock_78 ?_
      exact H
  · replace H := H.2 c
    refine r_X5_lock_29 ?_
    refine ⟨fun c => ?_, fun c => ?_⟩
    · replace H := H.1 c
      refine r_X5_lock_76 ?_
      refine ⟨fun c => ?_, fun c => ?_⟩
      · replace H := H.1 c
        obtain ⟨⟨a355, a356⟩, H⟩ := H
        refine r_X5_lock_80 ?_
        refine ⟨a355, a356, ?_⟩
        exact H
      · replace H := H.2 c
        refine r_X5_lock_78 ?_
        exact H
    · replace H := H.2 c
      refine r_X5_lock_31 ?_
      exact H
theorem w_lock_33 {d : Nat} {Q : am_K} {b : am_H} {r : Nat} {S : am_G} {V : Nat → Int → Int} {W : Nat → Int} {x1 : Int} {x2 : Int} {x3 : Int} {x4 : Int} {x5 : Int} {o6 : Option am_V} {o7 : Option am_V} {o8 : Option am_V} {o9 : Option am_V} {o10 : Option am_V} (H : ((0 ≤ x4 ∧ x4 < 4)) ∧ ((V 31 x4 ≤ x5 → ((-2147483648 ≤ x4 + 1 ∧ x4 + 1 ≤ 2147483647)) ∧ (am_W m_X5_lock (am_ev am_prog (d + 3)) Q 25 [some (.inr (.inl r)), some (.inl x1), some (.inl x2), some (.inl x3), some (.inl (x4 + 1)), some (.inl x5), o6, o7, o8, o9, o10] [] (mo b r (ms S) V W))) ∧ (x5 < V 31 x4 → ((0 ≤ x4 ∧ x4 < 4) ∧ (-2147483648 ≤ 5 * (V 27 x4) ∧ 5 * (V 27 x4) ≤ 2147483647) ∧ (-2147483648 ≤ (5 * (V 27 x4)) + x5 ∧ (5 * (V 27 x4)) + x5 ≤ 2147483647)) ∧ (am_W m_X5_lock (am_ev am_prog (d + 3)) Q 50 [some (.inr (.inl r)), some (.inl x1), some (.inl x2), some (.inl x3), some (.inl x4), some (.inl x5), some (.inl ((5 * (V 27 x4)) + x5)), some (.inl 0), o8, o9, o10] [] (mo b r (ms S) V W))))) : am_W m_X5_lock (am_ev am_prog (d + 3)) Q 33 [some (.inr (.inl r)), some (.inl x1), some (.inl x2), some (.inl x3), some (.inl x4), some (.inl x5), o6, o7, o8, o9, o10] [] (mo b r (ms S) V W) := by
  obtain ⟨a357, H⟩ := H
  refine r_X5_lock_33 ?_
  simp only [mo_ty, mo_f87, mo_t31, mo_n31, mo_a31, true_or, or_true, true_and]
  refine ⟨a357, ⟨fun c => ?_, fun c => ?_⟩⟩
  · replace H := H.1 c
    obtain ⟨a358, H⟩ := H
    refine r_X5_lock_74 ?_
    refine ⟨a358, ?_⟩
    exact H
  · replace H := H.2 c
    obtain ⟨⟨a359, a360, a361⟩, H⟩ := H
    refine r_X5_lock_39 ?_
    simp only [mo_ty, mo_f83, mo_t27, mo_n27, mo_a27, true_or, or_true, true_and]
    refine ⟨a359, a360, a361, ?_⟩
    exact H
theorem w_lock_50 {d : Nat} {Q : am_K} {b : am_H} {r : Nat} {S : am_G} {V : Nat → Int → Int} {W : Nat → Int} {x1 : Int} {x2 : Int} {x3 : Int} {x4 : Int} {x5 : Int} {x6 : Int} {x7 : Int} {o8 : Option am_V} {o9 : Option am_V} {o10 : Option am_V} (H : ((0 ≤ x6 ∧ x6 < 3000000)) ∧ (((-2147483648 ≤ (130 + 645 * x6) + 4 ∧ (130 + 645 * x6) + 4 ≤ 2147483647) ∧ (0 ≤ x6 ∧ x6 < 100)) ∧ ((S 3 x6 4 ≤ x7 → ((-2147483648 ≤ x5 + 1 ∧ x5 + 1 ≤ 2147483647)) ∧ (am_W m_X5_lock (am_ev am_prog (d + 3)) Q 33 [some (.inr (.inl r)), some (.inl x1), some (.inl x2), some (.inl x3), some (.inl x4), some (.inl (x5 + 1)), some (.inl x6), some (.inl x7), o8, o9, o10] [] (mo b r (ms S) V W))) ∧ (x7 < S 3 x6 4 → ((x3 : Int) = 0 → ((-2147483648 ≤ x7 + 1 ∧ x7 + 1 ≤ 2147483647)) ∧ (am_W m_X5_lock (am_ev am_prog (d + 3)) Q 50 [some (.inr (.inl r)), some (.inl x1), some (.inl x2), some (.inl 0), some (.inl x4), some (.inl x5), some (.inl x6), some (.inl (x7 + 1)), o8, o9, o10] [] (mo b r (ms S) V W))) ∧ ((x3 : Int) ≠ 0 → am_ev am_prog (d + 3) 153 [.inr (.inl r), .inl x6, .inl x7] (mo b r (ms S) V W) (am_aft (am_hand m_X5_lock Q (am_W m_X5_lock (am_ev am_prog (d + 3)) Q) 64) (am_W m_X5_lock (am_ev am_prog (d + 3)) Q) 64 [some (.inr (.inl r)), some (.inl x1), some (.inl x2), some (.inl x3), some (.inl x4), some (.inl x5), some (.inl x6), some (.inl x7), o8, o9, o10] [])))))) : am_W m_X5_lock (am_ev am_prog (d + 3)) Q 50 [some (.inr (.inl r)), some (.inl x1), some (.inl x2), some (.inl x3), some (.inl x4), some (.inl x5), some (.inl x6), some (.inl x7), o8, o9, o10] [] (mo b r (ms S) V W) := by
  refine r_X5_lock_50 ?_
  simp only [mo_ty, mo_f39, true_or, or_true, true_and]
  refine ?_
  obtain ⟨a362, H⟩ := H
  refine c_part0 (by omega) (am_av ?_)
  obtain ⟨⟨a363, a364⟩, H⟩ := H
  refine r_X5_lock_55 ?_
  simp only [mo_t1, mo_n1, mo_a1, ms_r3 (k := (130 + 645 * x6) + 4) (p := x6) (i := 4) (by omega) (by omega) (by omega), true_or, or_true, true_and]
  refine ⟨a363, (by omega), ⟨fun c => ?_, fun c => ?_⟩⟩
  · replace H := H.1 c
    obtain ⟨a365, H⟩ := H
    refine r_X5_lock_72 ?_
    refine ⟨a365, ?_⟩
    exact H
  · replace H := H.2 c
    refine r_X5_lock_59 ?_
    refine ⟨fun c => ?_, fun c => ?_⟩
    · replace H := H.1 c
      refine r_X5_lock_68 ?_
      obtain ⟨a366, H⟩ := H
      refine r_X5_lock_69 ?_
      refine ⟨a366, ?_⟩
      exact H
    · replace H := H.2 c
      refine r_X5_lock_61 ?_
      simp only [mo_ty, true_or, or_true, true_and]
      exact H
theorem w_lock_65 {d : Nat} {Q : am_K} {b : am_H} {r : Nat} {S : am_G} {V : Nat → Int → Int} {W : Nat → Int} {x1 : Int} {x2 : Int} {x3 : Int} {x4 : Int} {x5 : Int} {x6 : Int} {x7 : Int} {o8 : Option am_V} {o9 : Option am_V} {o10 : Option am_V} {y0 : Int} (H : ((-2147483648 ≤ x7 + 1 ∧ x7 + 1 ≤ 2147483647)) ∧ (am_W m_X5_lock (am_ev am_prog (d + 3)) Q 50 [some (.inr (.inl r)), some (.inl x1), some (.inl x2), some (.inl (am_b ((y0 : Int) ≠ 0))), some (.inl x4), some (.inl x5), some (.inl x6), some (.inl (x7 + 1)), o8, o9, o10] [] (mo b r (ms S) V W))) : am_W m_X5_lock (am_ev am_prog (d + 3)) Q 65 [some (.inr (.inl r)), some (.inl x1), some (.inl x2), some (.inl x3), some (.inl x4), some (.inl x5), some (.inl x6), some (.inl x7), o8, o9, o10] [.inl y0] (mo b r (ms S) V W) := by
  have J : ∀ y : Int, y = am_b ((y0 : Int) ≠ 0) → am_W m_X5_lock (am_ev am_prog (d + 3)) Q 69 [some (.inr (.inl r)), some (.inl x1), some (.inl x2), some (.inl x3), some (.inl x4), some (.inl x5), some (.inl x6), some (.inl x7), o8, o9, o10] [.inl y] (mo b r (ms S) V W) := by
    intro y hy
    subst hy
    obtain ⟨a367, H⟩ := H
    refine r_X5_lock_69 ?_
    refine ⟨a367, ?_⟩
    exact H
  refine r_X5_lock_65 ?_
  refine ⟨fun c => ?_, fun c => ?_⟩
  · exact r_X5_lock_68 (J _ (am_bf (by omega)).symm)
  · exact r_X5_lock_66 (J _ (am_bt c).symm)
theorem w_lock_90 {d : Nat} {Q : am_K} {b : am_H} {r : Nat} {S : am_G} {V : Nat → Int → Int} {W : Nat → Int} {x1 : Int} {x2 : Int} {x3 : Int} {p4 : Int} {x5 : Int} {x6 : Int} {o7 : Option am_V} {o8 : Option am_V} {o9 : Option am_V} {o10 : Option am_V} (H : (3 ≤ x6 → ((-2147483648 ≤ (327382 + 185 * p4) + 2 ∧ (327382 + 185 * p4) + 2 ≤ 2147483647) ∧ (0 ≤ p4 ∧ p4 < 6)) ∧ (((-2147483648 ≤ (327382 + 185 * p4) + 3 ∧ (327382 + 185 * p4) + 3 ≤ 2147483647) ∧ (0 ≤ p4 ∧ p4 < 6)) ∧ (am_ev am_prog (d + 3) 141 [.inr (.inl r), .inl (S 0 0 0)] (mo b r (ms (u3 (u3 S 8 p4 2 x5) 8 p4 3 (S 0 0 0))) V W) (am_aft (am_hand m_X5_lock Q (am_W m_X5_lock (am_ev am_prog (d + 3)) Q) 182) (am_W m_X5_lock (am_ev am_prog (d + 3)) Q) 182 [some (.inr (.inl r)), some (.inl x1), some (.inl x2), some (.inl x3), some (.inl (327382 + 185 * p4)), some (.inl x5), some (.inl x6), o7, o8, o9, o10] [])))) ∧ (x6 < 3 → am_W m_X5_lock (am_ev am_prog (d + 3)) Q 95 [some (.inr (.inl r)), some (.inl x1), some (.inl x2), some (.inl x3), some (.inl (327382 + 185 * p4)), some (.inl x5), some (.inl x6), some (.inl 0), o8, o9, o10] [] (mo b r (ms S) V W))) : am_W m_X5_lock (am_ev am_prog (d + 3)) Q 90 [some (.inr (.inl r)), some (.inl x1), some (.inl x2), some (.inl x3), some (.inl (327382 + 185 * p4)), some (.inl x5), some (.inl x6), o7, o8, o9, o10] [] (mo b r (ms S) V W) := by
  refine r_X5_lock_90 ?_
  refine ⟨fun c => ?_, fun c => ?_⟩
  · replace H := H.1 c
    obtain ⟨⟨a368, a369⟩, H⟩ := H
    refine r_X5_lock_160 ?_
    simp only [mo_ty, mo_f39, mo_t1, mo_n1, mo_s1, ms_w8 (k := (327382 + 185 * p4) + 2) (p := p4) (i := 2) (by omega) (by omega) (by omega), true_or, or_true, true_and]
    refine ⟨a368, (by omega), ?_⟩
    obtain ⟨⟨a370, a371⟩, H⟩ := H
    refine r_X5_lock_167 ?_
    simp only [mo_ty, mo_f39, mo_t1, mo_n1, mo_a1, ms_r0 (k := 0) (p := 0) (i := 0) (by omega) (by omega) (by omega), u3_nc (by decide : (0 : Nat) ≠ 8), mo_s1, ms_w8 (k := (327382 + 185 * p4) + 3) (p := p4) (i := 3) (by omega) (by omega) (by omega), true_or, or_true, true_and]
    refine ⟨a370, (by omega), (by omega), ?_⟩
    refine r_X5_lock_177 ?_
    simp only [mo_ty, mo_f39, mo_t1, mo_n1, mo_a1, ms_r0 (k := 0) (p := 0) (i := 0) (by omega) (by omega) (by omega), u3_nc (by decide : (0 : Nat) ≠ 8), true_or, or_true, true_and]
    exact ⟨(by omega), H⟩
  · replace H := H.2 c
    refine r_X5_lock_93 ?_
    exact H
theorem w_lock_95 {d : Nat} {Q : am_K} {b : am_H} {r : Nat} {S : am_G} {V : Nat → Int → Int} {W : Nat → Int} {x1 : Int} {x2 : Int} {x3 : Int} {x4 : Int} {x5 : Int} {x6 : Int} {x7 : Int} {o8 : Option am_V} {o9 : Option am_V} {o10 : Option am_V} (H : (W 89 ≤ x7 → ((-2147483648 ≤ x6 + 1 ∧ x6 + 1 ≤ 2147483647)) ∧ (am_W m_X5_lock (am_ev am_prog (d + 3)) Q 90 [some (.inr (.inl r)), some (.inl x1), some (.inl x2), some (.inl x3), some (.inl x4), some (.inl x5), some (.inl (x6 + 1)), some (.inl x7), o8, o9, o10] [] (mo b r (ms S) V W))) ∧ (x7 < W 89 → am_W m_X5_lock (am_ev am_prog (d + 3)) Q 101 [some (.inr (.inl r)), some (.inl x1), some (.inl x2), some (.inl x3), some (.inl x4), some (.inl x5), some (.inl x6), some (.inl x7), some (.inl 0), o9, o10] [] (mo b r (ms S) V W))) : am_W m_X5_lock (am_ev am_prog (d + 3)) Q 95 [some (.inr (.inl r)), some (.inl x1), some (.inl x2), some (.inl x3), some (.inl x4), some (.inl x5), some (.inl x6), some (.inl x7), o8, o9, o10] [] (mo b r (ms S) V W) := by
  refine r_X5_lock_95 ?_
  simp only [mo_ty, mo_i, true_or, or_true, true_and]
  refine ⟨fun c => ?_, fun c => ?_⟩
  · replace H := H.1 c
    obtain ⟨a372, H⟩ := H
    refine r_X5_lock_158 ?_
    refine ⟨a372, ?_⟩
    exact H
  · replace H := H.2 c
    refine r_X5_lock_99 ?_
    exact H
theorem w_lock_101 {d : Nat} {Q : am_K} {b : am_H} {r : Nat} {S : am_G} {V : Nat → Int → Int} {W : Nat → Int} {x1 : Int} {x2 : Int} {x3 : Int} {x4 : Int} {x5 : Int} {x6 : Int} {x7 : Int} {x8 : Int} {o9 : Option am_V} {o10 : Option am_V} (H : ((0 ≤ x7 ∧ x7 < 4)) ∧ ((V 31 x7 ≤ x8 → ((-2147483648 ≤ x7 + 1 ∧ x7 + 1 ≤ 2147483647)) ∧ (am_W m_X5_lock (am_ev am_prog (d + 3)) Q 95 [some (.inr (.inl r)), some (.inl x1), some (.inl x2), some (.inl x3), some (.inl x4), some (.inl x5), some (.inl x6), some (.inl (x7 + 1)), some (.inl x8), o9, o10] [] (mo b r (ms S) V W))) ∧ (x8 < V 31 x7 → ((0 ≤ x7 ∧ x7 < 4)) ∧ ((V 30 x7 ≠ x6 → ((-2147483648 ≤ x7 + 1 ∧ x7 + 1 ≤ 2147483647)) ∧ (am_W m_X5_lock (am_ev am_prog (d + 3)) Q 95 [some (.inr (.inl r)), some (.inl x1), some (.inl x2), some (.inl x3), some (.inl x4), some (.inl x5), some (.inl x6), some (.inl (x7 + 1)), some (.inl x8), o9, o10] [] (mo b r (ms S) V W))) ∧ (V 30 x7 = x6 → ((0 ≤ x7 ∧ x7 < 4) ∧ (-2147483648 ≤ 5 * (V 27 x7) ∧ 5 * (V 27 x7) ≤ 2147483647) ∧ (-2147483648 ≤ (5 * (V 27 x7)) + x8 ∧ (5 * (V 27 x7)) + x8 ≤ 2147483647)) ∧ (((0 ≤ (5 * (V 27 x7)) + x8 ∧ (5 * (V 27 x7)) + x8 < 3000000)) ∧ (am_W m_X5_lock (am_ev am_prog (d + 3)) Q 125 [some (.inr (.inl r)), some (.inl x1), some (.inl x2), some (.inl x3), some (.inl x4), some (.inl x5), some (.inl x6), some (.inl x7), some (.inl x8), some (.inl (130 + 645 * ((5 * (V 27 x7)) + x8))), some (.inl 0)] [] (mo b r (ms S) V W)))))))) : am_W m_X5_lock (am_ev am_prog (d + 3)) Q 101 [some (.inr (.inl r)), some (.inl x1), some (.inl x2), some (.inl x3), some (.inl x4), some (.inl x5), some (.inl x6), some (.inl x7), some (.inl x8), o9, o10] [] (mo b r (ms S) V W) := by
  obtain ⟨a373, H⟩ := H
  refine r_X5_lock_101 ?_
  simp only [mo_ty, mo_f87, mo_t31, mo_n31, mo_a31, true_or, or_true, true_and]
  refine ⟨a373, ⟨fun c => ?_, fun c => ?_⟩⟩
  · replace H := H.1 c
    obtain ⟨a374, H⟩ := H
    refine r_X5_lock_156 ?_
    refine ⟨a374, ?_⟩
    exact H
  · replace H := H.2 c
    obtain ⟨a375, H⟩ := H
    refine r_X5_lock_107 ?_
    simp only [mo_ty, mo_f86, mo_t30, mo_n30, mo_a30, true_or, or_true, true_and]
    refine ⟨a375, ⟨fun c => ?_, fun c => ?_⟩⟩
    · replace H := H.1 c
      obtain ⟨a376, H⟩ := H
      refine r_X5_lock_156 ?_
      refine ⟨a376, ?_⟩
      exact H
    · replace H := H.2 c
      obtain ⟨⟨a377, a378, a379⟩, H⟩ := H
      refine r_X5_lock_113 ?_
      simp only [mo_ty, mo_f83, mo_t27, mo_n27, mo_a27, true_or, or_true, true_and]
      refine ⟨a377, a378, a379, ?_⟩
      obtain ⟨a380, H⟩ := H
      refine c_part0 (by omega) (am_av ?_)
      refine r_X5_lock_122 ?_
      exact H
theorem w_lock_125 {d : Nat} {Q : am_K} {b : am_H} {r : Nat} {S : am_G} {V : Nat → Int → Int} {W : Nat → Int} {x1 : Int} {x2 : Int} {x3 : Int} {p4 : Int} {x5 : Int} {x6 : Int} {x7 : Int} {x8 : Int} {p9 : Int} {x10 : Int} (H : ((-2147483648 ≤ (130 + 645 * p9) + 4 ∧ (130 + 645 * p9) + 4 ≤ 2147483647) ∧ (0 ≤ p9 ∧ p9 < 100)) ∧ ((S 3 p9 4 ≤ x10 → ((-2147483648 ≤ x8 + 1 ∧ x8 + 1 ≤ 2147483647)) ∧ (am_W m_X5_lock (am_ev am_prog (d + 3)) Q 101 [some (.inr (.inl r)), some (.inl x1), some (.inl x2), some (.inl x3), some (.inl (327382 + 185 * p4)), some (.inl x5), some (.inl x6), some (.inl x7), some (.inl (x8 + 1)), some (.inl (130 + 645 * p9)), some (.inl x10)] [] (mo b r (ms S) V W))) ∧ (x10 < S 3 p9 4 → ((-2147483648 ≤ (327382 + 185 * p4) + 5 ∧ (327382 + 185 * p4) + 5 ≤ 2147483647) ∧ (-2147483648 ≤ ((327382 + 185 * p4) + 5) + x5 ∧ ((327382 + 185 * p4) + 5) + x5 ≤ 2147483647) ∧ (-2147483648 ≤ (130 + 645 * p9) + 45 ∧ (130 + 645 * p9) + 45 ≤ 2147483647) ∧ (-2147483648 ≤ ((130 + 645 * p9) + 45) + x10 ∧ ((130 + 645 * p9) + 45) + x10 ≤ 2147483647) ∧ (0 ≤ p9 ∧ p9 < 100) ∧ (0 ≤ 45 + x10 ∧ 45 + x10 < 645) ∧ (-2147483648 ≤ (S 3 p9 (45 + x10)) - 1 ∧ (S 3 p9 (45 + x10)) - 1 ≤ 2147483647) ∧ (0 ≤ p4 ∧ p4 < 6) ∧ (0 ≤ 5 + x5 ∧ 5 + x5 < 185)) ∧ (((-2147483648 ≤ x5 + 1 ∧ x5 + 1 ≤ 2147483647) ∧ (-2147483648 ≤ x10 + 1 ∧ x10 + 1 ≤ 2147483647)) ∧ (am_W m_X5_lock (am_ev am_prog (d + 3)) Q 125 [some (.inr (.inl r)), some (.inl x1), some (.inl x2), some (.inl x3), some (.inl (327382 + 185 * p4)), some (.inl (x5 + 1)), some (.inl x6), some (.inl x7), some (.inl x8), some (.inl (130 + 645 * p9)), some (.inl (x10 + 1))] [] (mo b r (ms (u3 S 8 p4 (5 + x5) ((S 3 p9 (45 + x10)) - 1))) V W)))))) : am_W m_X5_lock (am_ev am_prog (d + 3)) Q 125 [some (.inr (.inl r)), some (.inl x1), some (.inl x2), some (.inl x3), some (.inl (327382 + 185 * p4)), some (.inl x5), some (.inl x6), some (.inl x7), some (.inl x8), some (.inl (130 + 645 * p9)), some (.inl x10)] [] (mo b r (ms S) V W) := by
  obtain ⟨⟨a384, a385⟩, H⟩ := H
  refine r_X5_lock_125 ?_
  simp only [mo_ty, mo_f39, mo_t1, mo_n1, mo_a1, ms_r3 (k := (130 + 645 * p9) + 4) (p := p9) (i := 4) (by omega) (by omega) (by omega), true_or, or_true, true_and]
  refine ⟨a384, (by omega), ⟨fun c => ?_, fun c => ?_⟩⟩
  · replace H := H.1 c
    obtain ⟨a386, H⟩ := H
    refine r_X5_lock_154 ?_
    refine ⟨a386, ?_⟩
    exact H
  · replace H := H.2 c
    obtain ⟨⟨a387, a388, a389, a390, a391, a392, a393, a394, a395⟩, H⟩ := H
    refine r_X5_lock_133 ?_
    simp only [mo_ty, mo_f39, mo_t1, mo_n1, mo_a1, ms_r3 (k := ((130 + 645 * p9) + 45) + x10) (p := p9) (i := 45 + x10) (by omega) (by omega) (by omega), mo_s1, ms_w8 (k := ((327382 + 185 * p4) + 5) + x5) (p := p4) (i := 5 + x5) (by omega) (by omega) (by omega), true_or, or_true, true_and]
    refine ⟨a387, a388, a389, a390, (by omega), a393, (by omega), ?_⟩
    obtain ⟨⟨a396, a397⟩, H⟩ := H
    refine r_X5_lock_151 ?_
    refine ⟨a396, a397, ?_⟩
    exact H
theorem w_lock_183 {d : Nat} {Q : am_K} {b : am_H} {r : Nat} {S : am_G} {V : Nat → Int → Int} {W : Nat → Int} {x1 : Int} {x2 : Int} {x3 : Int} {x4 : Int} {x5 : Int} {x6 : Int} {o7 : Option am_V} {o8 : Option am_V} {o9 : Option am_V} {o10 : Option am_V} {y0 : Int} (H : am_W m_X5_lock (am_ev am_prog (d + 3)) Q 188 [some (.inr (.inl r)), some (.inl x1), some (.inl x2), some (.inl x3), some (.inl x4), some (.inl x5), some (.inl y0), some (.inl 600), some (.inl 0), o9, o10] [] (mo b r (ms S) V W)) : am_W m_X5_lock (am_ev am_prog (d + 3)) Q 183 [some (.inr (.inl r)), some (.inl x1), some (.inl x2), some (.inl x3), some (.inl x4), some (.inl x5), some (.inl x6), o7, o8, o9, o10] [.inl y0] (mo b r (ms S) V W) := by
  refine r_X5_lock_183 ?_
  exact H
theorem w_lock_188 {d : Nat} {Q : am_K} {b : am_H} {r : Nat} {S : am_G} {V : Nat → Int → Int} {W : Nat → Int} {x1 : Int} {x2 : Int} {x3 : Int} {p4 : Int} {x5 : Int} {x6 : Int} {p6 : Int} {x7 : Int} {x8 : Int} {o9 : Option am_V} {o10 : Option am_V} (H : ((x6 : Int) = (-1) → ((-2147483648 ≤ (327382 + 185 * p4) + 4 ∧ (327382 + 185 * p4) + 4 ≤ 2147483647)) ∧ ((S 0 0 0 ≤ x7 → ((0 ≤ p4 ∧ p4 < 6)) ∧ (Q (.inl (some (.inl x5))) (mo b r (ms (u3 S 8 p4 4 0)) V W))) ∧ (x7 < S 0 0 0 → ((-2147483648 ≤ (S 0 0 0) - x7 ∧ (S 0 0 0) - x7 ≤ 2147483647)) ∧ (((0 ≤ p4 ∧ p4 < 6)) ∧ (Q (.inl (some (.inl x5))) (mo b r (ms (u3 S 8 p4 4 ((S 0 0 0) - x7))) V W)))))) ∧ ((x6 : Int) ≠ (-1) → ((-2147483648 ≤ x6 + 1 ∧ x6 + 1 ≤ 2147483647) ∧ x6 = 320962 + 562 * p6 ∧ (0 ≤ p6 ∧ p6 < 10)) ∧ ((S 6 p6 1 ≤ x8 → ((-2147483648 ≤ (327382 + 185 * p4) + 4 ∧ (327382 + 185 * p4) + 4 ≤ 2147483647)) ∧ ((S 0 0 0 ≤ x7 → ((0 ≤ p4 ∧ p4 < 6)) ∧ (Q (.inl (some (.inl x5))) (mo b r (ms (u3 S 8 p4 4 0)) V W))) ∧ (x7 < S 0 0 0 → ((-2147483648 ≤ (S 0 0 0) - x7 ∧ (S 0 0 0) - x7 ≤ 2147483647)) ∧ (((0 ≤ p4 ∧ p4 < 6)) ∧ (Q (.inl (some (.inl x5))) (mo b r (ms (u3 S 8 p4 4 ((S 0 0 0) - x7))) V W)))))) ∧ (x8 < S 6 p6 1 → ((-2147483648 ≤ x6 + 2 ∧ x6 + 2 ≤ 2147483647) ∧ (-2147483648 ≤ 5 * x8 ∧ 5 * x8 ≤ 2147483647) ∧ (-2147483648 ≤ (x6 + 2) + (5 * x8) ∧ (x6 + 2) + (5 * x8) ≤ 2147483647) ∧ x6 = 320962 + 562 * p6 ∧ (0 ≤ p6 ∧ p6 < 10) ∧ (0 ≤ 2 + 5 * x8 ∧ 2 + 5 * x8 < 562)) ∧ (((S 6 p6 (2 + 5 * x8) : Int) ≠ 6 → ((-2147483648 ≤ x8 + 1 ∧ x8 + 1 ≤ 2147483647)) ∧ (am_W m_X5_lock (am_ev am_prog (d + 3)) Q 188 [some (.inr (.inl r)), some (.inl x1), some (.inl x2), some (.inl x3), some (.inl (327382 + 185 * p4)), some (.inl x5), some (.inl x6), some (.inl x7), some (.inl (x8 + 1)), o9, o10] [] (mo b r (ms S) V W))) ∧ ((S 6 p6 (2 + 5 * x8) : Int) = 6 → ((-2147483648 ≤ x6 + 3 ∧ x6 + 3 ≤ 2147483647) ∧ (-2147483648 ≤ 5 * x8 ∧ 5 * x8 ≤ 2147483647) ∧ (-2147483648 ≤ (x6 + 3) + (5 * x8) ∧ (x6 + 3) + (5 * x8) ≤ 2147483647) ∧ x6 = 320962 + 562 * p6 ∧ (0 ≤ p6 ∧ p6 < 10) ∧ (0 ≤ 3 + 5 * x8 ∧ 3 + 5 * x8 < 562)) ∧ ((S 6 p6 (3 + 5 * x8) ≠ x1 → ((-2147483648 ≤ x8 + 1 ∧ x8 + 1 ≤ 2147483647)) ∧ (am_W m_X5_lock (am_ev am_prog (d + 3)) Q 188 [some (.inr (.inl r)), some (.inl x1), some (.inl x2), some (.inl x3), some (.inl (327382 + 185 * p4)), some (.inl x5), some (.inl x6), some (.inl x7), some (.inl (x8 + 1)), o9, o10] [] (mo b r (ms S) V W))) ∧ (S 6 p6 (3 + 5 * x8) = x1 → ((-2147483648 ≤ x6 + 4 ∧ x6 + 4 ≤ 2147483647) ∧ (-2147483648 ≤ 5 * x8 ∧ 5 * x8 ≤ 2147483647) ∧ (-2147483648 ≤ (x6 + 4) + (5 * x8) ∧ (x6 + 4) + (5 * x8) ≤ 2147483647) ∧ x6 = 320962 + 562 * p6 ∧ (0 ≤ p6 ∧ p6 < 10) ∧ (0 ≤ 4 + 5 * x8 ∧ 4 + 5 * x8 < 562)) ∧ (((-2147483648 ≤ x8 + 1 ∧ x8 + 1 ≤ 2147483647)) ∧ (am_W m_X5_lock (am_ev am_prog (d + 3)) Q 188 [some (.inr (.inl r)), some (.inl x1), some (.inl x2), some (.inl x3), some (.inl (327382 + 185 * p4)), some (.inl x5), some (.inl x6), some (.inl (S 6 p6 (4 + 5 * x8))), some (.inl (x8 + 1)), o9, o10] [] (mo b r (ms S) V W))))))))))) : am_W m_X5_lock (am_ev am_prog (d + 3)) Q 188 [some (.inr (.inl r)), some (.inl x1), some (.inl x2), some (.inl x3), some (.inl (327382 + 185 * p4)), some (.inl x5), some (.inl x6), some (.inl x7), some (.inl x8), o9, o10] [] (mo b r (ms S) V W) := by
  refine r_X5_lock_188 ?_
  refine ⟨fun c => ?_, fun c => ?_⟩
  · replace H := H.1 c
    obtain ⟨a403, H⟩ := H
    refine r_X5_lock_236 ?_
    simp only [mo_ty, mo_f39, mo_t1, mo_n1, mo_a1, ms_r0 (k := 0) (p := 0) (i := 0) (by omega) (by omega) (by omega), true_or, or_true, true_and]
    refine ⟨a403, (by omega), ⟨fun c => ?_, fun c => ?_⟩⟩
    · replace H := H.1 c
      refine r_X5_lock_254 ?_
      obtain ⟨a404, H⟩ := H
      refine r_X5_lock_255 ?_
      simp only [mo_t1, mo_n1, mo_s1, ms_w8 (k := (327382 + 185 * p4) + 4) (p := p4) (i := 4) (by omega) (by omega) (by omega), true_or, or_true, true_and]
      refine ⟨(by omega), ?_⟩
      refine r_X5_lock_256 ?_
      exact H
    · replace H := H.2 c
      obtain ⟨a405, H⟩ := H
      refine r_X5_lock_247 ?_
      simp only [mo_ty, mo_f39, mo_t1, mo_n1, mo_a1, ms_r0 (k := 0) (p := 0) (i := 0) (by omega) (by omega) (by omega), true_or, or_true, true_and]
      refine ⟨(by omega), a405, ?_⟩
      obtain ⟨a406, H⟩ := H
      refine r_X5_lock_255 ?_
      simp only [mo_t1, mo_n1, mo_s1, ms_w8 (k := (327382 + 185 * p4) + 4) (p := p4) (i := 4) (by omega) (by omega) (by omega), true_or, or_true, true_and]
      refine ⟨(by omega), ?_⟩
      refine r_X5_lock_256 ?_
      exact H
  · replace H := H.2 c
    obtain ⟨⟨a407, a408, a409⟩, H⟩ := H
    refine r_X5_lock_191 ?_
    simp only [mo_ty, mo_f39, mo_t1, mo_n1, mo_a1, ms_r6 (k := x6 + 1) (p := p6) (i := 1) (by omega) (by omega) (by omega), true_or, or_true, true_and]
    refine ⟨a407, (by omega), ⟨fun c => ?_, fun c => ?_⟩⟩
    · replace H := H.1 c
      obtain ⟨a410, H⟩ := H
      refine r_X5_lock_236 ?_
      simp only [mo_ty, mo_f39, mo_t1, mo_n1, mo_a1, ms_r0 (k := 0) (p := 0) (i := 0) (by omega) (by omega) (by omega), true_or, or_true, true_and]
      refine ⟨a410, (by omega), ⟨fun c => ?_, fun c => ?_⟩⟩
      · replace H := H.1 c
        refine r_X5_lock_254 ?_
        obtain ⟨a411, H⟩ := H
        refine r_X5_lock_255 ?_
        simp only [mo_t1, mo_n1, mo_s1, ms_w8 (k := (327382 + 185 * p4) + 4) (p := p4) (i := 4) (by omega) (by omega) (by omega), true_or, or_true, true_and]
        refine ⟨(by omega), ?_⟩
        refine r_X5_lock_256 ?_
        exact H
      · replace H := H.2 c
        obtain ⟨a412, H⟩ := H
        refine r_X5_lock_247 ?_
        simp only [mo_ty, mo_f39, mo_t1, mo_n1, mo_a1, ms_r0 (k := 0) (p := 0) (i := 0) (by omega) (by omega) (by omega), true_or, or_true, true_and]
        refine ⟨(by omega), a412, ?_⟩
        obtain ⟨a413, H⟩ := H
        refine r_X5_lock_255 ?_
        simp only [mo_t1, mo_n1, mo_s1, ms_w8 (k := (327382 + 185 * p4) + 4) (p := p4) (i := 4) (by omega) (by omega) (by omega), true_or, or_true, true_and]
        refine ⟨(by omega), ?_⟩
        refine r_X5_lock_256 ?_
        exact H
    · replace H := H.2 c
      obtain ⟨⟨a414, a415, a416, a417, a418, a419⟩, H⟩ := H
      refine r_X5_lock_199 ?_
      simp only [mo_ty, mo_f39, mo_t1, mo_n1, mo_a1, ms_r6 (k := (x6 + 2) + (5 * x8)) (p := p6) (i := 2 + 5 * x8) (by omega) (by omega) (by omega), true_or, or_true, true_and]
      refine ⟨a414, a415, a416, (by omega), ⟨fun c => ?_, fun c => ?_⟩⟩
      · replace H := H.1 c
        obtain ⟨a420, H⟩ := H
        refine r_X5_lock_234 ?_
        refine ⟨a420, ?_⟩
        exact H
      · replace H := H.2 c
        obtain ⟨⟨a421, a422, a423, a424, a425, a426⟩, H⟩ := H
        refine r_X5_lock_211 ?_
        simp only [mo_ty, mo_f39, mo_t1, mo_n1, mo_a1, ms_r6 (k := (x6 + 3) + (5 * x8)) (p := p6) (i := 3 + 5 * x8) (by omega) (by omega) (by omega), true_or, or_true, true_and]
        refine ⟨a421, a422, a423, (by omega), ⟨fun c => ?_, fun c => ?_⟩⟩
        · replace H := H.1 c
          obtain ⟨a427, H⟩ := H
          refine r_X5_lock_234 ?_
          refine ⟨a427, ?_⟩
          exact H
        · replace H := H.2 c
          obtain ⟨⟨a428, a429, a430, a431, a432, a433⟩, H⟩ := H
          refine r_X5_lock_223 ?_
          simp only [mo_ty, mo_f39, mo_t1, mo_n1, mo_a1, ms_r6 (k := (x6 + 4) + (5 * x8)) (p := p6) (i := 4 + 5 * x8) (by omega) (by omega) (by omega), true_or, or_true, true_and]
          refine ⟨a428, a429, a430, (by omega), ?_⟩
          obtain ⟨a434, H⟩ := H
          refine r_X5_lock_234 ?_
          refine ⟨a434, ?_⟩
          exact H
theorem w_hand_0 {d : Nat} {Q : am_K} {b : am_H} {r : Nat} {S : am_G} {V : Nat → Int → Int} {W : Nat → Int} {x1 : Int} {x2 : Int} {o3 : Option am_V} {o4 : Option am_V} {o5 : Option am_V} {o6 : Option am_V} {o7 : Option am_V} {o8 : Option am_V} (H : ((-2147483648 ≤ x1 ∧ x1 ≤ 2147483647) ∧ S 0 0 1 ≤ 20) ∧ ((0 ≤ x1 ∧ x1 / 5 < S 0 0 1 ∧ x1 % 5 < S 2 2 (x1 / 5) → am_ev am_prog (d + 3) 178 [.inr (.inl r), .inl x1, .inl (S 0 0 0)] (mo b r (ms S) V (am_up W 38 0)) (am_aft (am_hand m_X5_hand Q (am_W m_X5_hand (am_ev am_prog (d + 3)) Q) 20) (am_W m_X5_hand (am_ev am_prog (d + 3)) Q) 20 [some (.inr (.inl r)), some (.inl x1), some (.inl x2), o3, o4, o5, o6, o7, o8] [])) ∧ (¬ (0 ≤ x1 ∧ x1 / 5 < S 0 0 1 ∧ x1 % 5 < S 2 2 (x1 / 5)) → Q (.inl (some (.inl 0))) (mo b r (ms S) V (am_up W 38 1))))) : am_W m_X5_hand (am_ev am_prog (d + 3)) Q 0 [some (.inr (.inl r)), some (.inl x1), some (.inl x2), o3, o4, o5, o6, o7, o8] [] (mo b r (ms S) V W) := by
  refine r_X5_hand_0 ?_
  simp only [mo_ty, true_or, or_true, true_and]
  refine ?_
  obtain ⟨⟨a435, a436⟩, H⟩ := H
  refine c_isPart (by omega) (by omega) (am_av ?_)
  refine r_X5_hand_4 ?_
  refine ⟨fun c => ?_, fun c => ?_⟩
  · replace c := am_b1 c
    replace H := H.1 c
    refine r_X5_hand_7 ?_
    refine r_X5_hand_8 ?_
    simp only [mo_ty, mo_si, true_or, or_true, true_and]
    refine ?_
    refine r_X5_hand_9 ?_
    simp only [mo_ty, mo_i, am_up_eq, true_or, or_true, true_and, Int.reduceLE, Int.reduceLT, Int.reduceEq, Int.reduceNe, ne_eq, false_imp_iff, true_imp_iff, and_true, true_and, not_true_eq_false, not_false_eq_true, not_true, Int.reduceNeg]
    refine ?_
    refine r_X5_hand_14 ?_
    simp only [mo_ty, mo_f39, mo_t1, mo_n1, mo_a1, ms_r0 (k := 0) (p := 0) (i := 0) (by omega) (by omega) (by omega), true_or, or_true, true_and]
    exact ⟨(by omega), H⟩
  · replace c := am_b0 c
    replace H := H.2 c
    refine r_X5_hand_5 ?_
    refine r_X5_hand_8 ?_
    simp only [mo_ty, mo_si, true_or, or_true, true_and]
    refine ?_
    refine r_X5_hand_9 ?_
    simp only [mo_ty, mo_i, am_up_eq, true_or, or_true, true_and, Int.reduceLE, Int.reduceLT, Int.reduceEq, Int.reduceNe, ne_eq, false_imp_iff, true_imp_iff, and_true, true_and, not_true_eq_false, not_false_eq_true, not_true, Int.reduceNeg]
    refine ?_
    refine r_X5_hand_12 ?_
    exact H
theorem w_hand_21 {d : Nat} {Q : am_K} {b : am_H} {r : Nat} {S : am_G} {V : Nat → Int → Int} {W : Nat → Int} {x1 : Int} {x2 : Int} {o3 : Option am_V} {o4 : Option am_V} {o5 : Option am_V} {o6 : Option am_V} {o7 : Option am_V} {o8 : Option am_V} (H : ((0 ≤ x1 ∧ x1 < 3000000)) ∧ (((-2147483648 ≤ (130 + 645 * x1) + 1 ∧ (130 + 645 * x1) + 1 ≤ 2147483647) ∧ (0 ≤ x1 ∧ x1 < 100)) ∧ (am_W m_X5_hand (am_ev am_prog (d + 3)) Q 35 [some (.inr (.inl r)), some (.inl x1), some (.inl x2), some (.inl (S 3 x1 1)), some (.inl 0), some (.inl 0), some (.inl 0), o7, o8] [] (mo b r (ms S) V W)))) : am_W m_X5_hand (am_ev am_prog (d + 3)) Q 21 [some (.inr (.inl r)), some (.inl x1), some (.inl x2), o3, o4, o5, o6, o7, o8] [] (mo b r (ms S) V W) := by
  refine r_X5_hand_21 ?_
  simp only [mo_ty, mo_f39, true_or, or_true, true_and]
  refine ?_
  obtain ⟨a437, H⟩ := H
  refine c_part0 (by omega) (am_av ?_)
  obtain ⟨⟨a438, a439⟩, H⟩ := H
  refine r_X5_hand_25 ?_
  simp only [mo_t1, mo_n1, mo_a1, ms_r3 (k := (130 + 645 * x1) + 1) (p := x1) (i := 1) (by omega) (by omega) (by omega), true_or, or_true, true_and]
  refine ⟨a438, (by omega), ?_⟩
  exact H
theorem w_hand_35 {d : Nat} {Q : am_K} {b : am_H} {r : Nat} {S : am_G} {V : Nat → Int → Int} {W : Nat → Int} {x1 : Int} {x2 : Int} {x3 : Int} {x4 : Int} {x5 : Int} {x6 : Int} {o7 : Option am_V} {o8 : Option am_V} (H : (x3 ≤ x4 → ((x2 : Int) = 0 → Q (.inl (some (.inl x5))) (mo b r (ms S) V W)) ∧ ((x2 : Int) ≠ 0 → Q (.inl (some (.inl x6))) (mo b r (ms S) V W))) ∧ (x4 < x3 → am_W m_X5_hand (am_ev am_prog (d + 3)) Q 42 [some (.inr (.inl r)), some (.inl x1), some (.inl x2), some (.inl x3), some (.inl x4), some (.inl x5), some (.inl x6), some (.inl (-1)), some (.inl x4)] [] (mo b r (ms S) V W))) : am_W m_X5_hand (am_ev am_prog (d + 3)) Q 35 [some (.inr (.inl r)), some (.inl x1), some (.inl x2), some (.inl x3), some (.inl x4), some (.inl x5), some (.inl x6), o7, o8] [] (mo b r (ms S) V W) := by
  refine r_X5_hand_35 ?_
  refine ⟨fun c => ?_, fun c => ?_⟩
  · replace H := H.1 c
    refine r_X5_hand_80 ?_
    refine ⟨fun c => ?_, fun c => ?_⟩
    · replace H := H.1 c
      refine r_X5_hand_84 ?_
      refine r_X5_hand_85 ?_
      exact H
    · replace H := H.2 c
      refine r_X5_hand_82 ?_
      refine r_X5_hand_85 ?_
      exact H
  · replace H := H.2 c
    refine r_X5_hand_38 ?_
    exact H
theorem w_hand_42 {d : Nat} {Q : am_K} {b : am_H} {r : Nat} {S : am_G} {V : Nat → Int → Int} {W : Nat → Int} {x1 : Int} {x2 : Int} {x3 : Int} {x4 : Int} {x5 : Int} {x6 : Int} {x7 : Int} {x8 : Int} (H : (x3 ≤ x8 → ((x7 : Int) ≠ (-1) → ((-2147483648 ≤ x5 + 1 ∧ x5 + 1 ≤ 2147483647)) ∧ (am_ev am_prog (d + 3) 180 [.inr (.inl r), .inl x1, .inl x4, .inl x7] (mo b r (ms S) V W) (am_aft (am_hand m_X5_hand Q (am_W m_X5_hand (am_ev am_prog (d + 3)) Q) 68) (am_W m_X5_hand (am_ev am_prog (d + 3)) Q) 68 [some (.inr (.inl r)), some (.inl x1), some (.inl x2), some (.inl x3), some (.inl x4), some (.inl (x5 + 1)), some (.inl x6), some (.inl x7), some (.inl x8)] [.inl x6]))) ∧ ((x7 : Int) = (-1) → Q (.inl (some (.inl (-1)))) (mo b r (ms S) V W))) ∧ (x8 < x3 → am_ev am_prog (d + 3) 179 [.inr (.inl r), .inl x1, .inl x4, .inl x8] (mo b r (ms S) V W) (am_aft (am_hand m_X5_hand Q (am_W m_X5_hand (am_ev am_prog (d + 3)) Q) 49) (am_W m_X5_hand (am_ev am_prog (d + 3)) Q) 49 [some (.inr (.inl r)), some (.inl x1), some (.inl x2), some (.inl x3), some (.inl x4), some (.inl x5), some (.inl x6), some (.inl x7), some (.inl x8)] []))) : am_W m_X5_hand (am_ev am_prog (d + 3)) Q 42 [some (.inr (.inl r)), some (.inl x1), some (.inl x2), some (.inl x3), some (.inl x4), some (.inl x5), some (.inl x6), some (.inl x7), some (.inl x8)] [] (mo b r (ms S) V W) := by
  refine r_X5_hand_42 ?_
  refine ⟨fun c => ?_, fun c => ?_⟩
  · replace H := H.1 c
    refine r_X5_hand_57 ?_
    refine ⟨fun c => ?_, fun c => ?_⟩
    · replace H := H.1 c
      obtain ⟨a440, H⟩ := H
      refine r_X5_hand_62 ?_
      simp only [mo_ty, true_or, or_true, true_and]
      exact ⟨a440, H⟩
    · replace H := H.2 c
      refine r_X5_hand_60 ?_
      exact H
  · replace H := H.2 c
    refine r_X5_hand_45 ?_
    simp only [mo_ty, true_or, or_true, true_and]
    exact H
theorem w_hand_50 {d : Nat} {Q : am_K} {b : am_H} {r : Nat} {S : am_G} {V : Nat → Int → Int} {W : Nat → Int} {x1 : Int} {x2 : Int} {x3 : Int} {x4 : Int} {x5 : Int} {x6 : Int} {x7 : Int} {x8 : Int} {y0 : Int} (H : (W 63 < y0 → ((-2147483648 ≤ x8 + 1 ∧ x8 + 1 ≤ 2147483647)) ∧ (am_W m_X5_hand (am_ev am_prog (d + 3)) Q 42 [some (.inr (.inl r)), some (.inl x1), some (.inl x2), some (.inl x3), some (.inl x4), some (.inl x5), some (.inl x6), some (.inl x7), some (.inl (x8 + 1))] [] (mo b r (ms S) V W))) ∧ (y0 ≤ W 63 → ((-2147483648 ≤ x8 + 1 ∧ x8 + 1 ≤ 2147483647)) ∧ (am_W m_X5_hand (am_ev am_prog (d + 3)) Q 42 [some (.inr (.inl r)), some (.inl x1), some (.inl x2), some (.inl x3), some (.inl x4), some (.inl x5), some (.inl x6), some (.inl x8), some (.inl (x8 + 1))] [] (mo b r (ms S) V W)))) : am_W m_X5_hand (am_ev am_prog (d + 3)) Q 50 [some (.inr (.inl r)), some (.inl x1), some (.inl x2), some (.inl x3), some (.inl x4), some (.inl x5), some (.inl x6), some (.inl x7), some (.inl x8)] [.inl y0] (mo b r (ms S) V W) := by
  refine r_X5_hand_50 ?_
  simp only [mo_ty, mo_i, true_or, or_true, true_and]
  refine ⟨fun c => ?_, fun c => ?_⟩
  · replace H := H.1 c
    obtain ⟨a441, H⟩ := H
    refine r_X5_hand_55 ?_
    refine ⟨a441, ?_⟩
    exact H
  · replace H := H.2 c
    refine r_X5_hand_53 ?_
    obtain ⟨a442, H⟩ := H
    refine r_X5_hand_55 ?_
    refine ⟨a442, ?_⟩
    exact H
theorem w_hand_69 {d : Nat} {Q : am_K} {b : am_H} {r : Nat} {S : am_G} {V : Nat → Int → Int} {W : Nat → Int} {x1 : Int} {x2 : Int} {x3 : Int} {x4 : Int} {x5 : Int} {x6 : Int} {x7 : Int} {x8 : Int} {y1 : Int} {y0 : Int} (H : ((-2147483648 ≤ y0 + (am_b ((y1 : Int) = 0)) ∧ y0 + (am_b ((y1 : Int) = 0)) ≤ 2147483647) ∧ (-2147483648 ≤ x7 + 1 ∧ x7 + 1 ≤ 2147483647)) ∧ (am_W m_X5_hand (am_ev am_prog (d + 3)) Q 35 [some (.inr (.inl r)), some (.inl x1), some (.inl x2), some (.inl x3), some (.inl (x7 + 1)), some (.inl x5), some (.inl (y0 + (am_b ((y1 : Int) = 0)))), some (.inl x7), some (.inl x8)] [] (mo b r (ms S) V W))) : am_W m_X5_hand (am_ev am_prog (d + 3)) Q 69 [some (.inr (.inl r)), some (.inl x1), some (.inl x2), some (.inl x3), some (.inl x4), some (.inl x5), some (.inl x6), some (.inl x7), some (.inl x8)] [.inl y1, .inl y0] (mo b r (ms S) V W) := by
  have J : ∀ y : Int, y = am_b ((y1 : Int) = 0) → am_W m_X5_hand (am_ev am_prog (d + 3)) Q 73 [some (.inr (.inl r)), some (.inl x1), some (.inl x2), some (.inl x3), some (.inl x4), some (.inl x5), some (.inl x6), some (.inl x7), some (.inl x8)] [.inl y, .inl y0] (mo b r (ms S) V W) := by
    intro y hy
    subst hy
    obtain ⟨⟨a443, a444⟩, H⟩ := H
    refine r_X5_hand_73 ?_
    refine ⟨a443, a444, ?_⟩
    exact H
  refine r_X5_hand_69 ?_
  refine ⟨fun c => ?_, fun c => ?_⟩
  · exact r_X5_hand_72 (J _ (am_bt c).symm)
  · exact r_X5_hand_70 (J _ (am_bf (by omega)).symm)
theorem w_broken_0 {d : Nat} {Q : am_K} {b : am_H} {r : Nat} {S : am_G} {V : Nat → Int → Int} {W : Nat → Int} {x1 : Int} {x2 : Int} {o3 : Option am_V} {o4 : Option am_V} (H : (0 ≤ x1 ∧ x1 < S 0 0 3 → ((0 ≤ x1 ∧ x1 < 2000000)) ∧ (((-2147483648 ≤ (320230 + 183 * x1) + 28 ∧ (320230 + 183 * x1) + 28 ≤ 2147483647) ∧ (0 ≤ x1 ∧ x1 < 4)) ∧ ((am_b ((S 5 x1 28 : Int) = 1) = x2 → ((0 ≤ x1 ∧ x1 < 4)) ∧ (Q (.inl (some (.inl 0))) (mo b r (ms (u3 S 5 x1 28 (am_b ((x2 : Int) ≠ 0)))) V (am_up W 38 0)))) ∧ (am_b ((S 5 x1 28 : Int) = 1) ≠ x2 → ((0 ≤ x1 ∧ x1 < 4)) ∧ (Q (.inl (some (.inl 1))) (mo b r (ms (u3 S 5 x1 28 (am_b ((x2 : Int) ≠ 0)))) V (am_up W 38 0))))))) ∧ (¬ (0 ≤ x1 ∧ x1 < S 0 0 3) → Q (.inl (some (.inl 0))) (mo b r (ms S) V (am_up W 38 1)))) : am_W m_X5_broken (am_ev am_prog (d + 3)) Q 0 [some (.inr (.inl r)), some (.inl x1), some (.inl x2), o3, o4] [] (mo b r (ms S) V W) := by
  refine r_X5_broken_0 ?_
  simp only [mo_ty, true_or, or_true, true_and]
  refine ?_
  refine c_isMachine (am_av ?_)
  refine r_X5_broken_4 ?_
  refine ⟨fun c => ?_, fun c => ?_⟩
  · replace c := am_b1 c
    replace H := H.1 c
    refine r_X5_broken_7 ?_
    refine r_X5_broken_8 ?_
    simp only [mo_ty, mo_si, true_or, or_true, true_and]
    refine ?_
    refine r_X5_broken_9 ?_
    simp only [mo_ty, mo_i, am_up_eq, true_or, or_true, true_and, Int.reduceLE, Int.reduceLT, Int.reduceEq, Int.reduceNe, ne_eq, false_imp_iff, true_imp_iff, and_true, true_and, not_true_eq_false, not_false_eq_true, not_true, Int.reduceNeg]
    refine ?_
    refine r_X5_broken_14 ?_
    refine ?_
    obtain ⟨a445, H⟩ := H
    refine c_machine0 (by omega) (am_av ?_)
    obtain ⟨⟨a446, a447⟩, H⟩ := H
    have J : ∀ y : Int, y = am_b ((S 5 x1 28 : Int) = 1) → am_W m_X5_broken (am_ev am_prog (d + 3)) Q 28 [some (.inr (.inl r)), some (.inl x1), some (.inl x2), some (.inl ((320230 + 183 * x1) + 28)), o4] [.inl y] (mo b r (ms S) V (am_up W 38 0)) := by
      intro y hy
      subst hy
      refine r_X5_broken_28 ?_
      refine ⟨fun c => ?_, fun c => ?_⟩
      · replace H := H.1 c
        refine r_X5_broken_32 ?_
        have J : ∀ y : Int, y = am_b ((x2 : Int) ≠ 0) → am_W m_X5_broken (am_ev am_prog (d + 3)) Q 42 [some (.inr (.inl r)), some (.inl x1), some (.inl x2), some (.inl ((320230 + 183 * x1) + 28)), some (.inl 0)] [.inl y, .inl ((320230 + 183 * x1) + 28), .inr (.inl (r + 1))] (mo b r (ms S) V (am_up W 38 0)) := by
          intro y hy
          subst hy
          obtain ⟨a448, H⟩ := H
          refine r_X5_broken_42 ?_
          simp only [mo_t1, mo_n1, mo_s1, ms_w5 (k := (320230 + 183 * x1) + 28) (p := x1) (i := 28) (by omega) (by omega) (by omega), true_or, or_true, true_and]
          refine ⟨(by omega), ?_⟩
          refine r_X5_broken_43 ?_
          exact ⟨(by decide), H⟩
        refine r_X5_broken_33 ?_
        simp only [mo_ty, mo_f39, true_or, or_true, true_and]
        refine ⟨fun c => ?_, fun c => ?_⟩
        · exact r_X5_broken_41 (J _ (am_bf (by omega)).symm)
        · exact r_X5_broken_39 (J _ (am_bt c).symm)
      · replace H := H.2 c
        refine r_X5_broken_30 ?_
        have J : ∀ y : Int, y = am_b ((x2 : Int) ≠ 0) → am_W m_X5_broken (am_ev am_prog (d + 3)) Q 42 [some (.inr (.inl r)), some (.inl x1), some (.inl x2), some (.inl ((320230 + 183 * x1) + 28)), some (.inl 1)] [.inl y, .inl ((320230 + 183 * x1) + 28), .inr (.inl (r + 1))] (mo b r (ms S) V (am_up W 38 0)) := by
          intro y hy
          subst hy
          obtain ⟨a449, H⟩ := H
          refine r_X5_broken_42 ?_
          simp only [mo_t1, mo_n1, mo_s1, ms_w5 (k := (320230 + 183 * x1) + 28) (p := x1) (i := 28) (by omega) (by omega) (by omega), true_or, or_true, true_and]
          refine ⟨(by omega), ?_⟩
          refine r_X5_broken_43 ?_
          exact ⟨(by decide), H⟩
        refine r_X5_broken_33 ?_
        simp only [mo_ty, mo_f39, true_or, or_true, true_and]
        refine ⟨fun c => ?_, fun c => ?_⟩
        · exact r_X5_broken_41 (J _ (am_bf (by omega)).symm)
        · exact r_X5_broken_39 (J _ (am_bt c).symm)
    refine r_X5_broken_16 ?_
    simp only [mo_ty, mo_f39, mo_t1, mo_n1, mo_a1, ms_r5 (k := (320230 + 183 * x1) + 28) (p := x1) (i := 28) (by omega) (by omega) (by omega), true_or, or_true, true_and]
    refine ⟨a446, (by omega), ⟨fun c => ?_, fun c => ?_⟩⟩
    · exact r_X5_broken_27 (J _ (am_bf (by omega)).symm)
    · exact r_X5_broken_25 (J _ (am_bt c).symm)
  · replace c := am_b0 c
    replace H := H.2 c
    refine r_X5_broken_5 ?_
    refine r_X5_broken_8 ?_
    simp only [mo_ty, mo_si, true_or, or_true, true_and]
    refine ?_
    refine r_X5_broken_9 ?_
    simp only [mo_ty, mo_i, am_up_eq, true_or, or_true, true_and, Int.reduceLE, Int.reduceLT, Int.reduceEq, Int.reduceNe, ne_eq, false_imp_iff, true_imp_iff, and_true, true_and, not_true_eq_false, not_false_eq_true, not_true, Int.reduceNeg]
    refine ?_
    refine r_X5_broken_12 ?_
    exact ⟨(by decide), H⟩
theorem w_page_0 {d : Nat} {Q : am_K} {b : am_H} {r : Nat} {S : am_G} {V : Nat → Int → Int} {W : Nat → Int} {x1 : Int} {x2 : Int} {x3 : Int} (H : (0 ≤ x1 ∧ x1 < 6 → (¬ (1 ≤ x2 ∧ x2 ≤ 3) → Q (.inl none) (mo b r (ms S) V (am_up W 38 2))) ∧ (1 ≤ x2 ∧ x2 ≤ 3 → (1 ≤ x3 ∧ x3 ≤ 60 → ((-2147483648 ≤ 185 * x1 ∧ 185 * x1 ≤ 2147483647) ∧ (-2147483648 ≤ 327382 + (185 * x1) ∧ 327382 + (185 * x1) ≤ 2147483647) ∧ (0 ≤ x1 ∧ x1 < 6)) ∧ (((-2147483648 ≤ 185 * x1 ∧ 185 * x1 ≤ 2147483647) ∧ (-2147483648 ≤ 327382 + (185 * x1) ∧ 327382 + (185 * x1) ≤ 2147483647) ∧ (-2147483648 ≤ (327382 + (185 * x1)) + 1 ∧ (327382 + (185 * x1)) + 1 ≤ 2147483647) ∧ (0 ≤ x1 ∧ x1 < 6)) ∧ (Q (.inl none) (mo b r (ms (u3 (u3 S 8 x1 0 x2) 8 x1 1 x3)) V (am_up W 38 0))))) ∧ (¬ (1 ≤ x3 ∧ x3 ≤ 60) → Q (.inl none) (mo b r (ms S) V (am_up W 38 2))))) ∧ (¬ (0 ≤ x1 ∧ x1 < 6) → Q (.inl none) (mo b r (ms S) V (am_up W 38 1)))) : am_W m_X5_page (am_ev am_prog (d + 3)) Q 0 [some (.inr (.inl r)), some (.inl x1), some (.inl x2), some (.inl x3)] [] (mo b r (ms S) V W) := by
  refine r_X5_page_0 ?_
  refine ?_
  refine c_isPage (am_av ?_)
  refine r_X5_page_3 ?_
  refine ⟨fun c => ?_, fun c => ?_⟩
  · replace c := am_b1 c
    replace H := H.1 c
    refine r_X5_page_6 ?_
    refine ?_
    refine c_isIn (am_av ?_)
    refine r_X5_page_10 ?_
    refine ⟨fun c => ?_, fun c => ?_⟩
    · replace c := am_b0 c
      replace H := H.1 c
      refine r_X5_page_16 ?_
      refine r_X5_page_19 ?_
      simp only [mo_ty, mo_si, true_or, or_true, true_and]
      refine ?_
      refine r_X5_page_20 ?_
      simp only [mo_ty, mo_i, am_up_eq, true_or, or_true, true_and, Int.reduceLE, Int.reduceLT, Int.reduceEq, Int.reduceNe, ne_eq, false_imp_iff, true_imp_iff, and_true, true_and, not_true_eq_false, not_false_eq_true, not_true, Int.reduceNeg]
      refine ?_
      refine r_X5_page_23 ?_
      exact H
    · replace c := am_b1 c
      replace H := H.2 c
      refine r_X5_page_11 ?_
      refine ?_
      refine c_isIn (am_av ?_)
      refine r_X5_page_15 ?_
      refine ⟨fun c => ?_, fun c => ?_⟩
      · replace c := am_b1 c
        replace H := H.1 c
        refine r_X5_page_18 ?_
        refine r_X5_page_19 ?_
        simp only [mo_ty, mo_si, true_or, or_true, true_and]
        refine ?_
        refine r_X5_page_20 ?_
        simp only [mo_ty, mo_i, am_up_eq, true_or, or_true, true_and, Int.reduceLE, Int.reduceLT, Int.reduceEq, Int.reduceNe, ne_eq, false_imp_iff, true_imp_iff, and_true, true_and, not_true_eq_false, not_false_eq_true, not_true, Int.reduceNeg]
        refine ?_
        obtain ⟨⟨a450, a451, a452⟩, H⟩ := H
        refine r_X5_page_24 ?_
        simp only [mo_ty, mo_f39, mo_t1, mo_n1, mo_s1, ms_w8 (k := 327382 + (185 * x1)) (p := x1) (i := 0) (by omega) (by omega) (by omega), true_or, or_true, true_and]
        refine ⟨a450, a451, (by omega), ?_⟩
        obtain ⟨⟨a453, a454, a455, a456⟩, H⟩ := H
        refine r_X5_page_33 ?_
        simp only [mo_ty, mo_f39, mo_t1, mo_n1, mo_s1, ms_w8 (k := (327382 + (185 * x1)) + 1) (p := x1) (i := 1) (by omega) (by omega) (by omega), true_or, or_true, true_and]
        refine ⟨a453, a454, a455, (by omega), ?_⟩
        refine r_X5_page_44 ?_
        exact H
      · replace c := am_b0 c
        replace H := H.2 c
        refine r_X5_page_16 ?_
        refine r_X5_page_19 ?_
        simp only [mo_ty, mo_si, true_or, or_true, true_and]
        refine ?_
        refine r_X5_page_20 ?_
        simp only [mo_ty, mo_i, am_up_eq, true_or, or_true, true_and, Int.reduceLE, Int.reduceLT, Int.reduceEq, Int.reduceNe, ne_eq, false_imp_iff, true_imp_iff, and_true, true_and, not_true_eq_false, not_false_eq_true, not_true, Int.reduceNeg]
        refine ?_
        refine r_X5_page_23 ?_
        exact H
  · replace c := am_b0 c
    replace H := H.2 c
    refine r_X5_page_4 ?_
    refine r_X5_page_19 ?_
    simp only [mo_ty, mo_si, true_or, or_true, true_and]
    refine ?_
    refine r_X5_page_20 ?_
    simp only [mo_ty, mo_i, am_up_eq, true_or, or_true, true_and, Int.reduceLE, Int.reduceLT, Int.reduceEq, Int.reduceNe, ne_eq, false_imp_iff, true_imp_iff, and_true, true_and, not_true_eq_false, not_false_eq_true, not_true, Int.reduceNeg]
    refine ?_
    refine r_X5_page_23 ?_
    exact H
theorem w_width_0 {d : Nat} {Q : am_K} {b : am_H} {r : Nat} {S : am_G} {V : Nat → Int → Int} {W : Nat → Int} {x1 : Int} {x2 : Int} {x3 : Int} (H : (¬ (0 ≤ x1 ∧ x1 ≤ 1) → Q (.inl none) (mo b r (ms S) V (am_up W 38 1))) ∧ (0 ≤ x1 ∧ x1 ≤ 1 → (0 ≤ x2 ∧ x2 ≤ 26 → (1 ≤ x3 ∧ x3 ≤ 20 → ((-2147483648 ≤ 27 * x1 ∧ 27 * x1 ≤ 2147483647) ∧ (-2147483648 ≤ 16 + (27 * x1) ∧ 16 + (27 * x1) ≤ 2147483647) ∧ (-2147483648 ≤ (16 + (27 * x1)) + x2 ∧ (16 + (27 * x1)) + x2 ≤ 2147483647) ∧ (0 ≤ x1 ∧ x1 < 2) ∧ (0 ≤ x2 ∧ x2 < 27)) ∧ (Q (.inl none) (mo b r (ms (u3 S 1 x1 x2 x3)) V (am_up W 38 0)))) ∧ (¬ (1 ≤ x3 ∧ x3 ≤ 20) → Q (.inl none) (mo b r (ms S) V (am_up W 38 2)))) ∧ (¬ (0 ≤ x2 ∧ x2 ≤ 26) → Q (.inl none) (mo b r (ms S) V (am_up W 38 1))))) : am_W m_X5_width (am_ev am_prog (d + 3)) Q 0 [some (.inr (.inl r)), some (.inl x1), some (.inl x2), some (.inl x3)] [] (mo b r (ms S) V W) := by
  refine r_X5_width_0 ?_
  refine ?_
  refine c_isIn (am_av ?_)
  refine r_X5_width_5 ?_
  refine ⟨fun c => ?_, fun c => ?_⟩
  · replace c := am_b0 c
    replace H := H.1 c
    refine r_X5_width_11 ?_
    refine r_X5_width_21 ?_
    simp only [mo_ty, mo_si, true_or, or_true, true_and]
    refine ?_
    refine r_X5_width_22 ?_
    simp only [mo_ty, mo_i, am_up_eq, true_or, or_true, true_and, Int.reduceLE, Int.reduceLT, Int.reduceEq, Int.reduceNe, ne_eq, false_imp_iff, true_imp_iff, and_true, true_and, not_true_eq_false, not_false_eq_true, not_true, Int.reduceNeg]
    refine ?_
    refine r_X5_width_36 ?_
    exact H
  · replace c := am_b1 c
    replace H := H.2 c
    refine r_X5_width_6 ?_
    refine ?_
    refine c_isIn (am_av ?_)
    refine r_X5_width_10 ?_
    refine ⟨fun c => ?_, fun c => ?_⟩
    · replace c := am_b1 c
      replace H := H.1 c
      refine r_X5_width_13 ?_
      refine ?_
      refine c_isIn (am_av ?_)
      refine r_X5_width_17 ?_
      refine ⟨fun c => ?_, fun c => ?_⟩
      · replace c := am_b1 c
        replace H := H.1 c
        refine r_X5_width_20 ?_
        refine r_X5_width_21 ?_
        simp only [mo_ty, mo_si, true_or, or_true, true_and]
        refine ?_
        refine r_X5_width_22 ?_
        simp only [mo_ty, mo_i, am_up_eq, true_or, or_true, true_and, Int.reduceLE, Int.reduceLT, Int.reduceEq, Int.reduceNe, ne_eq, false_imp_iff, true_imp_iff, and_true, true_and, not_true_eq_false, not_false_eq_true, not_true, Int.reduceNeg]
        refine ?_
        obtain ⟨⟨a457, a458, a459, a460, a461⟩, H⟩ := H
        refine r_X5_width_25 ?_
        simp only [mo_ty, mo_f39, mo_t1, mo_n1, mo_s1, ms_w1 (k := (16 + (27 * x1)) + x2) (p := x1) (i := x2) (by omega) (by omega) (by omega), true_or, or_true, true_and]
        refine ⟨a457, a458, a459, (by omega), ?_⟩
        refine r_X5_width_36 ?_
        exact H
      · replace c := am_b0 c
        replace H := H.2 c
        refine r_X5_width_18 ?_
        refine r_X5_width_21 ?_
        simp only [mo_ty, mo_si, true_or, or_true, true_and]
        refine ?_
        refine r_X5_width_22 ?_
        simp only [mo_ty, mo_i, am_up_eq, true_or, or_true, true_and, Int.reduceLE, Int.reduceLT, Int.reduceEq, Int.reduceNe, ne_eq, false_imp_iff, true_imp_iff, and_true, true_and, not_true_eq_false, not_false_eq_true, not_true, Int.reduceNeg]
        refine ?_
        refine r_X5_width_36 ?_
        exact H
    · replace c := am_b0 c
      replace H := H.2 c
      refine r_X5_width_11 ?_
      refine r_X5_width_21 ?_
      simp only [mo_ty, mo_si, true_or, or_true, true_and]
      refine ?_
      refine r_X5_width_22 ?_
      simp only [mo_ty, mo_i, am_up_eq, true_or, or_true, true_and, Int.reduceLE, Int.reduceLT, Int.reduceEq, Int.reduceNe, ne_eq, false_imp_iff, true_imp_iff, and_true, true_and, not_true_eq_false, not_false_eq_true, not_true, Int.reduceNeg]
      refine ?_
      refine r_X5_width_36 ?_
      exact H
theorem w_brass_0 {d : Nat} {Q : am_K} {b : am_H} {r : Nat} {S : am_G} {V : Nat → Int → Int} {W : Nat → Int} {x1 : Int} {x2 : Int} {x3 : Int} (H : (¬ (0 ≤ x1 ∧ x1 < S 0 0 3) → Q (.inl (some (.inl 0))) (mo b r (ms S) V (am_up W 38 1))) ∧ (0 ≤ x1 ∧ x1 < S 0 0 3 → (0 ≤ x2 ∧ x2 ≤ 26 → (0 ≤ x3 ∧ x3 ≤ 40 → ((0 ≤ x1 ∧ x1 < 2000000)) ∧ (((-2147483648 ≤ (320230 + 183 * x1) + x2 ∧ (320230 + 183 * x1) + x2 ≤ 2147483647) ∧ (0 ≤ x1 ∧ x1 < 4) ∧ (0 ≤ x2 ∧ x2 < 183)) ∧ (((-2147483648 ≤ (S 0 0 0) + 1 ∧ (S 0 0 0) + 1 ≤ 2147483647)) ∧ (am_ev am_prog (d + 3) 181 [.inr (.inl r), .inl x1, .inl x2, .inl ((S 0 0 0) + 1)] (mo b r (ms (u3 S 5 x1 x2 x3)) V (am_up W 38 0)) (am_aft (am_hand m_X5_brass Q (am_W m_X5_brass (am_ev am_prog (d + 3)) Q) 43) (am_W m_X5_brass (am_ev am_prog (d + 3)) Q) 43 [some (.inr (.inl r)), some (.inl x1), some (.inl x2), some (.inl x3)] []))))) ∧ (¬ (0 ≤ x3 ∧ x3 ≤ 40) → Q (.inl (some (.inl 0))) (mo b r (ms S) V (am_up W 38 2)))) ∧ (¬ (0 ≤ x2 ∧ x2 ≤ 26) → Q (.inl (some (.inl 0))) (mo b r (ms S) V (am_up W 38 1))))) : am_W m_X5_brass (am_ev am_prog (d + 3)) Q 0 [some (.inr (.inl r)), some (.inl x1), some (.inl x2), some (.inl x3)] [] (mo b r (ms S) V W) := by
  refine r_X5_brass_0 ?_
  simp only [mo_ty, true_or, or_true, true_and]
  refine ?_
  refine c_isMachine (am_av ?_)
  refine r_X5_brass_4 ?_
  refine ⟨fun c => ?_, fun c => ?_⟩
  · replace c := am_b0 c
    replace H := H.1 c
    refine r_X5_brass_10 ?_
    refine r_X5_brass_20 ?_
    simp only [mo_ty, mo_si, true_or, or_true, true_and]
    refine ?_
    refine r_X5_brass_21 ?_
    simp only [mo_ty, mo_i, am_up_eq, true_or, or_true, true_and, Int.reduceLE, Int.reduceLT, Int.reduceEq, Int.reduceNe, ne_eq, false_imp_iff, true_imp_iff, and_true, true_and, not_true_eq_false, not_false_eq_true, not_true, Int.reduceNeg]
    refine ?_
    refine r_X5_brass_24 ?_
    exact H
  · replace c := am_b1 c
    replace H := H.2 c
    refine r_X5_brass_5 ?_
    refine ?_
    refine c_isIn (am_av ?_)
    refine r_X5_brass_9 ?_
    refine ⟨fun c => ?_, fun c => ?_⟩
    · replace c := am_b1 c
      replace H := H.1 c
      refine r_X5_brass_12 ?_
      refine ?_
      refine c_isIn (am_av ?_)
      refine r_X5_brass_16 ?_
      refine ⟨fun c => ?_, fun c => ?_⟩
      · replace c := am_b1 c
        replace H := H.1 c
        refine r_X5_brass_19 ?_
        refine r_X5_brass_20 ?_
        simp only [mo_ty, mo_si, true_or, or_true, true_and]
        refine ?_
        refine r_X5_brass_21 ?_
        simp only [mo_ty, mo_i, am_up_eq, true_or, or_true, true_and, Int.reduceLE, Int.reduceLT, Int.reduceEq, Int.reduceNe, ne_eq, false_imp_iff, true_imp_iff, and_true, true_and, not_true_eq_false, not_false_eq_true, not_true, Int.reduceNeg]
        refine ?_
        refine r_X5_brass_26 ?_
        simp only [mo_ty, mo_f39, true_or, or_true, true_and]
        refine ?_
        obtain ⟨a462, H⟩ := H
        refine c_machine0 (by omega) (am_av ?_)
        obtain ⟨⟨a463, a464, a465⟩, H⟩ := H
        refine r_X5_brass_30 ?_
        simp only [mo_t1, mo_n1, mo_s1, ms_w5 (k := (320230 + 183 * x1) + x2) (p := x1) (i := x2) (by omega) (by omega) (by omega), true_or, or_true, true_and]
        refine ⟨a463, (by omega), ?_⟩
        obtain ⟨a466, H⟩ := H
        refine r_X5_brass_34 ?_
        simp only [mo_ty, mo_f39, mo_t1, mo_n1, mo_a1, ms_r0 (k := 0) (p := 0) (i := 0) (by omega) (by omega) (by omega), u3_nc (by decide : (0 : Nat) ≠ 5), true_or, or_true, true_and]
        exact ⟨(by omega), a466, H⟩
      · replace c := am_b0 c
        replace H := H.2 c
        refine r_X5_brass_17 ?_
        refine r_X5_brass_20 ?_
        simp only [mo_ty, mo_si, true_or, or_true, true_and]
        refine ?_
        refine r_X5_brass_21 ?_
        simp only [mo_ty, mo_i, am_up_eq, true_or, or_true, true_and, Int.reduceLE, Int.reduceLT, Int.reduceEq, Int.reduceNe, ne_eq, false_imp_iff, true_imp_iff, and_true, true_and, not_true_eq_false, not_false_eq_true, not_true, Int.reduceNeg]
        refine ?_
        refine r_X5_brass_24 ?_
        exact H
    · replace c := am_b0 c
      replace H := H.2 c
      refine r_X5_brass_10 ?_
      refine r_X5_brass_20 ?_
      simp only [mo_ty, mo_si, true_or, or_true, true_and]
      refine ?_
      refine r_X5_brass_21 ?_
      simp only [mo_ty, mo_i, am_up_eq, true_or, or_true, true_and, Int.reduceLE, Int.reduceLT, Int.reduceEq, Int.reduceNe, ne_eq, false_imp_iff, true_imp_iff, and_true, true_and, not_true_eq_false, not_false_eq_true, not_true, Int.reduceNeg]
      refine ?_
      refine r_X5_brass_24 ?_
      exact H
theorem w_brass_44 {d : Nat} {Q : am_K} {b : am_H} {r : Nat} {S : am_G} {V : Nat → Int → Int} {W : Nat → Int} {x1 : Int} {x2 : Int} {x3 : Int} {y0 : Int} (H : Q (.inl (some (.inl y0))) (mo b r (ms S) V W)) : am_W m_X5_brass (am_ev am_prog (d + 3)) Q 44 [some (.inr (.inl r)), some (.inl x1), some (.inl x2), some (.inl x3)] [.inl y0] (mo b r (ms S) V W) := by
  refine r_X5_brass_44 ?_
  exact H
theorem w_pay_0 {d : Nat} {Q : am_K} {b : am_H} {r : Nat} {S : am_G} {V : Nat → Int → Int} {W : Nat → Int} {x1 : Int} {x2 : Int} {x3 : Int} {o4 : Option am_V} {o5 : Option am_V} {o6 : Option am_V} {o7 : Option am_V} {o8 : Option am_V} (H : (0 ≤ x1 ∧ x1 < S 0 0 3 → am_W m_X5_pay (am_ev am_prog (d + 3)) Q 18 [some (.inr (.inl r)), some (.inl x1), some (.inl x2), some (.inl x3), some (.inl 0), some (.inl 0), o6, o7, o8] [] (mo b r (ms S) V (am_up W 38 0))) ∧ (¬ (0 ≤ x1 ∧ x1 < S 0 0 3) → Q (.inl (some (.inl 0))) (mo b r (ms S) V (am_up W 38 1)))) : am_W m_X5_pay (am_ev am_prog (d + 3)) Q 0 [some (.inr (.inl r)), some (.inl x1), some (.inl x2), some (.inl x3), o4, o5, o6, o7, o8] [] (mo b r (ms S) V W) := by
  refine r_X5_pay_0 ?_
  simp only [mo_ty, true_or, or_true, true_and]
  refine ?_
  refine c_isMachine (am_av ?_)
  refine r_X5_pay_4 ?_
  refine ⟨fun c => ?_, fun c => ?_⟩
  · replace c := am_b1 c
    replace H := H.1 c
    refine r_X5_pay_7 ?_
    refine r_X5_pay_8 ?_
    simp only [mo_ty, mo_si, true_or, or_true, true_and]
    refine ?_
    refine r_X5_pay_9 ?_
    simp only [mo_ty, mo_i, am_up_eq, true_or, or_true, true_and, Int.reduceLE, Int.reduceLT, Int.reduceEq, Int.reduceNe, ne_eq, false_imp_iff, true_imp_iff, and_true, true_and, not_true_eq_false, not_false_eq_true, not_true, Int.reduceNeg]
    refine ?_
    refine r_X5_pay_14 ?_
    exact H
  · replace c := am_b0 c
    replace H := H.2 c
    refine r_X5_pay_5 ?_
    refine r_X5_pay_8 ?_
    simp only [mo_ty, mo_si, true_or, or_true, true_and]
    refine ?_
    refine r_X5_pay_9 ?_
    simp only [mo_ty, mo_i, am_up_eq, true_or, or_true, true_and, Int.reduceLE, Int.reduceLT, Int.reduceEq, Int.reduceNe, ne_eq, false_imp_iff, true_imp_iff, and_true, true_and, not_true_eq_false, not_false_eq_true, not_true, Int.reduceNeg]
    refine ?_
    refine r_X5_pay_12 ?_
    exact H
theorem w_pay_18 {d : Nat} {Q : am_K} {b : am_H} {r : Nat} {S : am_G} {V : Nat → Int → Int} {W : Nat → Int} {x1 : Int} {x2 : Int} {x3 : Int} {x4 : Int} {x5 : Int} {o6 : Option am_V} {o7 : Option am_V} {o8 : Option am_V} (H : (S 0 0 4 ≤ x5 → ((0 ≤ x4 ∧ x4 ≤ 2147483647)) ∧ (Q (.inl (some (.inl (x4 / 10)))) (mo b r (ms S) V W))) ∧ (x5 < S 0 0 4 → ((0 ≤ x5 ∧ x5 < 2000000)) ∧ (((-2147483648 ≤ (64630 + 852 * x5) + 1 ∧ (64630 + 852 * x5) + 1 ≤ 2147483647) ∧ (0 ≤ x5 ∧ x5 < 300)) ∧ ((S 4 x5 1 ≠ x1 → ((-2147483648 ≤ x5 + 1 ∧ x5 + 1 ≤ 2147483647)) ∧ (am_W m_X5_pay (am_ev am_prog (d + 3)) Q 18 [some (.inr (.inl r)), some (.inl x1), some (.inl x2), some (.inl x3), some (.inl x4), some (.inl (x5 + 1)), some (.inl (64630 + 852 * x5)), o7, o8] [] (mo b r (ms S) V W))) ∧ (S 4 x5 1 = x1 → ((-2147483648 ≤ (64630 + 852 * x5) + 2 ∧ (64630 + 852 * x5) + 2 ≤ 2147483647) ∧ (0 ≤ x5 ∧ x5 < 300)) ∧ ((x2 ≤ S 4 x5 2 ∧ S 4 x5 2 ≤ x3 → ((-2147483648 ≤ (64630 + 852 * x5) + 2 ∧ (64630 + 852 * x5) + 2 ≤ 2147483647) ∧ (0 ≤ x5 ∧ x5 < 300)) ∧ (am_ev am_prog (d + 3) 141 [.inr (.inl r), .inl (S 4 x5 2)] (mo b r (ms S) V W) (am_aft (am_hand m_X5_pay Q (am_W m_X5_pay (am_ev am_prog (d + 3)) Q) 53) (am_W m_X5_pay (am_ev am_prog (d + 3)) Q) 53 [some (.inr (.inl r)), some (.inl x1), some (.inl x2), some (.inl x3), some (.inl x4), some (.inl x5), some (.inl (64630 + 852 * x5)), o7, o8] []))) ∧ (¬ (x2 ≤ S 4 x5 2 ∧ S 4 x5 2 ≤ x3) → ((-2147483648 ≤ x5 + 1 ∧ x5 + 1 ≤ 2147483647)) ∧ (am_W m_X5_pay (am_ev am_prog (d + 3)) Q 18 [some (.inr (.inl r)), some (.inl x1), some (.inl x2), some (.inl x3), some (.inl x4), some (.inl (x5 + 1)), some (.inl (64630 + 852 * x5)), o7, o8] [] (mo b r (ms S) V W))))))))) : am_W m_X5_pay (am_ev am_prog (d + 3)) Q 18 [some (.inr (.inl r)), some (.inl x1), some (.inl x2), some (.inl x3), some (.inl x4), some (.inl x5), o6, o7, o8] [] (mo b r (ms S) V W) := by
  refine r_X5_pay_18 ?_
  simp only [mo_ty, mo_f39, mo_t1, mo_n1, mo_a1, ms_r0 (k := 4) (p := 0) (i := 4) (by omega) (by omega) (by omega), true_or, or_true, true_and]
  refine ⟨(by omega), ⟨fun c => ?_, fun c => ?_⟩⟩
  · replace H := H.1 c
    obtain ⟨a467, H⟩ := H
    refine r_X5_pay_139 ?_
    simp only [am_td (x := x4) (y := 10) (by omega), am_tm (x := x4) (y := 10) (by omega), true_or, or_true, true_and]
    exact ⟨⟨by decide, am_dk (by omega) (by omega)⟩, H⟩
  · replace H := H.2 c
    refine r_X5_pay_24 ?_
    refine ?_
    obtain ⟨a468, H⟩ := H
    refine c_slug0 (by omega) (am_av ?_)
    obtain ⟨⟨a469, a470⟩, H⟩ := H
    refine r_X5_pay_26 ?_
    simp only [mo_ty, mo_f39, mo_t1, mo_n1, mo_a1, ms_r4 (k := (64630 + 852 * x5) + 1) (p := x5) (i := 1) (by omega) (by omega) (by omega), true_or, or_true, true_and]
    refine ⟨a469, (by omega), ⟨fun c => ?_, fun c => ?_⟩⟩
    · replace H := H.1 c
      obtain ⟨a471, H⟩ := H
      refine r_X5_pay_137 ?_
      refine ⟨a471, ?_⟩
      exact H
    · replace H := H.2 c
      obtain ⟨⟨a472, a473⟩, H⟩ := H
      refine r_X5_pay_35 ?_
      simp only [mo_ty, mo_f39, mo_t1, mo_n1, mo_a1, ms_r4 (k := (64630 + 852 * x5) + 2) (p := x5) (i := 2) (by omega) (by omega) (by omega), true_or, or_true, true_and]
      refine ⟨a472, (by omega), ?_⟩
      refine c_isIn (am_av ?_)
      refine r_X5_pay_44 ?_
      refine ⟨fun c => ?_, fun c => ?_⟩
      · replace c := am_b1 c
        replace H := H.1 c
        obtain ⟨⟨a474, a475⟩, H⟩ := H
        refine r_X5_pay_46 ?_
        simp only [mo_ty, mo_f39, mo_t1, mo_n1, mo_a1, ms_r4 (k := (64630 + 852 * x5) + 2) (p := x5) (i := 2) (by omega) (by omega) (by omega), true_or, or_true, true_and]
        exact ⟨a474, (by omega), H⟩
      · replace c := am_b0 c
        replace H := H.2 c
        refine r_X5_pay_45 ?_
        obtain ⟨a476, H⟩ := H
        refine r_X5_pay_137 ?_
        refine ⟨a476, ?_⟩
        exact H
theorem w_pay_54 {d : Nat} {Q : am_K} {b : am_H} {r : Nat} {S : am_G} {V : Nat → Int → Int} {W : Nat → Int} {x1 : Int} {x2 : Int} {x3 : Int} {x4 : Int} {x5 : Int} {p6 : Int} {o7 : Option am_V} {o8 : Option am_V} {y0 : Int} (H : ((-2147483648 ≤ (64630 + 852 * p6) + 0 ∧ (64630 + 852 * p6) + 0 ≤ 2147483647) ∧ (0 ≤ p6 ∧ p6 < 300) ∧ (-2147483648 ≤ (64630 + 852 * p6) + 2 ∧ (64630 + 852 * p6) + 2 ≤ 2147483647)) ∧ (am_ev am_prog (d + 3) 182 [.inr (.inl r), .inl (S 4 p6 0), .inl (S 4 p6 2)] (mo b r (ms S) V W) (am_aft (am_hand m_X5_pay Q (am_W m_X5_pay (am_ev am_prog (d + 3)) Q) 68) (am_W m_X5_pay (am_ev am_prog (d + 3)) Q) 68 [some (.inr (.inl r)), some (.inl x1), some (.inl x2), some (.inl x3), some (.inl x4), some (.inl x5), some (.inl (64630 + 852 * p6)), some (.inl y0), o8] []))) : am_W m_X5_pay (am_ev am_prog (d + 3)) Q 54 [some (.inr (.inl r)), some (.inl x1), some (.inl x2), some (.inl x3), some (.inl x4), some (.inl x5), some (.inl (64630 + 852 * p6)), o7, o8] [.inl y0] (mo b r (ms S) V W) := by
  obtain ⟨⟨a477, a478, a479⟩, H⟩ := H
  refine r_X5_pay_54 ?_
  simp only [mo_ty, mo_f39, mo_t1, mo_n1, mo_a1, ms_r4 (k := (64630 + 852 * p6) + 0) (p := p6) (i := 0) (by omega) (by omega) (by omega), ms_r4 (k := (64630 + 852 * p6) + 2) (p := p6) (i := 2) (by omega) (by omega) (by omega), true_or, or_true, true_and]
  exact ⟨a477, (by omega), a479, (by omega), H⟩
theorem w_pay_69 {d : Nat} {Q : am_K} {b : am_H} {r : Nat} {S : am_G} {V : Nat → Int → Int} {W : Nat → Int} {x1 : Int} {x2 : Int} {x3 : Int} {x4 : Int} {x5 : Int} {p6 : Int} {x7 : Int} {o8 : Option am_V} (H : ((-2147483648 ≤ (64630 + 852 * p6) + 7 ∧ (64630 + 852 * p6) + 7 ≤ 2147483647) ∧ (0 ≤ p6 ∧ p6 < 300)) ∧ (((-2147483648 ≤ (64630 + 852 * p6) + 3 ∧ (64630 + 852 * p6) + 3 ≤ 2147483647) ∧ (0 ≤ p6 ∧ p6 < 300)) ∧ (am_ev am_prog (d + 3) 183 [.inr (.inl r), .inl x7, .inl 5] (mo b r (ms S) (am_up (am_up V 11 (am_uz (V 11) 2 (am_b ((S 4 p6 7 : Int) = 1)))) 12 (am_uz (am_uz (V 12) 4 (S 4 p6 3)) 5 x1)) W) (am_aft (am_hand m_X5_pay Q (am_W m_X5_pay (am_ev am_prog (d + 3)) Q) 102) (am_W m_X5_pay (am_ev am_prog (d + 3)) Q) 102 [some (.inr (.inl r)), some (.inl x1), some (.inl x2), some (.inl x3), some (.inl x4), some (.inl x5), some (.inl (64630 + 852 * p6)), some (.inl x7), o8] [])))) : am_W m_X5_pay (am_ev am_prog (d + 3)) Q 69 [some (.inr (.inl r)), some (.inl x1), some (.inl x2), some (.inl x3), some (.inl x4), some (.inl x5), some (.inl (64630 + 852 * p6)), some (.inl x7), o8] [] (mo b r (ms S) V W) := by
  obtain ⟨⟨a480, a481⟩, H⟩ := H
  have J : ∀ y : Int, y = am_b ((S 4 p6 7 : Int) = 1) → am_W m_X5_pay (am_ev am_prog (d + 3)) Q 83 [some (.inr (.inl r)), some (.inl x1), some (.inl x2), some (.inl x3), some (.inl x4), some (.inl x5), some (.inl (64630 + 852 * p6)), some (.inl x7), o8] [.inl y, .inl 2, .inr (.inl (r + 11))] (mo b r (ms S) V W) := by
    intro y hy
    subst hy
    refine r_X5_pay_83 ?_
    simp only [mo_t11, mo_n11, mo_s11, am_nzb, true_or, or_true, true_and]
    refine ⟨(by decide), ?_⟩
    obtain ⟨⟨a482, a483⟩, H⟩ := H
    refine r_X5_pay_84 ?_
    simp only [mo_ty, mo_f60, mo_f39, mo_t1, mo_n1, mo_a1, ms_r4 (k := (64630 + 852 * p6) + 3) (p := p6) (i := 3) (by omega) (by omega) (by omega), mo_t12, mo_n12, mo_s12, am_up_ne (by decide : (12 : Nat) ≠ 11), true_or, or_true, true_and]
    refine ⟨a482, (by omega), (by decide), ?_⟩
    refine r_X5_pay_94 ?_
    simp only [mo_ty, mo_f60, mo_t12, mo_n12, mo_s12, am_up_ne (by decide : (12 : Nat) ≠ 11), am_up_eq, am_up_up, true_or, or_true, true_and]
    refine ⟨(by decide), ?_⟩
    refine r_X5_pay_99 ?_
    simp only [mo_ty, true_or, or_true, true_and]
    exact H
  refine r_X5_pay_69 ?_
  simp only [mo_ty, mo_f59, mo_f39, mo_t1, mo_n1, mo_a1, ms_r4 (k := (64630 + 852 * p6) + 7) (p := p6) (i := 7) (by omega) (by omega) (by omega), true_or, or_true, true_and]
  refine ⟨a480, (by omega), ⟨fun c => ?_, fun c => ?_⟩⟩
  · exact r_X5_pay_82 (J _ (am_bf (by omega)).symm)
  · exact r_X5_pay_80 (J _ (am_bt c).symm)
theorem w_pay_103 {d : Nat} {Q : am_K} {b : am_H} {r : Nat} {S : am_G} {V : Nat → Int → Int} {W : Nat → Int} {x1 : Int} {x2 : Int} {x3 : Int} {x4 : Int} {x5 : Int} {p6 : Int} {x7 : Int} {o8 : Option am_V} {y0 : Int} (H : ((y0 : Int) = (-1) → ((-2147483648 ≤ (64630 + 852 * p6) + 3 ∧ (64630 + 852 * p6) + 3 ≤ 2147483647) ∧ (0 ≤ p6 ∧ p6 < 300)) ∧ (am_ev am_prog (d + 3) 183 [.inr (.inl r), .inl x7, .inl 3] (mo b r (ms S) V W) (am_aft (am_hand m_X5_pay Q (am_W m_X5_pay (am_ev am_prog (d + 3)) Q) 117) (am_W m_X5_pay (am_ev am_prog (d + 3)) Q) 117 [some (.inr (.inl r)), some (.inl x1), some (.inl x2), some (.inl x3), some (.inl x4), some (.inl x5), some (.inl (64630 + 852 * p6)), some (.inl x7), o8] [.inl x7, .inr (.inl r), .inl (S 4 p6 3)]))) ∧ ((y0 : Int) ≠ (-1) → ((-2147483648 ≤ x5 + 1 ∧ x5 + 1 ≤ 2147483647)) ∧ (am_W m_X5_pay (am_ev am_prog (d + 3)) Q 18 [some (.inr (.inl r)), some (.inl x1), some (.inl x2), some (.inl x3), some (.inl x4), some (.inl (x5 + 1)), some (.inl (64630 + 852 * p6)), some (.inl x7), o8] [] (mo b r (ms S) V W)))) : am_W m_X5_pay (am_ev am_prog (d + 3)) Q 103 [some (.inr (.inl r)), some (.inl x1), some (.inl x2), some (.inl x3), some (.inl x4), some (.inl x5), some (.inl (64630 + 852 * p6)), some (.inl x7), o8] [.inl y0] (mo b r (ms S) V W) := by
  refine r_X5_pay_103 ?_
  refine ⟨fun c => ?_, fun c => ?_⟩
  · replace H := H.1 c
    obtain ⟨⟨a484, a485⟩, H⟩ := H
    refine r_X5_pay_106 ?_
    simp only [mo_ty, mo_f39, mo_t1, mo_n1, mo_a1, ms_r4 (k := (64630 + 852 * p6) + 3) (p := p6) (i := 3) (by omega) (by omega) (by omega), true_or, or_true, true_and]
    exact ⟨a484, (by omega), H⟩
  · replace H := H.2 c
    refine r_X5_pay_105 ?_
    obtain ⟨a486, H⟩ := H
    refine r_X5_pay_137 ?_
    refine ⟨a486, ?_⟩
    exact H
theorem w_pay_118 {d : Nat} {Q : am_K} {b : am_H} {r : Nat} {S : am_G} {V : Nat → Int → Int} {W : Nat → Int} {x1 : Int} {x2 : Int} {x3 : Int} {x4 : Int} {x5 : Int} {x6 : Int} {x7 : Int} {o8 : Option am_V} {y3 : Int} {y2 : Int} {y0 : Int} (H : am_ev am_prog (d + 3) 184 [.inr (.inl r), .inl y2, .inl y3, .inl 1, .inl 0] (mo b r (ms S) V W) (am_aft (am_hand m_X5_pay Q (am_W m_X5_pay (am_ev am_prog (d + 3)) Q) 120) (am_W m_X5_pay (am_ev am_prog (d + 3)) Q) 120 [some (.inr (.inl r)), some (.inl x1), some (.inl x2), some (.inl x3), some (.inl x4), some (.inl x5), some (.inl x6), some (.inl x7), o8] [.inl y0])) : am_W m_X5_pay (am_ev am_prog (d + 3)) Q 118 [some (.inr (.inl r)), some (.inl x1), some (.inl x2), some (.inl x3), some (.inl x4), some (.inl x5), some (.inl x6), some (.inl x7), o8] [.inl y3, .inl y2, .inr (.inl r), .inl y0] (mo b r (ms S) V W) := by
  refine r_X5_pay_118 ?_
  simp only [mo_ty, true_or, or_true, true_and]
  exact H
theorem w_pay_121 {d : Nat} {Q : am_K} {b : am_H} {r : Nat} {S : am_G} {V : Nat → Int → Int} {W : Nat → Int} {x1 : Int} {x2 : Int} {x3 : Int} {x4 : Int} {x5 : Int} {x6 : Int} {x7 : Int} {o8 : Option am_V} {y1 : Int} {y0 : Int} (H : am_ev am_prog (d + 3) 185 [.inl y0, .inl y1] (mo b r (ms S) V W) (am_aft (am_hand m_X5_pay Q (am_W m_X5_pay (am_ev am_prog (d + 3)) Q) 121) (am_W m_X5_pay (am_ev am_prog (d + 3)) Q) 121 [some (.inr (.inl r)), some (.inl x1), some (.inl x2), some (.inl x3), some (.inl x4), some (.inl x5), some (.inl x6), some (.inl x7), o8] [])) : am_W m_X5_pay (am_ev am_prog (d + 3)) Q 121 [some (.inr (.inl r)), some (.inl x1), some (.inl x2), some (.inl x3), some (.inl x4), some (.inl x5), some (.inl x6), some (.inl x7), o8] [.inl y1, .inl y0] (mo b r (ms S) V W) := by
  refine r_X5_pay_121 ?_
  exact H
theorem w_pay_122 {d : Nat} {Q : am_K} {b : am_H} {r : Nat} {S : am_G} {V : Nat → Int → Int} {W : Nat → Int} {x1 : Int} {x2 : Int} {x3 : Int} {x4 : Int} {x5 : Int} {x6 : Int} {x7 : Int} {o8 : Option am_V} {y0 : Int} (H : am_ev am_prog (d + 3) 183 [.inr (.inl r), .inl x7, .inl 4] (mo b r (ms S) V W) (am_aft (am_hand m_X5_pay Q (am_W m_X5_pay (am_ev am_prog (d + 3)) Q) 130) (am_W m_X5_pay (am_ev am_prog (d + 3)) Q) 130 [some (.inr (.inl r)), some (.inl x1), some (.inl x2), some (.inl x3), some (.inl x4), some (.inl x5), some (.inl x6), some (.inl x7), some (.inl y0)] [.inl x7, .inr (.inl r), .inl y0, .inl x4])) : am_W m_X5_pay (am_ev am_prog (d + 3)) Q 122 [some (.inr (.inl r)), some (.inl x1), some (.inl x2), some (.inl x3), some (.inl x4), some (.inl x5), some (.inl x6), some (.inl x7), o8] [.inl y0] (mo b r (ms S) V W) := by
  refine r_X5_pay_122 ?_
  simp only [mo_ty, true_or, or_true, true_and]
  exact H
theorem w_pay_131 {d : Nat} {Q : am_K} {b : am_H} {r : Nat} {S : am_G} {V : Nat → Int → Int} {W : Nat → Int} {x1 : Int} {x2 : Int} {x3 : Int} {x4 : Int} {x5 : Int} {x6 : Int} {x7 : Int} {x8 : Int} {y4 : Int} {y3 : Int} {y1 : Int} {y0 : Int} (H : am_ev am_prog (d + 3) 184 [.inr (.inl r), .inl y3, .inl y4, .inl 1, .inl 0] (mo b r (ms S) V W) (am_aft (am_hand m_X5_pay Q (am_W m_X5_pay (am_ev am_prog (d + 3)) Q) 133) (am_W m_X5_pay (am_ev am_prog (d + 3)) Q) 133 [some (.inr (.inl r)), some (.inl x1), some (.inl x2), some (.inl x3), some (.inl x4), some (.inl x5), some (.inl x6), some (.inl x7), some (.inl x8)] [.inl y1, .inl y0])) : am_W m_X5_pay (am_ev am_prog (d + 3)) Q 131 [some (.inr (.inl r)), some (.inl x1), some (.inl x2), some (.inl x3), some (.inl x4), some (.inl x5), some (.inl x6), some (.inl x7), some (.inl x8)] [.inl y4, .inl y3, .inr (.inl r), .inl y1, .inl y0] (mo b r (ms S) V W) := by
  refine r_X5_pay_131 ?_
  simp only [mo_ty, true_or, or_true, true_and]
  exact H
theorem w_pay_134 {d : Nat} {Q : am_K} {b : am_H} {r : Nat} {S : am_G} {V : Nat → Int → Int} {W : Nat → Int} {x1 : Int} {x2 : Int} {x3 : Int} {x4 : Int} {x5 : Int} {x6 : Int} {x7 : Int} {x8 : Int} {y2 : Int} {y1 : Int} {y0 : Int} (H : ((-2147483648 ≤ y1 * y2 ∧ y1 * y2 ≤ 2147483647) ∧ (-2147483648 ≤ y0 + (y1 * y2) ∧ y0 + (y1 * y2) ≤ 2147483647)) ∧ (((-2147483648 ≤ x5 + 1 ∧ x5 + 1 ≤ 2147483647)) ∧ (am_W m_X5_pay (am_ev am_prog (d + 3)) Q 18 [some (.inr (.inl r)), some (.inl x1), some (.inl x2), some (.inl x3), some (.inl (y0 + (y1 * y2))), some (.inl (x5 + 1)), some (.inl x6), some (.inl x7), some (.inl x8)] [] (mo b r (ms S) V W)))) : am_W m_X5_pay (am_ev am_prog (d + 3)) Q 134 [some (.inr (.inl r)), some (.inl x1), some (.inl x2), some (.inl x3), some (.inl x4), some (.inl x5), some (.inl x6), some (.inl x7), some (.inl x8)] [.inl y2, .inl y1, .inl y0] (mo b r (ms S) V W) := by
  obtain ⟨⟨a487, a488⟩, H⟩ := H
  refine r_X5_pay_134 ?_
  refine ⟨a487, a488, ?_⟩
  obtain ⟨a489, H⟩ := H
  refine r_X5_pay_137 ?_
  refine ⟨a489, ?_⟩
  exact H
theorem w_rule_0 {d : Nat} {Q : am_K} {b : am_H} {r : Nat} {S : am_G} {V : Nat → Int → Int} {W : Nat → Int} {x1 : Int} {x2 : Int} {x3 : Int} (H : ((-2147483648 ≤ x1 ∧ x1 ≤ 2147483647) ∧ S 0 0 1 ≤ 20) ∧ ((0 ≤ x1 ∧ x1 / 5 < S 0 0 1 ∧ x1 % 5 < S 2 2 (x1 / 5) → (0 ≤ x2 ∧ x2 ≤ 600 → (0 ≤ x3 ∧ x3 ≤ 5 → am_ev am_prog (d + 3) 178 [.inr (.inl r), .inl x1, .inl x2] (mo b r (ms S) V (am_up W 38 0)) (am_aft (am_hand m_X5_rule Q (am_W m_X5_rule (am_ev am_prog (d + 3)) Q) 31) (am_W m_X5_rule (am_ev am_prog (d + 3)) Q) 31 [some (.inr (.inl r)), some (.inl x1), some (.inl x2), some (.inl x3)] [])) ∧ (¬ (0 ≤ x3 ∧ x3 ≤ 5) → Q (.inl (some (.inl 0))) (mo b r (ms S) V (am_up W 38 3)))) ∧ (¬ (0 ≤ x2 ∧ x2 ≤ 600) → Q (.inl (some (.inl 0))) (mo b r (ms S) V (am_up W 38 2)))) ∧ (¬ (0 ≤ x1 ∧ x1 / 5 < S 0 0 1 ∧ x1 % 5 < S 2 2 (x1 / 5)) → Q (.inl (some (.inl 0))) (mo b r (ms S) V (am_up W 38 1))))) : am_W m_X5_rule (am_ev am_prog (d + 3)) Q 0 [some (.inr (.inl r)), some (.inl x1), some (.inl x2), some (.inl x3)] [] (mo b r (ms S) V W) := by
  refine r_X5_rule_0 ?_
  simp only [mo_ty, true_or, or_true, true_and]
  refine ?_
  obtain ⟨⟨a490, a491⟩, H⟩ := H
  refine c_isPart (by omega) (by omega) (am_av ?_)
  refine r_X5_rule_4 ?_
  refine ⟨fun c => ?_, fun c => ?_⟩
  · replace c := am_b1 c
    replace H := H.1 c
    refine r_X5_rule_7 ?_
    refine ?_
    refine c_isIn (am_av ?_)
    refine r_X5_rule_11 ?_
    refine ⟨fun c => ?_, fun c => ?_⟩
    · replace c := am_b1 c
      replace H := H.1 c
      refine r_X5_rule_14 ?_
      refine ?_
      refine c_isIn (am_av ?_)
      refine r_X5_rule_18 ?_
      refine ⟨fun c => ?_, fun c => ?_⟩
      · replace c := am_b1 c
        replace H := H.1 c
        refine r_X5_rule_21 ?_
        refine r_X5_rule_22 ?_
        simp only [mo_ty, mo_si, true_or, or_true, true_and]
        refine ?_
        refine r_X5_rule_23 ?_
        simp only [mo_ty, mo_i, am_up_eq, true_or, or_true, true_and, Int.reduceLE, Int.reduceLT, Int.reduceEq, Int.reduceNe, ne_eq, false_imp_iff, true_imp_iff, and_true, true_and, not_true_eq_false, not_false_eq_true, not_true, Int.reduceNeg]
        refine ?_
        refine r_X5_rule_28 ?_
        simp only [mo_ty, true_or, or_true, true_and]
        exact H
      · replace c := am_b0 c
        replace H := H.2 c
        refine r_X5_rule_19 ?_
        refine r_X5_rule_22 ?_
        simp only [mo_ty, mo_si, true_or, or_true, true_and]
        refine ?_
        refine r_X5_rule_23 ?_
        simp only [mo_ty, mo_i, am_up_eq, true_or, or_true, true_and, Int.reduceLE, Int.reduceLT, Int.reduceEq, Int.reduceNe, ne_eq, false_imp_iff, true_imp_iff, and_true, true_and, not_true_eq_false, not_false_eq_true, not_true, Int.reduceNeg]
        refine ?_
        refine r_X5_rule_26 ?_
        exact H
    · replace c := am_b0 c
      replace H := H.2 c
      refine r_X5_rule_12 ?_
      refine r_X5_rule_22 ?_
      simp only [mo_ty, mo_si, true_or, or_true, true_and]
      refine ?_
      refine r_X5_rule_23 ?_
      simp only [mo_ty, mo_i, am_up_eq, true_or, or_true, true_and, Int.reduceLE, Int.reduceLT, Int.reduceEq, Int.reduceNe, ne_eq, false_imp_iff, true_imp_iff, and_true, true_and, not_true_eq_false, not_false_eq_true, not_true, Int.reduceNeg]
      refine ?_
      refine r_X5_rule_26 ?_
      exact H
  · replace c := am_b0 c
    replace H := H.2 c
    refine r_X5_rule_5 ?_
    refine r_X5_rule_22 ?_
    simp only [mo_ty, mo_si, true_or, or_true, true_and]
    refine ?_
    refine r_X5_rule_23 ?_
    simp only [mo_ty, mo_i, am_up_eq, true_or, or_true, true_and, Int.reduceLE, Int.reduceLT, Int.reduceEq, Int.reduceNe, ne_eq, false_imp_iff, true_imp_iff, and_true, true_and, not_true_eq_false, not_false_eq_true, not_true, Int.reduceNeg]
    refine ?_
    refine r_X5_rule_26 ?_
    exact H
theorem w_rule_32 {d : Nat} {Q : am_K} {b : am_H} {r : Nat} {S : am_G} {V : Nat → Int → Int} {W : Nat → Int} {x1 : Int} {x2 : Int} {x3 : Int} (H : ((x3 : Int) ≠ 0 → ((x3 : Int) ≠ 1 → ((x3 : Int) ≠ 2 → ((x3 : Int) ≠ 3 → ((x3 : Int) ≠ 4 → Q (.inl (some (.inl (W 64)))) (mo b r (ms S) V W)) ∧ ((x3 : Int) = 4 → Q (.inl (some (.inl (W 68)))) (mo b r (ms S) V W))) ∧ ((x3 : Int) = 3 → Q (.inl (some (.inl (W 67)))) (mo b r (ms S) V W))) ∧ ((x3 : Int) = 2 → Q (.inl (some (.inl (W 66)))) (mo b r (ms S) V W))) ∧ ((x3 : Int) = 1 → Q (.inl (some (.inl (W 65)))) (mo b r (ms S) V W))) ∧ ((x3 : Int) = 0 → Q (.inl (some (.inl (W 63)))) (mo b r (ms S) V W))) : am_W m_X5_rule (am_ev am_prog (d + 3)) Q 32 [some (.inr (.inl r)), some (.inl x1), some (.inl x2), some (.inl x3)] [] (mo b r (ms S) V W) := by
  refine r_X5_rule_32 ?_
  refine ⟨fun c => ?_, fun c => ?_⟩
  · replace H := H.1 c
    refine r_X5_rule_37 ?_
    refine ⟨fun c => ?_, fun c => ?_⟩
    · replace H := H.1 c
      refine r_X5_rule_43 ?_
      refine ⟨fun c => ?_, fun c => ?_⟩
      · replace H := H.1 c
        refine r_X5_rule_49 ?_
        refine ⟨fun c => ?_, fun c => ?_⟩
        · replace H := H.1 c
          refine r_X5_rule_55 ?_
          refine ⟨fun c => ?_, fun c => ?_⟩
          · replace H := H.1 c
            refine r_X5_rule_61 ?_
            simp only [mo_ty, mo_i, true_or, or_true, true_and]
            refine ?_
            refine r_X5_rule_63 ?_
            exact H
          · replace H := H.2 c
            refine r_X5_rule_58 ?_
            simp only [mo_ty, mo_i, true_or, or_true, true_and]
            refine ?_
            refine r_X5_rule_63 ?_
            exact H
        · replace H := H.2 c
          refine r_X5_rule_52 ?_
          simp only [mo_ty, mo_i, true_or, or_true, true_and]
          refine ?_
          refine r_X5_rule_63 ?_
          exact H
      · replace H := H.2 c
        refine r_X5_rule_46 ?_
        simp only [mo_ty, mo_i, true_or, or_true, true_and]
        refine ?_
        refine r_X5_rule_63 ?_
        exact H
    · replace H := H.2 c
      refine r_X5_rule_40 ?_
      simp only [mo_ty, mo_i, true_or, or_true, true_and]
      refine ?_
      refine r_X5_rule_63 ?_
      exact H
  · replace H := H.2 c
    refine r_X5_rule_34 ?_
    simp only [mo_ty, mo_i, true_or, or_true, true_and]
    refine ?_
    refine r_X5_rule_63 ?_
    exact H
theorem w_where_0 {d : Nat} {Q : am_K} {b : am_H} {r : Nat} {S : am_G} {V : Nat → Int → Int} {W : Nat → Int} {x1 : Int} {x2 : Int} {x3 : Int} {o4 : Option am_V} {o5 : Option am_V} {o6 : Option am_V} {o7 : Option am_V} (H : (0 ≤ x1 ∧ x1 < S 0 0 4 → am_W m_X5_where (am_ev am_prog (d + 3)) Q 20 [some (.inr (.inl r)), some (.inl x1), some (.inl x2), some (.inl x3), some (.inl (-1)), some (.inl (-1)), some (.inl 0), o7] [] (mo b r (ms S) V (am_up W 38 0))) ∧ (¬ (0 ≤ x1 ∧ x1 < S 0 0 4) → Q (.inl (some (.inl 0))) (mo b r (ms S) V (am_up W 38 1)))) : am_W m_X5_where (am_ev am_prog (d + 3)) Q 0 [some (.inr (.inl r)), some (.inl x1), some (.inl x2), some (.inl x3), o4, o5, o6, o7] [] (mo b r (ms S) V W) := by
  refine r_X5_where_0 ?_
  simp only [mo_ty, true_or, or_true, true_and]
  refine ?_
  refine c_isSlug (am_av ?_)
  refine r_X5_where_4 ?_
  refine ⟨fun c => ?_, fun c => ?_⟩
  · replace c := am_b1 c
    replace H := H.1 c
    refine r_X5_where_7 ?_
    refine r_X5_where_8 ?_
    simp only [mo_ty, mo_si, true_or, or_true, true_and]
    refine ?_
    refine r_X5_where_9 ?_
    simp only [mo_ty, mo_i, am_up_eq, true_or, or_true, true_and, Int.reduceLE, Int.reduceLT, Int.reduceEq, Int.reduceNe, ne_eq, false_imp_iff, true_imp_iff, and_true, true_and, not_true_eq_false, not_false_eq_true, not_true, Int.reduceNeg]
    refine ?_
    refine r_X5_where_14 ?_
    exact H
  · replace c := am_b0 c
    replace H := H.2 c
    refine r_X5_where_5 ?_
    refine r_X5_where_8 ?_
    simp only [mo_ty, mo_si, true_or, or_true, true_and]
    refine ?_
    refine r_X5_where_9 ?_
    simp only [mo_ty, mo_i, am_up_eq, true_or, or_true, true_and, Int.reduceLE, Int.reduceLT, Int.reduceEq, Int.reduceNe, ne_eq, false_imp_iff, true_imp_iff, and_true, true_and, not_true_eq_false, not_false_eq_true, not_true, Int.reduceNeg]
    refine ?_
    refine r_X5_where_12 ?_
    exact H
theorem w_where_20 {d : Nat} {Q : am_K} {b : am_H} {r : Nat} {S : am_G} {V : Nat → Int → Int} {W : Nat → Int} {x1 : Int} {x2 : Int} {x3 : Int} {x4 : Int} {x5 : Int} {x6 : Int} {o7 : Option am_V} (H : (S 0 0 5 ≤ x6 → (0 ≤ x4 → Q (.inl (some (.inl x4))) (mo b r (ms S) V W)) ∧ (x4 < 0 → Q (.inl (some (.inl (-1)))) (mo b r (ms S) V W))) ∧ (x6 < S 0 0 5 → ((-2147483648 ≤ 4 * x6 ∧ 4 * x6 ≤ 2147483647) ∧ (-2147483648 ≤ 326582 + (4 * x6) ∧ 326582 + (4 * x6) ≤ 2147483647) ∧ (0 ≤ x6 ∧ x6 < 200)) ∧ ((S 7 x6 0 ≠ x1 → ((-2147483648 ≤ x6 + 1 ∧ x6 + 1 ≤ 2147483647)) ∧ (am_W m_X5_where (am_ev am_prog (d + 3)) Q 20 [some (.inr (.inl r)), some (.inl x1), some (.inl x2), some (.inl x3), some (.inl x4), some (.inl x5), some (.inl (x6 + 1)), some (.inl (326582 + (4 * x6)))] [] (mo b r (ms S) V W))) ∧ (S 7 x6 0 = x1 → ((-2147483648 ≤ (326582 + (4 * x6)) + 3 ∧ (326582 + (4 * x6)) + 3 ≤ 2147483647) ∧ (0 ≤ x6 ∧ x6 < 200)) ∧ ((x3 < S 7 x6 3 → ((-2147483648 ≤ x6 + 1 ∧ x6 + 1 ≤ 2147483647)) ∧ (am_W m_X5_where (am_ev am_prog (d + 3)) Q 20 [some (.inr (.inl r)), some (.inl x1), some (.inl x2), some (.inl x3), some (.inl x4), some (.inl x5), some (.inl (x6 + 1)), some (.inl (326582 + (4 * x6)))] [] (mo b r (ms S) V W))) ∧ (S 7 x6 3 ≤ x3 → ((-2147483648 ≤ (326582 + (4 * x6)) + 2 ∧ (326582 + (4 * x6)) + 2 ≤ 2147483647) ∧ (0 ≤ x6 ∧ x6 < 200)) ∧ ((x2 < S 7 x6 2 → ((-2147483648 ≤ x6 + 1 ∧ x6 + 1 ≤ 2147483647)) ∧ (am_W m_X5_where (am_ev am_prog (d + 3)) Q 20 [some (.inr (.inl r)), some (.inl x1), some (.inl x2), some (.inl x3), some (.inl x4), some (.inl x5), some (.inl (x6 + 1)), some (.inl (326582 + (4 * x6)))] [] (mo b r (ms S) V W))) ∧ (S 7 x6 2 ≤ x2 → ((-2147483648 ≤ (326582 + (4 * x6)) + 2 ∧ (326582 + (4 * x6)) + 2 ≤ 2147483647) ∧ (0 ≤ x6 ∧ x6 < 200)) ∧ ((x5 ≤ S 7 x6 2 → ((-2147483648 ≤ (326582 + (4 * x6)) + 2 ∧ (326582 + (4 * x6)) + 2 ≤ 2147483647) ∧ (0 ≤ x6 ∧ x6 < 200)) ∧ ((S 7 x6 2 ≤ x5 → ((-2147483648 ≤ (326582 + (4 * x6)) + 1 ∧ (326582 + (4 * x6)) + 1 ≤ 2147483647) ∧ (0 ≤ x6 ∧ x6 < 200)) ∧ ((x4 = S 7 x6 1 → ((-2147483648 ≤ (326582 + (4 * x6)) + 2 ∧ (326582 + (4 * x6)) + 2 ≤ 2147483647) ∧ (0 ≤ x6 ∧ x6 < 200)) ∧ (((-2147483648 ≤ x6 + 1 ∧ x6 + 1 ≤ 2147483647)) ∧ (am_W m_X5_where (am_ev am_prog (d + 3)) Q 20 [some (.inr (.inl r)), some (.inl x1), some (.inl x2), some (.inl x3), some (.inl x4), some (.inl (S 7 x6 2)), some (.inl (x6 + 1)), some (.inl (326582 + (4 * x6)))] [] (mo b r (ms S) V W)))) ∧ (x4 ≠ S 7 x6 1 → ((-2147483648 ≤ (326582 + (4 * x6)) + 2 ∧ (326582 + (4 * x6)) + 2 ≤ 2147483647) ∧ (0 ≤ x6 ∧ x6 < 200)) ∧ (((-2147483648 ≤ x6 + 1 ∧ x6 + 1 ≤ 2147483647)) ∧ (am_W m_X5_where (am_ev am_prog (d + 3)) Q 20 [some (.inr (.inl r)), some (.inl x1), some (.inl x2), some (.inl x3), some (.inl (-2)), some (.inl (S 7 x6 2)), some (.inl (x6 + 1)), some (.inl (326582 + (4 * x6)))] [] (mo b r (ms S) V W)))))) ∧ (x5 < S 7 x6 2 → ((-2147483648 ≤ (326582 + (4 * x6)) + 1 ∧ (326582 + (4 * x6)) + 1 ≤ 2147483647) ∧ (0 ≤ x6 ∧ x6 < 200)) ∧ (((-2147483648 ≤ (326582 + (4 * x6)) + 2 ∧ (326582 + (4 * x6)) + 2 ≤ 2147483647) ∧ (0 ≤ x6 ∧ x6 < 200)) ∧ (((-2147483648 ≤ x6 + 1 ∧ x6 + 1 ≤ 2147483647)) ∧ (am_W m_X5_where (am_ev am_prog (d + 3)) Q 20 [some (.inr (.inl r)), some (.inl x1), some (.inl x2), some (.inl x3), some (.inl (S 7 x6 1)), some (.inl (S 7 x6 2)), some (.inl (x6 + 1)), some (.inl (326582 + (4 * x6)))] [] (mo b r (ms S) V W))))))) ∧ (S 7 x6 2 < x5 → ((-2147483648 ≤ x6 + 1 ∧ x6 + 1 ≤ 2147483647)) ∧ (am_W m_X5_where (am_ev am_prog (d + 3)) Q 20 [some (.inr (.inl r)), some (.inl x1), some (.inl x2), some (.inl x3), some (.inl x4), some (.inl x5), some (.inl (x6 + 1)), some (.inl (326582 + (4 * x6)))] [] (mo b r (ms S) V W)))))))))))) : am_W m_X5_where (am_ev am_prog (d + 3)) Q 20 [some (.inr (.inl r)), some (.inl x1), some (.inl x2), some (.inl x3), some (.inl x4), some (.inl x5), some (.inl x6), o7] [] (mo b r (ms S) V W) := by
  refine r_X5_where_20 ?_
  simp only [mo_ty, mo_f39, mo_t1, mo_n1, mo_a1, ms_r0 (k := 5) (p := 0) (i := 5) (by omega) (by omega) (by omega), true_or, or_true, true_and]
  refine ⟨(by omega), ⟨fun c => ?_, fun c => ?_⟩⟩
  · replace H := H.1 c
    refine r_X5_where_98 ?_
    refine ⟨fun c => ?_, fun c => ?_⟩
    · replace H := H.1 c
      refine r_X5_where_102 ?_
      refine r_X5_where_103 ?_
      exact H
    · replace H := H.2 c
      refine r_X5_where_100 ?_
      refine r_X5_where_103 ?_
      exact H
  · replace H := H.2 c
    obtain ⟨⟨a492, a493, a494⟩, H⟩ := H
    refine r_X5_where_26 ?_
    simp only [mo_ty, mo_f39, mo_t1, mo_n1, mo_a1, ms_r7 (k := 326582 + (4 * x6)) (p := x6) (i := 0) (by omega) (by omega) (by omega), true_or, or_true, true_and]
    refine ⟨a492, a493, (by omega), ⟨fun c => ?_, fun c => ?_⟩⟩
    · replace H := H.1 c
      obtain ⟨a495, H⟩ := H
      refine r_X5_where_96 ?_
      refine ⟨a495, ?_⟩
      exact H
    · replace H := H.2 c
      obtain ⟨⟨a496, a497⟩, H⟩ := H
      refine r_X5_where_38 ?_
      simp only [mo_ty, mo_f39, mo_t1, mo_n1, mo_a1, ms_r7 (k := (326582 + (4 * x6)) + 3) (p := x6) (i := 3) (by omega) (by omega) (by omega), true_or, or_true, true_and]
      refine ⟨a496, (by omega), ⟨fun c => ?_, fun c => ?_⟩⟩
      · replace H := H.1 c
        obtain ⟨a498, H⟩ := H
        refine r_X5_where_96 ?_
        refine ⟨a498, ?_⟩
        exact H
      · replace H := H.2 c
        obtain ⟨⟨a499, a500⟩, H⟩ := H
        refine r_X5_where_46 ?_
        simp only [mo_ty, mo_f39, mo_t1, mo_n1, mo_a1, ms_r7 (k := (326582 + (4 * x6)) + 2) (p := x6) (i := 2) (by omega) (by omega) (by omega), true_or, or_true, true_and]
        refine ⟨a499, (by omega), ⟨fun c => ?_, fun c => ?_⟩⟩
        · replace H := H.1 c
          obtain ⟨a501, H⟩ := H
          refine r_X5_where_96 ?_
          refine ⟨a501, ?_⟩
          exact H
        · replace H := H.2 c
          obtain ⟨⟨a502, a503⟩, H⟩ := H
          refine r_X5_where_54 ?_
          simp only [mo_ty, mo_f39, mo_t1, mo_n1, mo_a1, ms_r7 (k := (326582 + (4 * x6)) + 2) (p := x6) (i := 2) (by omega) (by omega) (by omega), true_or, or_true, true_and]
          refine ⟨a502, (by omega), ⟨fun c => ?_, fun c => ?_⟩⟩
          · replace H := H.1 c
            obtain ⟨⟨a504, a505⟩, H⟩ := H
            refine r_X5_where_63 ?_
            simp only [mo_ty, mo_f39, mo_t1, mo_n1, mo_a1, ms_r7 (k := (326582 + (4 * x6)) + 2) (p := x6) (i := 2) (by omega) (by omega) (by omega), true_or, or_true, true_and]
            refine ⟨a504, (by omega), ⟨fun c => ?_, fun c => ?_⟩⟩
            · replace H := H.1 c
              obtain ⟨⟨a506, a507⟩, H⟩ := H
              refine r_X5_where_79 ?_
              simp only [mo_ty, mo_f39, mo_t1, mo_n1, mo_a1, ms_r7 (k := (326582 + (4 * x6)) + 1) (p := x6) (i := 1) (by omega) (by omega) (by omega), true_or, or_true, true_and]
              refine ⟨a506, (by omega), ⟨fun c => ?_, fun c => ?_⟩⟩
              · replace H := H.1 c
                obtain ⟨⟨a508, a509⟩, H⟩ := H
                refine r_X5_where_89 ?_
                simp only [mo_ty, mo_f39, mo_t1, mo_n1, mo_a1, ms_r7 (k := (326582 + (4 * x6)) + 2) (p := x6) (i := 2) (by omega) (by omega) (by omega), true_or, or_true, true_and]
                refine ⟨a508, (by omega), ?_⟩
                obtain ⟨a510, H⟩ := H
                refine r_X5_where_96 ?_
                refine ⟨a510, ?_⟩
                exact H
              · replace H := H.2 c
                refine r_X5_where_87 ?_
                obtain ⟨⟨a511, a512⟩, H⟩ := H
                refine r_X5_where_89 ?_
                simp only [mo_ty, mo_f39, mo_t1, mo_n1, mo_a1, ms_r7 (k := (326582 + (4 * x6)) + 2) (p := x6) (i := 2) (by omega) (by omega) (by omega), true_or, or_true, true_and]
                refine ⟨a511, (by omega), ?_⟩
                obtain ⟨a513, H⟩ := H
                refine r_X5_where_96 ?_
                refine ⟨a513, ?_⟩
                exact H
            · replace H := H.2 c
              obtain ⟨⟨a514, a515⟩, H⟩ := H
              refine r_X5_where_71 ?_
              simp only [mo_ty, mo_f39, mo_t1, mo_n1, mo_a1, ms_r7 (k := (326582 + (4 * x6)) + 1) (p := x6) (i := 1) (by omega) (by omega) (by omega), true_or, or_true, true_and]
              refine ⟨a514, (by omega), ?_⟩
              obtain ⟨⟨a516, a517⟩, H⟩ := H
              refine r_X5_where_89 ?_
              simp only [mo_ty, mo_f39, mo_t1, mo_n1, mo_a1, ms_r7 (k := (326582 + (4 * x6)) + 2) (p := x6) (i := 2) (by omega) (by omega) (by omega), true_or, or_true, true_and]
              refine ⟨a516, (by omega), ?_⟩
              obtain ⟨a518, H⟩ := H
              refine r_X5_where_96 ?_
              refine ⟨a518, ?_⟩
              exact H
          · replace H := H.2 c
            refine r_X5_where_62 ?_
            obtain ⟨a519, H⟩ := H
            refine r_X5_where_96 ?_
            refine ⟨a519, ?_⟩
            exact H
theorem w_changed_0 {d : Nat} {Q : am_K} {b : am_H} {r : Nat} {S : am_G} {V : Nat → Int → Int} {W : Nat → Int} {x1 : Int} {x2 : Int} {x3 : Int} {o4 : Option am_V} {o5 : Option am_V} {o6 : Option am_V} {o7 : Option am_V} (H : (¬ (0 ≤ x1 ∧ x1 < 6) → Q (.inl (some (.inl 0))) (mo b r (ms S) V (am_up W 38 1))) ∧ (0 ≤ x1 ∧ x1 < 6 → ((-2147483648 ≤ S 0 0 6 - 1 ∧ S 0 0 6 - 1 ≤ 2147483647)) ∧ ((¬ ((-1) ≤ x2 ∧ x2 ≤ S 0 0 6 - 1) → Q (.inl (some (.inl 0))) (mo b r (ms S) V (am_up W 38 1))) ∧ ((-1) ≤ x2 ∧ x2 ≤ S 0 0 6 - 1 → ((-2147483648 ≤ S 0 0 6 - 1 ∧ S 0 0 6 - 1 ≤ 2147483647)) ∧ (((-1) ≤ x3 ∧ x3 ≤ S 0 0 6 - 1 → am_W m_X5_changed (am_ev am_prog (d + 3)) Q 25 [some (.inr (.inl r)), some (.inl x1), some (.inl x2), some (.inl x3), some (.inl 0), some (.inl 0), o6, o7] [] (mo b r (ms S) V (am_up W 38 0))) ∧ (¬ ((-1) ≤ x3 ∧ x3 ≤ S 0 0 6 - 1) → Q (.inl (some (.inl 0))) (mo b r (ms S) V (am_up W 38 1)))))))) : am_W m_X5_changed (am_ev am_prog (d + 3)) Q 0 [some (.inr (.inl r)), some (.inl x1), some (.inl x2), some (.inl x3), o4, o5, o6, o7] [] (mo b r (ms S) V W) := by
  refine r_X5_changed_0 ?_
  refine ?_
  refine c_isPage (am_av ?_)
  refine r_X5_changed_3 ?_
  refine ⟨fun c => ?_, fun c => ?_⟩
  · replace c := am_b0 c
    replace H := H.1 c
    refine r_X5_changed_12 ?_
    refine r_X5_changed_15 ?_
    simp only [mo_ty, mo_si, true_or, or_true, true_and]
    refine ?_
    refine r_X5_changed_16 ?_
    simp only [mo_ty, mo_i, am_up_eq, true_or, or_true, true_and, Int.reduceLE, Int.reduceLT, Int.reduceEq, Int.reduceNe, ne_eq, false_imp_iff, true_imp_iff, and_true, true_and, not_true_eq_false, not_false_eq_true, not_true, Int.reduceNeg]
    refine ?_
    refine r_X5_changed_19 ?_
    exact H
  · replace c := am_b1 c
    replace H := H.2 c
    refine r_X5_changed_4 ?_
    simp only [mo_ty, true_or, or_true, true_and]
    refine ?_
    obtain ⟨a520, H⟩ := H
    refine c_isEdition (by omega) (am_av ?_)
    refine r_X5_changed_7 ?_
    refine ⟨fun c => ?_, fun c => ?_⟩
    · replace c := am_b0 c
      replace H := H.1 c
      refine r_X5_changed_12 ?_
      refine r_X5_changed_15 ?_
      simp only [mo_ty, mo_si, true_or, or_true, true_and]
      refine ?_
      refine r_X5_changed_16 ?_
      simp only [mo_ty, mo_i, am_up_eq, true_or, or_true, true_and, Int.reduceLE, Int.reduceLT, Int.reduceEq, Int.reduceNe, ne_eq, false_imp_iff, true_imp_iff, and_true, true_and, not_true_eq_false, not_false_eq_true, not_true, Int.reduceNeg]
      refine ?_
      refine r_X5_changed_19 ?_
      exact H
    · replace c := am_b1 c
      replace H := H.2 c
      refine r_X5_changed_8 ?_
      simp only [mo_ty, true_or, or_true, true_and]
      refine ?_
      obtain ⟨a521, H⟩ := H
      refine c_isEdition (by omega) (am_av ?_)
      refine r_X5_changed_11 ?_
      refine ⟨fun c => ?_, fun c => ?_⟩
      · replace c := am_b1 c
        replace H := H.1 c
        refine r_X5_changed_14 ?_
        refine r_X5_changed_15 ?_
        simp only [mo_ty, mo_si, true_or, or_true, true_and]
        refine ?_
        refine r_X5_changed_16 ?_
        simp only [mo_ty, mo_i, am_up_eq, true_or, or_true, true_and, Int.reduceLE, Int.reduceLT, Int.reduceEq, Int.reduceNe, ne_eq, false_imp_iff, true_imp_iff, and_true, true_and, not_true_eq_false, not_false_eq_true, not_true, Int.reduceNeg]
        refine ?_
        refine r_X5_changed_21 ?_
        exact H
      · replace c := am_b0 c
        replace H := H.2 c
        refine r_X5_changed_12 ?_
        refine r_X5_changed_15 ?_
        simp only [mo_ty, mo_si, true_or, or_true, true_and]
        refine ?_
        refine r_X5_changed_16 ?_
        simp only [mo_ty, mo_i, am_up_eq, true_or, or_true, true_and, Int.reduceLE, Int.reduceLT, Int.reduceEq, Int.reduceNe, ne_eq, false_imp_iff, true_imp_iff, and_true, true_and, not_true_eq_false, not_false_eq_true, not_true, Int.reduceNeg]
        refine ?_
        refine r_X5_changed_19 ?_
        exact H
theorem w_changed_25 {d : Nat} {Q : am_K} {b : am_H} {r : Nat} {S : am_G} {V : Nat → Int → Int} {W : Nat → Int} {x1 : Int} {x2 : Int} {x3 : Int} {x4 : Int} {x5 : Int} {o6 : Option am_V} {o7 : Option am_V} (H : am_ev am_prog (d + 3) 187 [.inr (.inl r), .inl x1, .inl x3] (mo b r (ms S) V W) (am_aft (am_hand m_X5_changed Q (am_W m_X5_changed (am_ev am_prog (d + 3)) Q) 29) (am_W m_X5_changed (am_ev am_prog (d + 3)) Q) 29 [some (.inr (.inl r)), some (.inl x1), some (.inl x2), some (.inl x3), some (.inl x4), some (.inl x5), o6, o7] [.inl x5])) : am_W m_X5_changed (am_ev am_prog (d + 3)) Q 25 [some (.inr (.inl r)), some (.inl x1), some (.inl x2), some (.inl x3), some (.inl x4), some (.inl x5), o6, o7] [] (mo b r (ms S) V W) := by
  refine r_X5_changed_25 ?_
  simp only [mo_ty, true_or, or_true, true_and]
  exact H
theorem w_changed_30 {d : Nat} {Q : am_K} {b : am_H} {r : Nat} {S : am_G} {V : Nat → Int → Int} {W : Nat → Int} {x1 : Int} {x2 : Int} {x3 : Int} {x4 : Int} {x5 : Int} {o6 : Option am_V} {o7 : Option am_V} {y1 : Int} {y0 : Int} (H : (y1 ≤ y0 → Q (.inl (some (.inl x4))) (mo b r (ms S) V W)) ∧ (y0 < y1 → am_W m_X5_changed (am_ev am_prog (d + 3)) Q 35 [some (.inr (.inl r)), some (.inl x1), some (.inl x2), some (.inl x3), some (.inl x4), some (.inl x5), some (.inl 0), some (.inl 0)] [] (mo b r (ms S) V W))) : am_W m_X5_changed (am_ev am_prog (d + 3)) Q 30 [some (.inr (.inl r)), some (.inl x1), some (.inl x2), some (.inl x3), some (.inl x4), some (.inl x5), o6, o7] [.inl y1, .inl y0] (mo b r (ms S) V W) := by
  refine r_X5_changed_30 ?_
  refine ⟨fun c => ?_, fun c => ?_⟩
  · replace H := H.1 c
    refine r_X5_changed_70 ?_
    exact H
  · replace H := H.2 c
    refine r_X5_changed_31 ?_
    exact H
theorem w_changed_35 {d : Nat} {Q : am_K} {b : am_H} {r : Nat} {S : am_G} {V : Nat → Int → Int} {W : Nat → Int} {x1 : Int} {x2 : Int} {x3 : Int} {x4 : Int} {x5 : Int} {x6 : Int} {x7 : Int} (H : am_ev am_prog (d + 3) 187 [.inr (.inl r), .inl x1, .inl x2] (mo b r (ms S) V W) (am_aft (am_hand m_X5_changed Q (am_W m_X5_changed (am_ev am_prog (d + 3)) Q) 39) (am_W m_X5_changed (am_ev am_prog (d + 3)) Q) 39 [some (.inr (.inl r)), some (.inl x1), some (.inl x2), some (.inl x3), some (.inl x4), some (.inl x5), some (.inl x6), some (.inl x7)] [.inl x7])) : am_W m_X5_changed (am_ev am_prog (d + 3)) Q 35 [some (.inr (.inl r)), some (.inl x1), some (.inl x2), some (.inl x3), some (.inl x4), some (.inl x5), some (.inl x6), some (.inl x7)] [] (mo b r (ms S) V W) := by
  refine r_X5_changed_35 ?_
  simp only [mo_ty, true_or, or_true, true_and]
  exact H
theorem w_changed_40 {d : Nat} {Q : am_K} {b : am_H} {r : Nat} {S : am_G} {V : Nat → Int → Int} {W : Nat → Int} {x1 : Int} {x2 : Int} {x3 : Int} {x4 : Int} {x5 : Int} {x6 : Int} {x7 : Int} {y1 : Int} {y0 : Int} (H : (y1 ≤ y0 → ((-2147483648 ≤ x4 + (am_b ((x6 : Int) = 0)) ∧ x4 + (am_b ((x6 : Int) = 0)) ≤ 2147483647) ∧ (-2147483648 ≤ x5 + 1 ∧ x5 + 1 ≤ 2147483647)) ∧ (am_W m_X5_changed (am_ev am_prog (d + 3)) Q 25 [some (.inr (.inl r)), some (.inl x1), some (.inl x2), some (.inl x3), some (.inl (x4 + (am_b ((x6 : Int) = 0)))), some (.inl (x5 + 1)), some (.inl x6), some (.inl x7)] [] (mo b r (ms S) V W))) ∧ (y0 < y1 → ((x6 : Int) ≠ 0 → ((-2147483648 ≤ x7 + 1 ∧ x7 + 1 ≤ 2147483647)) ∧ (am_W m_X5_changed (am_ev am_prog (d + 3)) Q 35 [some (.inr (.inl r)), some (.inl x1), some (.inl x2), some (.inl x3), some (.inl x4), some (.inl x5), some (.inl 1), some (.inl (x7 + 1))] [] (mo b r (ms S) V W))) ∧ ((x6 : Int) = 0 → am_ev am_prog (d + 3) 188 [.inr (.inl r), .inl x1, .inl x2, .inl x7] (mo b r (ms S) V W) (am_aft (am_hand m_X5_changed Q (am_W m_X5_changed (am_ev am_prog (d + 3)) Q) 47) (am_W m_X5_changed (am_ev am_prog (d + 3)) Q) 47 [some (.inr (.inl r)), some (.inl x1), some (.inl x2), some (.inl x3), some (.inl x4), some (.inl x5), some (.inl x6), some (.inl x7)] [])))) : am_W m_X5_changed (am_ev am_prog (d + 3)) Q 40 [some (.inr (.inl r)), some (.inl x1), some (.inl x2), some (.inl x3), some (.inl x4), some (.inl x5), some (.inl x6), some (.inl x7)] [.inl y1, .inl y0] (mo b r (ms S) V W) := by
  refine r_X5_changed_40 ?_
  refine ⟨fun c => ?_, fun c => ?_⟩
  · replace H := H.1 c
    have J : ∀ y : Int, y = am_b ((x6 : Int) = 0) → am_W m_X5_changed (am_ev am_prog (d + 3)) Q 66 [some (.inr (.inl r)), some (.inl x1), some (.inl x2), some (.inl x3), some (.inl x4), some (.inl x5), some (.inl x6), some (.inl x7)] [.inl y, .inl x4] (mo b r (ms S) V W) := by
      intro y hy
      subst hy
      obtain ⟨⟨a522, a523⟩, H⟩ := H
      refine r_X5_changed_66 ?_
      refine ⟨a522, a523, ?_⟩
      exact H
    refine r_X5_changed_60 ?_
    refine ⟨fun c => ?_, fun c => ?_⟩
    · exact r_X5_changed_65 (J _ (am_bt c).symm)
    · exact r_X5_changed_63 (J _ (am_bf (by omega)).symm)
  · replace H := H.2 c
    refine r_X5_changed_41 ?_
    refine ⟨fun c => ?_, fun c => ?_⟩
    · replace H := H.1 c
      refine r_X5_changed_54 ?_
      obtain ⟨a524, H⟩ := H
      refine r_X5_changed_57 ?_
      refine ⟨a524, ?_⟩
      exact H
    · replace H := H.2 c
      refine r_X5_changed_43 ?_
      simp only [mo_ty, true_or, or_true, true_and]
      exact H
theorem w_changed_48 {d : Nat} {Q : am_K} {b : am_H} {r : Nat} {S : am_G} {V : Nat → Int → Int} {W : Nat → Int} {x1 : Int} {x2 : Int} {x3 : Int} {x4 : Int} {x5 : Int} {x6 : Int} {x7 : Int} {y0 : Int} (H : am_ev am_prog (d + 3) 188 [.inr (.inl r), .inl x1, .inl x3, .inl x5] (mo b r (ms S) V W) (am_aft (am_hand m_X5_changed Q (am_W m_X5_changed (am_ev am_prog (d + 3)) Q) 52) (am_W m_X5_changed (am_ev am_prog (d + 3)) Q) 52 [some (.inr (.inl r)), some (.inl x1), some (.inl x2), some (.inl x3), some (.inl x4), some (.inl x5), some (.inl x6), some (.inl x7)] [.inl y0])) : am_W m_X5_changed (am_ev am_prog (d + 3)) Q 48 [some (.inr (.inl r)), some (.inl x1), some (.inl x2), some (.inl x3), some (.inl x4), some (.inl x5), some (.inl x6), some (.inl x7)] [.inl y0] (mo b r (ms S) V W) := by
  refine r_X5_changed_48 ?_
  simp only [mo_ty, true_or, or_true, true_and]
  exact H
theorem w_changed_53 {d : Nat} {Q : am_K} {b : am_H} {r : Nat} {S : am_G} {V : Nat → Int → Int} {W : Nat → Int} {x1 : Int} {x2 : Int} {x3 : Int} {x4 : Int} {x5 : Int} {x6 : Int} {x7 : Int} {y1 : Int} {y0 : Int} (H : ((-2147483648 ≤ x7 + 1 ∧ x7 + 1 ≤ 2147483647)) ∧ (am_W m_X5_changed (am_ev am_prog (d + 3)) Q 35 [some (.inr (.inl r)), some (.inl x1), some (.inl x2), some (.inl x3), some (.inl x4), some (.inl x5), some (.inl (am_b (y0 = y1))), some (.inl (x7 + 1))] [] (mo b r (ms S) V W))) : am_W m_X5_changed (am_ev am_prog (d + 3)) Q 53 [some (.inr (.inl r)), some (.inl x1), some (.inl x2), some (.inl x3), some (.inl x4), some (.inl x5), some (.inl x6), some (.inl x7)] [.inl y1, .inl y0] (mo b r (ms S) V W) := by
  have J : ∀ y : Int, y = am_b (y0 = y1) → am_W m_X5_changed (am_ev am_prog (d + 3)) Q 57 [some (.inr (.inl r)), some (.inl x1), some (.inl x2), some (.inl x3), some (.inl x4), some (.inl x5), some (.inl x6), some (.inl x7)] [.inl y] (mo b r (ms S) V W) := by
    intro y hy
    subst hy
    obtain ⟨a525, H⟩ := H
    refine r_X5_changed_57 ?_
    refine ⟨a525, ?_⟩
    exact H
  refine r_X5_changed_53 ?_
  refine ⟨fun c => ?_, fun c => ?_⟩
  · exact r_X5_changed_56 (J _ (am_bf (by omega)).symm)
  · exact r_X5_changed_54 (J _ (am_bt c).symm)
theorem w_correct_0 {d : Nat} {Q : am_K} {b : am_H} {r : Nat} {S : am_G} {V : Nat → Int → Int} {W : Nat → Int} {x1 : Int} {x2 : Int} {x3 : Int} {o4 : Option am_V} {o5 : Option am_V} {o6 : Option am_V} {o7 : Option am_V} {o8 : Option am_V} {o9 : Option am_V} {o10 : Option am_V} {o11 : Option am_V} {o12 : Option am_V} {o13 : Option am_V} (H : am_ev am_prog (d + 3) 149 [.inr (.inl r)] (mo b r (ms S) V W) (am_aft (am_hand m_X5_correct Q (am_W m_X5_correct (am_ev am_prog (d + 3)) Q) 1) (am_W m_X5_correct (am_ev am_prog (d + 3)) Q) 1 [some (.inr (.inl r)), some (.inl x1), some (.inl x2), some (.inl x3), o4, o5, o6, o7, o8, o9, o10, o11, o12, o13] [])) : am_W m_X5_correct (am_ev am_prog (d + 3)) Q 0 [some (.inr (.inl r)), some (.inl x1), some (.inl x2), some (.inl x3), o4, o5, o6, o7, o8, o9, o10, o11, o12, o13] [] (mo b r (ms S) V W) := by
  refine r_X5_correct_0 ?_
  simp only [mo_ty, true_or, or_true, true_and]
  exact H
theorem w_correct_2 {d : Nat} {Q : am_K} {b : am_H} {r : Nat} {S : am_G} {V : Nat → Int → Int} {W : Nat → Int} {x1 : Int} {x2 : Int} {x3 : Int} {o4 : Option am_V} {o5 : Option am_V} {o6 : Option am_V} {o7 : Option am_V} {o8 : Option am_V} {o9 : Option am_V} {o10 : Option am_V} {o11 : Option am_V} {o12 : Option am_V} {o13 : Option am_V} (H : ((-2147483648 ≤ x1 ∧ x1 ≤ 2147483647) ∧ S 0 0 1 ≤ 20) ∧ ((¬ (0 ≤ x1 ∧ x1 / 5 < S 0 0 1 ∧ x1 % 5 < S 2 2 (x1 / 5)) → Q (.inl (some (.inl 0))) (mo b r (ms S) V (am_up W 38 1))) ∧ (0 ≤ x1 ∧ x1 / 5 < S 0 0 1 ∧ x1 % 5 < S 2 2 (x1 / 5) → (0 ≤ x3 ∧ x3 < S 0 0 3 → ((0 ≤ x1 ∧ x1 < 3000000)) ∧ (((-2147483648 ≤ (130 + 645 * x1) + 0 ∧ (130 + 645 * x1) + 0 ≤ 2147483647) ∧ (0 ≤ x1 ∧ x1 < 100) ∧ (-2147483648 ≤ (S 3 x1 0) - 1 ∧ (S 3 x1 0) - 1 ≤ 2147483647)) ∧ ((0 ≤ x2 ∧ x2 ≤ (S 3 x1 0) - 1 → ((0 ≤ x1 ∧ x1 < 3000000)) ∧ (am_W m_X5_correct (am_ev am_prog (d + 3)) Q 44 [some (.inr (.inl r)), some (.inl x1), some (.inl x2), some (.inl x3), some (.inl (130 + 645 * x1)), some (.inl (-1)), some (.inl 0), some (.inl 0), o8, o9, o10, o11, o12, o13] [] (mo b r (ms S) V (am_up W 38 0)))) ∧ (¬ (0 ≤ x2 ∧ x2 ≤ (S 3 x1 0) - 1) → Q (.inl (some (.inl 0))) (mo b r (ms S) V (am_up W 38 1)))))) ∧ (¬ (0 ≤ x3 ∧ x3 < S 0 0 3) → Q (.inl (some (.inl 0))) (mo b r (ms S) V (am_up W 38 1)))))) : am_W m_X5_correct (am_ev am_prog (d + 3)) Q 2 [some (.inr (.inl r)), some (.inl x1), some (.inl x2), some (.inl x3), o4, o5, o6, o7, o8, o9, o10, o11, o12, o13] [] (mo b r (ms S) V W) := by
  refine r_X5_correct_2 ?_
  simp only [mo_ty, true_or, or_true, true_and]
  refine ?_
  obtain ⟨⟨a526, a527⟩, H⟩ := H
  refine c_isPart (by omega) (by omega) (am_av ?_)
  refine r_X5_correct_6 ?_
  refine ⟨fun c => ?_, fun c => ?_⟩
  · replace c := am_b0 c
    replace H := H.1 c
    refine r_X5_correct_11 ?_
    refine r_X5_correct_29 ?_
    simp only [mo_ty, mo_si, true_or, or_true, true_and]
    refine ?_
    refine r_X5_correct_30 ?_
    simp only [mo_ty, mo_i, am_up_eq, true_or, or_true, true_and, Int.reduceLE, Int.reduceLT, Int.reduceEq, Int.reduceNe, ne_eq, false_imp_iff, true_imp_iff, and_true, true_and, not_true_eq_false, not_false_eq_true, not_true, Int.reduceNeg]
    refine ?_
    refine r_X5_correct_33 ?_
    exact H
  · replace c := am_b1 c
    replace H := H.2 c
    refine r_X5_correct_7 ?_
    simp only [mo_ty, true_or, or_true, true_and]
    refine ?_
    refine c_isMachine (am_av ?_)
    refine r_X5_correct_10 ?_
    refine ⟨fun c => ?_, fun c => ?_⟩
    · replace c := am_b1 c
      replace H := H.1 c
      refine r_X5_correct_13 ?_
      simp only [mo_ty, mo_f39, true_or, or_true, true_and]
      refine ?_
      obtain ⟨a528, H⟩ := H
      refine c_part0 (by omega) (am_av ?_)
      obtain ⟨⟨a529, a530, a531⟩, H⟩ := H
      refine r_X5_correct_19 ?_
      simp only [mo_t1, mo_n1, mo_a1, ms_r3 (k := (130 + 645 * x1) + 0) (p := x1) (i := 0) (by omega) (by omega) (by omega), true_or, or_true, true_and]
      refine ⟨a529, (by omega), a531, ?_⟩
      refine c_isIn (am_av ?_)
      refine r_X5_correct_25 ?_
      refine ⟨fun c => ?_, fun c => ?_⟩
      · replace c := am_b1 c
        replace H := H.1 c
        refine r_X5_correct_28 ?_
        refine r_X5_correct_29 ?_
        simp only [mo_ty, mo_si, true_or, or_true, true_and]
        refine ?_
        refine r_X5_correct_30 ?_
        simp only [mo_ty, mo_i, am_up_eq, true_or, or_true, true_and, Int.reduceLE, Int.reduceLT, Int.reduceEq, Int.reduceNe, ne_eq, false_imp_iff, true_imp_iff, and_true, true_and, not_true_eq_false, not_false_eq_true, not_true, Int.reduceNeg]
        refine ?_
        refine r_X5_correct_35 ?_
        refine ?_
        obtain ⟨a532, H⟩ := H
        refine c_part0 (by omega) (am_av ?_)
        refine r_X5_correct_37 ?_
        exact H
      · replace c := am_b0 c
        replace H := H.2 c
        refine r_X5_correct_26 ?_
        refine r_X5_correct_29 ?_
        simp only [mo_ty, mo_si, true_or, or_true, true_and]
        refine ?_
        refine r_X5_correct_30 ?_
        simp only [mo_ty, mo_i, am_up_eq, true_or, or_true, true_and, Int.reduceLE, Int.reduceLT, Int.reduceEq, Int.reduceNe, ne_eq, false_imp_iff, true_imp_iff, and_true, true_and, not_true_eq_false, not_false_eq_true, not_true, Int.reduceNeg]
        refine ?_
        refine r_X5_correct_33 ?_
        exact H
    · replace c := am_b0 c
      replace H := H.2 c
      refine r_X5_correct_11 ?_
      refine r_X5_correct_29 ?_
      simp only [mo_ty, mo_si, true_or, or_true, true_and]
      refine ?_
      refine r_X5_correct_30 ?_
      simp only [mo_ty, mo_i, am_up_eq, true_or, or_true, true_and, Int.reduceLE, Int.reduceLT, Int.reduceEq, Int.reduceNe, ne_eq, false_imp_iff, true_imp_iff, and_true, true_and, not_true_eq_false, not_false_eq_true, not_true, Int.reduceNeg]
      refine ?_
      refine r_X5_correct_33 ?_
      exact H
theorem w_correct_44 {d : Nat} {Q : am_K} {b : am_H} {r : Nat} {S : am_G} {V : Nat → Int → Int} {W : Nat → Int} {x1 : Int} {x2 : Int} {x3 : Int} {p4 : Int} {x5 : Int} {x6 : Int} {x7 : Int} {o8 : Option am_V} {o9 : Option am_V} {o10 : Option am_V} {o11 : Option am_V} {o12 : Option am_V} {o13 : Option am_V} (H : ((-2147483648 ≤ (130 + 645 * p4) + 1 ∧ (130 + 645 * p4) + 1 ≤ 2147483647) ∧ (0 ≤ p4 ∧ p4 < 100)) ∧ ((S 3 p4 1 ≤ x7 → ((-2147483648 ≤ (130 + 645 * p4) + 1 ∧ (130 + 645 * p4) + 1 ≤ 2147483647) ∧ (0 ≤ p4 ∧ p4 < 100) ∧ (-2147483648 ≤ (S 3 p4 1) - x6 ∧ (S 3 p4 1) - x6 ≤ 2147483647)) ∧ (am_ev am_prog (d + 3) 189 [.inr (.inl r), .inl ((S 3 p4 1) - x6)] (mo b r (ms S) V (am_up W 47 (-1))) (am_aft (am_hand m_X5_correct Q (am_W m_X5_correct (am_ev am_prog (d + 3)) Q) 85) (am_W m_X5_correct (am_ev am_prog (d + 3)) Q) 85 [some (.inr (.inl r)), some (.inl x1), some (.inl x2), some (.inl x3), some (.inl (130 + 645 * p4)), some (.inl x5), some (.inl x6), some (.inl x7), o8, o9, o10, o11, o12, o13] []))) ∧ (x7 < S 3 p4 1 → ((-2147483648 ≤ (130 + 645 * p4) + 85 ∧ (130 + 645 * p4) + 85 ≤ 2147483647) ∧ (-2147483648 ≤ ((130 + 645 * p4) + 85) + x7 ∧ ((130 + 645 * p4) + 85) + x7 ≤ 2147483647) ∧ (0 ≤ p4 ∧ p4 < 100) ∧ (0 ≤ 85 + x7 ∧ 85 + x7 < 645)) ∧ ((S 3 p4 (85 + x7) = x2 → ((x5 : Int) ≠ (-1) → ((-2147483648 ≤ x6 + 1 ∧ x6 + 1 ≤ 2147483647)) ∧ (((-2147483648 ≤ x7 + 1 ∧ x7 + 1 ≤ 2147483647)) ∧ (am_W m_X5_correct (am_ev am_prog (d + 3)) Q 44 [some (.inr (.inl r)), some (.inl x1), some (.inl x2), some (.inl x3), some (.inl (130 + 645 * p4)), some (.inl x5), some (.inl (x6 + 1)), some (.inl (x7 + 1)), o8, o9, o10, o11, o12, o13] [] (mo b r (ms S) V W)))) ∧ ((x5 : Int) = (-1) → ((-2147483648 ≤ x6 + 1 ∧ x6 + 1 ≤ 2147483647)) ∧ (((-2147483648 ≤ x7 + 1 ∧ x7 + 1 ≤ 2147483647)) ∧ (am_W m_X5_correct (am_ev am_prog (d + 3)) Q 44 [some (.inr (.inl r)), some (.inl x1), some (.inl x2), some (.inl x3), some (.inl (130 + 645 * p4)), some (.inl x7), some (.inl (x6 + 1)), some (.inl (x7 + 1)), o8, o9, o10, o11, o12, o13] [] (mo b r (ms S) V W))))) ∧ (S 3 p4 (85 + x7) ≠ x2 → ((-2147483648 ≤ x7 + 1 ∧ x7 + 1 ≤ 2147483647)) ∧ (am_W m_X5_correct (am_ev am_prog (d + 3)) Q 44 [some (.inr (.inl r)), some (.inl x1), some (.inl x2), some (.inl x3), some (.inl (130 + 645 * p4)), some (.inl x5), some (.inl x6), some (.inl (x7 + 1)), o8, o9, o10, o11, o12, o13] [] (mo b r (ms S) V W))))))) : am_W m_X5_correct (am_ev am_prog (d + 3)) Q 44 [some (.inr (.inl r)), some (.inl x1), some (.inl x2), some (.inl x3), some (.inl (130 + 645 * p4)), some (.inl x5), some (.inl x6), some (.inl x7), o8, o9, o10, o11, o12, o13] [] (mo b r (ms S) V W) := by
  obtain ⟨⟨a533, a534⟩, H⟩ := H
  refine r_X5_correct_44 ?_
  simp only [mo_ty, mo_f39, mo_t1, mo_n1, mo_a1, ms_r3 (k := (130 + 645 * p4) + 1) (p := p4) (i := 1) (by omega) (by omega) (by omega), true_or, or_true, true_and]
  refine ⟨a533, (by omega), ⟨fun c => ?_, fun c => ?_⟩⟩
  · replace H := H.1 c
    refine r_X5_correct_73 ?_
    simp only [mo_ty, mo_si, true_or, or_true, true_and]
    refine ?_
    obtain ⟨⟨a535, a536, a537⟩, H⟩ := H
    refine r_X5_correct_76 ?_
    simp only [mo_ty, mo_f39, mo_t1, mo_n1, mo_a1, ms_r3 (k := (130 + 645 * p4) + 1) (p := p4) (i := 1) (by omega) (by omega) (by omega), true_or, or_true, true_and]
    exact ⟨a535, (by omega), a537, H⟩
  · replace H := H.2 c
    obtain ⟨⟨a538, a539, a540, a541⟩, H⟩ := H
    refine r_X5_correct_52 ?_
    simp only [mo_ty, mo_f39, mo_t1, mo_n1, mo_a1, ms_r3 (k := ((130 + 645 * p4) + 85) + x7) (p := p4) (i := 85 + x7) (by omega) (by omega) (by omega), true_or, or_true, true_and]
    refine ⟨a538, a539, (by omega), ⟨fun c => ?_, fun c => ?_⟩⟩
    · replace H := H.1 c
      refine r_X5_correct_63 ?_
      refine ⟨fun c => ?_, fun c => ?_⟩
      · replace H := H.1 c
        refine r_X5_correct_68 ?_
        obtain ⟨a542, H⟩ := H
        refine r_X5_correct_69 ?_
        refine ⟨a542, ?_⟩
        obtain ⟨a543, H⟩ := H
        refine r_X5_correct_71 ?_
        refine ⟨a543, ?_⟩
        exact H
      · replace H := H.2 c
        refine r_X5_correct_66 ?_
        obtain ⟨a544, H⟩ := H
        refine r_X5_correct_69 ?_
        refine ⟨a544, ?_⟩
        obtain ⟨a545, H⟩ := H
        refine r_X5_correct_71 ?_
        refine ⟨a545, ?_⟩
        exact H
    · replace H := H.2 c
      refine r_X5_correct_62 ?_
      obtain ⟨a546, H⟩ := H
      refine r_X5_correct_71 ?_
      refine ⟨a546, ?_⟩
      exact H
theorem w_correct_86 {d : Nat} {Q : am_K} {b : am_H} {r : Nat} {S : am_G} {V : Nat → Int → Int} {W : Nat → Int} {x1 : Int} {x2 : Int} {x3 : Int} {p4 : Int} {x5 : Int} {x6 : Int} {x7 : Int} {o8 : Option am_V} {o9 : Option am_V} {o10 : Option am_V} {o11 : Option am_V} {o12 : Option am_V} {o13 : Option am_V} {y0 : Int} (H : ((y0 : Int) ≠ 0 → ((-2147483648 ≤ (130 + 645 * p4) + 3 ∧ (130 + 645 * p4) + 3 ≤ 2147483647) ∧ (0 ≤ p4 ∧ p4 < 100)) ∧ (((S 3 p4 3 : Int) ≠ 1 → ((0 ≤ x3 ∧ x3 < 2000000)) ∧ (((-2147483648 ≤ (320230 + 183 * x3) + 29 ∧ (320230 + 183 * x3) + 29 ≤ 2147483647) ∧ (0 ≤ x3 ∧ x3 < 4)) ∧ (((S 5 x3 29 : Int) ≠ 30 → (W 38 ≤ 0 → ((-2147483648 ≤ (130 + 645 * p4) + 3 ∧ (130 + 645 * p4) + 3 ≤ 2147483647) ∧ (0 ≤ p4 ∧ p4 < 100)) ∧ (((S 3 p4 3 : Int) ≠ 0 → am_W m_X5_correct (am_ev am_prog (d + 3)) Q 141 [some (.inr (.inl r)), some (.inl x1), some (.inl x2), some (.inl x3), some (.inl (130 + 645 * p4)), some (.inl x5), some (.inl x6), some (.inl 0), o8, o9, o10, o11, o12, o13] [] (mo b r (ms S) V W)) ∧ ((S 3 p4 3 : Int) = 0 → am_ev am_prog (d + 3) 191 [.inr (.inl r), .inl (130 + 645 * p4), .inl x2, .inl x5, .inl x6] (mo b r (ms S) V W) (am_aft (am_hand m_X5_correct Q (am_W m_X5_correct (am_ev am_prog (d + 3)) Q) 136) (am_W m_X5_correct (am_ev am_prog (d + 3)) Q) 136 [some (.inr (.inl r)), some (.inl x1), some (.inl x2), some (.inl x3), some (.inl (130 + 645 * p4)), some (.inl x5), some (.inl x6), some (.inl x7), o8, o9, o10, o11, o12, o13] [])))) ∧ (0 < W 38 → Q (.inl (some (.inl 0))) (mo b r (ms S) V W))) ∧ ((S 5 x3 29 : Int) = 30 → Q (.inl (some (.inl 0))) (mo b r (ms S) V (am_up W 38 4)))))) ∧ ((S 3 p4 3 : Int) = 1 → am_ev am_prog (d + 3) 190 [.inr (.inl r), .inl x1] (mo b r (ms S) V W) (am_aft (am_hand m_X5_correct Q (am_W m_X5_correct (am_ev am_prog (d + 3)) Q) 101) (am_W m_X5_correct (am_ev am_prog (d + 3)) Q) 101 [some (.inr (.inl r)), some (.inl x1), some (.inl x2), some (.inl x3), some (.inl (130 + 645 * p4)), some (.inl x5), some (.inl x6), some (.inl x7), o8, o9, o10, o11, o12, o13] [])))) ∧ ((y0 : Int) = 0 → Q (.inl (some (.inl 0))) (mo b r (ms S) V (am_up W 38 2)))) : am_W m_X5_correct (am_ev am_prog (d + 3)) Q 86 [some (.inr (.inl r)), some (.inl x1), some (.inl x2), some (.inl x3), some (.inl (130 + 645 * p4)), some (.inl x5), some (.inl x6), some (.inl x7), o8, o9, o10, o11, o12, o13] [.inl y0] (mo b r (ms S) V W) := by
  refine r_X5_correct_86 ?_
  refine ⟨fun c => ?_, fun c => ?_⟩
  · replace H := H.1 c
    obtain ⟨⟨a547, a548⟩, H⟩ := H
    refine r_X5_correct_91 ?_
    simp only [mo_ty, mo_f39, mo_t1, mo_n1, mo_a1, ms_r3 (k := (130 + 645 * p4) + 3) (p := p4) (i := 3) (by omega) (by omega) (by omega), true_or, or_true, true_and]
    refine ⟨a547, (by omega), ⟨fun c => ?_, fun c => ?_⟩⟩
    · replace H := H.1 c
      refine r_X5_correct_107 ?_
      simp only [mo_ty, mo_f39, true_or, or_true, true_and]
      refine ?_
      obtain ⟨a549, H⟩ := H
      refine c_machine0 (by omega) (am_av ?_)
      obtain ⟨⟨a550, a551⟩, H⟩ := H
      refine r_X5_correct_111 ?_
      simp only [mo_t1, mo_n1, mo_a1, ms_r5 (k := (320230 + 183 * x3) + 29) (p := x3) (i := 29) (by omega) (by omega) (by omega), true_or, or_true, true_and]
      refine ⟨a550, (by omega), ⟨fun c => ?_, fun c => ?_⟩⟩
      · replace H := H.1 c
        refine r_X5_correct_119 ?_
        simp only [mo_ty, mo_i, true_or, or_true, true_and]
        refine ⟨fun c => ?_, fun c => ?_⟩
        · replace H := H.1 c
          obtain ⟨⟨a552, a553⟩, H⟩ := H
          refine r_X5_correct_124 ?_
          simp only [mo_ty, mo_f39, mo_t1, mo_n1, mo_a1, ms_r3 (k := (130 + 645 * p4) + 3) (p := p4) (i := 3) (by omega) (by omega) (by omega), true_or, or_true, true_and]
          refine ⟨a552, (by omega), ⟨fun c => ?_, fun c => ?_⟩⟩
          · replace H := H.1 c
            refine r_X5_correct_139 ?_
            exact H
          · replace H := H.2 c
            refine r_X5_correct_131 ?_
            simp only [mo_ty, true_or, or_true, true_and]
            exact H
        · replace H := H.2 c
          refine r_X5_correct_122 ?_
          exact H
      · replace H := H.2 c
        refine r_X5_correct_116 ?_
        simp only [mo_ty, mo_si, true_or, or_true, true_and]
        refine ?_
        refine r_X5_correct_119 ?_
        simp only [mo_ty, mo_i, am_up_eq, true_or, or_true, true_and, Int.reduceLE, Int.reduceLT, Int.reduceEq, Int.reduceNe, ne_eq, false_imp_iff, true_imp_iff, and_true, true_and, not_true_eq_false, not_false_eq_true, not_true, Int.reduceNeg]
        refine ?_
        refine r_X5_correct_122 ?_
        exact H
    · replace H := H.2 c
      refine r_X5_correct_99 ?_
      simp only [mo_ty, true_or, or_true, true_and]
      exact H
  · replace H := H.2 c
    refine r_X5_correct_87 ?_
    simp only [mo_ty, mo_si, true_or, or_true, true_and]
    refine ?_
    refine r_X5_correct_90 ?_
    refine r_X5_correct_119 ?_
    simp only [mo_ty, mo_i, am_up_eq, true_or, or_true, true_and, Int.reduceLE, Int.reduceLT, Int.reduceEq, Int.reduceNe, ne_eq, false_imp_iff, true_imp_iff, and_true, true_and, not_true_eq_false, not_false_eq_true, not_true, Int.reduceNeg]
    refine ?_
    refine r_X5_correct_122 ?_
    exact H
theorem w_correct_102 {d : Nat} {Q : am_K} {b : am_H} {r : Nat} {S : am_G} {V : Nat → Int → Int} {W : Nat → Int} {x1 : Int} {x2 : Int} {x3 : Int} {p4 : Int} {x5 : Int} {x6 : Int} {x7 : Int} {o8 : Option am_V} {o9 : Option am_V} {o10 : Option am_V} {o11 : Option am_V} {o12 : Option am_V} {o13 : Option am_V} {y0 : Int} (H : ((y0 : Int) = 0 → ((0 ≤ x3 ∧ x3 < 2000000)) ∧ (((-2147483648 ≤ (320230 + 183 * x3) + 29 ∧ (320230 + 183 * x3) + 29 ≤ 2147483647) ∧ (0 ≤ x3 ∧ x3 < 4)) ∧ (((S 5 x3 29 : Int) ≠ 30 → (W 38 ≤ 0 → ((-2147483648 ≤ (130 + 645 * p4) + 3 ∧ (130 + 645 * p4) + 3 ≤ 2147483647) ∧ (0 ≤ p4 ∧ p4 < 100)) ∧ (((S 3 p4 3 : Int) ≠ 0 → am_W m_X5_correct (am_ev am_prog (d + 3)) Q 141 [some (.inr (.inl r)), some (.inl x1), some (.inl x2), some (.inl x3), some (.inl (130 + 645 * p4)), some (.inl x5), some (.inl x6), some (.inl 0), o8, o9, o10, o11, o12, o13] [] (mo b r (ms S) V W)) ∧ ((S 3 p4 3 : Int) = 0 → am_ev am_prog (d + 3) 191 [.inr (.inl r), .inl (130 + 645 * p4), .inl x2, .inl x5, .inl x6] (mo b r (ms S) V W) (am_aft (am_hand m_X5_correct Q (am_W m_X5_correct (am_ev am_prog (d + 3)) Q) 136) (am_W m_X5_correct (am_ev am_prog (d + 3)) Q) 136 [some (.inr (.inl r)), some (.inl x1), some (.inl x2), some (.inl x3), some (.inl (130 + 645 * p4)), some (.inl x5), some (.inl x6), some (.inl x7), o8, o9, o10, o11, o12, o13] [])))) ∧ (0 < W 38 → Q (.inl (some (.inl 0))) (mo b r (ms S) V W))) ∧ ((S 5 x3 29 : Int) = 30 → Q (.inl (some (.inl 0))) (mo b r (ms S) V (am_up W 38 4)))))) ∧ ((y0 : Int) ≠ 0 → Q (.inl (some (.inl 0))) (mo b r (ms S) V (am_up W 38 3)))) : am_W m_X5_correct (am_ev am_prog (d + 3)) Q 102 [some (.inr (.inl r)), some (.inl x1), some (.inl x2), some (.inl x3), some (.inl (130 + 645 * p4)), some (.inl x5), some (.inl x6), some (.inl x7), o8, o9, o10, o11, o12, o13] [.inl y0] (mo b r (ms S) V W) := by
  refine r_X5_correct_102 ?_
  refine ⟨fun c => ?_, fun c => ?_⟩
  · replace H := H.1 c
    refine r_X5_correct_107 ?_
    simp only [mo_ty, mo_f39, true_or, or_true, true_and]
    refine ?_
    obtain ⟨a557, H⟩ := H
    refine c_machine0 (by omega) (am_av ?_)
    obtain ⟨⟨a558, a559⟩, H⟩ := H
    refine r_X5_correct_111 ?_
    simp only [mo_t1, mo_n1, mo_a1, ms_r5 (k := (320230 + 183 * x3) + 29) (p := x3) (i := 29) (by omega) (by omega) (by omega), true_or, or_true, true_and]
    refine ⟨a558, (by omega), ⟨fun c => ?_, fun c => ?_⟩⟩
    · replace H := H.1 c
      refine r_X5_correct_119 ?_
      simp only [mo_ty, mo_i, true_or, or_true, true_and]
      refine ⟨fun c => ?_, fun c => ?_⟩
      · replace H := H.1 c
        obtain ⟨⟨a560, a561⟩, H⟩ := H
        refine r_X5_correct_124 ?_
        simp only [mo_ty, mo_f39, mo_t1, mo_n1, mo_a1, ms_r3 (k := (130 + 645 * p4) + 3) (p := p4) (i := 3) (by omega) (by omega) (by omega), true_or, or_true, true_and]
        refine ⟨a560, (by omega), ⟨fun c => ?_, fun c => ?_⟩⟩
        · replace H := H.1 c
          refine r_X5_correct_139 ?_
          exact H
        · replace H := H.2 c
          refine r_X5_correct_131 ?_
          simp only [mo_ty, true_or, or_true, true_and]
          exact H
      · replace H := H.2 c
        refine r_X5_correct_122 ?_
        exact H
    · replace H := H.2 c
      refine r_X5_correct_116 ?_
      simp only [mo_ty, mo_si, true_or, or_true, true_and]
      refine ?_
      refine r_X5_correct_119 ?_
      simp only [mo_ty, mo_i, am_up_eq, true_or, or_true, true_and, Int.reduceLE, Int.reduceLT, Int.reduceEq, Int.reduceNe, ne_eq, false_imp_iff, true_imp_iff, and_true, true_and, not_true_eq_false, not_false_eq_true, not_true, Int.reduceNeg]
      refine ?_
      refine r_X5_correct_122 ?_
      exact H
  · replace H := H.2 c
    refine r_X5_correct_103 ?_
    simp only [mo_ty, mo_si, true_or, or_true, true_and]
    refine ?_
    refine r_X5_correct_106 ?_
    refine r_X5_correct_119 ?_
    simp only [mo_ty, mo_i, am_up_eq, true_or, or_true, true_and, Int.reduceLE, Int.reduceLT, Int.reduceEq, Int.reduceNe, ne_eq, false_imp_iff, true_imp_iff, and_true, true_and, not_true_eq_false, not_false_eq_true, not_true, Int.reduceNeg]
    refine ?_
    refine r_X5_correct_122 ?_
    exact H
theorem w_correct_137 {d : Nat} {Q : am_K} {b : am_H} {r : Nat} {S : am_G} {V : Nat → Int → Int} {W : Nat → Int} {x1 : Int} {x2 : Int} {x3 : Int} {x4 : Int} {x5 : Int} {x6 : Int} {x7 : Int} {o8 : Option am_V} {o9 : Option am_V} {o10 : Option am_V} {o11 : Option am_V} {o12 : Option am_V} {o13 : Option am_V} (H : Q (.inl (some (.inl 0))) (mo b r (ms S) V W)) : am_W m_X5_correct (am_ev am_prog (d + 3)) Q 137 [some (.inr (.inl r)), some (.inl x1), some (.inl x2), some (.inl x3), some (.inl x4), some (.inl x5), some (.inl x6), some (.inl x7), o8, o9, o10, o11, o12, o13] [] (mo b r (ms S) V W) := by
  refine r_X5_correct_137 ?_
  exact H
theorem w_correct_141 {d : Nat} {Q : am_K} {b : am_H} {r : Nat} {S : am_G} {V : Nat → Int → Int} {W : Nat → Int} {x1 : Int} {x2 : Int} {x3 : Int} {p4 : Int} {x5 : Int} {x6 : Int} {x7 : Int} {o8 : Option am_V} {o9 : Option am_V} {o10 : Option am_V} {o11 : Option am_V} {o12 : Option am_V} {o13 : Option am_V} (H : ((-2147483648 ≤ (130 + 645 * p4) + 5 ∧ (130 + 645 * p4) + 5 ≤ 2147483647) ∧ (-2147483648 ≤ ((130 + 645 * p4) + 5) + x7 ∧ ((130 + 645 * p4) + 5) + x7 ≤ 2147483647) ∧ (0 ≤ p4 ∧ p4 < 100) ∧ (0 ≤ 5 + x7 ∧ 5 + x7 < 645)) ∧ ((x5 ≤ S 3 p4 (5 + x7) → ((-2147483648 ≤ (130 + 645 * p4) + 4 ∧ (130 + 645 * p4) + 4 ≤ 2147483647) ∧ (0 ≤ p4 ∧ p4 < 100)) ∧ (am_W m_X5_correct (am_ev am_prog (d + 3)) Q 162 [some (.inr (.inl r)), some (.inl x1), some (.inl x2), some (.inl x3), some (.inl (130 + 645 * p4)), some (.inl x5), some (.inl x6), some (.inl x7), some (.inl (S 3 p4 4)), some (.inl x7), o10, o11, o12, o13] [] (mo b r (ms S) V W))) ∧ (S 3 p4 (5 + x7) < x5 → ((-2147483648 ≤ x7 + 1 ∧ x7 + 1 ≤ 2147483647)) ∧ (am_W m_X5_correct (am_ev am_prog (d + 3)) Q 141 [some (.inr (.inl r)), some (.inl x1), some (.inl x2), some (.inl x3), some (.inl (130 + 645 * p4)), some (.inl x5), some (.inl x6), some (.inl (x7 + 1)), o8, o9, o10, o11, o12, o13] [] (mo b r (ms S) V W))))) : am_W m_X5_correct (am_ev am_prog (d + 3)) Q 141 [some (.inr (.inl r)), some (.inl x1), some (.inl x2), some (.inl x3), some (.inl (130 + 645 * p4)), some (.inl x5), some (.inl x6), some (.inl x7), o8, o9, o10, o11, o12, o13] [] (mo b r (ms S) V W) := by
  obtain ⟨⟨a562, a563, a564, a565⟩, H⟩ := H
  refine r_X5_correct_141 ?_
  simp only [mo_ty, mo_f39, mo_t1, mo_n1, mo_a1, ms_r3 (k := ((130 + 645 * p4) + 5) + x7) (p := p4) (i := 5 + x7) (by omega) (by omega) (by omega), true_or, or_true, true_and]
  refine ⟨a562, a563, (by omega), ⟨fun c => ?_, fun c => ?_⟩⟩
  · replace H := H.1 c
    obtain ⟨⟨a566, a567⟩, H⟩ := H
    refine r_X5_correct_153 ?_
    simp only [mo_ty, mo_f39, mo_t1, mo_n1, mo_a1, ms_r3 (k := (130 + 645 * p4) + 4) (p := p4) (i := 4) (by omega) (by omega) (by omega), true_or, or_true, true_and]
    refine ⟨a566, (by omega), ?_⟩
    exact H
  · replace H := H.2 c
    obtain ⟨a568, H⟩ := H
    refine r_X5_correct_151 ?_
    refine ⟨a568, ?_⟩
    exact H
theorem w_correct_162 {d : Nat} {Q : am_K} {b : am_H} {r : Nat} {S : am_G} {V : Nat → Int → Int} {W : Nat → Int} {x1 : Int} {x2 : Int} {x3 : Int} {p4 : Int} {x5 : Int} {x6 : Int} {x7 : Int} {x8 : Int} {x9 : Int} {o10 : Option am_V} {o11 : Option am_V} {o12 : Option am_V} {o13 : Option am_V} (H : (x8 ≤ x9 → ((0 ≤ p4 ∧ p4 < 100) ∧ (0 ≤ x7 ∧ x7 < 500) ∧ (-2147483648 ≤ S 3 p4 (4 + x7) + 1 ∧ S 3 p4 (4 + x7) + 1 ≤ 2147483647)) ∧ (am_W m_X5_correct (am_ev am_prog (d + 3)) Q 218 [some (.inr (.inl r)), some (.inl x1), some (.inl x2), some (.inl x3), some (.inl (130 + 645 * p4)), some (.inl x5), some (.inl x6), some (.inl x7), some (.inl x8), some (.inl (if x7 = 0 then 0 else S 3 p4 (4 + x7) + 1)), some (.inl 0), o11, o12, o13] [] (mo b r (ms S) V W))) ∧ (x9 < x8 → am_ev am_prog (d + 3) 193 [.inr (.inl r), .inl x1, .inl x9] (mo b r (ms S) V W) (am_aft (am_hand m_X5_correct Q (am_W m_X5_correct (am_ev am_prog (d + 3)) Q) 168) (am_W m_X5_correct (am_ev am_prog (d + 3)) Q) 168 [some (.inr (.inl r)), some (.inl x1), some (.inl x2), some (.inl x3), some (.inl (130 + 645 * p4)), some (.inl x5), some (.inl x6), some (.inl x7), some (.inl x8), some (.inl x9), o10, o11, o12, o13] []))) : am_W m_X5_correct (am_ev am_prog (d + 3)) Q 162 [some (.inr (.inl r)), some (.inl x1), some (.inl x2), some (.inl x3), some (.inl (130 + 645 * p4)), some (.inl x5), some (.inl x6), some (.inl x7), some (.inl x8), some (.inl x9), o10, o11, o12, o13] [] (mo b r (ms S) V W) := by
  refine r_X5_correct_162 ?_
  refine ⟨fun c => ?_, fun c => ?_⟩
  · replace H := H.1 c
    refine r_X5_correct_211 ?_
    simp only [mo_ty, true_or, or_true, true_and]
    refine ?_
    obtain ⟨⟨a569, a570, a571⟩, H⟩ := H
    refine c_begins (by omega) (by omega) (by omega) (am_av ?_)
    refine r_X5_correct_215 ?_
    exact H
  · replace H := H.2 c
    refine r_X5_correct_165 ?_
    simp only [mo_ty, true_or, or_true, true_and]
    exact H
theorem w_correct_169 {d : Nat} {Q : am_K} {b : am_H} {r : Nat} {S : am_G} {V : Nat → Int → Int} {W : Nat → Int} {x1 : Int} {x2 : Int} {x3 : Int} {p4 : Int} {x5 : Int} {x6 : Int} {x7 : Int} {x8 : Int} {x9 : Int} {o10 : Option am_V} {o11 : Option am_V} {o12 : Option am_V} {o13 : Option am_V} (H : ((0 ≤ x9 ∧ x9 < 40)) ∧ (((-2147483648 ≤ (130 + 645 * p4) + 45 ∧ (130 + 645 * p4) + 45 ≤ 2147483647) ∧ (-2147483648 ≤ ((130 + 645 * p4) + 45) + x9 ∧ ((130 + 645 * p4) + 45) + x9 ≤ 2147483647) ∧ (0 ≤ p4 ∧ p4 < 100) ∧ (0 ≤ 45 + x9 ∧ 45 + x9 < 645) ∧ (-2147483648 ≤ (S 3 p4 (45 + x9)) - 1 ∧ (S 3 p4 (45 + x9)) - 1 ≤ 2147483647) ∧ (0 ≤ x9 ∧ x9 < 40)) ∧ (am_W m_X5_correct (am_ev am_prog (d + 3)) Q 191 [some (.inr (.inl r)), some (.inl x1), some (.inl x2), some (.inl x3), some (.inl (130 + 645 * p4)), some (.inl x5), some (.inl x6), some (.inl x7), some (.inl x8), some (.inl x9), some (.inl 0), o11, o12, o13] [] (mo b r (ms S) (am_up (am_up V 21 (am_uz (V 21) x9 (W 73))) 22 (am_uz (V 22) x9 ((S 3 p4 (45 + x9)) - 1))) W)))) : am_W m_X5_correct (am_ev am_prog (d + 3)) Q 169 [some (.inr (.inl r)), some (.inl x1), some (.inl x2), some (.inl x3), some (.inl (130 + 645 * p4)), some (.inl x5), some (.inl x6), some (.inl x7), some (.inl x8), some (.inl x9), o10, o11, o12, o13] [] (mo b r (ms S) V W) := by
  obtain ⟨a573, H⟩ := H
  refine r_X5_correct_169 ?_
  simp only [mo_ty, mo_f77, mo_i, mo_t21, mo_n21, mo_s21, true_or, or_true, true_and]
  refine ⟨a573, ?_⟩
  obtain ⟨⟨a574, a575, a576, a577, a578, a579⟩, H⟩ := H
  refine r_X5_correct_175 ?_
  simp only [mo_ty, mo_f78, mo_f39, mo_t1, mo_n1, mo_a1, ms_r3 (k := ((130 + 645 * p4) + 45) + x9) (p := p4) (i := 45 + x9) (by omega) (by omega) (by omega), mo_t22, mo_n22, mo_s22, am_up_ne (by decide : (22 : Nat) ≠ 21), true_or, or_true, true_and]
  refine ⟨a574, a575, (by omega), a578, a579, ?_⟩
  refine r_X5_correct_189 ?_
  exact H
theorem w_correct_191 {d : Nat} {Q : am_K} {b : am_H} {r : Nat} {S : am_G} {V : Nat → Int → Int} {W : Nat → Int} {x1 : Int} {x2 : Int} {x3 : Int} {x4 : Int} {x5 : Int} {x6 : Int} {x7 : Int} {x8 : Int} {x9 : Int} {x10 : Int} {o11 : Option am_V} {o12 : Option am_V} {o13 : Option am_V} (H : (W 73 ≤ x10 → ((-2147483648 ≤ x9 + 1 ∧ x9 + 1 ≤ 2147483647)) ∧ (am_W m_X5_correct (am_ev am_prog (d + 3)) Q 162 [some (.inr (.inl r)), some (.inl x1), some (.inl x2), some (.inl x3), some (.inl x4), some (.inl x5), some (.inl x6), some (.inl x7), some (.inl x8), some (.inl (x9 + 1)), some (.inl x10), o11, o12, o13] [] (mo b r (ms S) V W))) ∧ (x10 < W 73 → ((-2147483648 ≤ 430 * x9 ∧ 430 * x9 ≤ 2147483647) ∧ (-2147483648 ≤ (430 * x9) + x10 ∧ (430 * x9) + x10 ≤ 2147483647) ∧ (0 ≤ x10 ∧ x10 < 430) ∧ (0 ≤ (430 * x9) + x10 ∧ (430 * x9) + x10 < 17200)) ∧ (((-2147483648 ≤ x10 + 1 ∧ x10 + 1 ≤ 2147483647)) ∧ (am_W m_X5_correct (am_ev am_prog (d + 3)) Q 191 [some (.inr (.inl r)), some (.inl x1), some (.inl x2), some (.inl x3), some (.inl x4), some (.inl x5), some (.inl x6), some (.inl x7), some (.inl x8), some (.inl x9), some (.inl (x10 + 1)), o11, o12, o13] [] (mo b r (ms S) (am_up V 20 (am_uz (V 20) ((430 * x9) + x10) (V 17 x10))) W))))) : am_W m_X5_correct (am_ev am_prog (d + 3)) Q 191 [some (.inr (.inl r)), some (.inl x1), some (.inl x2), some (.inl x3), some (.inl x4), some (.inl x5), some (.inl x6), some (.inl x7), some (.inl x8), some (.inl x9), some (.inl x10), o11, o12, o13] [] (mo b r (ms S) V W) := by
  refine r_X5_correct_191 ?_
  simp only [mo_ty, mo_i, true_or, or_true, true_and]
  refine ⟨fun c => ?_, fun c => ?_⟩
  · replace H := H.1 c
    obtain ⟨a580, H⟩ := H
    refine r_X5_correct_209 ?_
    refine ⟨a580, ?_⟩
    exact H
  · replace H := H.2 c
    obtain ⟨⟨a581, a582, a583, a584⟩, H⟩ := H
    refine r_X5_correct_195 ?_
    simp only [mo_ty, mo_f76, mo_f72, mo_t17, mo_n17, mo_a17, mo_t20, mo_n20, mo_s20, true_or, or_true, true_and]
    refine ⟨a581, a582, a583, a584, ?_⟩
    obtain ⟨a585, H⟩ := H
    refine r_X5_correct_207 ?_
    refine ⟨a585, ?_⟩
    exact H
theorem w_correct_218 {d : Nat} {Q : am_K} {b : am_H} {r : Nat} {S : am_G} {V : Nat → Int → Int} {W : Nat → Int} {x1 : Int} {x2 : Int} {x3 : Int} {p4 : Int} {x5 : Int} {x6 : Int} {x7 : Int} {x8 : Int} {x9 : Int} {x10 : Int} {o11 : Option am_V} {o12 : Option am_V} {o13 : Option am_V} (H : (645 ≤ x10 → am_ev am_prog (d + 3) 191 [.inr (.inl r), .inl (130 + 645 * p4), .inl x2, .inl x5, .inl x6] (mo b r (ms S) V W) (am_aft (am_hand m_X5_correct Q (am_W m_X5_correct (am_ev am_prog (d + 3)) Q) 238) (am_W m_X5_correct (am_ev am_prog (d + 3)) Q) 238 [some (.inr (.inl r)), some (.inl x1), some (.inl x2), some (.inl x3), some (.inl (130 + 645 * p4)), some (.inl x5), some (.inl x6), some (.inl x7), some (.inl x8), some (.inl x9), some (.inl x10), o11, o12, o13] [])) ∧ (x10 < 645 → ((-2147483648 ≤ (130 + 645 * p4) + x10 ∧ (130 + 645 * p4) + x10 ≤ 2147483647) ∧ (0 ≤ p4 ∧ p4 < 100) ∧ (0 ≤ x10 ∧ x10 < 645)) ∧ (((-2147483648 ≤ x10 + 1 ∧ x10 + 1 ≤ 2147483647)) ∧ (am_W m_X5_correct (am_ev am_prog (d + 3)) Q 218 [some (.inr (.inl r)), some (.inl x1), some (.inl x2), some (.inl x3), some (.inl (130 + 645 * p4)), some (.inl x5), some (.inl x6), some (.inl x7), some (.inl x8), some (.inl x9), some (.inl (x10 + 1)), o11, o12, o13] [] (mo b r (ms S) (am_up V 23 (am_uz (V 23) x10 (S 3 p4 x10))) W))))) : am_W m_X5_correct (am_ev am_prog (d + 3)) Q 218 [some (.inr (.inl r)), some (.inl x1), some (.inl x2), some (.inl x3), some (.inl (130 + 645 * p4)), some (.inl x5), some (.inl x6), some (.inl x7), some (.inl x8), some (.inl x9), some (.inl x10), o11, o12, o13] [] (mo b r (ms S) V W) := by
  refine r_X5_correct_218 ?_
  refine ⟨fun c => ?_, fun c => ?_⟩
  · replace H := H.1 c
    refine r_X5_correct_233 ?_
    simp only [mo_ty, true_or, or_true, true_and]
    exact H
  · replace H := H.2 c
    obtain ⟨⟨a586, a587, a588⟩, H⟩ := H
    refine r_X5_correct_221 ?_
    simp only [mo_ty, mo_f79, mo_f39, mo_t1, mo_n1, mo_a1, ms_r3 (k := (130 + 645 * p4) + x10) (p := p4) (i := x10) (by omega) (by omega) (by omega), mo_t23, mo_n23, mo_s23, true_or, or_true, true_and]
    refine ⟨a586, (by omega), a588, ?_⟩
    obtain ⟨a589, H⟩ := H
    refine r_X5_correct_231 ?_
    refine ⟨a589, ?_⟩
    exact H
theorem w_correct_239 {d : Nat} {Q : am_K} {b : am_H} {r : Nat} {S : am_G} {V : Nat → Int → Int} {W : Nat → Int} {x1 : Int} {x2 : Int} {x3 : Int} {x4 : Int} {x5 : Int} {x6 : Int} {x7 : Int} {x8 : Int} {x9 : Int} {x10 : Int} {o11 : Option am_V} {o12 : Option am_V} {o13 : Option am_V} (H : am_ev am_prog (d + 3) 113 [.inr (.inl r), .inl x1, .inl (S 0 0 0)] (mo b r (ms S) V W) (am_aft (am_hand m_X5_correct Q (am_W m_X5_correct (am_ev am_prog (d + 3)) Q) 245) (am_W m_X5_correct (am_ev am_prog (d + 3)) Q) 245 [some (.inr (.inl r)), some (.inl x1), some (.inl x2), some (.inl x3), some (.inl x4), some (.inl x5), some (.inl x6), some (.inl x7), some (.inl x8), some (.inl x9), some (.inl x10), o11, o12, o13] [])) : am_W m_X5_correct (am_ev am_prog (d + 3)) Q 239 [some (.inr (.inl r)), some (.inl x1), some (.inl x2), some (.inl x3), some (.inl x4), some (.inl x5), some (.inl x6), some (.inl x7), some (.inl x8), some (.inl x9), some (.inl x10), o11, o12, o13] [] (mo b r (ms S) V W) := by
  refine r_X5_correct_239 ?_
  simp only [mo_ty, mo_f39, mo_t1, mo_n1, mo_a1, ms_r0 (k := 0) (p := 0) (i := 0) (by omega) (by omega) (by omega), true_or, or_true, true_and]
  exact ⟨(by omega), H⟩
theorem w_correct_246 {d : Nat} {Q : am_K} {b : am_H} {r : Nat} {S : am_G} {V : Nat → Int → Int} {W : Nat → Int} {x1 : Int} {x2 : Int} {x3 : Int} {x4 : Int} {x5 : Int} {x6 : Int} {x7 : Int} {x8 : Int} {x9 : Int} {x10 : Int} {o11 : Option am_V} {o12 : Option am_V} {o13 : Option am_V} (H : ((0 ≤ x9 ∧ x9 < 41)) ∧ (((V 14 x9 : Int) ≠ (-1) → am_W m_X5_correct (am_ev am_prog (d + 3)) Q 275 [some (.inr (.inl r)), some (.inl x1), some (.inl x2), some (.inl x3), some (.inl x4), some (.inl x5), some (.inl x6), some (.inl x7), some (.inl x8), some (.inl x9), some (.inl x9), some (.inl x7), o12, o13] [] (mo b r (ms S) V W)) ∧ ((V 14 x9 : Int) = (-1) → am_W m_X5_correct (am_ev am_prog (d + 3)) Q 254 [some (.inr (.inl r)), some (.inl x1), some (.inl x2), some (.inl x3), some (.inl x4), some (.inl x5), some (.inl x6), some (.inl x7), some (.inl x8), some (.inl x9), some (.inl 0), o11, o12, o13] [] (mo b r (ms S) V W)))) : am_W m_X5_correct (am_ev am_prog (d + 3)) Q 246 [some (.inr (.inl r)), some (.inl x1), some (.inl x2), some (.inl x3), some (.inl x4), some (.inl x5), some (.inl x6), some (.inl x7), some (.inl x8), some (.inl x9), some (.inl x10), o11, o12, o13] [] (mo b r (ms S) V W) := by
  obtain ⟨a590, H⟩ := H
  refine r_X5_correct_246 ?_
  simp only [mo_ty, mo_f69, mo_t14, mo_n14, mo_a14, true_or, or_true, true_and]
  refine ⟨a590, ⟨fun c => ?_, fun c => ?_⟩⟩
  · replace H := H.1 c
    refine r_X5_correct_271 ?_
    exact H
  · replace H := H.2 c
    refine r_X5_correct_252 ?_
    exact H
theorem w_correct_254 {d : Nat} {Q : am_K} {b : am_H} {r : Nat} {S : am_G} {V : Nat → Int → Int} {W : Nat → Int} {x1 : Int} {x2 : Int} {x3 : Int} {p4 : Int} {x5 : Int} {x6 : Int} {x7 : Int} {x8 : Int} {x9 : Int} {x10 : Int} {o11 : Option am_V} {o12 : Option am_V} {o13 : Option am_V} (H : (645 ≤ x10 → Q (.inl (some (.inl (-1)))) (mo b r (ms S) V W)) ∧ (x10 < 645 → ((-2147483648 ≤ (130 + 645 * p4) + x10 ∧ (130 + 645 * p4) + x10 ≤ 2147483647) ∧ (0 ≤ x10 ∧ x10 < 645) ∧ (0 ≤ p4 ∧ p4 < 100)) ∧ (((-2147483648 ≤ x10 + 1 ∧ x10 + 1 ≤ 2147483647)) ∧ (am_W m_X5_correct (am_ev am_prog (d + 3)) Q 254 [some (.inr (.inl r)), some (.inl x1), some (.inl x2), some (.inl x3), some (.inl (130 + 645 * p4)), some (.inl x5), some (.inl x6), some (.inl x7), some (.inl x8), some (.inl x9), some (.inl (x10 + 1)), o11, o12, o13] [] (mo b r (ms (u3 S 3 p4 x10 (V 23 x10))) V W))))) : am_W m_X5_correct (am_ev am_prog (d + 3)) Q 254 [some (.inr (.inl r)), some (.inl x1), some (.inl x2), some (.inl x3), some (.inl (130 + 645 * p4)), some (.inl x5), some (.inl x6), some (.inl x7), some (.inl x8), some (.inl x9), some (.inl x10), o11, o12, o13] [] (mo b r (ms S) V W) := by
  refine r_X5_correct_254 ?_
  refine ⟨fun c => ?_, fun c => ?_⟩
  · replace H := H.1 c
    refine r_X5_correct_269 ?_
    exact H
  · replace H := H.2 c
    obtain ⟨⟨a591, a592, a593⟩, H⟩ := H
    refine r_X5_correct_257 ?_
    simp only [mo_ty, mo_f39, mo_f79, mo_t23, mo_n23, mo_a23, mo_t1, mo_n1, mo_s1, ms_w3 (k := (130 + 645 * p4) + x10) (p := p4) (i := x10) (by omega) (by omega) (by omega), true_or, or_true, true_and]
    refine ⟨a591, a592, (by omega), ?_⟩
    obtain ⟨a594, H⟩ := H
    refine r_X5_correct_267 ?_
    refine ⟨a594, ?_⟩
    exact H
theorem w_correct_275 {d : Nat} {Q : am_K} {b : am_H} {r : Nat} {S : am_G} {V : Nat → Int → Int} {W : Nat → Int} {x1 : Int} {x2 : Int} {x3 : Int} {p4 : Int} {x5 : Int} {x6 : Int} {x7 : Int} {x8 : Int} {x9 : Int} {x10 : Int} {x11 : Int} {o12 : Option am_V} {o13 : Option am_V} (H : ((-2147483648 ≤ (130 + 645 * p4) + 1 ∧ (130 + 645 * p4) + 1 ≤ 2147483647) ∧ (0 ≤ p4 ∧ p4 < 100)) ∧ ((S 3 p4 1 ≤ x10 → ((-2147483648 ≤ (130 + 645 * p4) + 4 ∧ (130 + 645 * p4) + 4 ≤ 2147483647) ∧ (0 ≤ p4 ∧ p4 < 100)) ∧ (am_W m_X5_correct (am_ev am_prog (d + 3)) Q 319 [some (.inr (.inl r)), some (.inl x1), some (.inl x2), some (.inl x3), some (.inl (130 + 645 * p4)), some (.inl x5), some (.inl x6), some (.inl x7), some (.inl x8), some (.inl x9), some (.inl x10), some (.inl x11), some (.inl 0), o13] [] (mo b r (ms (u3 S 3 p4 4 x11)) V W))) ∧ (x10 < S 3 p4 1 → ((0 ≤ x10 ∧ x10 < 41) ∧ (-2147483648 ≤ (130 + 645 * p4) + 5 ∧ (130 + 645 * p4) + 5 ≤ 2147483647) ∧ (-2147483648 ≤ ((130 + 645 * p4) + 5) + x11 ∧ ((130 + 645 * p4) + 5) + x11 ≤ 2147483647) ∧ (-2147483648 ≤ (V 16 x10) - 1 ∧ (V 16 x10) - 1 ≤ 2147483647) ∧ (0 ≤ p4 ∧ p4 < 100) ∧ (0 ≤ 5 + x11 ∧ 5 + x11 < 645)) ∧ (((-2147483648 ≤ (130 + 645 * p4) + 45 ∧ (130 + 645 * p4) + 45 ≤ 2147483647) ∧ (-2147483648 ≤ ((130 + 645 * p4) + 45) + x11 ∧ ((130 + 645 * p4) + 45) + x11 ≤ 2147483647) ∧ (0 ≤ p4 ∧ p4 < 100) ∧ (0 ≤ 45 + x11 ∧ 45 + x11 < 645)) ∧ (((-2147483648 ≤ x11 + 1 ∧ x11 + 1 ≤ 2147483647)) ∧ (am_W m_X5_correct (am_ev am_prog (d + 3)) Q 275 [some (.inr (.inl r)), some (.inl x1), some (.inl x2), some (.inl x3), some (.inl (130 + 645 * p4)), some (.inl x5), some (.inl x6), some (.inl x7), some (.inl x8), some (.inl x9), some (.inl (V 16 x10)), some (.inl (x11 + 1)), o12, o13] [] (mo b r (ms (u3 (u3 S 3 p4 (5 + x11) ((V 16 x10) - 1)) 3 p4 (45 + x11) 0)) V W))))))) : am_W m_X5_correct (am_ev am_prog (d + 3)) Q 275 [some (.inr (.inl r)), some (.inl x1), some (.inl x2), some (.inl x3), some (.inl (130 + 645 * p4)), some (.inl x5), some (.inl x6), some (.inl x7), some (.inl x8), some (.inl x9), some (.inl x10), some (.inl x11), o12, o13] [] (mo b r (ms S) V W) := by
  obtain ⟨⟨a595, a596⟩, H⟩ := H
  refine r_X5_correct_275 ?_
  simp only [mo_ty, mo_f39, mo_t1, mo_n1, mo_a1, ms_r3 (k := (130 + 645 * p4) + 1) (p := p4) (i := 1) (by omega) (by omega) (by omega), true_or, or_true, true_and]
  refine ⟨a595, (by omega), ⟨fun c => ?_, fun c => ?_⟩⟩
  · replace H := H.1 c
    obtain ⟨⟨a597, a598⟩, H⟩ := H
    refine r_X5_correct_310 ?_
    simp only [mo_ty, mo_f39, mo_t1, mo_n1, mo_s1, ms_w3 (k := (130 + 645 * p4) + 4) (p := p4) (i := 4) (by omega) (by omega) (by omega), true_or, or_true, true_and]
    refine ⟨a597, (by omega), ?_⟩
    refine r_X5_correct_317 ?_
    exact H
  · replace H := H.2 c
    obtain ⟨⟨a599, a600, a601, a602, a603, a604⟩, H⟩ := H
    refine r_X5_correct_283 ?_
    simp only [mo_ty, mo_f71, mo_t16, mo_n16, mo_a16, mo_f39, mo_t1, mo_n1, mo_s1, ms_w3 (k := ((130 + 645 * p4) + 5) + x11) (p := p4) (i := 5 + x11) (by omega) (by omega) (by omega), true_or, or_true, true_and]
    refine ⟨a599, a600, a601, a602, (by omega), ?_⟩
    obtain ⟨⟨a605, a606, a607, a608⟩, H⟩ := H
    refine r_X5_correct_299 ?_
    simp only [mo_ty, mo_f39, mo_t1, mo_n1, mo_s1, ms_w3 (k := ((130 + 645 * p4) + 45) + x11) (p := p4) (i := 45 + x11) (by omega) (by omega) (by omega), true_or, or_true, true_and]
    refine ⟨a605, a606, (by omega), ?_⟩
    obtain ⟨a609, H⟩ := H
    refine r_X5_correct_308 ?_
    refine ⟨a609, ?_⟩
    exact H
theorem w_correct_319 {d : Nat} {Q : am_K} {b : am_H} {r : Nat} {S : am_G} {V : Nat → Int → Int} {W : Nat → Int} {x1 : Int} {x2 : Int} {x3 : Int} {x4 : Int} {x5 : Int} {x6 : Int} {x7 : Int} {x8 : Int} {x9 : Int} {x10 : Int} {x11 : Int} {x12 : Int} {o13 : Option am_V} (H : ((-2147483648 ≤ x8 - x7 ∧ x8 - x7 ≤ 2147483647)) ∧ ((x8 - x7 ≤ x12 → am_W m_X5_correct (am_ev am_prog (d + 3)) Q 347 [some (.inr (.inl r)), some (.inl x1), some (.inl x2), some (.inl x3), some (.inl x4), some (.inl x5), some (.inl x6), some (.inl x7), some (.inl x8), some (.inl x9), some (.inl x10), some (.inl x11), some (.inl x12), some (.inl x7)] [] (mo b r (ms S) V W)) ∧ (x12 < x8 - x7 → ((-2147483648 ≤ x11 - x7 ∧ x11 - x7 ≤ 2147483647)) ∧ ((x11 - x7 ≤ x12 → am_W m_X5_correct (am_ev am_prog (d + 3)) Q 347 [some (.inr (.inl r)), some (.inl x1), some (.inl x2), some (.inl x3), some (.inl x4), some (.inl x5), some (.inl x6), some (.inl x7), some (.inl x8), some (.inl x9), some (.inl x10), some (.inl x11), some (.inl x12), some (.inl x7)] [] (mo b r (ms S) V W)) ∧ (x12 < x11 - x7 → ((-2147483648 ≤ x8 - 1 ∧ x8 - 1 ≤ 2147483647) ∧ (-2147483648 ≤ (x8 - 1) - x12 ∧ (x8 - 1) - x12 ≤ 2147483647) ∧ (-2147483648 ≤ x11 - 1 ∧ x11 - 1 ≤ 2147483647) ∧ (-2147483648 ≤ (x11 - 1) - x12 ∧ (x11 - 1) - x12 ≤ 2147483647)) ∧ (am_ev am_prog (d + 3) 194 [.inr (.inl r), .inl x1, .inl ((x8 - 1) - x12), .inl ((x11 - 1) - x12)] (mo b r (ms S) V W) (am_aft (am_hand m_X5_correct Q (am_W m_X5_correct (am_ev am_prog (d + 3)) Q) 341) (am_W m_X5_correct (am_ev am_prog (d + 3)) Q) 341 [some (.inr (.inl r)), some (.inl x1), some (.inl x2), some (.inl x3), some (.inl x4), some (.inl x5), some (.inl x6), some (.inl x7), some (.inl x8), some (.inl x9), some (.inl x10), some (.inl x11), some (.inl x12), o13] []))))))) : am_W m_X5_correct (am_ev am_prog (d + 3)) Q 319 [some (.inr (.inl r)), some (.inl x1), some (.inl x2), some (.inl x3), some (.inl x4), some (.inl x5), some (.inl x6), some (.inl x7), some (.inl x8), some (.inl x9), some (.inl x10), some (.inl x11), some (.inl x12), o13] [] (mo b r (ms S) V W) := by
  obtain ⟨a610, H⟩ := H
  refine r_X5_correct_319 ?_
  refine ⟨a610, ⟨fun c => ?_, fun c => ?_⟩⟩
  · replace H := H.1 c
    refine r_X5_correct_345 ?_
    exact H
  · replace H := H.2 c
    obtain ⟨a611, H⟩ := H
    refine r_X5_correct_324 ?_
    refine ⟨a611, ⟨fun c => ?_, fun c => ?_⟩⟩
    · replace H := H.1 c
      refine r_X5_correct_345 ?_
      exact H
    · replace H := H.2 c
      obtain ⟨⟨a612, a613, a614, a615⟩, H⟩ := H
      refine r_X5_correct_329 ?_
      simp only [mo_ty, true_or, or_true, true_and]
      exact ⟨a612, a613, a614, a615, H⟩
theorem w_correct_342 {d : Nat} {Q : am_K} {b : am_H} {r : Nat} {S : am_G} {V : Nat → Int → Int} {W : Nat → Int} {x1 : Int} {x2 : Int} {x3 : Int} {x4 : Int} {x5 : Int} {x6 : Int} {x7 : Int} {x8 : Int} {x9 : Int} {x10 : Int} {x11 : Int} {x12 : Int} {o13 : Option am_V} {y0 : Int} (H : ((y0 : Int) = 0 → am_W m_X5_correct (am_ev am_prog (d + 3)) Q 347 [some (.inr (.inl r)), some (.inl x1), some (.inl x2), some (.inl x3), some (.inl x4), some (.inl x5), some (.inl x6), some (.inl x7), some (.inl x8), some (.inl x9), some (.inl x10), some (.inl x11), some (.inl x12), some (.inl x7)] [] (mo b r (ms S) V W)) ∧ ((y0 : Int) ≠ 0 → ((-2147483648 ≤ x12 + 1 ∧ x12 + 1 ≤ 2147483647)) ∧ (am_W m_X5_correct (am_ev am_prog (d + 3)) Q 319 [some (.inr (.inl r)), some (.inl x1), some (.inl x2), some (.inl x3), some (.inl x4), some (.inl x5), some (.inl x6), some (.inl x7), some (.inl x8), some (.inl x9), some (.inl x10), some (.inl x11), some (.inl (x12 + 1)), o13] [] (mo b r (ms S) V W)))) : am_W m_X5_correct (am_ev am_prog (d + 3)) Q 342 [some (.inr (.inl r)), some (.inl x1), some (.inl x2), some (.inl x3), some (.inl x4), some (.inl x5), some (.inl x6), some (.inl x7), some (.inl x8), some (.inl x9), some (.inl x10), some (.inl x11), some (.inl x12), o13] [.inl y0] (mo b r (ms S) V W) := by
  refine r_X5_correct_342 ?_
  refine ⟨fun c => ?_, fun c => ?_⟩
  · replace H := H.1 c
    refine r_X5_correct_345 ?_
    exact H
  · replace H := H.2 c
    obtain ⟨a616, H⟩ := H
    refine r_X5_correct_343 ?_
    refine ⟨a616, ?_⟩
    exact H
theorem w_correct_347 {d : Nat} {Q : am_K} {b : am_H} {r : Nat} {S : am_G} {V : Nat → Int → Int} {W : Nat → Int} {x1 : Int} {x2 : Int} {x3 : Int} {x4 : Int} {x5 : Int} {x6 : Int} {x7 : Int} {x8 : Int} {x9 : Int} {x10 : Int} {x11 : Int} {x12 : Int} {x13 : Int} (H : (x8 ≤ x13 → ((-2147483648 ≤ x11 - x7 ∧ x11 - x7 ≤ 2147483647) ∧ (-2147483648 ≤ (x11 - x7) - x12 ∧ (x11 - x7) - x12 ≤ 2147483647)) ∧ (((x11 - x7) - x12 ≤ 0 → Q (.inl (some (.inl ((x11 - x7) - x12)))) (mo b r (ms S) V W)) ∧ (0 < (x11 - x7) - x12 → ((-2147483648 ≤ x7 + ((x11 - x7) - x12) ∧ x7 + ((x11 - x7) - x12) ≤ 2147483647)) ∧ (am_ev am_prog (d + 3) 176 [.inr (.inl r), .inl x3, .inl x1, .inl x7, .inl (x7 + ((x11 - x7) - x12)), .inl 1, .inl 0] (mo b r (ms S) V W) (am_aft (am_hand m_X5_correct Q (am_W m_X5_correct (am_ev am_prog (d + 3)) Q) 400) (am_W m_X5_correct (am_ev am_prog (d + 3)) Q) 400 [some (.inr (.inl r)), some (.inl x1), some (.inl x2), some (.inl x3), some (.inl x4), some (.inl x5), some (.inl x6), some (.inl x7), some (.inl x8), some (.inl x9), some (.inl x10), some (.inl x11), some (.inl x12), some (.inl ((x11 - x7) - x12))] []))))) ∧ (x13 < x8 → ((0 ≤ x13 ∧ x13 < 40)) ∧ (((V 22 x13 : Int) ≠ (-1) → ((-2147483648 ≤ x8 - x12 ∧ x8 - x12 ≤ 2147483647)) ∧ ((x13 < x8 - x12 → ((0 ≤ x13 ∧ x13 < 40)) ∧ (am_ev am_prog (d + 3) 195 [.inr (.inl r), .inl (V 22 x13)] (mo b r (ms S) V W) (am_aft (am_hand m_X5_correct Q (am_W m_X5_correct (am_ev am_prog (d + 3)) Q) 380) (am_W m_X5_correct (am_ev am_prog (d + 3)) Q) 380 [some (.inr (.inl r)), some (.inl x1), some (.inl x2), some (.inl x3), some (.inl x4), some (.inl x5), some (.inl x6), some (.inl x7), some (.inl x8), some (.inl x9), some (.inl x10), some (.inl x11), some (.inl x12), some (.inl x13)] []))) ∧ (x8 - x12 ≤ x13 → ((0 ≤ x13 ∧ x13 < 40) ∧ (-2147483648 ≤ x13 - x8 ∧ x13 - x8 ≤ 2147483647) ∧ (-2147483648 ≤ (x13 - x8) + x11 ∧ (x13 - x8) + x11 ≤ 2147483647)) ∧ (am_ev am_prog (d + 3) 173 [.inr (.inl r), .inl (V 22 x13), .inl x1, .inl ((x13 - x8) + x11)] (mo b r (ms S) V W) (am_aft (am_hand m_X5_correct Q (am_W m_X5_correct (am_ev am_prog (d + 3)) Q) 373) (am_W m_X5_correct (am_ev am_prog (d + 3)) Q) 373 [some (.inr (.inl r)), some (.inl x1), some (.inl x2), some (.inl x3), some (.inl x4), some (.inl x5), some (.inl x6), some (.inl x7), some (.inl x8), some (.inl x9), some (.inl x10), some (.inl x11), some (.inl x12), some (.inl x13)] []))))) ∧ ((V 22 x13 : Int) = (-1) → am_W m_X5_correct (am_ev am_prog (d + 3)) Q 381 [some (.inr (.inl r)), some (.inl x1), some (.inl x2), some (.inl x3), some (.inl x4), some (.inl x5), some (.inl x6), some (.inl x7), some (.inl x8), some (.inl x9), some (.inl x10), some (.inl x11), some (.inl x12), some (.inl x13)] [] (mo b r (ms S) V W))))) : am_W m_X5_correct (am_ev am_prog (d + 3)) Q 347 [some (.inr (.inl r)), some (.inl x1), some (.inl x2), some (.inl x3), some (.inl x4), some (.inl x5), some (.inl x6), some (.inl x7), some (.inl x8), some (.inl x9), some (.inl x10), some (.inl x11), some (.inl x12), some (.inl x13)] [] (mo b r (ms S) V W) := by
  refine r_X5_correct_347 ?_
  refine ⟨fun c => ?_, fun c => ?_⟩
  · replace H := H.1 c
    obtain ⟨⟨a617, a618⟩, H⟩ := H
    refine r_X5_correct_383 ?_
    refine ⟨a617, a618, ⟨fun c => ?_, fun c => ?_⟩⟩
    · replace H := H.1 c
      refine r_X5_correct_402 ?_
      exact H
    · replace H := H.2 c
      obtain ⟨a619, H⟩ := H
      refine r_X5_correct_391 ?_
      simp only [mo_ty, true_or, or_true, true_and]
      exact ⟨a619, H⟩
  · replace H := H.2 c
    obtain ⟨a620, H⟩ := H
    refine r_X5_correct_350 ?_
    simp only [mo_ty, mo_f78, mo_t22, mo_n22, mo_a22, true_or, or_true, true_and]
    refine ⟨a620, ⟨fun c => ?_, fun c => ?_⟩⟩
    · replace H := H.1 c
      obtain ⟨a621, H⟩ := H
      refine r_X5_correct_357 ?_
      refine ⟨a621, ⟨fun c => ?_, fun c => ?_⟩⟩
      · replace H := H.1 c
        obtain ⟨a622, H⟩ := H
        refine r_X5_correct_375 ?_
        simp only [mo_ty, mo_f78, mo_t22, mo_n22, mo_a22, true_or, or_true, true_and]
        exact ⟨a622, H⟩
      · replace H := H.2 c
        obtain ⟨⟨a623, a624, a625⟩, H⟩ := H
        refine r_X5_correct_362 ?_
        simp only [mo_ty, mo_f78, mo_t22, mo_n22, mo_a22, true_or, or_true, true_and]
        exact ⟨a623, a624, a625, H⟩
    · replace H := H.2 c
      refine r_X5_correct_356 ?_
      exact H
theorem w_correct_374 {d : Nat} {Q : am_K} {b : am_H} {r : Nat} {S : am_G} {V : Nat → Int → Int} {W : Nat → Int} {x1 : Int} {x2 : Int} {x3 : Int} {x4 : Int} {x5 : Int} {x6 : Int} {x7 : Int} {x8 : Int} {x9 : Int} {x10 : Int} {x11 : Int} {x12 : Int} {x13 : Int} (H : am_W m_X5_correct (am_ev am_prog (d + 3)) Q 381 [some (.inr (.inl r)), some (.inl x1), some (.inl x2), some (.inl x3), some (.inl x4), some (.inl x5), some (.inl x6), some (.inl x7), some (.inl x8), some (.inl x9), some (.inl x10), some (.inl x11), some (.inl x12), some (.inl x13)] [] (mo b r (ms S) V W)) : am_W m_X5_correct (am_ev am_prog (d + 3)) Q 374 [some (.inr (.inl r)), some (.inl x1), some (.inl x2), some (.inl x3), some (.inl x4), some (.inl x5), some (.inl x6), some (.inl x7), some (.inl x8), some (.inl x9), some (.inl x10), some (.inl x11), some (.inl x12), some (.inl x13)] [] (mo b r (ms S) V W) := by
  refine r_X5_correct_374 ?_
  exact H
theorem w_correct_381 {d : Nat} {Q : am_K} {b : am_H} {r : Nat} {S : am_G} {V : Nat → Int → Int} {W : Nat → Int} {x1 : Int} {x2 : Int} {x3 : Int} {x4 : Int} {x5 : Int} {x6 : Int} {x7 : Int} {x8 : Int} {x9 : Int} {x10 : Int} {x11 : Int} {x12 : Int} {x13 : Int} (H : ((-2147483648 ≤ x13 + 1 ∧ x13 + 1 ≤ 2147483647)) ∧ (am_W m_X5_correct (am_ev am_prog (d + 3)) Q 347 [some (.inr (.inl r)), some (.inl x1), some (.inl x2), some (.inl x3), some (.inl x4), some (.inl x5), some (.inl x6), some (.inl x7), some (.inl x8), some (.inl x9), some (.inl x10), some (.inl x11), some (.inl x12), some (.inl (x13 + 1))] [] (mo b r (ms S) V W))) : am_W m_X5_correct (am_ev am_prog (d + 3)) Q 381 [some (.inr (.inl r)), some (.inl x1), some (.inl x2), some (.inl x3), some (.inl x4), some (.inl x5), some (.inl x6), some (.inl x7), some (.inl x8), some (.inl x9), some (.inl x10), some (.inl x11), some (.inl x12), some (.inl x13)] [] (mo b r (ms S) V W) := by
  obtain ⟨a626, H⟩ := H
  refine r_X5_correct_381 ?_
  refine ⟨a626, ?_⟩
  exact H
theorem w_correct_401 {d : Nat} {Q : am_K} {b : am_H} {r : Nat} {S : am_G} {V : Nat → Int → Int} {W : Nat → Int} {x1 : Int} {x2 : Int} {x3 : Int} {x4 : Int} {x5 : Int} {x6 : Int} {x7 : Int} {x8 : Int} {x9 : Int} {x10 : Int} {x11 : Int} {x12 : Int} {x13 : Int} {y0 : Int} (H : Q (.inl (some (.inl x13))) (mo b r (ms S) V W)) : am_W m_X5_correct (am_ev am_prog (d + 3)) Q 401 [some (.inr (.inl r)), some (.inl x1), some (.inl x2), some (.inl x3), some (.inl x4), some (.inl x5), some (.inl x6), some (.inl x7), some (.inl x8), some (.inl x9), some (.inl x10), some (.inl x11), some (.inl x12), some (.inl x13)] [.inl y0] (mo b r (ms S) V W) := by
  refine r_X5_correct_401 ?_
  refine r_X5_correct_402 ?_
  exact H
theorem w_stands_0 {d : Nat} {Q : am_K} {b : am_H} {r : Nat} {S : am_G} {V : Nat → Int → Int} {W : Nat → Int} {x1 : Int} {x2 : Int} {x3 : Int} (H : (¬ (0 ≤ x1 ∧ x1 < 6) → Q (.inl (some (.inl 0))) (mo b r (ms S) V (am_up W 38 1))) ∧ (0 ≤ x1 ∧ x1 < 6 → ((-2147483648 ≤ S 0 0 6 - 1 ∧ S 0 0 6 - 1 ≤ 2147483647)) ∧ (((-1) ≤ x2 ∧ x2 ≤ S 0 0 6 - 1 → am_ev am_prog (d + 3) 187 [.inr (.inl r), .inl x1, .inl x2] (mo b r (ms S) V (am_up W 38 0)) (am_aft (am_hand m_X5_stands Q (am_W m_X5_stands (am_ev am_prog (d + 3)) Q) 22) (am_W m_X5_stands (am_ev am_prog (d + 3)) Q) 22 [some (.inr (.inl r)), some (.inl x1), some (.inl x2), some (.inl x3)] [.inl 0, .inl x3])) ∧ (¬ ((-1) ≤ x2 ∧ x2 ≤ S 0 0 6 - 1) → Q (.inl (some (.inl 0))) (mo b r (ms S) V (am_up W 38 1)))))) : am_W m_X5_stands (am_ev am_prog (d + 3)) Q 0 [some (.inr (.inl r)), some (.inl x1), some (.inl x2), some (.inl x3)] [] (mo b r (ms S) V W) := by
  refine r_X5_stands_0 ?_
  refine ?_
  refine c_isPage (am_av ?_)
  refine r_X5_stands_3 ?_
  refine ⟨fun c => ?_, fun c => ?_⟩
  · replace c := am_b0 c
    replace H := H.1 c
    refine r_X5_stands_8 ?_
    refine r_X5_stands_11 ?_
    simp only [mo_ty, mo_si, true_or, or_true, true_and]
    refine ?_
    refine r_X5_stands_12 ?_
    simp only [mo_ty, mo_i, am_up_eq, true_or, or_true, true_and, Int.reduceLE, Int.reduceLT, Int.reduceEq, Int.reduceNe, ne_eq, false_imp_iff, true_imp_iff, and_true, true_and, not_true_eq_false, not_false_eq_true, not_true, Int.reduceNeg]
    refine ?_
    refine r_X5_stands_15 ?_
    exact H
  · replace c := am_b1 c
    replace H := H.2 c
    refine r_X5_stands_4 ?_
    simp only [mo_ty, true_or, or_true, true_and]
    refine ?_
    obtain ⟨a627, H⟩ := H
    refine c_isEdition (by omega) (am_av ?_)
    refine r_X5_stands_7 ?_
    refine ⟨fun c => ?_, fun c => ?_⟩
    · replace c := am_b1 c
      replace H := H.1 c
      refine r_X5_stands_10 ?_
      refine r_X5_stands_11 ?_
      simp only [mo_ty, mo_si, true_or, or_true, true_and]
      refine ?_
      refine r_X5_stands_12 ?_
      simp only [mo_ty, mo_i, am_up_eq, true_or, or_true, true_and, Int.reduceLE, Int.reduceLT, Int.reduceEq, Int.reduceNe, ne_eq, false_imp_iff, true_imp_iff, and_true, true_and, not_true_eq_false, not_false_eq_true, not_true, Int.reduceNeg]
      refine ?_
      refine r_X5_stands_17 ?_
      simp only [mo_ty, true_or, or_true, true_and]
      exact H
    · replace c := am_b0 c
      replace H := H.2 c
      refine r_X5_stands_8 ?_
      refine r_X5_stands_11 ?_
      simp only [mo_ty, mo_si, true_or, or_true, true_and]
      refine ?_
      refine r_X5_stands_12 ?_
      simp only [mo_ty, mo_i, am_up_eq, true_or, or_true, true_and, Int.reduceLE, Int.reduceLT, Int.reduceEq, Int.reduceNe, ne_eq, false_imp_iff, true_imp_iff, and_true, true_and, not_true_eq_false, not_false_eq_true, not_true, Int.reduceNeg]
      refine ?_
      refine r_X5_stands_15 ?_
      exact H
theorem w_stands_23 {d : Nat} {Q : am_K} {b : am_H} {r : Nat} {S : am_G} {V : Nat → Int → Int} {W : Nat → Int} {x1 : Int} {x2 : Int} {x3 : Int} {y2 : Int} {y1 : Int} {y0 : Int} (H : ((-2147483648 ≤ y2 - 1 ∧ y2 - 1 ≤ 2147483647)) ∧ ((¬ (y1 ≤ y0 ∧ y0 ≤ y2 - 1) → Q (.inl (some (.inl (-1)))) (mo b r (ms S) V W)) ∧ (y1 ≤ y0 ∧ y0 ≤ y2 - 1 → am_ev am_prog (d + 3) 188 [.inr (.inl r), .inl x1, .inl x2, .inl x3] (mo b r (ms S) V W) (am_aft (am_hand m_X5_stands Q (am_W m_X5_stands (am_ev am_prog (d + 3)) Q) 31) (am_W m_X5_stands (am_ev am_prog (d + 3)) Q) 31 [some (.inr (.inl r)), some (.inl x1), some (.inl x2), some (.inl x3)] [])))) : am_W m_X5_stands (am_ev am_prog (d + 3)) Q 23 [some (.inr (.inl r)), some (.inl x1), some (.inl x2), some (.inl x3)] [.inl y2, .inl y1, .inl y0] (mo b r (ms S) V W) := by
  obtain ⟨a628, H⟩ := H
  refine r_X5_stands_23 ?_
  refine ⟨a628, ?_⟩
  refine c_isIn (am_av ?_)
  refine r_X5_stands_26 ?_
  refine ⟨fun c => ?_, fun c => ?_⟩
  · replace c := am_b0 c
    replace H := H.1 c
    refine r_X5_stands_33 ?_
    refine r_X5_stands_34 ?_
    exact H
  · replace c := am_b1 c
    replace H := H.2 c
    refine r_X5_stands_27 ?_
    simp only [mo_ty, true_or, or_true, true_and]
    exact H
theorem w_stands_32 {d : Nat} {Q : am_K} {b : am_H} {r : Nat} {S : am_G} {V : Nat → Int → Int} {W : Nat → Int} {x1 : Int} {x2 : Int} {x3 : Int} {y0 : Int} (H : Q (.inl (some (.inl y0))) (mo b r (ms S) V W)) : am_W m_X5_stands (am_ev am_prog (d + 3)) Q 32 [some (.inr (.inl r)), some (.inl x1), some (.inl x2), some (.inl x3)] [.inl y0] (mo b r (ms S) V W) := by
  refine r_X5_stands_32 ?_
  refine r_X5_stands_34 ?_
  exact H
theorem w_slip_0 {d : Nat} {Q : am_K} {b : am_H} {r : Nat} {S : am_G} {V : Nat → Int → Int} {W : Nat → Int} {x1 : Int} {x2 : Int} {x3 : Int} {o4 : Option am_V} {o5 : Option am_V} {o6 : Option am_V} {o7 : Option am_V} (H : (0 ≤ x1 ∧ x1 < S 0 0 4 → ((0 ≤ x1 ∧ x1 < 2000000)) ∧ (am_W m_X5_slip (am_ev am_prog (d + 3)) Q 23 [some (.inr (.inl r)), some (.inl x1), some (.inl x2), some (.inl x3), some (.inl (64630 + 852 * x1)), some (.inl (-1)), some (.inl x2), some (.inl 0)] [] (mo b r (ms S) V (am_up W 38 0)))) ∧ (¬ (0 ≤ x1 ∧ x1 < S 0 0 4) → Q (.inl (some (.inl 0))) (mo b r (ms S) V (am_up W 38 1)))) : am_W m_X5_slip (am_ev am_prog (d + 3)) Q 0 [some (.inr (.inl r)), some (.inl x1), some (.inl x2), some (.inl x3), o4, o5, o6, o7] [] (mo b r (ms S) V W) := by
  refine r_X5_slip_0 ?_
  simp only [mo_ty, true_or, or_true, true_and]
  refine ?_
  refine c_isSlug (am_av ?_)
  refine r_X5_slip_4 ?_
  refine ⟨fun c => ?_, fun c => ?_⟩
  · replace c := am_b1 c
    replace H := H.1 c
    refine r_X5_slip_7 ?_
    refine r_X5_slip_8 ?_
    simp only [mo_ty, mo_si, true_or, or_true, true_and]
    refine ?_
    refine r_X5_slip_9 ?_
    simp only [mo_ty, mo_i, am_up_eq, true_or, or_true, true_and, Int.reduceLE, Int.reduceLT, Int.reduceEq, Int.reduceNe, ne_eq, false_imp_iff, true_imp_iff, and_true, true_and, not_true_eq_false, not_false_eq_true, not_true, Int.reduceNeg]
    refine ?_
    refine r_X5_slip_14 ?_
    refine ?_
    obtain ⟨a629, H⟩ := H
    refine c_slug0 (by omega) (am_av ?_)
    refine r_X5_slip_16 ?_
    exact H
  · replace c := am_b0 c
    replace H := H.2 c
    refine r_X5_slip_5 ?_
    refine r_X5_slip_8 ?_
    simp only [mo_ty, mo_si, true_or, or_true, true_and]
    refine ?_
    refine r_X5_slip_9 ?_
    simp only [mo_ty, mo_i, am_up_eq, true_or, or_true, true_and, Int.reduceLE, Int.reduceLT, Int.reduceEq, Int.reduceNe, ne_eq, false_imp_iff, true_imp_iff, and_true, true_and, not_true_eq_false, not_false_eq_true, not_true, Int.reduceNeg]
    refine ?_
    refine r_X5_slip_12 ?_
    exact ⟨(by decide), H⟩
theorem w_slip_23 {d : Nat} {Q : am_K} {b : am_H} {r : Nat} {S : am_G} {V : Nat → Int → Int} {W : Nat → Int} {x1 : Int} {x2 : Int} {x3 : Int} {p4 : Int} {x5 : Int} {x6 : Int} {x7 : Int} (H : ((-2147483648 ≤ (64630 + 852 * p4) + 9 ∧ (64630 + 852 * p4) + 9 ≤ 2147483647) ∧ (0 ≤ p4 ∧ p4 < 300)) ∧ ((S 4 p4 9 ≤ x7 → ((x5 : Int) = (-1) → Q (.inl (some (.inl 0))) (mo b r (ms S) V (am_up W 38 2))) ∧ ((x5 : Int) ≠ (-1) → (0 ≤ x3 ∧ x3 ≤ 25 → ((-2147483648 ≤ (64630 + 852 * p4) + 432 ∧ (64630 + 852 * p4) + 432 ≤ 2147483647) ∧ (-2147483648 ≤ ((64630 + 852 * p4) + 432) + x5 ∧ ((64630 + 852 * p4) + 432) + x5 ≤ 2147483647) ∧ (0 ≤ p4 ∧ p4 < 300) ∧ (0 ≤ 432 + x5 ∧ 432 + x5 < 852) ∧ (-2147483648 ≤ 97 + x3 ∧ 97 + x3 ≤ 2147483647)) ∧ (((-2147483648 ≤ (64630 + 852 * p4) + 432 ∧ (64630 + 852 * p4) + 432 ≤ 2147483647) ∧ (-2147483648 ≤ ((64630 + 852 * p4) + 432) + x5 ∧ ((64630 + 852 * p4) + 432) + x5 ≤ 2147483647) ∧ (-2147483648 ≤ 97 + x3 ∧ 97 + x3 ≤ 2147483647) ∧ (0 ≤ p4 ∧ p4 < 300) ∧ (0 ≤ 432 + x5 ∧ 432 + x5 < 852)) ∧ (Q (.inl (some (.inl (am_b (S 4 p4 (432 + x5) ≠ 97 + x3))))) (mo b r (ms (u3 S 4 p4 (432 + x5) (97 + x3))) V (am_up W 38 0))))) ∧ (¬ (0 ≤ x3 ∧ x3 ≤ 25) → Q (.inl (some (.inl 0))) (mo b r (ms S) V (am_up W 38 2))))) ∧ (x7 < S 4 p4 9 → ((x5 : Int) ≠ (-1) → ((x5 : Int) = (-1) → Q (.inl (some (.inl 0))) (mo b r (ms S) V (am_up W 38 2))) ∧ ((x5 : Int) ≠ (-1) → (0 ≤ x3 ∧ x3 ≤ 25 → ((-2147483648 ≤ (64630 + 852 * p4) + 432 ∧ (64630 + 852 * p4) + 432 ≤ 2147483647) ∧ (-2147483648 ≤ ((64630 + 852 * p4) + 432) + x5 ∧ ((64630 + 852 * p4) + 432) + x5 ≤ 2147483647) ∧ (0 ≤ p4 ∧ p4 < 300) ∧ (0 ≤ 432 + x5 ∧ 432 + x5 < 852) ∧ (-2147483648 ≤ 97 + x3 ∧ 97 + x3 ≤ 2147483647)) ∧ (((-2147483648 ≤ (64630 + 852 * p4) + 432 ∧ (64630 + 852 * p4) + 432 ≤ 2147483647) ∧ (-2147483648 ≤ ((64630 + 852 * p4) + 432) + x5 ∧ ((64630 + 852 * p4) + 432) + x5 ≤ 2147483647) ∧ (-2147483648 ≤ 97 + x3 ∧ 97 + x3 ≤ 2147483647) ∧ (0 ≤ p4 ∧ p4 < 300) ∧ (0 ≤ 432 + x5 ∧ 432 + x5 < 852)) ∧ (Q (.inl (some (.inl (am_b (S 4 p4 (432 + x5) ≠ 97 + x3))))) (mo b r (ms (u3 S 4 p4 (432 + x5) (97 + x3))) V (am_up W 38 0))))) ∧ (¬ (0 ≤ x3 ∧ x3 ≤ 25) → Q (.inl (some (.inl 0))) (mo b r (ms S) V (am_up W 38 2))))) ∧ ((x5 : Int) = (-1) → (x2 < 0 → ((x5 : Int) = (-1) → Q (.inl (some (.inl 0))) (mo b r (ms S) V (am_up W 38 2))) ∧ ((x5 : Int) ≠ (-1) → (0 ≤ x3 ∧ x3 ≤ 25 → ((-2147483648 ≤ (64630 + 852 * p4) + 432 ∧ (64630 + 852 * p4) + 432 ≤ 2147483647) ∧ (-2147483648 ≤ ((64630 + 852 * p4) + 432) + x5 ∧ ((64630 + 852 * p4) + 432) + x5 ≤ 2147483647) ∧ (0 ≤ p4 ∧ p4 < 300) ∧ (0 ≤ 432 + x5 ∧ 432 + x5 < 852) ∧ (-2147483648 ≤ 97 + x3 ∧ 97 + x3 ≤ 2147483647)) ∧ (((-2147483648 ≤ (64630 + 852 * p4) + 432 ∧ (64630 + 852 * p4) + 432 ≤ 2147483647) ∧ (-2147483648 ≤ ((64630 + 852 * p4) + 432) + x5 ∧ ((64630 + 852 * p4) + 432) + x5 ≤ 2147483647) ∧ (-2147483648 ≤ 97 + x3 ∧ 97 + x3 ≤ 2147483647) ∧ (0 ≤ p4 ∧ p4 < 300) ∧ (0 ≤ 432 + x5 ∧ 432 + x5 < 852)) ∧ (Q (.inl (some (.inl (am_b (S 4 p4 (432 + x5) ≠ 97 + x3))))) (mo b r (ms (u3 S 4 p4 (432 + x5) (97 + x3))) V (am_up W 38 0))))) ∧ (¬ (0 ≤ x3 ∧ x3 ≤ 25) → Q (.inl (some (.inl 0))) (mo b r (ms S) V (am_up W 38 2))))) ∧ (0 ≤ x2 → ((-2147483648 ≤ (64630 + 852 * p4) + 432 ∧ (64630 + 852 * p4) + 432 ≤ 2147483647) ∧ (-2147483648 ≤ ((64630 + 852 * p4) + 432) + x7 ∧ ((64630 + 852 * p4) + 432) + x7 ≤ 2147483647) ∧ (0 ≤ p4 ∧ p4 < 300) ∧ (0 ≤ 432 + x7 ∧ 432 + x7 < 852)) ∧ ((97 ≤ S 4 p4 (432 + x7) ∧ S 4 p4 (432 + x7) ≤ 122 → ((x6 : Int) ≠ 0 → ((-2147483648 ≤ x6 + (-1) ∧ x6 + (-1) ≤ 2147483647)) ∧ (((-2147483648 ≤ x7 + 1 ∧ x7 + 1 ≤ 2147483647)) ∧ (am_W m_X5_slip (am_ev am_prog (d + 3)) Q 23 [some (.inr (.inl r)), some (.inl x1), some (.inl x2), some (.inl x3), some (.inl (64630 + 852 * p4)), some (.inl x5), some (.inl (x6 + (-1))), some (.inl (x7 + 1))] [] (mo b r (ms S) V W)))) ∧ ((x6 : Int) = 0 → ((-2147483648 ≤ x6 + (-1) ∧ x6 + (-1) ≤ 2147483647)) ∧ (((-2147483648 ≤ x7 + 1 ∧ x7 + 1 ≤ 2147483647)) ∧ (am_W m_X5_slip (am_ev am_prog (d + 3)) Q 23 [some (.inr (.inl r)), some (.inl x1), some (.inl x2), some (.inl x3), some (.inl (64630 + 852 * p4)), some (.inl x7), some (.inl (x6 + (-1))), some (.inl (x7 + 1))] [] (mo b r (ms S) V W))))) ∧ (¬ (97 ≤ S 4 p4 (432 + x7) ∧ S 4 p4 (432 + x7) ≤ 122) → ((-2147483648 ≤ x7 + 1 ∧ x7 + 1 ≤ 2147483647)) ∧ (am_W m_X5_slip (am_ev am_prog (d + 3)) Q 23 [some (.inr (.inl r)), some (.inl x1), some (.inl x2), some (.inl x3), some (.inl (64630 + 852 * p4)), some (.inl x5), some (.inl x6), some (.inl (x7 + 1))] [] (mo b r (ms S) V W))))))))) : am_W m_X5_slip (am_ev am_prog (d + 3)) Q 23 [some (.inr (.inl r)), some (.inl x1), some (.inl x2), some (.inl x3), some (.inl (64630 + 852 * p4)), some (.inl x5), some (.inl x6), some (.inl x7)] [] (mo b r (ms S) V W) := by
  obtain ⟨⟨a630, a631⟩, H⟩ := H
  refine r_X5_slip_23 ?_
  simp only [mo_ty, mo_f39, mo_t1, mo_n1, mo_a1, ms_r4 (k := (64630 + 852 * p4) + 9) (p := p4) (i := 9) (by omega) (by omega) (by omega), true_or, or_true, true_and]
  refine ⟨a630, (by omega), ⟨fun c => ?_, fun c => ?_⟩⟩
  · replace H := H.1 c
    refine r_X5_slip_54 ?_
    refine ⟨fun c => ?_, fun c => ?_⟩
    · replace H := H.1 c
      refine r_X5_slip_63 ?_
      refine r_X5_slip_66 ?_
      simp only [mo_ty, mo_si, true_or, or_true, true_and]
      refine ?_
      refine r_X5_slip_67 ?_
      simp only [mo_ty, mo_i, am_up_eq, true_or, or_true, true_and, Int.reduceLE, Int.reduceLT, Int.reduceEq, Int.reduceNe, ne_eq, false_imp_iff, true_imp_iff, and_true, true_and, not_true_eq_false, not_false_eq_true, not_true, Int.reduceNeg]
      refine ?_
      refine r_X5_slip_70 ?_
      exact ⟨(by decide), H⟩
    · replace H := H.2 c
      refine r_X5_slip_58 ?_
      refine ?_
      refine c_isIn (am_av ?_)
      refine r_X5_slip_62 ?_
      refine ⟨fun c => ?_, fun c => ?_⟩
      · replace c := am_b1 c
        replace H := H.1 c
        refine r_X5_slip_65 ?_
        refine r_X5_slip_66 ?_
        simp only [mo_ty, mo_si, true_or, or_true, true_and]
        refine ?_
        refine r_X5_slip_67 ?_
        simp only [mo_ty, mo_i, am_up_eq, true_or, or_true, true_and, Int.reduceLE, Int.reduceLT, Int.reduceEq, Int.reduceNe, ne_eq, false_imp_iff, true_imp_iff, and_true, true_and, not_true_eq_false, not_false_eq_true, not_true, Int.reduceNeg]
        refine ?_
        obtain ⟨⟨a632, a633, a634, a635, a636⟩, H⟩ := H
        have J : ∀ y : Int, y = am_b (S 4 p4 (432 + x5) ≠ 97 + x3) → am_W m_X5_slip (am_ev am_prog (d + 3)) Q 87 [some (.inr (.inl r)), some (.inl x1), some (.inl x2), some (.inl x3), some (.inl (64630 + 852 * p4)), some (.inl x5), some (.inl x6), some (.inl x7)] [.inl y] (mo b r (ms S) V (am_up W 38 0)) := by
          intro y hy
          subst hy
          obtain ⟨⟨a637, a638, a639, a640, a641⟩, H⟩ := H
          refine r_X5_slip_87 ?_
          simp only [mo_ty, mo_f39, mo_t1, mo_n1, mo_s1, ms_w4 (k := ((64630 + 852 * p4) + 432) + x5) (p := p4) (i := 432 + x5) (by omega) (by omega) (by omega), true_or, or_true, true_and]
          refine ⟨a637, a638, a639, (by omega), ?_⟩
          refine r_X5_slip_99 ?_
          exact ⟨(am_bz _), H⟩
        refine r_X5_slip_72 ?_
        simp only [mo_ty, mo_f39, mo_t1, mo_n1, mo_a1, ms_r4 (k := ((64630 + 852 * p4) + 432) + x5) (p := p4) (i := 432 + x5) (by omega) (by omega) (by omega), true_or, or_true, true_and]
        refine ⟨a632, a633, (by omega), a636, ⟨fun c => ?_, fun c => ?_⟩⟩
        · exact r_X5_slip_86 (J _ (am_bf (by omega)).symm)
        · exact r_X5_slip_84 (J _ (am_bt c).symm)
      · replace c := am_b0 c
        replace H := H.2 c
        refine r_X5_slip_63 ?_
        refine r_X5_slip_66 ?_
        simp only [mo_ty, mo_si, true_or, or_true, true_and]
        refine ?_
        refine r_X5_slip_67 ?_
        simp only [mo_ty, mo_i, am_up_eq, true_or, or_true, true_and, Int.reduceLE, Int.reduceLT, Int.reduceEq, Int.reduceNe, ne_eq, false_imp_iff, true_imp_iff, and_true, true_and, not_true_eq_false, not_false_eq_true, not_true, Int.reduceNeg]
        refine ?_
        refine r_X5_slip_70 ?_
        exact ⟨(by decide), H⟩
  · replace H := H.2 c
    refine r_X5_slip_31 ?_
    refine ⟨fun c => ?_, fun c => ?_⟩
    · replace H := H.1 c
      refine r_X5_slip_54 ?_
      refine ⟨fun c => ?_, fun c => ?_⟩
      · replace H := H.1 c
        refine r_X5_slip_63 ?_
        refine r_X5_slip_66 ?_
        simp only [mo_ty, mo_si, true_or, or_true, true_and]
        refine ?_
        refine r_X5_slip_67 ?_
        simp only [mo_ty, mo_i, am_up_eq, true_or, or_true, true_and, Int.reduceLE, Int.reduceLT, Int.reduceEq, Int.reduceNe, ne_eq, false_imp_iff, true_imp_iff, and_true, true_and, not_true_eq_false, not_false_eq_true, not_true, Int.reduceNeg]
        refine ?_
        refine r_X5_slip_70 ?_
        exact ⟨(by decide), H⟩
      · replace H := H.2 c
        refine r_X5_slip_58 ?_
        refine ?_
        refine c_isIn (am_av ?_)
        refine r_X5_slip_62 ?_
        refine ⟨fun c => ?_, fun c => ?_⟩
        · replace c := am_b1 c
          replace H := H.1 c
          refine r_X5_slip_65 ?_
          refine r_X5_slip_66 ?_
          simp only [mo_ty, mo_si, true_or, or_true, true_and]
          refine ?_
          refine r_X5_slip_67 ?_
          simp only [mo_ty, mo_i, am_up_eq, true_or, or_true, true_and, Int.reduceLE, Int.reduceLT, Int.reduceEq, Int.reduceNe, ne_eq, false_imp_iff, true_imp_iff, and_true, true_and, not_true_eq_false, not_false_eq_true, not_true, Int.reduceNeg]
          refine ?_
          obtain ⟨⟨a642, a643, a644, a645, a646⟩, H⟩ := H
          have J : ∀ y : Int, y = am_b (S 4 p4 (432 + x5) ≠ 97 + x3) → am_W m_X5_slip (am_ev am_prog (d + 3)) Q 87 [some (.inr (.inl r)), some (.inl x1), some (.inl x2), some (.inl x3), some (.inl (64630 + 852 * p4)), some (.inl x5), some (.inl x6), some (.inl x7)] [.inl y] (mo b r (ms S) V (am_up W 38 0)) := by
            intro y hy
            subst hy
            obtain ⟨⟨a647, a648, a649, a650, a651⟩, H⟩ := H
            refine r_X5_slip_87 ?_
            simp only [mo_ty, mo_f39, mo_t1, mo_n1, mo_s1, ms_w4 (k := ((64630 + 852 * p4) + 432) + x5) (p := p4) (i := 432 + x5) (by omega) (by omega) (by omega), true_or, or_true, true_and]
            refine ⟨a647, a648, a649, (by omega), ?_⟩
            refine r_X5_slip_99 ?_
            exact ⟨(am_bz _), H⟩
          refine r_X5_slip_72 ?_
          simp only [mo_ty, mo_f39, mo_t1, mo_n1, mo_a1, ms_r4 (k := ((64630 + 852 * p4) + 432) + x5) (p := p4) (i := 432 + x5) (by omega) (by omega) (by omega), true_or, or_true, true_and]
          refine ⟨a642, a643, (by omega), a646, ⟨fun c => ?_, fun c => ?_⟩⟩
          · exact r_X5_slip_86 (J _ (am_bf (by omega)).symm)
          · exact r_X5_slip_84 (J _ (am_bt c).symm)
        · replace c := am_b0 c
          replace H := H.2 c
          refine r_X5_slip_63 ?_
          refine r_X5_slip_66 ?_
          simp only [mo_ty, mo_si, true_or, or_true, true_and]
          refine ?_
          refine r_X5_slip_67 ?_
          simp only [mo_ty, mo_i, am_up_eq, true_or, or_true, true_and, Int.reduceLE, Int.reduceLT, Int.reduceEq, Int.reduceNe, ne_eq, false_imp_iff, true_imp_iff, and_true, true_and, not_true_eq_false, not_false_eq_true, not_true, Int.reduceNeg]
          refine ?_
          refine r_X5_slip_70 ?_
          exact ⟨(by decide), H⟩
    · replace H := H.2 c
      refine r_X5_slip_34 ?_
      refine ⟨fun c => ?_, fun c => ?_⟩
      · replace H := H.1 c
        refine r_X5_slip_54 ?_
        refine ⟨fun c => ?_, fun c => ?_⟩
        · replace H := H.1 c
          refine r_X5_slip_63 ?_
          refine r_X5_slip_66 ?_
          simp only [mo_ty, mo_si, true_or, or_true, true_and]
          refine ?_
          refine r_X5_slip_67 ?_
          simp only [mo_ty, mo_i, am_up_eq, true_or, or_true, true_and, Int.reduceLE, Int.reduceLT, Int.reduceEq, Int.reduceNe, ne_eq, false_imp_iff, true_imp_iff, and_true, true_and, not_true_eq_false, not_false_eq_true, not_true, Int.reduceNeg]
          refine ?_
          refine r_X5_slip_70 ?_
          exact ⟨(by decide), H⟩
        · replace H := H.2 c
          refine r_X5_slip_58 ?_
          refine ?_
          refine c_isIn (am_av ?_)
          refine r_X5_slip_62 ?_
          refine ⟨fun c => ?_, fun c => ?_⟩
          · replace c := am_b1 c
            replace H := H.1 c
            refine r_X5_slip_65 ?_
            refine r_X5_slip_66 ?_
            simp only [mo_ty, mo_si, true_or, or_true, true_and]
            refine ?_
            refine r_X5_slip_67 ?_
            simp only [mo_ty, mo_i, am_up_eq, true_or, or_true, true_and, Int.reduceLE, Int.reduceLT, Int.reduceEq, Int.reduceNe, ne_eq, false_imp_iff, true_imp_iff, and_true, true_and, not_true_eq_false, not_false_eq_true, not_true, Int.reduceNeg]
            refine ?_
            obtain ⟨⟨a652, a653, a654, a655, a656⟩, H⟩ := H
            have J : ∀ y : Int, y = am_b (S 4 p4 (432 + x5) ≠ 97 + x3) → am_W m_X5_slip (am_ev am_prog (d + 3)) Q 87 [some (.inr (.inl r)), some (.inl x1), some (.inl x2), some (.inl x3), some (.inl (64630 + 852 * p4)), some (.inl x5), some (.inl x6), some (.inl x7)] [.inl y] (mo b r (ms S) V (am_up W 38 0)) := by
              intro y hy
              subst hy
              obtain ⟨⟨a657, a658, a659, a660, a661⟩, H⟩ := H
              refine r_X5_slip_87 ?_
              simp only [mo_ty, mo_f39, mo_t1, mo_n1, mo_s1, ms_w4 (k := ((64630 + 852 * p4) + 432) + x5) (p := p4) (i := 432 + x5) (by omega) (by omega) (by omega), true_or, or_true, true_and]
              refine ⟨a657, a658, a659, (by omega), ?_⟩
              refine r_X5_slip_99 ?_
              exact ⟨(am_bz _), H⟩
            refine r_X5_slip_72 ?_
            simp only [mo_ty, mo_f39, mo_t1, mo_n1, mo_a1, ms_r4 (k := ((64630 + 852 * p4) + 432) + x5) (p := p4) (i := 432 + x5) (by omega) (by omega) (by omega), true_or, or_true, true_and]
            refine ⟨a652, a653, (by omega), a656, ⟨fun c => ?_, fun c => ?_⟩⟩
            · exact r_X5_slip_86 (J _ (am_bf (by omega)).symm)
            · exact r_X5_slip_84 (J _ (am_bt c).symm)
          · replace c := am_b0 c
            replace H := H.2 c
            refine r_X5_slip_63 ?_
            refine r_X5_slip_66 ?_
            simp only [mo_ty, mo_si, true_or, or_true, true_and]
            refine ?_
            refine r_X5_slip_67 ?_
            simp only [mo_ty, mo_i, am_up_eq, true_or, or_true, true_and, Int.reduceLE, Int.reduceLT, Int.reduceEq, Int.reduceNe, ne_eq, false_imp_iff, true_imp_iff, and_true, true_and, not_true_eq_false, not_false_eq_true, not_true, Int.reduceNeg]
            refine ?_
            refine r_X5_slip_70 ?_
            exact ⟨(by decide), H⟩
      · replace H := H.2 c
        obtain ⟨⟨a662, a663, a664, a665⟩, H⟩ := H
        refine r_X5_slip_36 ?_
        simp only [mo_ty, mo_f39, mo_t1, mo_n1, mo_a1, ms_r4 (k := ((64630 + 852 * p4) + 432) + x7) (p := p4) (i := 432 + x7) (by omega) (by omega) (by omega), true_or, or_true, true_and]
        refine ⟨a662, a663, (by omega), ?_⟩
        refine c_isLetter (am_av ?_)
        refine r_X5_slip_45 ?_
        refine ⟨fun c => ?_, fun c => ?_⟩
        · replace c := am_b1 c
          replace H := H.1 c
          refine r_X5_slip_47 ?_
          refine ⟨fun c => ?_, fun c => ?_⟩
          · replace H := H.1 c
            obtain ⟨a666, H⟩ := H
            refine r_X5_slip_51 ?_
            refine ⟨a666, ?_⟩
            obtain ⟨a667, H⟩ := H
            refine r_X5_slip_52 ?_
            refine ⟨a667, ?_⟩
            exact H
          · replace H := H.2 c
            refine r_X5_slip_49 ?_
            obtain ⟨a668, H⟩ := H
            refine r_X5_slip_51 ?_
            refine ⟨a668, ?_⟩
            obtain ⟨a669, H⟩ := H
            refine r_X5_slip_52 ?_
            refine ⟨a669, ?_⟩
            exact H
        · replace c := am_b0 c
          replace H := H.2 c
          refine r_X5_slip_46 ?_
          obtain ⟨a670, H⟩ := H
          refine r_X5_slip_52 ?_
          refine ⟨a670, ?_⟩
          exact H
theorem w_tear_0 {d : Nat} {Q : am_K} {b : am_H} {r : Nat} {S : am_G} {V : Nat → Int → Int} {W : Nat → Int} {x1 : Int} {x2 : Int} {x3 : Int} {o4 : Option am_V} (H : ((-2147483648 ≤ S 0 0 7 - 1 ∧ S 0 0 7 - 1 ≤ 2147483647)) ∧ (((0 ≤ x1 ∧ x1 ≤ S 0 0 7 - 1) ∧ (0 ≤ x2 ∧ x2 ≤ 3) → ((-2147483648 ≤ 5 * x1 ∧ 5 * x1 ≤ 2147483647) ∧ (-2147483648 ≤ 337180 + (5 * x1) ∧ 337180 + (5 * x1) ≤ 2147483647) ∧ (-2147483648 ≤ (337180 + (5 * x1)) + 1 ∧ (337180 + (5 * x1)) + 1 ≤ 2147483647) ∧ (-2147483648 ≤ ((337180 + (5 * x1)) + 1) + x2 ∧ ((337180 + (5 * x1)) + 1) + x2 ≤ 2147483647) ∧ (0 ≤ 1 + 5 * x1 + x2 ∧ 1 + 5 * x1 + x2 < 40)) ∧ (((0 ≤ 1 + 5 * x1 + x2 ∧ 1 + 5 * x1 + x2 < 40)) ∧ (Q (.inl (some (.inl (am_xorz (S 10 0 (1 + 5 * x1 + x2)) x3)))) (mo b r (ms (u3 S 10 0 (1 + 5 * x1 + x2) (am_xorz (S 10 0 (1 + 5 * x1 + x2)) x3))) V (am_up W 38 0))))) ∧ (¬ ((0 ≤ x1 ∧ x1 ≤ S 0 0 7 - 1) ∧ (0 ≤ x2 ∧ x2 ≤ 3)) → Q (.inl (some (.inl 0))) (mo b r (ms S) V (am_up W 38 1))))) : am_W m_X5_tear (am_ev am_prog (d + 3)) Q 0 [some (.inr (.inl r)), some (.inl x1), some (.inl x2), some (.inl x3), o4] [] (mo b r (ms S) V W) := by
  refine r_X5_tear_0 ?_
  simp only [mo_ty, true_or, or_true, true_and]
  refine ?_
  obtain ⟨a671, H⟩ := H
  refine c_isRow (by omega) (am_av ?_)
  refine r_X5_tear_5 ?_
  refine ⟨fun c => ?_, fun c => ?_⟩
  · replace c := am_b1 c
    replace H := H.1 c
    refine r_X5_tear_8 ?_
    refine r_X5_tear_9 ?_
    simp only [mo_ty, mo_si, true_or, or_true, true_and]
    refine ?_
    refine r_X5_tear_10 ?_
    simp only [mo_ty, mo_i, am_up_eq, true_or, or_true, true_and, Int.reduceLE, Int.reduceLT, Int.reduceEq, Int.reduceNe, ne_eq, false_imp_iff, true_imp_iff, and_true, true_and, not_true_eq_false, not_false_eq_true, not_true, Int.reduceNeg]
    refine ?_
    obtain ⟨⟨a672, a673, a674, a675, a676⟩, H⟩ := H
    refine r_X5_tear_15 ?_
    simp only [mo_ty, mo_f39, mo_t1, mo_n1, mo_a1, ms_r10 (k := ((337180 + (5 * x1)) + 1) + x2) (p := 0) (i := 1 + 5 * x1 + x2) (by omega) (by omega) (by omega), mo_s1, ms_w10 (k := ((337180 + (5 * x1)) + 1) + x2) (p := 0) (i := 1 + 5 * x1 + x2) (by omega) (by omega) (by omega), true_or, or_true, true_and]
    refine ⟨a672, a673, a674, a675, (by omega), (by omega), ?_⟩
    obtain ⟨a677, H⟩ := H
    refine r_X5_tear_35 ?_
    simp only [mo_ty, mo_f39, mo_t1, mo_n1, mo_a1, ms_r10 (k := ((337180 + (5 * x1)) + 1) + x2) (p := 0) (i := 1 + 5 * x1 + x2) (by omega) (by omega) (by omega), u3_eq, true_or, or_true, true_and]
    exact ⟨(by omega), H⟩
  · replace c := am_b0 c
    replace H := H.2 c
    refine r_X5_tear_6 ?_
    refine r_X5_tear_9 ?_
    simp only [mo_ty, mo_si, true_or, or_true, true_and]
    refine ?_
    refine r_X5_tear_10 ?_
    simp only [mo_ty, mo_i, am_up_eq, true_or, or_true, true_and, Int.reduceLE, Int.reduceLT, Int.reduceEq, Int.reduceNe, ne_eq, false_imp_iff, true_imp_iff, and_true, true_and, not_true_eq_false, not_false_eq_true, not_true, Int.reduceNeg]
    refine ?_
    refine r_X5_tear_13 ?_
    exact H
theorem w_carry_0 {d : Nat} {Q : am_K} {b : am_H} {r : Nat} {S : am_G} {V : Nat → Int → Int} {W : Nat → Int} {x1 : Int} {x2 : Int} {x3 : Int} {o4 : Option am_V} (H : (0 ≤ x1 ∧ x1 < S 0 0 4 → (¬ (0 ≤ x2 ∧ x2 ≤ 9) → Q (.inl (some (.inl 0))) (mo b r (ms S) V (am_up W 38 2))) ∧ (0 ≤ x2 ∧ x2 ≤ 9 → ((0 ≤ x1 ∧ x1 < 2000000)) ∧ (((-2147483648 ≤ (64630 + 852 * x1) + 2 ∧ (64630 + 852 * x1) + 2 ≤ 2147483647) ∧ (0 ≤ x1 ∧ x1 < 300)) ∧ ((S 4 x1 2 ≤ x3 ∧ x3 ≤ S 0 0 0 → ((S 0 0 5 : Int) ≠ 200 → ((-2147483648 ≤ 4 * (S 0 0 5) ∧ 4 * (S 0 0 5) ≤ 2147483647) ∧ (-2147483648 ≤ 326582 + (4 * (S 0 0 5)) ∧ 326582 + (4 * (S 0 0 5)) ≤ 2147483647) ∧ (0 ≤ S 0 0 5 ∧ S 0 0 5 < 200)) ∧ (((-2147483648 ≤ (326582 + (4 * (S 0 0 5))) + 1 ∧ (326582 + (4 * (S 0 0 5))) + 1 ≤ 2147483647) ∧ (0 ≤ S 0 0 5 ∧ S 0 0 5 < 200)) ∧ (((-2147483648 ≤ (326582 + (4 * (S 0 0 5))) + 2 ∧ (326582 + (4 * (S 0 0 5))) + 2 ≤ 2147483647) ∧ (0 ≤ S 0 0 5 ∧ S 0 0 5 < 200)) ∧ (((-2147483648 ≤ (326582 + (4 * (S 0 0 5))) + 3 ∧ (326582 + (4 * (S 0 0 5))) + 3 ≤ 2147483647) ∧ (0 ≤ S 0 0 5 ∧ S 0 0 5 < 200)) ∧ (((-2147483648 ≤ (S 0 0 5) + 1 ∧ (S 0 0 5) + 1 ≤ 2147483647)) ∧ (Q (.inl (some (.inl ((S 0 0 5) + 1)))) (mo b r (ms (u3 (u3 (u3 (u3 (u3 S 7 (S 0 0 5) 0 x1) 7 (S 0 0 5) 1 x2) 7 (S 0 0 5) 2 x3) 7 (S 0 0 5) 3 (S 0 0 0)) 0 0 5 ((S 0 0 5) + 1))) V (am_up W 38 0)))))))) ∧ ((S 0 0 5 : Int) = 200 → Q (.inl (some (.inl (-1)))) (mo b r (ms S) V (am_up W 38 0)))) ∧ (¬ (S 4 x1 2 ≤ x3 ∧ x3 ≤ S 0 0 0) → Q (.inl (some (.inl 0))) (mo b r (ms S) V (am_up W 38 2))))))) ∧ (¬ (0 ≤ x1 ∧ x1 < S 0 0 4) → Q (.inl (some (.inl 0))) (mo b r (ms S) V (am_up W 38 1)))) : am_W m_X5_carry (am_ev am_prog (d + 3)) Q 0 [some (.inr (.inl r)), some (.inl x1), some (.inl x2), some (.inl x3), o4] [] (mo b r (ms S) V W) := by
  refine r_X5_carry_0 ?_
  simp only [mo_ty, true_or, or_true, true_and]
  refine ?_
  refine c_isSlug (am_av ?_)
  refine r_X5_carry_4 ?_
  refine ⟨fun c => ?_, fun c => ?_⟩
  · replace c := am_b1 c
    replace H := H.1 c
    refine r_X5_carry_7 ?_
    refine ?_
    refine c_isIn (am_av ?_)
    refine r_X5_carry_11 ?_
    refine ⟨fun c => ?_, fun c => ?_⟩
    · replace c := am_b0 c
      replace H := H.1 c
      refine r_X5_carry_26 ?_
      refine r_X5_carry_29 ?_
      simp only [mo_ty, mo_si, true_or, or_true, true_and]
      refine ?_
      refine r_X5_carry_30 ?_
      simp only [mo_ty, mo_i, am_up_eq, true_or, or_true, true_and, Int.reduceLE, Int.reduceLT, Int.reduceEq, Int.reduceNe, ne_eq, false_imp_iff, true_imp_iff, and_true, true_and, not_true_eq_false, not_false_eq_true, not_true, Int.reduceNeg]
      refine ?_
      refine r_X5_carry_33 ?_
      exact H
    · replace c := am_b1 c
      replace H := H.2 c
      refine r_X5_carry_12 ?_
      simp only [mo_ty, mo_f39, true_or, or_true, true_and]
      refine ?_
      obtain ⟨a678, H⟩ := H
      refine c_slug0 (by omega) (am_av ?_)
      obtain ⟨⟨a679, a680⟩, H⟩ := H
      refine r_X5_carry_17 ?_
      simp only [mo_t1, mo_n1, mo_a1, ms_r4 (k := (64630 + 852 * x1) + 2) (p := x1) (i := 2) (by omega) (by omega) (by omega), mo_ty, mo_f39, ms_r0 (k := 0) (p := 0) (i := 0) (by omega) (by omega) (by omega), true_or, or_true, true_and]
      refine ⟨a679, (by omega), (by omega), ?_⟩
      refine c_isIn (am_av ?_)
      refine r_X5_carry_25 ?_
      refine ⟨fun c => ?_, fun c => ?_⟩
      · replace c := am_b1 c
        replace H := H.1 c
        refine r_X5_carry_28 ?_
        refine r_X5_carry_29 ?_
        simp only [mo_ty, mo_si, true_or, or_true, true_and]
        refine ?_
        refine r_X5_carry_30 ?_
        simp only [mo_ty, mo_i, am_up_eq, true_or, or_true, true_and, Int.reduceLE, Int.reduceLT, Int.reduceEq, Int.reduceNe, ne_eq, false_imp_iff, true_imp_iff, and_true, true_and, not_true_eq_false, not_false_eq_true, not_true, Int.reduceNeg]
        refine ?_
        refine r_X5_carry_35 ?_
        simp only [mo_ty, mo_f39, mo_t1, mo_n1, mo_a1, ms_r0 (k := 5) (p := 0) (i := 5) (by omega) (by omega) (by omega), true_or, or_true, true_and]
        refine ⟨(by omega), ⟨fun c => ?_, fun c => ?_⟩⟩
        · replace H := H.1 c
          obtain ⟨⟨a681, a682, a683⟩, H⟩ := H
          refine r_X5_carry_43 ?_
          simp only [mo_ty, mo_f39, mo_t1, mo_n1, mo_a1, ms_r0 (k := 5) (p := 0) (i := 5) (by omega) (by omega) (by omega), mo_s1, ms_w7 (k := 326582 + (4 * (S 0 0 5))) (p := S 0 0 5) (i := 0) (by omega) (by omega) (by omega), true_or, or_true, true_and]
          refine ⟨(by omega), a681, a682, (by omega), ?_⟩
          obtain ⟨⟨a684, a685⟩, H⟩ := H
          refine r_X5_carry_57 ?_
          simp only [mo_ty, mo_f39, mo_t1, mo_n1, mo_s1, ms_w7 (k := (326582 + (4 * (S 0 0 5))) + 1) (p := S 0 0 5) (i := 1) (by omega) (by omega) (by omega), true_or, or_true, true_and]
          refine ⟨a684, (by omega), ?_⟩
          obtain ⟨⟨a686, a687⟩, H⟩ := H
          refine r_X5_carry_64 ?_
          simp only [mo_ty, mo_f39, mo_t1, mo_n1, mo_s1, ms_w7 (k := (326582 + (4 * (S 0 0 5))) + 2) (p := S 0 0 5) (i := 2) (by omega) (by omega) (by omega), true_or, or_true, true_and]
          refine ⟨a686, (by omega), ?_⟩
          obtain ⟨⟨a688, a689⟩, H⟩ := H
          refine r_X5_carry_71 ?_
          simp only [mo_ty, mo_f39, mo_t1, mo_n1, mo_a1, ms_r0 (k := 0) (p := 0) (i := 0) (by omega) (by omega) (by omega), u3_nc (by decide : (0 : Nat) ≠ 7), mo_s1, ms_w7 (k := (326582 + (4 * (S 0 0 5))) + 3) (p := S 0 0 5) (i := 3) (by omega) (by omega) (by omega), true_or, or_true, true_and]
          refine ⟨a688, (by omega), (by omega), ?_⟩
          obtain ⟨a690, H⟩ := H
          refine r_X5_carry_81 ?_
          simp only [mo_ty, mo_f39, mo_t1, mo_n1, mo_a1, ms_r0 (k := 5) (p := 0) (i := 5) (by omega) (by omega) (by omega), u3_nc (by decide : (0 : Nat) ≠ 7), mo_s1, ms_w0 (k := 5) (p := 0) (i := 5) (by omega) (by omega) (by omega), true_or, or_true, true_and]
          refine ⟨(by omega), a690, (by omega), ?_⟩
          refine r_X5_carry_89 ?_
          simp only [mo_ty, mo_f39, mo_t1, mo_n1, mo_a1, ms_r0 (k := 5) (p := 0) (i := 5) (by omega) (by omega) (by omega), u3_eq, true_or, or_true, true_and]
          exact ⟨(by omega), H⟩
        · replace H := H.2 c
          refine r_X5_carry_41 ?_
          exact H
      · replace c := am_b0 c
        replace H := H.2 c
        refine r_X5_carry_26 ?_
        refine r_X5_carry_29 ?_
        simp only [mo_ty, mo_si, true_or, or_true, true_and]
        refine ?_
        refine r_X5_carry_30 ?_
        simp only [mo_ty, mo_i, am_up_eq, true_or, or_true, true_and, Int.reduceLE, Int.reduceLT, Int.reduceEq, Int.reduceNe, ne_eq, false_imp_iff, true_imp_iff, and_true, true_and, not_true_eq_false, not_false_eq_true, not_true, Int.reduceNeg]
        refine ?_
        refine r_X5_carry_33 ?_
        exact H
  · replace c := am_b0 c
    replace H := H.2 c
    refine r_X5_carry_5 ?_
    refine r_X5_carry_29 ?_
    simp only [mo_ty, mo_si, true_or, or_true, true_and]
    refine ?_
    refine r_X5_carry_30 ?_
    simp only [mo_ty, mo_i, am_up_eq, true_or, or_true, true_and, Int.reduceLE, Int.reduceLT, Int.reduceEq, Int.reduceNe, ne_eq, false_imp_iff, true_imp_iff, and_true, true_and, not_true_eq_false, not_false_eq_true, not_true, Int.reduceNeg]
    refine ?_
    refine r_X5_carry_33 ?_
    exact H
theorem w_again_0 {d : Nat} {Q : am_K} {b : am_H} {r : Nat} {S : am_G} {V : Nat → Int → Int} {W : Nat → Int} {x1 : Int} {x2 : Int} {x3 : Int} {o4 : Option am_V} (H : ((-2147483648 ≤ x1 ∧ x1 ≤ 2147483647) ∧ S 0 0 1 ≤ 20) ∧ ((¬ (0 ≤ x1 ∧ x1 / 5 < S 0 0 1 ∧ x1 % 5 < S 2 2 (x1 / 5)) → am_W m_X5_again (am_ev am_prog (d + 3)) Q 15 [some (.inr (.inl r)), some (.inl x1), some (.inl x2), some (.inl x3), o4] [.inl 1, .inr (.inl r)] (mo b r (ms S) V W)) ∧ (0 ≤ x1 ∧ x1 / 5 < S 0 0 1 ∧ x1 % 5 < S 2 2 (x1 / 5) → (0 ≤ x3 ∧ x3 < S 0 0 3 → am_ev am_prog (d + 3) 175 [.inr (.inl r), .inl x1, .inl x2] (mo b r (ms S) V W) (am_aft (am_hand m_X5_again Q (am_W m_X5_again (am_ev am_prog (d + 3)) Q) 14) (am_W m_X5_again (am_ev am_prog (d + 3)) Q) 14 [some (.inr (.inl r)), some (.inl x1), some (.inl x2), some (.inl x3), o4] [.inr (.inl r)])) ∧ (¬ (0 ≤ x3 ∧ x3 < S 0 0 3) → am_W m_X5_again (am_ev am_prog (d + 3)) Q 15 [some (.inr (.inl r)), some (.inl x1), some (.inl x2), some (.inl x3), o4] [.inl 1, .inr (.inl r)] (mo b r (ms S) V W))))) : am_W m_X5_again (am_ev am_prog (d + 3)) Q 0 [some (.inr (.inl r)), some (.inl x1), some (.inl x2), some (.inl x3), o4] [] (mo b r (ms S) V W) := by
  refine r_X5_again_0 ?_
  simp only [mo_ty, true_or, or_true, true_and]
  refine ?_
  obtain ⟨⟨a691, a692⟩, H⟩ := H
  refine c_isPart (by omega) (by omega) (am_av ?_)
  refine r_X5_again_4 ?_
  refine ⟨fun c => ?_, fun c => ?_⟩
  · replace c := am_b0 c
    replace H := H.1 c
    refine r_X5_again_9 ?_
    exact H
  · replace c := am_b1 c
    replace H := H.2 c
    refine r_X5_again_5 ?_
    simp only [mo_ty, true_or, or_true, true_and]
    refine ?_
    refine c_isMachine (am_av ?_)
    refine r_X5_again_8 ?_
    refine ⟨fun c => ?_, fun c => ?_⟩
    · replace c := am_b1 c
      replace H := H.1 c
      refine r_X5_again_11 ?_
      simp only [mo_ty, true_or, or_true, true_and]
      exact H
    · replace c := am_b0 c
      replace H := H.2 c
      refine r_X5_again_9 ?_
      exact H
theorem w_again_15 {d : Nat} {Q : am_K} {b : am_H} {r : Nat} {S : am_G} {V : Nat → Int → Int} {W : Nat → Int} {x1 : Int} {x2 : Int} {x3 : Int} {o4 : Option am_V} {y1 : Int} (H : (y1 ≤ 0 → ((0 ≤ x3 ∧ x3 < 2000000)) ∧ (((-2147483648 ≤ (320230 + 183 * x3) + 29 ∧ (320230 + 183 * x3) + 29 ≤ 2147483647) ∧ (0 ≤ x3 ∧ x3 < 4)) ∧ ((S 5 x3 29 < 30 → ((0 ≤ x1 ∧ x1 < 3000000)) ∧ (((-2147483648 ≤ (130 + 645 * x1) + 45 ∧ (130 + 645 * x1) + 45 ≤ 2147483647) ∧ (-2147483648 ≤ ((130 + 645 * x1) + 45) + x2 ∧ ((130 + 645 * x1) + 45) + x2 ≤ 2147483647) ∧ (0 ≤ x1 ∧ x1 < 100) ∧ (0 ≤ 45 + x2 ∧ 45 + x2 < 645)) ∧ ((S 3 x1 (45 + x2) ≤ 0 → ((-2147483648 ≤ x2 + 1 ∧ x2 + 1 ≤ 2147483647)) ∧ (am_ev am_prog (d + 3) 176 [.inr (.inl r), .inl x3, .inl x1, .inl x2, .inl (x2 + 1), .inl 0, .inl 0] (mo b r (ms S) V (am_up (am_up W 38 y1) 38 0)) (am_aft (am_hand m_X5_again Q (am_W m_X5_again (am_ev am_prog (d + 3)) Q) 67) (am_W m_X5_again (am_ev am_prog (d + 3)) Q) 67 [some (.inr (.inl r)), some (.inl x1), some (.inl x2), some (.inl x3), some (.inl (am_b (S 5 x3 29 < 30)))] []))) ∧ (0 < S 3 x1 (45 + x2) → am_W m_X5_again (am_ev am_prog (d + 3)) Q 68 [some (.inr (.inl r)), some (.inl x1), some (.inl x2), some (.inl x3), some (.inl (am_b (S 5 x3 29 < 30)))] [.inl (-1)] (mo b r (ms S) V (am_up (am_up W 38 y1) 38 0)))))) ∧ (30 ≤ S 5 x3 29 → Q (.inl (some (.inl 0))) (mo b r (ms S) V (am_up (am_up W 38 y1) 38 3)))))) ∧ (0 < y1 → Q (.inl (some (.inl 0))) (mo b r (ms S) V (am_up W 38 y1)))) : am_W m_X5_again (am_ev am_prog (d + 3)) Q 15 [some (.inr (.inl r)), some (.inl x1), some (.inl x2), some (.inl x3), o4] [.inl y1, .inr (.inl r)] (mo b r (ms S) V W) := by
  refine r_X5_again_15 ?_
  simp only [mo_ty, mo_si, true_or, or_true, true_and]
  refine ?_
  refine r_X5_again_16 ?_
  simp only [mo_ty, mo_i, am_up_eq, true_or, or_true, true_and]
  refine ⟨fun c => ?_, fun c => ?_⟩
  · replace H := H.1 c
    refine r_X5_again_21 ?_
    simp only [mo_ty, mo_f39, true_or, or_true, true_and]
    refine ?_
    obtain ⟨a693, H⟩ := H
    refine c_machine0 (by omega) (am_av ?_)
    obtain ⟨⟨a694, a695⟩, H⟩ := H
    have J : ∀ y : Int, y = am_b (S 5 x3 29 < 30) → am_W m_X5_again (am_ev am_prog (d + 3)) Q 33 [some (.inr (.inl r)), some (.inl x1), some (.inl x2), some (.inl x3), o4] [.inl y] (mo b r (ms S) V (am_up W 38 y1)) := by
      intro y hy
      subst hy
      refine r_X5_again_33 ?_
      refine ⟨fun c => ?_, fun c => ?_⟩
      · replace c := am_b1 c
        replace H := H.1 c
        refine r_X5_again_39 ?_
        refine r_X5_again_40 ?_
        simp only [mo_ty, mo_si, true_or, or_true, true_and]
        refine ?_
        refine r_X5_again_41 ?_
        simp only [mo_ty, mo_i, am_up_eq, true_or, or_true, true_and, Int.reduceLE, Int.reduceLT, Int.reduceEq, Int.reduceNe, ne_eq, false_imp_iff, true_imp_iff, and_true, true_and, not_true_eq_false, not_false_eq_true, not_true, Int.reduceNeg]
        refine ?_
        refine r_X5_again_46 ?_
        simp only [mo_ty, mo_f39, true_or, or_true, true_and]
        refine ?_
        obtain ⟨a696, H⟩ := H
        refine c_part0 (by omega) (am_av ?_)
        obtain ⟨⟨a697, a698, a699, a700⟩, H⟩ := H
        refine r_X5_again_50 ?_
        simp only [mo_t1, mo_n1, mo_a1, ms_r3 (k := ((130 + 645 * x1) + 45) + x2) (p := x1) (i := 45 + x2) (by omega) (by omega) (by omega), true_or, or_true, true_and]
        refine ⟨a697, a698, (by omega), ⟨fun c => ?_, fun c => ?_⟩⟩
        · replace H := H.1 c
          obtain ⟨a701, H⟩ := H
          refine r_X5_again_58 ?_
          simp only [mo_ty, true_or, or_true, true_and]
          exact ⟨a701, H⟩
        · replace H := H.2 c
          refine r_X5_again_56 ?_
          exact H
      · replace c := am_b0 c
        replace c : 30 ≤ S 5 x3 29 := by omega
        replace H := H.2 c
        refine r_X5_again_37 ?_
        refine r_X5_again_40 ?_
        simp only [mo_ty, mo_si, true_or, or_true, true_and]
        refine ?_
        refine r_X5_again_41 ?_
        simp only [mo_ty, mo_i, am_up_eq, true_or, or_true, true_and, Int.reduceLE, Int.reduceLT, Int.reduceEq, Int.reduceNe, ne_eq, false_imp_iff, true_imp_iff, and_true, true_and, not_true_eq_false, not_false_eq_true, not_true, Int.reduceNeg]
        refine ?_
        refine r_X5_again_44 ?_
        exact H
    refine r_X5_again_25 ?_
    simp only [mo_t1, mo_n1, mo_a1, ms_r5 (k := (320230 + 183 * x3) + 29) (p := x3) (i := 29) (by omega) (by omega) (by omega), true_or, or_true, true_and]
    refine ⟨a694, (by omega), ⟨fun c => ?_, fun c => ?_⟩⟩
    · exact r_X5_again_32 (J _ (am_bf (by omega)).symm)
    · exact r_X5_again_30 (J _ (am_bt c).symm)
  · replace H := H.2 c
    refine r_X5_again_19 ?_
    exact H
theorem w_again_68 {d : Nat} {Q : am_K} {b : am_H} {r : Nat} {S : am_G} {V : Nat → Int → Int} {W : Nat → Int} {x1 : Int} {x2 : Int} {x3 : Int} {x4 : Int} {y0 : Int} (H : Q (.inl (some (.inl y0))) (mo b r (ms S) V W)) : am_W m_X5_again (am_ev am_prog (d + 3)) Q 68 [some (.inr (.inl r)), some (.inl x1), some (.inl x2), some (.inl x3), some (.inl x4)] [.inl y0] (mo b r (ms S) V W) := by
  refine r_X5_again_68 ?_
  exact H
theorem w_fits_0 {d : Nat} {Q : am_K} {b : am_H} {r : Nat} {S : am_G} {V : Nat → Int → Int} {W : Nat → Int} {x1 : Int} {x2 : Int} {x3 : Int} {x4 : Int} {o5 : Option am_V} (H : ((-2147483648 ≤ (S 0 0 1) - 1 ∧ (S 0 0 1) - 1 ≤ 2147483647)) ∧ ((0 ≤ x3 ∧ x3 ≤ (S 0 0 1) - 1 → am_ev am_prog (d + 3) 168 [.inr (.inl r), .inl x1, .inl x2] (mo b r (ms S) V W) (am_aft (am_hand m_X5_fits Q (am_W m_X5_fits (am_ev am_prog (d + 3)) Q) 16) (am_W m_X5_fits (am_ev am_prog (d + 3)) Q) 16 [some (.inr (.inl r)), some (.inl x1), some (.inl x2), some (.inl x3), some (.inl x4), o5] [.inr (.inl r)])) ∧ (¬ (0 ≤ x3 ∧ x3 ≤ (S 0 0 1) - 1) → am_W m_X5_fits (am_ev am_prog (d + 3)) Q 17 [some (.inr (.inl r)), some (.inl x1), some (.inl x2), some (.inl x3), some (.inl x4), o5] [.inl 1, .inr (.inl r)] (mo b r (ms S) V W)))) : am_W m_X5_fits (am_ev am_prog (d + 3)) Q 0 [some (.inr (.inl r)), some (.inl x1), some (.inl x2), some (.inl x3), some (.inl x4), o5] [] (mo b r (ms S) V W) := by
  obtain ⟨a702, H⟩ := H
  refine r_X5_fits_0 ?_
  simp only [mo_ty, mo_f39, mo_t1, mo_n1, mo_a1, ms_r0 (k := 1) (p := 0) (i := 1) (by omega) (by omega) (by omega), true_or, or_true, true_and]
  refine ⟨(by omega), a702, ?_⟩
  refine c_isIn (am_av ?_)
  refine r_X5_fits_10 ?_
  refine ⟨fun c => ?_, fun c => ?_⟩
  · replace c := am_b1 c
    replace H := H.1 c
    refine r_X5_fits_13 ?_
    simp only [mo_ty, true_or, or_true, true_and]
    exact H
  · replace c := am_b0 c
    replace H := H.2 c
    refine r_X5_fits_11 ?_
    exact H
theorem w_fits_17 {d : Nat} {Q : am_K} {b : am_H} {r : Nat} {S : am_G} {V : Nat → Int → Int} {W : Nat → Int} {x1 : Int} {x2 : Int} {x3 : Int} {x4 : Int} {o5 : Option am_V} {y1 : Int} (H : (y1 ≤ 0 → am_ev am_prog (d + 3) 169 [.inr (.inl r), .inl x1, .inl x2] (mo b r (ms S) V (am_up W 38 y1)) (am_aft (am_hand m_X5_fits Q (am_W m_X5_fits (am_ev am_prog (d + 3)) Q) 26) (am_W m_X5_fits (am_ev am_prog (d + 3)) Q) 26 [some (.inr (.inl r)), some (.inl x1), some (.inl x2), some (.inl x3), some (.inl x4), o5] [])) ∧ (0 < y1 → Q (.inl (some (.inl 0))) (mo b r (ms S) V (am_up W 38 y1)))) : am_W m_X5_fits (am_ev am_prog (d + 3)) Q 17 [some (.inr (.inl r)), some (.inl x1), some (.inl x2), some (.inl x3), some (.inl x4), o5] [.inl y1, .inr (.inl r)] (mo b r (ms S) V W) := by
  refine r_X5_fits_17 ?_
  simp only [mo_ty, mo_si, true_or, or_true, true_and]
  refine ?_
  refine r_X5_fits_18 ?_
  simp only [mo_ty, mo_i, am_up_eq, true_or, or_true, true_and]
  refine ⟨fun c => ?_, fun c => ?_⟩
  · replace H := H.1 c
    refine r_X5_fits_23 ?_
    simp only [mo_ty, true_or, or_true, true_and]
    exact H
  · replace H := H.2 c
    refine r_X5_fits_21 ?_
    exact H
theorem w_fits_27 {d : Nat} {Q : am_K} {b : am_H} {r : Nat} {S : am_G} {V : Nat → Int → Int} {W : Nat → Int} {x1 : Int} {x2 : Int} {x3 : Int} {x4 : Int} {o5 : Option am_V} (H : am_W m_X5_fits (am_ev am_prog (d + 3)) Q 29 [some (.inr (.inl r)), some (.inl x1), some (.inl x2), some (.inl x3), some (.inl x4), some (.inl 0)] [] (mo b r (ms S) V W)) : am_W m_X5_fits (am_ev am_prog (d + 3)) Q 27 [some (.inr (.inl r)), some (.inl x1), some (.inl x2), some (.inl x3), some (.inl x4), o5] [] (mo b r (ms S) V W) := by
  refine r_X5_fits_27 ?_
  exact H
theorem w_fits_29 {d : Nat} {Q : am_K} {b : am_H} {r : Nat} {S : am_G} {V : Nat → Int → Int} {W : Nat → Int} {x1 : Int} {x2 : Int} {x3 : Int} {x4 : Int} {x5 : Int} (H : (W 89 ≤ x5 → Q (.inl (some (.inl (-1)))) (mo b r (ms S) V W)) ∧ (x5 < W 89 → ((W 90 : Int) = (-1) → Q (.inl (some (.inl (-1)))) (mo b r (ms S) V W)) ∧ ((W 90 : Int) ≠ (-1) → ((0 ≤ x5 ∧ x5 < 4)) ∧ ((V 27 x5 ≠ x3 → ((-2147483648 ≤ x5 + 1 ∧ x5 + 1 ≤ 2147483647)) ∧ (am_W m_X5_fits (am_ev am_prog (d + 3)) Q 29 [some (.inr (.inl r)), some (.inl x1), some (.inl x2), some (.inl x3), some (.inl x4), some (.inl (x5 + 1))] [] (mo b r (ms S) V W))) ∧ (V 27 x5 = x3 → ((x4 : Int) = 0 → ((0 ≤ x5 ∧ x5 < 4)) ∧ (Q (.inl (some (.inl (V 30 x5)))) (mo b r (ms S) V W))) ∧ ((x4 : Int) ≠ 0 → ((0 ≤ x5 ∧ x5 < 4)) ∧ (Q (.inl (some (.inl (V 31 x5)))) (mo b r (ms S) V W)))))))) : am_W m_X5_fits (am_ev am_prog (d + 3)) Q 29 [some (.inr (.inl r)), some (.inl x1), some (.inl x2), some (.inl x3), some (.inl x4), some (.inl x5)] [] (mo b r (ms S) V W) := by
  refine r_X5_fits_29 ?_
  simp only [mo_ty, mo_i, true_or, or_true, true_and]
  refine ⟨fun c => ?_, fun c => ?_⟩
  · replace H := H.1 c
    refine r_X5_fits_57 ?_
    exact H
  · replace H := H.2 c
    refine r_X5_fits_33 ?_
    simp only [mo_ty, mo_i, true_or, or_true, true_and]
    refine ⟨fun c => ?_, fun c => ?_⟩
    · replace H := H.1 c
      refine r_X5_fits_57 ?_
      exact H
    · replace H := H.2 c
      obtain ⟨a703, H⟩ := H
      refine r_X5_fits_37 ?_
      simp only [mo_ty, mo_f83, mo_t27, mo_n27, mo_a27, true_or, or_true, true_and]
      refine ⟨a703, ⟨fun c => ?_, fun c => ?_⟩⟩
      · replace H := H.1 c
        obtain ⟨a704, H⟩ := H
        refine r_X5_fits_55 ?_
        refine ⟨a704, ?_⟩
        exact H
      · replace H := H.2 c
        refine r_X5_fits_43 ?_
        refine ⟨fun c => ?_, fun c => ?_⟩
        · replace H := H.1 c
          obtain ⟨a705, H⟩ := H
          refine r_X5_fits_50 ?_
          simp only [mo_ty, mo_f86, mo_t30, mo_n30, mo_a30, true_or, or_true, true_and]
          refine ⟨a705, ?_⟩
          refine r_X5_fits_54 ?_
          exact H
        · replace H := H.2 c
          obtain ⟨a706, H⟩ := H
          refine r_X5_fits_45 ?_
          simp only [mo_ty, mo_f87, mo_t31, mo_n31, mo_a31, true_or, or_true, true_and]
          refine ⟨a706, ?_⟩
          refine r_X5_fits_54 ?_
          exact H
theorem w_feed_0 {d : Nat} {Q : am_K} {b : am_H} {r : Nat} {S : am_G} {V : Nat → Int → Int} {W : Nat → Int} {x1 : Int} {x2 : Int} {x3 : Int} {x4 : Int} {x5 : Int} {o6 : Option am_V} (H : ((-2147483648 ≤ (W 44) + 20 ∧ (W 44) + 20 ≤ 2147483647)) ∧ (((W 44) + 20 ≤ 400 → am_W m_X5_feed (am_ev am_prog (d + 3)) Q 13 [some (.inr (.inl r)), some (.inl x1), some (.inl x2), some (.inl x3), some (.inl x4), some (.inl x5), some (.inl 24)] [] (mo b r (ms S) V (am_up W 38 0))) ∧ (400 < (W 44) + 20 → Q (.inl (some (.inl (-1)))) (mo b r (ms S) V (am_up W 38 0))))) : am_W m_X5_feed (am_ev am_prog (d + 3)) Q 0 [some (.inr (.inl r)), some (.inl x1), some (.inl x2), some (.inl x3), some (.inl x4), some (.inl x5), o6] [] (mo b r (ms S) V W) := by
  refine r_X5_feed_0 ?_
  simp only [mo_ty, mo_si, true_or, or_true, true_and]
  refine ?_
  obtain ⟨a707, H⟩ := H
  refine r_X5_feed_3 ?_
  simp only [mo_ty, mo_i, am_up_ne (by decide : (44 : Nat) ≠ 38), true_or, or_true, true_and]
  refine ⟨a707, ⟨fun c => ?_, fun c => ?_⟩⟩
  · replace H := H.1 c
    refine r_X5_feed_11 ?_
    exact H
  · replace H := H.2 c
    refine r_X5_feed_9 ?_
    exact H
theorem w_feed_13 {d : Nat} {Q : am_K} {b : am_H} {r : Nat} {S : am_G} {V : Nat → Int → Int} {W : Nat → Int} {x1 : Int} {x2 : Int} {x3 : Int} {x4 : Int} {x5 : Int} {x6 : Int} (H : (x6 < 0 → am_W m_X5_feed (am_ev am_prog (d + 3)) Q 24 [some (.inr (.inl r)), some (.inl x1), some (.inl x2), some (.inl x3), some (.inl x4), some (.inl x5), some (.inl 24)] [] (mo b r (ms S) V W)) ∧ (0 ≤ x6 → am_ev am_prog (d + 3) 197 [.inr (.inl r), .inl (am_shrz x1 x6)] (mo b r (ms S) V W) (am_aft (am_hand m_X5_feed Q (am_W m_X5_feed (am_ev am_prog (d + 3)) Q) 19) (am_W m_X5_feed (am_ev am_prog (d + 3)) Q) 19 [some (.inr (.inl r)), some (.inl x1), some (.inl x2), some (.inl x3), some (.inl x4), some (.inl x5), some (.inl x6)] []))) : am_W m_X5_feed (am_ev am_prog (d + 3)) Q 13 [some (.inr (.inl r)), some (.inl x1), some (.inl x2), some (.inl x3), some (.inl x4), some (.inl x5), some (.inl x6)] [] (mo b r (ms S) V W) := by
  refine r_X5_feed_13 ?_
  refine ⟨fun c => ?_, fun c => ?_⟩
  · replace H := H.1 c
    refine r_X5_feed_22 ?_
    exact H
  · replace H := H.2 c
    refine r_X5_feed_15 ?_
    simp only [mo_ty, true_or, or_true, true_and]
    exact H
theorem w_feed_20 {d : Nat} {Q : am_K} {b : am_H} {r : Nat} {S : am_G} {V : Nat → Int → Int} {W : Nat → Int} {x1 : Int} {x2 : Int} {x3 : Int} {x4 : Int} {x5 : Int} {x6 : Int} (H : ((-2147483648 ≤ x6 + (-8) ∧ x6 + (-8) ≤ 2147483647)) ∧ (am_W m_X5_feed (am_ev am_prog (d + 3)) Q 13 [some (.inr (.inl r)), some (.inl x1), some (.inl x2), some (.inl x3), some (.inl x4), some (.inl x5), some (.inl (x6 + (-8)))] [] (mo b r (ms S) V W))) : am_W m_X5_feed (am_ev am_prog (d + 3)) Q 20 [some (.inr (.inl r)), some (.inl x1), some (.inl x2), some (.inl x3), some (.inl x4), some (.inl x5), some (.inl x6)] [] (mo b r (ms S) V W) := by
  obtain ⟨a708, H⟩ := H
  refine r_X5_feed_20 ?_
  refine ⟨a708, ?_⟩
  exact H
theorem w_feed_24 {d : Nat} {Q : am_K} {b : am_H} {r : Nat} {S : am_G} {V : Nat → Int → Int} {W : Nat → Int} {x1 : Int} {x2 : Int} {x3 : Int} {x4 : Int} {x5 : Int} {x6 : Int} (H : (x6 < 0 → am_W m_X5_feed (am_ev am_prog (d + 3)) Q 35 [some (.inr (.inl r)), some (.inl x1), some (.inl x2), some (.inl x3), some (.inl x4), some (.inl x5), some (.inl 24)] [] (mo b r (ms S) V W)) ∧ (0 ≤ x6 → am_ev am_prog (d + 3) 197 [.inr (.inl r), .inl (am_shrz x2 x6)] (mo b r (ms S) V W) (am_aft (am_hand m_X5_feed Q (am_W m_X5_feed (am_ev am_prog (d + 3)) Q) 30) (am_W m_X5_feed (am_ev am_prog (d + 3)) Q) 30 [some (.inr (.inl r)), some (.inl x1), some (.inl x2), some (.inl x3), some (.inl x4), some (.inl x5), some (.inl x6)] []))) : am_W m_X5_feed (am_ev am_prog (d + 3)) Q 24 [some (.inr (.inl r)), some (.inl x1), some (.inl x2), some (.inl x3), some (.inl x4), some (.inl x5), some (.inl x6)] [] (mo b r (ms S) V W) := by
  refine r_X5_feed_24 ?_
  refine ⟨fun c => ?_, fun c => ?_⟩
  · replace H := H.1 c
    refine r_X5_feed_33 ?_
    exact H
  · replace H := H.2 c
    refine r_X5_feed_26 ?_
    simp only [mo_ty, true_or, or_true, true_and]
    exact H
theorem w_feed_31 {d : Nat} {Q : am_K} {b : am_H} {r : Nat} {S : am_G} {V : Nat → Int → Int} {W : Nat → Int} {x1 : Int} {x2 : Int} {x3 : Int} {x4 : Int} {x5 : Int} {x6 : Int} (H : ((-2147483648 ≤ x6 + (-8) ∧ x6 + (-8) ≤ 2147483647)) ∧ (am_W m_X5_feed (am_ev am_prog (d + 3)) Q 24 [some (.inr (.inl r)), some (.inl x1), some (.inl x2), some (.inl x3), some (.inl x4), some (.inl x5), some (.inl (x6 + (-8)))] [] (mo b r (ms S) V W))) : am_W m_X5_feed (am_ev am_prog (d + 3)) Q 31 [some (.inr (.inl r)), some (.inl x1), some (.inl x2), some (.inl x3), some (.inl x4), some (.inl x5), some (.inl x6)] [] (mo b r (ms S) V W) := by
  obtain ⟨a709, H⟩ := H
  refine r_X5_feed_31 ?_
  refine ⟨a709, ?_⟩
  exact H
theorem w_feed_35 {d : Nat} {Q : am_K} {b : am_H} {r : Nat} {S : am_G} {V : Nat → Int → Int} {W : Nat → Int} {x1 : Int} {x2 : Int} {x3 : Int} {x4 : Int} {x5 : Int} {x6 : Int} (H : (x6 < 0 → am_W m_X5_feed (am_ev am_prog (d + 3)) Q 46 [some (.inr (.inl r)), some (.inl x1), some (.inl x2), some (.inl x3), some (.inl x4), some (.inl x5), some (.inl 24)] [] (mo b r (ms S) V W)) ∧ (0 ≤ x6 → am_ev am_prog (d + 3) 197 [.inr (.inl r), .inl (am_shrz x3 x6)] (mo b r (ms S) V W) (am_aft (am_hand m_X5_feed Q (am_W m_X5_feed (am_ev am_prog (d + 3)) Q) 41) (am_W m_X5_feed (am_ev am_prog (d + 3)) Q) 41 [some (.inr (.inl r)), some (.inl x1), some (.inl x2), some (.inl x3), some (.inl x4), some (.inl x5), some (.inl x6)] []))) : am_W m_X5_feed (am_ev am_prog (d + 3)) Q 35 [some (.inr (.inl r)), some (.inl x1), some (.inl x2), some (.inl x3), some (.inl x4), some (.inl x5), some (.inl x6)] [] (mo b r (ms S) V W) := by
  refine r_X5_feed_35 ?_
  refine ⟨fun c => ?_, fun c => ?_⟩
  · replace H := H.1 c
    refine r_X5_feed_44 ?_
    exact H
  · replace H := H.2 c
    refine r_X5_feed_37 ?_
    simp only [mo_ty, true_or, or_true, true_and]
    exact H
theorem w_feed_42 {d : Nat} {Q : am_K} {b : am_H} {r : Nat} {S : am_G} {V : Nat → Int → Int} {W : Nat → Int} {x1 : Int} {x2 : Int} {x3 : Int} {x4 : Int} {x5 : Int} {x6 : Int} (H : ((-2147483648 ≤ x6 + (-8) ∧ x6 + (-8) ≤ 2147483647)) ∧ (am_W m_X5_feed (am_ev am_prog (d + 3)) Q 35 [some (.inr (.inl r)), some (.inl x1), some (.inl x2), some (.inl x3), some (.inl x4), some (.inl x5), some (.inl (x6 + (-8)))] [] (mo b r (ms S) V W))) : am_W m_X5_feed (am_ev am_prog (d + 3)) Q 42 [some (.inr (.inl r)), some (.inl x1), some (.inl x2), some (.inl x3), some (.inl x4), some (.inl x5), some (.inl x6)] [] (mo b r (ms S) V W) := by
  obtain ⟨a710, H⟩ := H
  refine r_X5_feed_42 ?_
  refine ⟨a710, ?_⟩
  exact H
theorem w_feed_46 {d : Nat} {Q : am_K} {b : am_H} {r : Nat} {S : am_G} {V : Nat → Int → Int} {W : Nat → Int} {x1 : Int} {x2 : Int} {x3 : Int} {x4 : Int} {x5 : Int} {x6 : Int} (H : (x6 < 0 → am_W m_X5_feed (am_ev am_prog (d + 3)) Q 57 [some (.inr (.inl r)), some (.inl x1), some (.inl x2), some (.inl x3), some (.inl x4), some (.inl x5), some (.inl 24)] [] (mo b r (ms S) V W)) ∧ (0 ≤ x6 → am_ev am_prog (d + 3) 197 [.inr (.inl r), .inl (am_shrz x4 x6)] (mo b r (ms S) V W) (am_aft (am_hand m_X5_feed Q (am_W m_X5_feed (am_ev am_prog (d + 3)) Q) 52) (am_W m_X5_feed (am_ev am_prog (d + 3)) Q) 52 [some (.inr (.inl r)), some (.inl x1), some (.inl x2), some (.inl x3), some (.inl x4), some (.inl x5), some (.inl x6)] []))) : am_W m_X5_feed (am_ev am_prog (d + 3)) Q 46 [some (.inr (.inl r)), some (.inl x1), some (.inl x2), some (.inl x3), some (.inl x4), some (.inl x5), some (.inl x6)] [] (mo b r (ms S) V W) := by
  refine r_X5_feed_46 ?_
  refine ⟨fun c => ?_, fun c => ?_⟩
  · replace H := H.1 c
    refine r_X5_feed_55 ?_
    exact H
  · replace H := H.2 c
    refine r_X5_feed_48 ?_
    simp only [mo_ty, true_or, or_true, true_and]
    exact H
theorem w_feed_53 {d : Nat} {Q : am_K} {b : am_H} {r : Nat} {S : am_G} {V : Nat → Int → Int} {W : Nat → Int} {x1 : Int} {x2 : Int} {x3 : Int} {x4 : Int} {x5 : Int} {x6 : Int} (H : ((-2147483648 ≤ x6 + (-8) ∧ x6 + (-8) ≤ 2147483647)) ∧ (am_W m_X5_feed (am_ev am_prog (d + 3)) Q 46 [some (.inr (.inl r)), some (.inl x1), some (.inl x2), some (.inl x3), some (.inl x4), some (.inl x5), some (.inl (x6 + (-8)))] [] (mo b r (ms S) V W))) : am_W m_X5_feed (am_ev am_prog (d + 3)) Q 53 [some (.inr (.inl r)), some (.inl x1), some (.inl x2), some (.inl x3), some (.inl x4), some (.inl x5), some (.inl x6)] [] (mo b r (ms S) V W) := by
  obtain ⟨a711, H⟩ := H
  refine r_X5_feed_53 ?_
  refine ⟨a711, ?_⟩
  exact H
theorem w_feed_57 {d : Nat} {Q : am_K} {b : am_H} {r : Nat} {S : am_G} {V : Nat → Int → Int} {W : Nat → Int} {x1 : Int} {x2 : Int} {x3 : Int} {x4 : Int} {x5 : Int} {x6 : Int} (H : (x6 < 0 → Q (.inl (some (.inl (W 44)))) (mo b r (ms S) V W)) ∧ (0 ≤ x6 → am_ev am_prog (d + 3) 197 [.inr (.inl r), .inl (am_shrz x5 x6)] (mo b r (ms S) V W) (am_aft (am_hand m_X5_feed Q (am_W m_X5_feed (am_ev am_prog (d + 3)) Q) 63) (am_W m_X5_feed (am_ev am_prog (d + 3)) Q) 63 [some (.inr (.inl r)), some (.inl x1), some (.inl x2), some (.inl x3), some (.inl x4), some (.inl x5), some (.inl x6)] []))) : am_W m_X5_feed (am_ev am_prog (d + 3)) Q 57 [some (.inr (.inl r)), some (.inl x1), some (.inl x2), some (.inl x3), some (.inl x4), some (.inl x5), some (.inl x6)] [] (mo b r (ms S) V W) := by
  refine r_X5_feed_57 ?_
  refine ⟨fun c => ?_, fun c => ?_⟩
  · replace H := H.1 c
    refine r_X5_feed_66 ?_
    simp only [mo_ty, mo_i, true_or, or_true, true_and]
    exact H
  · replace H := H.2 c
    refine r_X5_feed_59 ?_
    simp only [mo_ty, true_or, or_true, true_and]
    exact H
theorem w_feed_64 {d : Nat} {Q : am_K} {b : am_H} {r : Nat} {S : am_G} {V : Nat → Int → Int} {W : Nat → Int} {x1 : Int} {x2 : Int} {x3 : Int} {x4 : Int} {x5 : Int} {x6 : Int} (H : ((-2147483648 ≤ x6 + (-8) ∧ x6 + (-8) ≤ 2147483647)) ∧ (am_W m_X5_feed (am_ev am_prog (d + 3)) Q 57 [some (.inr (.inl r)), some (.inl x1), some (.inl x2), some (.inl x3), some (.inl x4), some (.inl x5), some (.inl (x6 + (-8)))] [] (mo b r (ms S) V W))) : am_W m_X5_feed (am_ev am_prog (d + 3)) Q 64 [some (.inr (.inl r)), some (.inl x1), some (.inl x2), some (.inl x3), some (.inl x4), some (.inl x5), some (.inl x6)] [] (mo b r (ms S) V W) := by
  obtain ⟨a712, H⟩ := H
  refine r_X5_feed_64 ?_
  refine ⟨a712, ?_⟩
  exact H
theorem w_place_0 {d : Nat} {Q : am_K} {b : am_H} {r : Nat} {S : am_G} {V : Nat → Int → Int} {W : Nat → Int} {x1 : Int} {x2 : Int} {x3 : Int} {o4 : Option am_V} {o5 : Option am_V} {o6 : Option am_V} (H : ((W 95 : Int) = (-1) → (x2 ≠ W 94 → am_W m_X5_place (am_ev am_prog (d + 3)) Q 19 [some (.inr (.inl r)), some (.inl x1), some (.inl x2), some (.inl x3), some (.inl 0), o5, o6] [] (mo b r (ms S) V W)) ∧ (x2 = W 94 → Q (.inl none) (mo b r (ms S) V (am_up W 95 x3)))) ∧ ((W 95 : Int) ≠ (-1) → (x3 < W 95 → (x2 ≠ W 94 → am_W m_X5_place (am_ev am_prog (d + 3)) Q 19 [some (.inr (.inl r)), some (.inl x1), some (.inl x2), some (.inl x3), some (.inl 0), o5, o6] [] (mo b r (ms S) V W)) ∧ (x2 = W 94 → Q (.inl none) (mo b r (ms S) V (am_up W 95 x3)))) ∧ (W 95 ≤ x3 → Q (.inl none) (mo b r (ms S) V W)))) : am_W m_X5_place (am_ev am_prog (d + 3)) Q 0 [some (.inr (.inl r)), some (.inl x1), some (.inl x2), some (.inl x3), o4, o5, o6] [] (mo b r (ms S) V W) := by
  refine r_X5_place_0 ?_
  simp only [mo_ty, mo_i, true_or, or_true, true_and]
  refine ⟨fun c => ?_, fun c => ?_⟩
  · replace H := H.1 c
    refine r_X5_place_9 ?_
    simp only [mo_ty, mo_i, true_or, or_true, true_and]
    refine ⟨fun c => ?_, fun c => ?_⟩
    · replace H := H.1 c
      refine r_X5_place_17 ?_
      exact H
    · replace H := H.2 c
      refine r_X5_place_13 ?_
      simp only [mo_ty, mo_si, true_or, or_true, true_and]
      refine ?_
      refine r_X5_place_16 ?_
      exact H
  · replace H := H.2 c
    refine r_X5_place_4 ?_
    simp only [mo_ty, mo_i, true_or, or_true, true_and]
    refine ⟨fun c => ?_, fun c => ?_⟩
    · replace H := H.1 c
      refine r_X5_place_9 ?_
      simp only [mo_ty, mo_i, true_or, or_true, true_and]
      refine ⟨fun c => ?_, fun c => ?_⟩
      · replace H := H.1 c
        refine r_X5_place_17 ?_
        exact H
      · replace H := H.2 c
        refine r_X5_place_13 ?_
        simp only [mo_ty, mo_si, true_or, or_true, true_and]
        refine ?_
        refine r_X5_place_16 ?_
        exact H
    · replace H := H.2 c
      refine r_X5_place_8 ?_
      exact H
theorem w_place_19 {d : Nat} {Q : am_K} {b : am_H} {r : Nat} {S : am_G} {V : Nat → Int → Int} {W : Nat → Int} {x1 : Int} {x2 : Int} {x3 : Int} {x4 : Int} {o5 : Option am_V} {o6 : Option am_V} (H : (W 94 ≤ x4 → Q (.inl none) (mo b r (ms S) V W)) ∧ (x4 < W 94 → ((am_andz (am_shrz x1 x4) 1 : Int) ≠ 1 → am_W m_X5_place (am_ev am_prog (d + 3)) Q 33 [some (.inr (.inl r)), some (.inl x1), some (.inl x2), some (.inl x3), some (.inl x4), some (.inl 0), o6] [] (mo b r (ms S) V W)) ∧ ((am_andz (am_shrz x1 x4) 1 : Int) = 1 → ((-2147483648 ≤ x4 + 1 ∧ x4 + 1 ≤ 2147483647)) ∧ (am_W m_X5_place (am_ev am_prog (d + 3)) Q 19 [some (.inr (.inl r)), some (.inl x1), some (.inl x2), some (.inl x3), some (.inl (x4 + 1)), o5, o6] [] (mo b r (ms S) V W))))) : am_W m_X5_place (am_ev am_prog (d + 3)) Q 19 [some (.inr (.inl r)), some (.inl x1), some (.inl x2), some (.inl x3), some (.inl x4), o5, o6] [] (mo b r (ms S) V W) := by
  refine r_X5_place_19 ?_
  simp only [mo_ty, mo_i, true_or, or_true, true_and]
  refine ⟨fun c => ?_, fun c => ?_⟩
  · replace H := H.1 c
    refine r_X5_place_109 ?_
    exact H
  · replace H := H.2 c
    refine r_X5_place_23 ?_
    refine ⟨fun c => ?_, fun c => ?_⟩
    · replace H := H.1 c
      refine r_X5_place_31 ?_
      exact H
    · replace H := H.2 c
      refine r_X5_place_30 ?_
      obtain ⟨a713, H⟩ := H
      refine r_X5_place_107 ?_
      refine ⟨a713, ?_⟩
      exact H
theorem w_place_33 {d : Nat} {Q : am_K} {b : am_H} {r : Nat} {S : am_G} {V : Nat → Int → Int} {W : Nat → Int} {x1 : Int} {x2 : Int} {x3 : Int} {x4 : Int} {x5 : Int} {o6 : Option am_V} (H : (S 0 0 3 ≤ x5 → ((-2147483648 ≤ x4 + 1 ∧ x4 + 1 ≤ 2147483647)) ∧ (am_W m_X5_place (am_ev am_prog (d + 3)) Q 19 [some (.inr (.inl r)), some (.inl x1), some (.inl x2), some (.inl x3), some (.inl (x4 + 1)), some (.inl x5), o6] [] (mo b r (ms S) V W))) ∧ (x5 < S 0 0 3 → ((0 ≤ x5 ∧ x5 < 2000000)) ∧ (((-2147483648 ≤ (320230 + 183 * x5) + 28 ∧ (320230 + 183 * x5) + 28 ≤ 2147483647) ∧ (0 ≤ x5 ∧ x5 < 4)) ∧ (((S 5 x5 28 : Int) ≠ 1 → ((0 ≤ x5 ∧ x5 < 4) ∧ (0 ≤ x4 ∧ x4 < 5) ∧ (-2147483648 ≤ (V 35 x5) + (V 34 x4) ∧ (V 35 x5) + (V 34 x4) ≤ 2147483647)) ∧ (((0 ≤ x5 ∧ x5 < 4) ∧ (0 ≤ x4 ∧ x4 < 5) ∧ (0 ≤ V 33 x4 ∧ V 33 x4 ≤ 2147483647) ∧ (-2147483648 ≤ 90 + ((V 33 x4) / 5) ∧ 90 + ((V 33 x4) / 5) ≤ 2147483647) ∧ (0 ≤ ((V 33 x4) / 5) ∧ ((V 33 x4) / 5) < 20) ∧ (-2147483648 ≤ ((V 35 x5) + (V 34 x4)) - (S 2 1 ((V 33 x4) / 5)) ∧ ((V 35 x5) + (V 34 x4)) - (S 2 1 ((V 33 x4) / 5)) ≤ 2147483647) ∧ (-2147483648 ≤ x2 + 1 ∧ x2 + 1 ≤ 2147483647)) ∧ ((((V 35 x5) + (V 34 x4)) - (S 2 1 ((V 33 x4) / 5)) ≤ 0 → ((-2147483648 ≤ x3 + 0 ∧ x3 + 0 ≤ 2147483647)) ∧ (am_ev am_prog (d + 3) 111 [.inr (.inl r), .inl (am_orz x1 (am_shlz 1 x4)), .inl (x2 + 1), .inl (x3 + 0)] (mo b r (ms S) (am_up V 35 (am_uz (V 35) x5 ((V 35 x5) + (V 34 x4)))) W) (am_aft (am_hand m_X5_place Q (am_W m_X5_place (am_ev am_prog (d + 3)) Q) 93) (am_W m_X5_place (am_ev am_prog (d + 3)) Q) 93 [some (.inr (.inl r)), some (.inl x1), some (.inl x2), some (.inl x3), some (.inl x4), some (.inl x5), some (.inl (((V 35 x5) + (V 34 x4)) - (S 2 1 ((V 33 x4) / 5))))] []))) ∧ (0 < ((V 35 x5) + (V 34 x4)) - (S 2 1 ((V 33 x4) / 5)) → ((-2147483648 ≤ x3 + (((V 35 x5) + (V 34 x4)) - (S 2 1 ((V 33 x4) / 5))) ∧ x3 + (((V 35 x5) + (V 34 x4)) - (S 2 1 ((V 33 x4) / 5))) ≤ 2147483647)) ∧ (am_ev am_prog (d + 3) 111 [.inr (.inl r), .inl (am_orz x1 (am_shlz 1 x4)), .inl (x2 + 1), .inl (x3 + (((V 35 x5) + (V 34 x4)) - (S 2 1 ((V 33 x4) / 5))))] (mo b r (ms S) (am_up V 35 (am_uz (V 35) x5 ((V 35 x5) + (V 34 x4)))) W) (am_aft (am_hand m_X5_place Q (am_W m_X5_place (am_ev am_prog (d + 3)) Q) 93) (am_W m_X5_place (am_ev am_prog (d + 3)) Q) 93 [some (.inr (.inl r)), some (.inl x1), some (.inl x2), some (.inl x3), some (.inl x4), some (.inl x5), some (.inl (((V 35 x5) + (V 34 x4)) - (S 2 1 ((V 33 x4) / 5))))] [])))))) ∧ ((S 5 x5 28 : Int) = 1 → ((-2147483648 ≤ x5 + 1 ∧ x5 + 1 ≤ 2147483647)) ∧ (am_W m_X5_place (am_ev am_prog (d + 3)) Q 33 [some (.inr (.inl r)), some (.inl x1), some (.inl x2), some (.inl x3), some (.inl x4), some (.inl (x5 + 1)), o6] [] (mo b r (ms S) V W))))))) : am_W m_X5_place (am_ev am_prog (d + 3)) Q 33 [some (.inr (.inl r)), some (.inl x1), some (.inl x2), some (.inl x3), some (.inl x4), some (.inl x5), o6] [] (mo b r (ms S) V W) := by
  refine r_X5_place_33 ?_
  simp only [mo_ty, mo_f39, mo_t1, mo_n1, mo_a1, ms_r0 (k := 3) (p := 0) (i := 3) (by omega) (by omega) (by omega), true_or, or_true, true_and]
  refine ⟨(by omega), ⟨fun c => ?_, fun c => ?_⟩⟩
  · replace H := H.1 c
    obtain ⟨a714, H⟩ := H
    refine r_X5_place_107 ?_
    refine ⟨a714, ?_⟩
    exact H
  · replace H := H.2 c
    refine r_X5_place_39 ?_
    simp only [mo_ty, mo_f39, true_or, or_true, true_and]
    refine ?_
    obtain ⟨a715, H⟩ := H
    refine c_machine0 (by omega) (am_av ?_)
    obtain ⟨⟨a716, a717⟩, H⟩ := H
    refine r_X5_place_43 ?_
    simp only [mo_t1, mo_n1, mo_a1, ms_r5 (k := (320230 + 183 * x5) + 28) (p := x5) (i := 28) (by omega) (by omega) (by omega), true_or, or_true, true_and]
    refine ⟨a716, (by omega), ⟨fun c => ?_, fun c => ?_⟩⟩
    · replace H := H.1 c
      obtain ⟨⟨a718, a719, a720⟩, H⟩ := H
      refine r_X5_place_49 ?_
      simp only [mo_ty, mo_f93, mo_t35, mo_n35, mo_a35, mo_f92, mo_t34, mo_n34, mo_a34, mo_s35, true_or, or_true, true_and]
      refine ⟨a718, a719, a720, a718, ?_⟩
      obtain ⟨⟨a721, a722, a723, a724, a725, a726, a727⟩, H⟩ := H
      refine r_X5_place_60 ?_
      simp only [mo_ty, mo_f93, mo_t35, mo_n35, mo_a35, am_up_eq, am_uz_eq, mo_f39, mo_f91, mo_t33, mo_n33, mo_a33, am_up_ne (by decide : (33 : Nat) ≠ 35), am_td (x := V 33 x4) (y := 5) (by omega), am_tm (x := V 33 x4) (y := 5) (by omega), mo_t1, mo_n1, mo_a1, ms_r2 (k := 90 + ((V 33 x4) / 5)) (p := 1) (i := ((V 33 x4) / 5)) (by omega) (by omega) (by omega), true_or, or_true, true_and]
      refine ⟨a721, a722, ⟨by decide, am_dk (by omega) (by omega)⟩, a724, (by omega), a726, a727, ⟨fun c => ?_, fun c => ?_⟩⟩
      · replace H := H.1 c
        refine r_X5_place_91 ?_
        obtain ⟨a728, H⟩ := H
        refine r_X5_place_92 ?_
        simp only [mo_ty, true_or, or_true, true_and]
        exact ⟨a728, H⟩
      · replace H := H.2 c
        refine r_X5_place_89 ?_
        obtain ⟨a729, H⟩ := H
        refine r_X5_place_92 ?_
        simp only [mo_ty, true_or, or_true, true_and]
        exact ⟨a729, H⟩
    · replace H := H.2 c
      refine r_X5_place_48 ?_
      obtain ⟨a730, H⟩ := H
      refine r_X5_place_105 ?_
      refine ⟨a730, ?_⟩
      exact H
theorem w_place_94 {d : Nat} {Q : am_K} {b : am_H} {r : Nat} {S : am_G} {V : Nat → Int → Int} {W : Nat → Int} {x1 : Int} {x2 : Int} {x3 : Int} {x4 : Int} {x5 : Int} {x6 : Int} (H : ((0 ≤ x5 ∧ x5 < 4) ∧ (0 ≤ x4 ∧ x4 < 5) ∧ (-2147483648 ≤ (V 35 x5) - (V 34 x4) ∧ (V 35 x5) - (V 34 x4) ≤ 2147483647)) ∧ (((-2147483648 ≤ x5 + 1 ∧ x5 + 1 ≤ 2147483647)) ∧ (am_W m_X5_place (am_ev am_prog (d + 3)) Q 33 [some (.inr (.inl r)), some (.inl x1), some (.inl x2), some (.inl x3), some (.inl x4), some (.inl (x5 + 1)), some (.inl x6)] [] (mo b r (ms S) (am_up V 35 (am_uz (V 35) x5 ((V 35 x5) - (V 34 x4)))) W)))) : am_W m_X5_place (am_ev am_prog (d + 3)) Q 94 [some (.inr (.inl r)), some (.inl x1), some (.inl x2), some (.inl x3), some (.inl x4), some (.inl x5), some (.inl x6)] [] (mo b r (ms S) V W) := by
  obtain ⟨⟨a731, a732, a733⟩, H⟩ := H
  refine r_X5_place_94 ?_
  simp only [mo_ty, mo_f93, mo_t35, mo_n35, mo_a35, mo_f92, mo_t34, mo_n34, mo_a34, mo_s35, true_or, or_true, true_and]
  refine ⟨a731, a732, a733, a731, ?_⟩
  obtain ⟨a734, H⟩ := H
  refine r_X5_place_105 ?_
  refine ⟨a734, ?_⟩
  exact H
theorem w_queueLines_0 {d : Nat} {Q : am_K} {b : am_H} {r : Nat} {S : am_G} {V : Nat → Int → Int} {W : Nat → Int} {x1 : Int} {o2 : Option am_V} {o3 : Option am_V} {o4 : Option am_V} {o5 : Option am_V} {o6 : Option am_V} (H : ((0 ≤ x1 ∧ x1 < 2000000)) ∧ (am_W m_X5_queueLines (am_ev am_prog (d + 3)) Q 7 [some (.inr (.inl r)), some (.inl x1), some (.inl (320230 + 183 * x1)), some (.inl 0), some (.inl 0), o5, o6] [] (mo b r (ms S) V W))) : am_W m_X5_queueLines (am_ev am_prog (d + 3)) Q 0 [some (.inr (.inl r)), some (.inl x1), o2, o3, o4, o5, o6] [] (mo b r (ms S) V W) := by
  refine r_X5_queueLines_0 ?_
  refine ?_
  obtain ⟨a735, H⟩ := H
  refine c_machine0 (by omega) (am_av ?_)
  refine r_X5_queueLines_2 ?_
  exact H
theorem w_queueLines_7 {d : Nat} {Q : am_K} {b : am_H} {r : Nat} {S : am_G} {V : Nat → Int → Int} {W : Nat → Int} {x1 : Int} {p2 : Int} {x3 : Int} {x4 : Int} {o5 : Option am_V} {o6 : Option am_V} (H : ((-2147483648 ≤ (320230 + 183 * p2) + 29 ∧ (320230 + 183 * p2) + 29 ≤ 2147483647) ∧ (0 ≤ p2 ∧ p2 < 4)) ∧ ((S 5 p2 29 ≤ x4 → Q (.inl (some (.inl x3))) (mo b r (ms S) V W)) ∧ (x4 < S 5 p2 29 → ((-2147483648 ≤ (320230 + 183 * p2) + 33 ∧ (320230 + 183 * p2) + 33 ≤ 2147483647) ∧ (-2147483648 ≤ 5 * x4 ∧ 5 * x4 ≤ 2147483647) ∧ (-2147483648 ≤ ((320230 + 183 * p2) + 33) + (5 * x4) ∧ ((320230 + 183 * p2) + 33) + (5 * x4) ≤ 2147483647) ∧ (0 ≤ p2 ∧ p2 < 4) ∧ (0 ≤ 33 + 5 * x4 ∧ 33 + 5 * x4 < 183)) ∧ (((0 ≤ S 5 p2 (33 + 5 * x4) ∧ S 5 p2 (33 + 5 * x4) < 3000000)) ∧ (((-2147483648 ≤ (((320230 + 183 * p2) + 33) + (5 * x4)) + 4 ∧ (((320230 + 183 * p2) + 33) + (5 * x4)) + 4 ≤ 2147483647) ∧ (0 ≤ p2 ∧ p2 < 4) ∧ (0 ≤ 37 + 5 * x4 ∧ 37 + 5 * x4 < 183)) ∧ (((S 5 p2 (37 + 5 * x4) : Int) ≠ 0 → ((-2147483648 ≤ (130 + 645 * (S 5 p2 (33 + 5 * x4))) + 3 ∧ (130 + 645 * (S 5 p2 (33 + 5 * x4))) + 3 ≤ 2147483647) ∧ (0 ≤ S 5 p2 (33 + 5 * x4) ∧ S 5 p2 (33 + 5 * x4) < 100)) ∧ (((S 3 (S 5 p2 (33 + 5 * x4)) 3 : Int) ≠ 1 → ((0 ≤ p2 ∧ p2 < 4) ∧ (0 ≤ 33 + 5 * x4 ∧ 33 + 5 * x4 < 183)) ∧ (am_ev am_prog (d + 3) 113 [.inr (.inl r), .inl (S 5 p2 (33 + 5 * x4)), .inl (S 0 0 0)] (mo b r (ms S) V W) (am_aft (am_hand m_X5_queueLines Q (am_W m_X5_queueLines (am_ev am_prog (d + 3)) Q) 87) (am_W m_X5_queueLines (am_ev am_prog (d + 3)) Q) 87 [some (.inr (.inl r)), some (.inl x1), some (.inl (320230 + 183 * p2)), some (.inl x3), some (.inl x4), some (.inl (((320230 + 183 * p2) + 33) + (5 * x4))), some (.inl (130 + 645 * (S 5 p2 (33 + 5 * x4))))] []))) ∧ ((S 3 (S 5 p2 (33 + 5 * x4)) 3 : Int) = 1 → ((-2147483648 ≤ (130 + 645 * (S 5 p2 (33 + 5 * x4))) + 4 ∧ (130 + 645 * (S 5 p2 (33 + 5 * x4))) + 4 ≤ 2147483647) ∧ (0 ≤ S 5 p2 (33 + 5 * x4) ∧ S 5 p2 (33 + 5 * x4) < 100) ∧ (-2147483648 ≤ (((320230 + 183 * p2) + 33) + (5 * x4)) + 1 ∧ (((320230 + 183 * p2) + 33) + (5 * x4)) + 1 ≤ 2147483647) ∧ (0 ≤ p2 ∧ p2 < 4) ∧ (0 ≤ 34 + 5 * x4 ∧ 34 + 5 * x4 < 183) ∧ (-2147483648 ≤ (S 3 (S 5 p2 (33 + 5 * x4)) 4) - (S 5 p2 (34 + 5 * x4)) ∧ (S 3 (S 5 p2 (33 + 5 * x4)) 4) - (S 5 p2 (34 + 5 * x4)) ≤ 2147483647) ∧ (-2147483648 ≤ x3 + ((S 3 (S 5 p2 (33 + 5 * x4)) 4) - (S 5 p2 (34 + 5 * x4))) ∧ x3 + ((S 3 (S 5 p2 (33 + 5 * x4)) 4) - (S 5 p2 (34 + 5 * x4))) ≤ 2147483647)) ∧ (((-2147483648 ≤ x4 + 1 ∧ x4 + 1 ≤ 2147483647)) ∧ (am_W m_X5_queueLines (am_ev am_prog (d + 3)) Q 7 [some (.inr (.inl r)), some (.inl x1), some (.inl (320230 + 183 * p2)), some (.inl (x3 + ((S 3 (S 5 p2 (33 + 5 * x4)) 4) - (S 5 p2 (34 + 5 * x4))))), some (.inl (x4 + 1)), some (.inl (((320230 + 183 * p2) + 33) + (5 * x4))), some (.inl (130 + 645 * (S 5 p2 (33 + 5 * x4))))] [] (mo b r (ms S) V W)))))) ∧ ((S 5 p2 (37 + 5 * x4) : Int) = 0 → ((-2147483648 ≤ (((320230 + 183 * p2) + 33) + (5 * x4)) + 2 ∧ (((320230 + 183 * p2) + 33) + (5 * x4)) + 2 ≤ 2147483647) ∧ (0 ≤ p2 ∧ p2 < 4) ∧ (0 ≤ 35 + 5 * x4 ∧ 35 + 5 * x4 < 183) ∧ (-2147483648 ≤ (((320230 + 183 * p2) + 33) + (5 * x4)) + 1 ∧ (((320230 + 183 * p2) + 33) + (5 * x4)) + 1 ≤ 2147483647) ∧ (0 ≤ 34 + 5 * x4 ∧ 34 + 5 * x4 < 183) ∧ (-2147483648 ≤ (S 5 p2 (35 + 5 * x4)) - (S 5 p2 (34 + 5 * x4)) ∧ (S 5 p2 (35 + 5 * x4)) - (S 5 p2 (34 + 5 * x4)) ≤ 2147483647) ∧ (-2147483648 ≤ x3 + ((S 5 p2 (35 + 5 * x4)) - (S 5 p2 (34 + 5 * x4))) ∧ x3 + ((S 5 p2 (35 + 5 * x4)) - (S 5 p2 (34 + 5 * x4))) ≤ 2147483647)) ∧ (((-2147483648 ≤ x4 + 1 ∧ x4 + 1 ≤ 2147483647)) ∧ (am_W m_X5_queueLines (am_ev am_prog (d + 3)) Q 7 [some (.inr (.inl r)), some (.inl x1), some (.inl (320230 + 183 * p2)), some (.inl (x3 + ((S 5 p2 (35 + 5 * x4)) - (S 5 p2 (34 + 5 * x4))))), some (.inl (x4 + 1)), some (.inl (((320230 + 183 * p2) + 33) + (5 * x4))), some (.inl (130 + 645 * (S 5 p2 (33 + 5 * x4))))] [] (mo b r (ms S) V W)))))))))) : am_W m_X5_queueLines (am_ev am_prog (d + 3)) Q 7 [some (.inr (.inl r)), some (.inl x1), some (.inl (320230 + 183 * p2)), some (.inl x3), some (.inl x4), o5, o6] [] (mo b r (ms S) V W) := by
  obtain ⟨⟨a736, a737⟩, H⟩ := H
  refine r_X5_queueLines_7 ?_
  simp only [mo_ty, mo_f39, mo_t1, mo_n1, mo_a1, ms_r5 (k := (320230 + 183 * p2) + 29) (p := p2) (i := 29) (by omega) (by omega) (by omega), true_or, or_true, true_and]
  refine ⟨a736, (by omega), ⟨fun c => ?_, fun c => ?_⟩⟩
  · replace H := H.1 c
    refine r_X5_queueLines_105 ?_
    exact H
  · replace H := H.2 c
    obtain ⟨⟨a738, a739, a740, a741, a742⟩, H⟩ := H
    refine r_X5_queueLines_15 ?_
    simp only [mo_ty, mo_f39, mo_t1, mo_n1, mo_a1, ms_r5 (k := ((320230 + 183 * p2) + 33) + (5 * x4)) (p := p2) (i := 33 + 5 * x4) (by omega) (by omega) (by omega), true_or, or_true, true_and]
    refine ⟨a738, a739, a740, (by omega), ?_⟩
    obtain ⟨a743, H⟩ := H
    refine c_part0 (by omega) (am_av ?_)
    obtain ⟨⟨a744, a745, a746⟩, H⟩ := H
    refine r_X5_queueLines_28 ?_
    simp only [mo_ty, mo_f39, mo_t1, mo_n1, mo_a1, ms_r5 (k := (((320230 + 183 * p2) + 33) + (5 * x4)) + 4) (p := p2) (i := 37 + 5 * x4) (by omega) (by omega) (by omega), true_or, or_true, true_and]
    refine ⟨a744, (by omega), ⟨fun c => ?_, fun c => ?_⟩⟩
    · replace H := H.1 c
      obtain ⟨⟨a747, a748⟩, H⟩ := H
      refine r_X5_queueLines_53 ?_
      simp only [mo_ty, mo_f39, mo_t1, mo_n1, mo_a1, ms_r3 (k := (130 + 645 * (S 5 p2 (33 + 5 * x4))) + 3) (p := S 5 p2 (33 + 5 * x4)) (i := 3) (by omega) (by omega) (by omega), true_or, or_true, true_and]
      refine ⟨a747, (by omega), ⟨fun c => ?_, fun c => ?_⟩⟩
      · replace H := H.1 c
        obtain ⟨⟨a749, a750⟩, H⟩ := H
        refine r_X5_queueLines_78 ?_
        simp only [mo_ty, mo_f39, mo_t1, mo_n1, mo_a1, ms_r5 (k := ((320230 + 183 * p2) + 33) + (5 * x4)) (p := p2) (i := 33 + 5 * x4) (by omega) (by omega) (by omega), ms_r0 (k := 0) (p := 0) (i := 0) (by omega) (by omega) (by omega), true_or, or_true, true_and]
        exact ⟨(by omega), (by omega), H⟩
      · replace H := H.2 c
        obtain ⟨⟨a751, a752, a753, a754, a755, a756, a757⟩, H⟩ := H
        refine r_X5_queueLines_61 ?_
        simp only [mo_ty, mo_f39, mo_t1, mo_n1, mo_a1, ms_r3 (k := (130 + 645 * (S 5 p2 (33 + 5 * x4))) + 4) (p := S 5 p2 (33 + 5 * x4)) (i := 4) (by omega) (by omega) (by omega), ms_r5 (k := (((320230 + 183 * p2) + 33) + (5 * x4)) + 1) (p := p2) (i := 34 + 5 * x4) (by omega) (by omega) (by omega), true_or, or_true, true_and]
        refine ⟨a751, (by omega), a753, (by omega), a756, a757, ?_⟩
        obtain ⟨a758, H⟩ := H
        refine r_X5_queueLines_103 ?_
        refine ⟨a758, ?_⟩
        exact H
    · replace H := H.2 c
      obtain ⟨⟨a759, a760, a761, a762, a763, a764, a765⟩, H⟩ := H
      refine r_X5_queueLines_36 ?_
      simp only [mo_ty, mo_f39, mo_t1, mo_n1, mo_a1, ms_r5 (k := (((320230 + 183 * p2) + 33) + (5 * x4)) + 2) (p := p2) (i := 35 + 5 * x4) (by omega) (by omega) (by omega), ms_r5 (k := (((320230 + 183 * p2) + 33) + (5 * x4)) + 1) (p := p2) (i := 34 + 5 * x4) (by omega) (by omega) (by omega), true_or, or_true, true_and]
      refine ⟨a759, (by omega), a762, (by omega), a764, a765, ?_⟩
      obtain ⟨a766, H⟩ := H
      refine r_X5_queueLines_103 ?_
      refine ⟨a766, ?_⟩
      exact H
theorem w_queueLines_88 {d : Nat} {Q : am_K} {b : am_H} {r : Nat} {S : am_G} {V : Nat → Int → Int} {W : Nat → Int} {x1 : Int} {x2 : Int} {x3 : Int} {x4 : Int} {x5 : Int} {x6 : Int} (H : ((V 14 0 : Int) ≠ (-1) → ((-2147483648 ≤ x3 + (V 15 0) ∧ x3 + (V 15 0) ≤ 2147483647)) ∧ (((-2147483648 ≤ x4 + 1 ∧ x4 + 1 ≤ 2147483647)) ∧ (am_W m_X5_queueLines (am_ev am_prog (d + 3)) Q 7 [some (.inr (.inl r)), some (.inl x1), some (.inl x2), some (.inl (x3 + (V 15 0))), some (.inl (x4 + 1)), some (.inl x5), some (.inl x6)] [] (mo b r (ms S) V W)))) ∧ ((V 14 0 : Int) = (-1) → ((-2147483648 ≤ x3 + 0 ∧ x3 + 0 ≤ 2147483647)) ∧ (((-2147483648 ≤ x4 + 1 ∧ x4 + 1 ≤ 2147483647)) ∧ (am_W m_X5_queueLines (am_ev am_prog (d + 3)) Q 7 [some (.inr (.inl r)), some (.inl x1), some (.inl x2), some (.inl (x3 + 0)), some (.inl (x4 + 1)), some (.inl x5), some (.inl x6)] [] (mo b r (ms S) V W))))) : am_W m_X5_queueLines (am_ev am_prog (d + 3)) Q 88 [some (.inr (.inl r)), some (.inl x1), some (.inl x2), some (.inl x3), some (.inl x4), some (.inl x5), some (.inl x6)] [] (mo b r (ms S) V W) := by
  refine r_X5_queueLines_88 ?_
  simp only [mo_ty, mo_f69, mo_t14, mo_n14, mo_a14, true_or, or_true, true_and]
  refine ⟨(by decide), ⟨fun c => ?_, fun c => ?_⟩⟩
  · replace H := H.1 c
    refine r_X5_queueLines_97 ?_
    simp only [mo_ty, mo_f70, mo_t15, mo_n15, mo_a15, true_or, or_true, true_and]
    refine ⟨(by decide), ?_⟩
    obtain ⟨a767, H⟩ := H
    refine r_X5_queueLines_101 ?_
    refine ⟨a767, ?_⟩
    obtain ⟨a768, H⟩ := H
    refine r_X5_queueLines_103 ?_
    refine ⟨a768, ?_⟩
    exact H
  · replace H := H.2 c
    refine r_X5_queueLines_95 ?_
    obtain ⟨a769, H⟩ := H
    refine r_X5_queueLines_101 ?_
    refine ⟨a769, ?_⟩
    obtain ⟨a770, H⟩ := H
    refine r_X5_queueLines_103 ?_
    refine ⟨a770, ?_⟩
    exact H
theorem w_work_0 {d : Nat} {Q : am_K} {b : am_H} {r : Nat} {S : am_G} {V : Nat → Int → Int} {W : Nat → Int} {x1 : Int} {x2 : Int} {o3 : Option am_V} {o4 : Option am_V} {o5 : Option am_V} {o6 : Option am_V} {o7 : Option am_V} (H : am_ev am_prog (d + 3) 178 [.inr (.inl r), .inl x1, .inl x2] (mo b r (ms S) V W) (am_aft (am_hand m_X5_work Q (am_W m_X5_work (am_ev am_prog (d + 3)) Q) 3) (am_W m_X5_work (am_ev am_prog (d + 3)) Q) 3 [some (.inr (.inl r)), some (.inl x1), some (.inl x2), o3, o4, o5, o6, o7] [])) : am_W m_X5_work (am_ev am_prog (d + 3)) Q 0 [some (.inr (.inl r)), some (.inl x1), some (.inl x2), o3, o4, o5, o6, o7] [] (mo b r (ms S) V W) := by
  refine r_X5_work_0 ?_
  simp only [mo_ty, true_or, or_true, true_and]
  exact H
theorem w_work_4 {d : Nat} {Q : am_K} {b : am_H} {r : Nat} {S : am_G} {V : Nat → Int → Int} {W : Nat → Int} {x1 : Int} {x2 : Int} {o3 : Option am_V} {o4 : Option am_V} {o5 : Option am_V} {o6 : Option am_V} {o7 : Option am_V} (H : ((0 ≤ x1 ∧ x1 < 3000000)) ∧ (((-2147483648 ≤ (130 + 645 * x1) + 1 ∧ (130 + 645 * x1) + 1 ≤ 2147483647) ∧ (0 ≤ x1 ∧ x1 < 100) ∧ (0 ≤ S 3 x1 1 ∧ S 3 x1 1 < 41)) ∧ (((0 ≤ S 3 x1 1 ∧ S 3 x1 1 < 41)) ∧ (((-2147483648 ≤ (S 3 x1 1) - 1 ∧ (S 3 x1 1) - 1 ≤ 2147483647)) ∧ (am_W m_X5_work (am_ev am_prog (d + 3)) Q 26 [some (.inr (.inl r)), some (.inl x1), some (.inl x2), some (.inl (S 3 x1 1)), some (.inl ((S 3 x1 1) - 1)), o5, o6, o7] [] (mo b r (ms S) (am_up (am_up V 14 (am_uz (V 14) (S 3 x1 1) 0)) 15 (am_uz (V 15) (S 3 x1 1) 0)) W)))))) : am_W m_X5_work (am_ev am_prog (d + 3)) Q 4 [some (.inr (.inl r)), some (.inl x1), some (.inl x2), o3, o4, o5, o6, o7] [] (mo b r (ms S) V W) := by
  refine r_X5_work_4 ?_
  simp only [mo_ty, mo_f39, true_or, or_true, true_and]
  refine ?_
  obtain ⟨a771, H⟩ := H
  refine c_part0 (by omega) (am_av ?_)
  obtain ⟨⟨a772, a773, a774⟩, H⟩ := H
  refine r_X5_work_8 ?_
  simp only [mo_t1, mo_n1, mo_a1, ms_r3 (k := (130 + 645 * x1) + 1) (p := x1) (i := 1) (by omega) (by omega) (by omega), mo_ty, mo_f69, mo_t14, mo_n14, mo_s14, true_or, or_true, true_and]
  refine ⟨a772, (by omega), a774, ?_⟩
  obtain ⟨a775, H⟩ := H
  refine r_X5_work_17 ?_
  simp only [mo_ty, mo_f70, mo_t15, mo_n15, mo_s15, am_up_ne (by decide : (15 : Nat) ≠ 14), true_or, or_true, true_and]
  refine ⟨a775, ?_⟩
  obtain ⟨a776, H⟩ := H
  refine r_X5_work_22 ?_
  refine ⟨a776, ?_⟩
  exact H
theorem w_work_26 {d : Nat} {Q : am_K} {b : am_H} {r : Nat} {S : am_G} {V : Nat → Int → Int} {W : Nat → Int} {x1 : Int} {x2 : Int} {x3 : Int} {x4 : Int} {o5 : Option am_V} {o6 : Option am_V} {o7 : Option am_V} (H : (x4 < 0 → Q (.inl none) (mo b r (ms S) V W)) ∧ (0 ≤ x4 → ((0 ≤ x4 ∧ x4 < 41)) ∧ (am_W m_X5_work (am_ev am_prog (d + 3)) Q 35 [some (.inr (.inl r)), some (.inl x1), some (.inl x2), some (.inl x3), some (.inl x4), some (.inl x3), o6, o7] [] (mo b r (ms S) (am_up V 14 (am_uz (V 14) x4 (-1))) W)))) : am_W m_X5_work (am_ev am_prog (d + 3)) Q 26 [some (.inr (.inl r)), some (.inl x1), some (.inl x2), some (.inl x3), some (.inl x4), o5, o6, o7] [] (mo b r (ms S) V W) := by
  refine r_X5_work_26 ?_
  refine ⟨fun c => ?_, fun c => ?_⟩
  · replace H := H.1 c
    refine r_X5_work_117 ?_
    exact H
  · replace H := H.2 c
    obtain ⟨a777, H⟩ := H
    refine r_X5_work_28 ?_
    simp only [mo_ty, mo_f69, mo_t14, mo_n14, mo_s14, true_or, or_true, true_and]
    refine ⟨a777, ?_⟩
    refine r_X5_work_33 ?_
    exact H
theorem w_work_35 {d : Nat} {Q : am_K} {b : am_H} {r : Nat} {S : am_G} {V : Nat → Int → Int} {W : Nat → Int} {x1 : Int} {x2 : Int} {x3 : Int} {x4 : Int} {x5 : Int} {o6 : Option am_V} {o7 : Option am_V} (H : (x5 ≤ x4 → ((-2147483648 ≤ x4 + (-1) ∧ x4 + (-1) ≤ 2147483647)) ∧ (am_W m_X5_work (am_ev am_prog (d + 3)) Q 26 [some (.inr (.inl r)), some (.inl x1), some (.inl x2), some (.inl x3), some (.inl (x4 + (-1))), some (.inl x5), o6, o7] [] (mo b r (ms S) V W))) ∧ (x4 < x5 → ((0 ≤ x5 ∧ x5 < 41)) ∧ (((V 14 x5 : Int) = (-1) → ((-2147483648 ≤ x5 + (-1) ∧ x5 + (-1) ≤ 2147483647)) ∧ (am_W m_X5_work (am_ev am_prog (d + 3)) Q 35 [some (.inr (.inl r)), some (.inl x1), some (.inl x2), some (.inl x3), some (.inl x4), some (.inl (x5 + (-1))), o6, o7] [] (mo b r (ms S) V W))) ∧ ((V 14 x5 : Int) ≠ (-1) → ((-2147483648 ≤ x5 - 1 ∧ x5 - 1 ≤ 2147483647)) ∧ (am_ev am_prog (d + 3) 180 [.inr (.inl r), .inl x1, .inl x4, .inl (x5 - 1)] (mo b r (ms S) V W) (am_aft (am_hand m_X5_work Q (am_W m_X5_work (am_ev am_prog (d + 3)) Q) 50) (am_W m_X5_work (am_ev am_prog (d + 3)) Q) 50 [some (.inr (.inl r)), some (.inl x1), some (.inl x2), some (.inl x3), some (.inl x4), some (.inl x5), o6, o7] [])))))) : am_W m_X5_work (am_ev am_prog (d + 3)) Q 35 [some (.inr (.inl r)), some (.inl x1), some (.inl x2), some (.inl x3), some (.inl x4), some (.inl x5), o6, o7] [] (mo b r (ms S) V W) := by
  refine r_X5_work_35 ?_
  refine ⟨fun c => ?_, fun c => ?_⟩
  · replace H := H.1 c
    obtain ⟨a778, H⟩ := H
    refine r_X5_work_115 ?_
    refine ⟨a778, ?_⟩
    exact H
  · replace H := H.2 c
    obtain ⟨a779, H⟩ := H
    refine r_X5_work_38 ?_
    simp only [mo_ty, mo_f69, mo_t14, mo_n14, mo_a14, true_or, or_true, true_and]
    refine ⟨a779, ⟨fun c => ?_, fun c => ?_⟩⟩
    · replace H := H.1 c
      obtain ⟨a780, H⟩ := H
      refine r_X5_work_113 ?_
      refine ⟨a780, ?_⟩
      exact H
    · replace H := H.2 c
      obtain ⟨a781, H⟩ := H
      refine r_X5_work_44 ?_
      simp only [mo_ty, true_or, or_true, true_and]
      exact ⟨a781, H⟩
theorem w_work_51 {d : Nat} {Q : am_K} {b : am_H} {r : Nat} {S : am_G} {V : Nat → Int → Int} {W : Nat → Int} {x1 : Int} {x2 : Int} {x3 : Int} {x4 : Int} {x5 : Int} {o6 : Option am_V} {o7 : Option am_V} {y0 : Int} (H : ((y0 : Int) ≠ 0 → ((0 ≤ x5 ∧ x5 < 41) ∧ (-2147483648 ≤ x5 - 1 ∧ x5 - 1 ≤ 2147483647)) ∧ (am_ev am_prog (d + 3) 213 [.inr (.inl r), .inl x1, .inl x4, .inl (x5 - 1)] (mo b r (ms S) V W) (am_aft (am_hand m_X5_work Q (am_W m_X5_work (am_ev am_prog (d + 3)) Q) 63) (am_W m_X5_work (am_ev am_prog (d + 3)) Q) 63 [some (.inr (.inl r)), some (.inl x1), some (.inl x2), some (.inl x3), some (.inl x4), some (.inl x5), o6, o7] [.inl (V 14 x5)]))) ∧ ((y0 : Int) = 0 → ((-2147483648 ≤ x5 + (-1) ∧ x5 + (-1) ≤ 2147483647)) ∧ (am_W m_X5_work (am_ev am_prog (d + 3)) Q 35 [some (.inr (.inl r)), some (.inl x1), some (.inl x2), some (.inl x3), some (.inl x4), some (.inl (x5 + (-1))), o6, o7] [] (mo b r (ms S) V W)))) : am_W m_X5_work (am_ev am_prog (d + 3)) Q 51 [some (.inr (.inl r)), some (.inl x1), some (.inl x2), some (.inl x3), some (.inl x4), some (.inl x5), o6, o7] [.inl y0] (mo b r (ms S) V W) := by
  refine r_X5_work_51 ?_
  refine ⟨fun c => ?_, fun c => ?_⟩
  · replace H := H.1 c
    obtain ⟨⟨a782, a783⟩, H⟩ := H
    refine r_X5_work_53 ?_
    simp only [mo_ty, mo_f69, mo_t14, mo_n14, mo_a14, true_or, or_true, true_and]
    exact ⟨a782, a783, H⟩
  · replace H := H.2 c
    refine r_X5_work_52 ?_
    obtain ⟨a784, H⟩ := H
    refine r_X5_work_113 ?_
    refine ⟨a784, ?_⟩
    exact H
theorem w_work_64 {d : Nat} {Q : am_K} {b : am_H} {r : Nat} {S : am_G} {V : Nat → Int → Int} {W : Nat → Int} {x1 : Int} {x2 : Int} {x3 : Int} {x4 : Int} {x5 : Int} {o6 : Option am_V} {o7 : Option am_V} {y1 : Int} {y0 : Int} (H : ((-2147483648 ≤ y0 + y1 ∧ y0 + y1 ≤ 2147483647) ∧ (0 ≤ x5 ∧ x5 < 41) ∧ (-2147483648 ≤ (V 15 x5) + 1 ∧ (V 15 x5) + 1 ≤ 2147483647) ∧ (0 ≤ x4 ∧ x4 < 41)) ∧ (((V 14 x4 : Int) = (-1) → ((0 ≤ x4 ∧ x4 < 41)) ∧ (((0 ≤ x4 ∧ x4 < 41)) ∧ (((0 ≤ x4 ∧ x4 < 41)) ∧ (((-2147483648 ≤ x5 + (-1) ∧ x5 + (-1) ≤ 2147483647)) ∧ (am_W m_X5_work (am_ev am_prog (d + 3)) Q 35 [some (.inr (.inl r)), some (.inl x1), some (.inl x2), some (.inl x3), some (.inl x4), some (.inl (x5 + (-1))), some (.inl (y0 + y1)), some (.inl ((V 15 x5) + 1))] [] (mo b r (ms S) (am_up (am_up (am_up V 14 (am_uz (V 14) x4 (y0 + y1))) 15 (am_uz (V 15) x4 ((V 15 x5) + 1))) 16 (am_uz (V 16) x4 x5)) W)))))) ∧ ((V 14 x4 : Int) ≠ (-1) → ((0 ≤ x4 ∧ x4 < 41)) ∧ ((V 14 x4 < y0 + y1 → ((-2147483648 ≤ x5 + (-1) ∧ x5 + (-1) ≤ 2147483647)) ∧ (am_W m_X5_work (am_ev am_prog (d + 3)) Q 35 [some (.inr (.inl r)), some (.inl x1), some (.inl x2), some (.inl x3), some (.inl x4), some (.inl (x5 + (-1))), some (.inl (y0 + y1)), some (.inl ((V 15 x5) + 1))] [] (mo b r (ms S) V W))) ∧ (y0 + y1 ≤ V 14 x4 → ((0 ≤ x4 ∧ x4 < 41)) ∧ ((y0 + y1 ≠ V 14 x4 → ((0 ≤ x4 ∧ x4 < 41)) ∧ (((0 ≤ x4 ∧ x4 < 41)) ∧ (((0 ≤ x4 ∧ x4 < 41)) ∧ (((-2147483648 ≤ x5 + (-1) ∧ x5 + (-1) ≤ 2147483647)) ∧ (am_W m_X5_work (am_ev am_prog (d + 3)) Q 35 [some (.inr (.inl r)), some (.inl x1), some (.inl x2), some (.inl x3), some (.inl x4), some (.inl (x5 + (-1))), some (.inl (y0 + y1)), some (.inl ((V 15 x5) + 1))] [] (mo b r (ms S) (am_up (am_up (am_up V 14 (am_uz (V 14) x4 (y0 + y1))) 15 (am_uz (V 15) x4 ((V 15 x5) + 1))) 16 (am_uz (V 16) x4 x5)) W)))))) ∧ (y0 + y1 = V 14 x4 → ((0 ≤ x4 ∧ x4 < 41)) ∧ (((V 15 x5) + 1 < V 15 x4 → ((0 ≤ x4 ∧ x4 < 41)) ∧ (((0 ≤ x4 ∧ x4 < 41)) ∧ (((0 ≤ x4 ∧ x4 < 41)) ∧ (((-2147483648 ≤ x5 + (-1) ∧ x5 + (-1) ≤ 2147483647)) ∧ (am_W m_X5_work (am_ev am_prog (d + 3)) Q 35 [some (.inr (.inl r)), some (.inl x1), some (.inl x2), some (.inl x3), some (.inl x4), some (.inl (x5 + (-1))), some (.inl (y0 + y1)), some (.inl ((V 15 x5) + 1))] [] (mo b r (ms S) (am_up (am_up (am_up V 14 (am_uz (V 14) x4 (y0 + y1))) 15 (am_uz (V 15) x4 ((V 15 x5) + 1))) 16 (am_uz (V 16) x4 x5)) W)))))) ∧ (V 15 x4 ≤ (V 15 x5) + 1 → ((-2147483648 ≤ x5 + (-1) ∧ x5 + (-1) ≤ 2147483647)) ∧ (am_W m_X5_work (am_ev am_prog (d + 3)) Q 35 [some (.inr (.inl r)), some (.inl x1), some (.inl x2), some (.inl x3), some (.inl x4), some (.inl (x5 + (-1))), some (.inl (y0 + y1)), some (.inl ((V 15 x5) + 1))] [] (mo b r (ms S) V W))))))))))) : am_W m_X5_work (am_ev am_prog (d + 3)) Q 64 [some (.inr (.inl r)), some (.inl x1), some (.inl x2), some (.inl x3), some (.inl x4), some (.inl x5), o6, o7] [.inl y1, .inl y0] (mo b r (ms S) V W) := by
  obtain ⟨⟨a785, a786, a787, a788⟩, H⟩ := H
  refine r_X5_work_64 ?_
  simp only [mo_ty, mo_f70, mo_t15, mo_n15, mo_a15, mo_f69, mo_t14, mo_n14, mo_a14, true_or, or_true, true_and]
  refine ⟨a785, a786, a787, a788, ⟨fun c => ?_, fun c => ?_⟩⟩
  · replace H := H.1 c
    obtain ⟨a789, H⟩ := H
    refine r_X5_work_98 ?_
    simp only [mo_ty, mo_f69, mo_t14, mo_n14, mo_s14, true_or, or_true, true_and]
    refine ⟨a789, ?_⟩
    obtain ⟨a790, H⟩ := H
    refine r_X5_work_103 ?_
    simp only [mo_ty, mo_f70, mo_t15, mo_n15, mo_s15, am_up_ne (by decide : (15 : Nat) ≠ 14), true_or, or_true, true_and]
    refine ⟨a790, ?_⟩
    obtain ⟨a791, H⟩ := H
    refine r_X5_work_108 ?_
    simp only [mo_ty, mo_f71, mo_t16, mo_n16, mo_s16, am_up_ne (by decide : (16 : Nat) ≠ 14), am_up_ne (by decide : (16 : Nat) ≠ 15), true_or, or_true, true_and]
    refine ⟨a791, ?_⟩
    obtain ⟨a792, H⟩ := H
    refine r_X5_work_113 ?_
    refine ⟨a792, ?_⟩
    exact H
  · replace H := H.2 c
    obtain ⟨a793, H⟩ := H
    refine r_X5_work_79 ?_
    simp only [mo_ty, mo_f69, mo_t14, mo_n14, mo_a14, true_or, or_true, true_and]
    refine ⟨a793, ⟨fun c => ?_, fun c => ?_⟩⟩
    · replace H := H.1 c
      obtain ⟨a794, H⟩ := H
      refine r_X5_work_113 ?_
      refine ⟨a794, ?_⟩
      exact H
    · replace H := H.2 c
      obtain ⟨a795, H⟩ := H
      refine r_X5_work_85 ?_
      simp only [mo_ty, mo_f69, mo_t14, mo_n14, mo_a14, true_or, or_true, true_and]
      refine ⟨a795, ⟨fun c => ?_, fun c => ?_⟩⟩
      · replace H := H.1 c
        obtain ⟨a796, H⟩ := H
        refine r_X5_work_98 ?_
        simp only [mo_ty, mo_f69, mo_t14, mo_n14, mo_s14, true_or, or_true, true_and]
        refine ⟨a796, ?_⟩
        obtain ⟨a797, H⟩ := H
        refine r_X5_work_103 ?_
        simp only [mo_ty, mo_f70, mo_t15, mo_n15, mo_s15, am_up_ne (by decide : (15 : Nat) ≠ 14), true_or, or_true, true_and]
        refine ⟨a797, ?_⟩
        obtain ⟨a798, H⟩ := H
        refine r_X5_work_108 ?_
        simp only [mo_ty, mo_f71, mo_t16, mo_n16, mo_s16, am_up_ne (by decide : (16 : Nat) ≠ 14), am_up_ne (by decide : (16 : Nat) ≠ 15), true_or, or_true, true_and]
        refine ⟨a798, ?_⟩
        obtain ⟨a799, H⟩ := H
        refine r_X5_work_113 ?_
        refine ⟨a799, ?_⟩
        exact H
      · replace H := H.2 c
        obtain ⟨a800, H⟩ := H
        refine r_X5_work_91 ?_
        simp only [mo_ty, mo_f70, mo_t15, mo_n15, mo_a15, true_or, or_true, true_and]
        refine ⟨a800, ⟨fun c => ?_, fun c => ?_⟩⟩
        · replace H := H.1 c
          obtain ⟨a801, H⟩ := H
          refine r_X5_work_98 ?_
          simp only [mo_ty, mo_f69, mo_t14, mo_n14, mo_s14, true_or, or_true, true_and]
          refine ⟨a801, ?_⟩
          obtain ⟨a802, H⟩ := H
          refine r_X5_work_103 ?_
          simp only [mo_ty, mo_f70, mo_t15, mo_n15, mo_s15, am_up_ne (by decide : (15 : Nat) ≠ 14), true_or, or_true, true_and]
          refine ⟨a802, ?_⟩
          obtain ⟨a803, H⟩ := H
          refine r_X5_work_108 ?_
          simp only [mo_ty, mo_f71, mo_t16, mo_n16, mo_s16, am_up_ne (by decide : (16 : Nat) ≠ 14), am_up_ne (by decide : (16 : Nat) ≠ 15), true_or, or_true, true_and]
          refine ⟨a803, ?_⟩
          obtain ⟨a804, H⟩ := H
          refine r_X5_work_113 ?_
          refine ⟨a804, ?_⟩
          exact H
        · replace H := H.2 c
          refine r_X5_work_97 ?_
          obtain ⟨a805, H⟩ := H
          refine r_X5_work_113 ?_
          refine ⟨a805, ?_⟩
          exact H
theorem w_styleOf_0 {d : Nat} {Q : am_K} {b : am_H} {r : Nat} {S : am_G} {V : Nat → Int → Int} {W : Nat → Int} {x1 : Int} {o2 : Option am_V} {o3 : Option am_V} {o4 : Option am_V} (H : am_W m_X5_styleOf (am_ev am_prog (d + 3)) Q 4 [some (.inr (.inl r)), some (.inl x1), some (.inl (-1)), some (.inl 0), o4] [] (mo b r (ms S) V W)) : am_W m_X5_styleOf (am_ev am_prog (d + 3)) Q 0 [some (.inr (.inl r)), some (.inl x1), o2, o3, o4] [] (mo b r (ms S) V W) := by
  refine r_X5_styleOf_0 ?_
  exact H
theorem w_styleOf_4 {d : Nat} {Q : am_K} {b : am_H} {r : Nat} {S : am_G} {V : Nat → Int → Int} {W : Nat → Int} {x1 : Int} {x2 : Int} {p2 : Int} {x3 : Int} {o4 : Option am_V} (H : (S 0 0 2 ≤ x3 → Q (.inl (some (.inl x2))) (mo b r (ms S) V W)) ∧ (x3 < S 0 0 2 → ((-2147483648 ≤ 562 * x3 ∧ 562 * x3 ≤ 2147483647) ∧ (-2147483648 ≤ 320962 + (562 * x3) ∧ 320962 + (562 * x3) ≤ 2147483647) ∧ (0 ≤ x3 ∧ x3 < 10)) ∧ ((x1 < S 6 x3 0 → ((-2147483648 ≤ x3 + 1 ∧ x3 + 1 ≤ 2147483647)) ∧ (am_W m_X5_styleOf (am_ev am_prog (d + 3)) Q 4 [some (.inr (.inl r)), some (.inl x1), some (.inl x2), some (.inl (x3 + 1)), some (.inl (320962 + (562 * x3)))] [] (mo b r (ms S) V W))) ∧ (S 6 x3 0 ≤ x1 → ((x2 : Int) = (-1) → ((-2147483648 ≤ x3 + 1 ∧ x3 + 1 ≤ 2147483647)) ∧ (am_W m_X5_styleOf (am_ev am_prog (d + 3)) Q 4 [some (.inr (.inl r)), some (.inl x1), some (.inl (320962 + (562 * x3))), some (.inl (x3 + 1)), some (.inl (320962 + (562 * x3)))] [] (mo b r (ms S) V W))) ∧ ((x2 : Int) ≠ (-1) → ((0 ≤ x3 ∧ x3 < 10) ∧ x2 = 320962 + 562 * p2 ∧ (0 ≤ p2 ∧ p2 < 10)) ∧ ((S 6 x3 0 < S 6 p2 0 → ((-2147483648 ≤ x3 + 1 ∧ x3 + 1 ≤ 2147483647)) ∧ (am_W m_X5_styleOf (am_ev am_prog (d + 3)) Q 4 [some (.inr (.inl r)), some (.inl x1), some (.inl x2), some (.inl (x3 + 1)), some (.inl (320962 + (562 * x3)))] [] (mo b r (ms S) V W))) ∧ (S 6 p2 0 ≤ S 6 x3 0 → ((-2147483648 ≤ x3 + 1 ∧ x3 + 1 ≤ 2147483647)) ∧ (am_W m_X5_styleOf (am_ev am_prog (d + 3)) Q 4 [some (.inr (.inl r)), some (.inl x1), some (.inl (320962 + (562 * x3))), some (.inl (x3 + 1)), some (.inl (320962 + (562 * x3)))] [] (mo b r (ms S) V W))))))))) : am_W m_X5_styleOf (am_ev am_prog (d + 3)) Q 4 [some (.inr (.inl r)), some (.inl x1), some (.inl x2), some (.inl x3), o4] [] (mo b r (ms S) V W) := by
  refine r_X5_styleOf_4 ?_
  simp only [mo_ty, mo_f39, mo_t1, mo_n1, mo_a1, ms_r0 (k := 2) (p := 0) (i := 2) (by omega) (by omega) (by omega), true_or, or_true, true_and]
  refine ⟨(by omega), ⟨fun c => ?_, fun c => ?_⟩⟩
  · replace H := H.1 c
    refine r_X5_styleOf_38 ?_
    exact H
  · replace H := H.2 c
    obtain ⟨⟨a811, a812, a813⟩, H⟩ := H
    refine r_X5_styleOf_10 ?_
    simp only [mo_ty, mo_f39, mo_t1, mo_n1, mo_a1, ms_r6 (k := 320962 + (562 * x3)) (p := x3) (i := 0) (by omega) (by omega) (by omega), true_or, or_true, true_and]
    refine ⟨a811, a812, (by omega), ⟨fun c => ?_, fun c => ?_⟩⟩
    · replace H := H.1 c
      obtain ⟨a814, H⟩ := H
      refine r_X5_styleOf_36 ?_
      refine ⟨a814, ?_⟩
      exact H
    · replace H := H.2 c
      refine r_X5_styleOf_22 ?_
      refine ⟨fun c => ?_, fun c => ?_⟩
      · replace H := H.1 c
        refine r_X5_styleOf_34 ?_
        obtain ⟨a815, H⟩ := H
        refine r_X5_styleOf_36 ?_
        refine ⟨a815, ?_⟩
        exact H
      · replace H := H.2 c
        obtain ⟨⟨a816, a817, a818⟩, H⟩ := H
        refine r_X5_styleOf_25 ?_
        simp only [mo_ty, mo_f39, mo_t1, mo_n1, mo_a1, ms_r6 (k := 320962 + (562 * x3)) (p := x3) (i := 0) (by omega) (by omega) (by omega), ms_r6 (k := x2) (p := p2) (i := 0) (by omega) (by omega) (by omega), true_or, or_true, true_and]
        refine ⟨(by omega), (by omega), ⟨fun c => ?_, fun c => ?_⟩⟩
        · replace H := H.1 c
          obtain ⟨a819, H⟩ := H
          refine r_X5_styleOf_36 ?_
          refine ⟨a819, ?_⟩
          exact H
        · replace H := H.2 c
          refine r_X5_styleOf_34 ?_
          obtain ⟨a820, H⟩ := H
          refine r_X5_styleOf_36 ?_
          refine ⟨a820, ?_⟩
          exact H
theorem w_jobs_0 {d : Nat} {Q : am_K} {b : am_H} {r : Nat} {S : am_G} {V : Nat → Int → Int} {W : Nat → Int} {o1 : Option am_V} {o2 : Option am_V} (H : am_W m_X5_jobs (am_ev am_prog (d + 3)) Q 4 [some (.inr (.inl r)), some (.inl 0), some (.inl 0)] [] (mo b r (ms S) V W)) : am_W m_X5_jobs (am_ev am_prog (d + 3)) Q 0 [some (.inr (.inl r)), o1, o2] [] (mo b r (ms S) V W) := by
  refine r_X5_jobs_0 ?_
  exact H
theorem w_jobs_4 {d : Nat} {Q : am_K} {b : am_H} {r : Nat} {S : am_G} {V : Nat → Int → Int} {W : Nat → Int} {x1 : Int} {x2 : Int} (H : (S 0 0 3 ≤ x2 → Q (.inl (some (.inl x1))) (mo b r (ms S) V W)) ∧ (x2 < S 0 0 3 → ((0 ≤ x2 ∧ x2 < 2000000)) ∧ (((-2147483648 ≤ (320230 + 183 * x2) + 29 ∧ (320230 + 183 * x2) + 29 ≤ 2147483647) ∧ (0 ≤ x2 ∧ x2 < 4) ∧ (-2147483648 ≤ x1 + (S 5 x2 29) ∧ x1 + (S 5 x2 29) ≤ 2147483647) ∧ (-2147483648 ≤ x2 + 1 ∧ x2 + 1 ≤ 2147483647)) ∧ (am_W m_X5_jobs (am_ev am_prog (d + 3)) Q 4 [some (.inr (.inl r)), some (.inl (x1 + (S 5 x2 29))), some (.inl (x2 + 1))] [] (mo b r (ms S) V W))))) : am_W m_X5_jobs (am_ev am_prog (d + 3)) Q 4 [some (.inr (.inl r)), some (.inl x1), some (.inl x2)] [] (mo b r (ms S) V W) := by
  refine r_X5_jobs_4 ?_
  simp only [mo_ty, mo_f39, mo_t1, mo_n1, mo_a1, ms_r0 (k := 3) (p := 0) (i := 3) (by omega) (by omega) (by omega), true_or, or_true, true_and]
  refine ⟨(by omega), ⟨fun c => ?_, fun c => ?_⟩⟩
  · replace H := H.1 c
    refine r_X5_jobs_22 ?_
    exact H
  · replace H := H.2 c
    refine r_X5_jobs_10 ?_
    simp only [mo_ty, mo_f39, true_or, or_true, true_and]
    refine ?_
    obtain ⟨a821, H⟩ := H
    refine c_machine0 (by omega) (am_av ?_)
    obtain ⟨⟨a822, a823, a824, a825⟩, H⟩ := H
    refine r_X5_jobs_15 ?_
    simp only [mo_t1, mo_n1, mo_a1, ms_r5 (k := (320230 + 183 * x2) + 29) (p := x2) (i := 29) (by omega) (by omega) (by omega), true_or, or_true, true_and]
    refine ⟨a822, (by omega), a824, a825, ?_⟩
    exact H
theorem w_isWrong_0 {d : Nat} {Q : am_K} {b : am_H} {r : Nat} {S : am_G} {V : Nat → Int → Int} {W : Nat → Int} {x1 : Int} {o2 : Option am_V} {o3 : Option am_V} {o4 : Option am_V} (H : ((0 ≤ x1 ∧ x1 < 2000000)) ∧ (am_W m_X5_isWrong (am_ev am_prog (d + 3)) Q 7 [some (.inr (.inl r)), some (.inl x1), some (.inl (64630 + 852 * x1)), some (.inl 0), some (.inl 0)] [] (mo b r (ms S) V W))) : am_W m_X5_isWrong (am_ev am_prog (d + 3)) Q 0 [some (.inr (.inl r)), some (.inl x1), o2, o3, o4] [] (mo b r (ms S) V W) := by
  refine r_X5_isWrong_0 ?_
  refine ?_
  obtain ⟨a826, H⟩ := H
  refine c_slug0 (by omega) (am_av ?_)
  refine r_X5_isWrong_2 ?_
  exact H
theorem w_isWrong_7 {d : Nat} {Q : am_K} {b : am_H} {r : Nat} {S : am_G} {V : Nat → Int → Int} {W : Nat → Int} {x1 : Int} {p2 : Int} {x3 : Int} {x4 : Int} (H : ((-2147483648 ≤ (64630 + 852 * p2) + 9 ∧ (64630 + 852 * p2) + 9 ≤ 2147483647) ∧ (0 ≤ p2 ∧ p2 < 300)) ∧ ((S 4 p2 9 ≤ x4 → ((x3 = 0 ∨ x3 = 1)) ∧ (Q (.inl (some (.inl x3))) (mo b r (ms S) V W))) ∧ (x4 < S 4 p2 9 → ((x3 : Int) ≠ 0 → ((-2147483648 ≤ x4 + 1 ∧ x4 + 1 ≤ 2147483647)) ∧ (am_W m_X5_isWrong (am_ev am_prog (d + 3)) Q 7 [some (.inr (.inl r)), some (.inl x1), some (.inl (64630 + 852 * p2)), some (.inl 1), some (.inl (x4 + 1))] [] (mo b r (ms S) V W))) ∧ ((x3 : Int) = 0 → ((-2147483648 ≤ (64630 + 852 * p2) + 12 ∧ (64630 + 852 * p2) + 12 ≤ 2147483647) ∧ (-2147483648 ≤ ((64630 + 852 * p2) + 12) + x4 ∧ ((64630 + 852 * p2) + 12) + x4 ≤ 2147483647) ∧ (0 ≤ p2 ∧ p2 < 300) ∧ (0 ≤ 12 + x4 ∧ 12 + x4 < 852) ∧ (-2147483648 ≤ (64630 + 852 * p2) + 432 ∧ (64630 + 852 * p2) + 432 ≤ 2147483647) ∧ (-2147483648 ≤ ((64630 + 852 * p2) + 432) + x4 ∧ ((64630 + 852 * p2) + 432) + x4 ≤ 2147483647) ∧ (0 ≤ 432 + x4 ∧ 432 + x4 < 852)) ∧ (((-2147483648 ≤ x4 + 1 ∧ x4 + 1 ≤ 2147483647)) ∧ (am_W m_X5_isWrong (am_ev am_prog (d + 3)) Q 7 [some (.inr (.inl r)), some (.inl x1), some (.inl (64630 + 852 * p2)), some (.inl (am_b (S 4 p2 (12 + x4) ≠ S 4 p2 (432 + x4)))), some (.inl (x4 + 1))] [] (mo b r (ms S) V W))))))) : am_W m_X5_isWrong (am_ev am_prog (d + 3)) Q 7 [some (.inr (.inl r)), some (.inl x1), some (.inl (64630 + 852 * p2)), some (.inl x3), some (.inl x4)] [] (mo b r (ms S) V W) := by
  obtain ⟨⟨a827, a828⟩, H⟩ := H
  refine r_X5_isWrong_7 ?_
  simp only [mo_ty, mo_f39, mo_t1, mo_n1, mo_a1, ms_r4 (k := (64630 + 852 * p2) + 9) (p := p2) (i := 9) (by omega) (by omega) (by omega), true_or, or_true, true_and]
  refine ⟨a827, (by omega), ⟨fun c => ?_, fun c => ?_⟩⟩
  · replace H := H.1 c
    obtain ⟨a829, H⟩ := H
    refine r_X5_isWrong_40 ?_
    exact ⟨a829, H⟩
  · replace H := H.2 c
    refine r_X5_isWrong_15 ?_
    refine ⟨fun c => ?_, fun c => ?_⟩
    · replace H := H.1 c
      refine r_X5_isWrong_34 ?_
      obtain ⟨a830, H⟩ := H
      refine r_X5_isWrong_37 ?_
      refine ⟨a830, ?_⟩
      exact H
    · replace H := H.2 c
      obtain ⟨⟨a831, a832, a833, a834, a835, a836, a837⟩, H⟩ := H
      have J : ∀ y : Int, y = am_b (S 4 p2 (12 + x4) ≠ S 4 p2 (432 + x4)) → am_W m_X5_isWrong (am_ev am_prog (d + 3)) Q 37 [some (.inr (.inl r)), some (.inl x1), some (.inl (64630 + 852 * p2)), some (.inl x3), some (.inl x4)] [.inl y] (mo b r (ms S) V W) := by
        intro y hy
        subst hy
        obtain ⟨a838, H⟩ := H
        refine r_X5_isWrong_37 ?_
        refine ⟨a838, ?_⟩
        exact H
      refine r_X5_isWrong_17 ?_
      simp only [mo_ty, mo_f39, mo_t1, mo_n1, mo_a1, ms_r4 (k := ((64630 + 852 * p2) + 12) + x4) (p := p2) (i := 12 + x4) (by omega) (by omega) (by omega), ms_r4 (k := ((64630 + 852 * p2) + 432) + x4) (p := p2) (i := 432 + x4) (by omega) (by omega) (by omega), true_or, or_true, true_and]
      refine ⟨a831, a832, (by omega), a835, a836, (by omega), ⟨fun c => ?_, fun c => ?_⟩⟩
      · exact r_X5_isWrong_36 (J _ (am_bf (by omega)).symm)
      · exact r_X5_isWrong_34 (J _ (am_bt c).symm)
theorem w_minute_0 {d : Nat} {Q : am_K} {b : am_H} {r : Nat} {S : am_G} {V : Nat → Int → Int} {W : Nat → Int} {o1 : Option am_V} {o2 : Option am_V} (H : ((-2147483648 ≤ (S 0 0 0) + 1 ∧ (S 0 0 0) + 1 ≤ 2147483647)) ∧ (((S 0 0 7 : Int) ≠ 8 → ((-2147483648 ≤ 5 * (S 0 0 7) ∧ 5 * (S 0 0 7) ≤ 2147483647) ∧ (-2147483648 ≤ 337180 + (5 * (S 0 0 7)) ∧ 337180 + (5 * (S 0 0 7)) ≤ 2147483647) ∧ (0 ≤ 5 * (S 0 0 7) ∧ 5 * (S 0 0 7) < 40)) ∧ (am_W m_X5_minute (am_ev am_prog (d + 3)) Q 62 [some (.inr (.inl r)), some (.inl (337180 + (5 * (S 0 0 7)))), some (.inl 1)] [] (mo b r (ms (u3 (u3 S 0 0 0 ((S 0 0 0) + 1)) 10 0 (5 * (S 0 0 7)) ((S 0 0 0) + 1))) V W))) ∧ ((S 0 0 7 : Int) = 8 → am_W m_X5_minute (am_ev am_prog (d + 3)) Q 16 [some (.inr (.inl r)), some (.inl 0), o2] [] (mo b r (ms (u3 S 0 0 0 ((S 0 0 0) + 1))) V W)))) : am_W m_X5_minute (am_ev am_prog (d + 3)) Q 0 [some (.inr (.inl r)), o1, o2] [] (mo b r (ms S) V W) := by
  obtain ⟨a839, H⟩ := H
  refine r_X5_minute_0 ?_
  simp only [mo_ty, mo_f39, mo_t1, mo_n1, mo_a1, ms_r0 (k := 0) (p := 0) (i := 0) (by omega) (by omega) (by omega), mo_s1, ms_w0 (k := 0) (p := 0) (i := 0) (by omega) (by omega) (by omega), true_or, or_true, true_and]
  refine ⟨(by omega), a839, (by omega), ?_⟩
  refine r_X5_minute_8 ?_
  simp only [mo_ty, mo_f39, mo_t1, mo_n1, mo_a1, ms_r0 (k := 7) (p := 0) (i := 7) (by omega) (by omega) (by omega), u3_no (by decide : (7 : Int) ≠ 0), true_or, or_true, true_and]
  refine ⟨(by omega), ⟨fun c => ?_, fun c => ?_⟩⟩
  · replace H := H.1 c
    obtain ⟨⟨a840, a841, a842⟩, H⟩ := H
    refine r_X5_minute_43 ?_
    simp only [mo_ty, mo_f39, mo_t1, mo_n1, mo_a1, ms_r0 (k := 7) (p := 0) (i := 7) (by omega) (by omega) (by omega), u3_no (by decide : (7 : Int) ≠ 0), ms_r0 (k := 0) (p := 0) (i := 0) (by omega) (by omega) (by omega), u3_eq, mo_s1, ms_w10 (k := 337180 + (5 * (S 0 0 7))) (p := 0) (i := 5 * (S 0 0 7)) (by omega) (by omega) (by omega), true_or, or_true, true_and]
    refine ⟨(by omega), a840, a841, (by omega), (by omega), ?_⟩
    refine r_X5_minute_60 ?_
    exact H
  · replace H := H.2 c
    refine r_X5_minute_14 ?_
    exact H
theorem w_minute_16 {d : Nat} {Q : am_K} {b : am_H} {r : Nat} {S : am_G} {V : Nat → Int → Int} {W : Nat → Int} {x1 : Int} {o2 : Option am_V} (H : (35 ≤ x1 → ((-2147483648 ≤ (S 0 0 7) - 1 ∧ (S 0 0 7) - 1 ≤ 2147483647)) ∧ (((-2147483648 ≤ 5 * ((S 0 0 7) - 1) ∧ 5 * ((S 0 0 7) - 1) ≤ 2147483647) ∧ (-2147483648 ≤ 337180 + (5 * ((S 0 0 7) - 1)) ∧ 337180 + (5 * ((S 0 0 7) - 1)) ≤ 2147483647) ∧ (0 ≤ 5 * ((S 0 0 7) - 1) ∧ 5 * ((S 0 0 7) - 1) < 40)) ∧ (am_W m_X5_minute (am_ev am_prog (d + 3)) Q 62 [some (.inr (.inl r)), some (.inl (337180 + (5 * ((S 0 0 7) - 1)))), some (.inl 1)] [] (mo b r (ms (u3 (u3 S 0 0 7 ((S 0 0 7) - 1)) 10 0 (5 * ((S 0 0 7) - 1)) (S 0 0 0))) V W)))) ∧ (x1 < 35 → ((-2147483648 ≤ 337180 + x1 ∧ 337180 + x1 ≤ 2147483647) ∧ (-2147483648 ≤ (337180 + x1) + 5 ∧ (337180 + x1) + 5 ≤ 2147483647) ∧ (0 ≤ 5 + x1 ∧ 5 + x1 < 40) ∧ (0 ≤ x1 ∧ x1 < 40)) ∧ (((-2147483648 ≤ x1 + 1 ∧ x1 + 1 ≤ 2147483647)) ∧ (am_W m_X5_minute (am_ev am_prog (d + 3)) Q 16 [some (.inr (.inl r)), some (.inl (x1 + 1)), o2] [] (mo b r (ms (u3 S 10 0 x1 (S 10 0 (5 + x1)))) V W))))) : am_W m_X5_minute (am_ev am_prog (d + 3)) Q 16 [some (.inr (.inl r)), some (.inl x1), o2] [] (mo b r (ms S) V W) := by
  refine r_X5_minute_16 ?_
  refine ⟨fun c => ?_, fun c => ?_⟩
  · replace H := H.1 c
    obtain ⟨a843, H⟩ := H
    refine r_X5_minute_35 ?_
    simp only [mo_ty, mo_f39, mo_t1, mo_n1, mo_a1, ms_r0 (k := 7) (p := 0) (i := 7) (by omega) (by omega) (by omega), mo_s1, ms_w0 (k := 7) (p := 0) (i := 7) (by omega) (by omega) (by omega), true_or, or_true, true_and]
    refine ⟨(by omega), a843, (by omega), ?_⟩
    obtain ⟨⟨a844, a845, a846⟩, H⟩ := H
    refine r_X5_minute_43 ?_
    simp only [mo_ty, mo_f39, mo_t1, mo_n1, mo_a1, ms_r0 (k := 7) (p := 0) (i := 7) (by omega) (by omega) (by omega), u3_eq, ms_r0 (k := 0) (p := 0) (i := 0) (by omega) (by omega) (by omega), u3_no (by decide : (0 : Int) ≠ 7), mo_s1, ms_w10 (k := 337180 + (5 * ((S 0 0 7) - 1))) (p := 0) (i := 5 * ((S 0 0 7) - 1)) (by omega) (by omega) (by omega), true_or, or_true, true_and]
    refine ⟨(by omega), a844, a845, (by omega), (by omega), ?_⟩
    refine r_X5_minute_60 ?_
    exact H
  · replace H := H.2 c
    obtain ⟨⟨a847, a848, a849, a850⟩, H⟩ := H
    refine r_X5_minute_19 ?_
    simp only [mo_ty, mo_f39, mo_t1, mo_n1, mo_a1, ms_r10 (k := (337180 + x1) + 5) (p := 0) (i := 5 + x1) (by omega) (by omega) (by omega), mo_s1, ms_w10 (k := 337180 + x1) (p := 0) (i := x1) (by omega) (by omega) (by omega), true_or, or_true, true_and]
    refine ⟨a847, a847, a848, (by omega), (by omega), ?_⟩
    obtain ⟨a851, H⟩ := H
    refine r_X5_minute_33 ?_
    refine ⟨a851, ?_⟩
    exact H
theorem w_minute_62 {d : Nat} {Q : am_K} {b : am_H} {r : Nat} {S : am_G} {V : Nat → Int → Int} {W : Nat → Int} {o1z : Int} {x2 : Int} (H : (5 ≤ x2 → ((-2147483648 ≤ (S 0 0 7) + 1 ∧ (S 0 0 7) + 1 ≤ 2147483647)) ∧ (am_W m_X5_minute (am_ev am_prog (d + 3)) Q 84 [some (.inr (.inl r)), some (.inl (337180 + o1z)), some (.inl 0)] [] (mo b r (ms (u3 S 0 0 7 ((S 0 0 7) + 1))) V W))) ∧ (x2 < 5 → ((-2147483648 ≤ (337180 + o1z) + x2 ∧ (337180 + o1z) + x2 ≤ 2147483647) ∧ (0 ≤ o1z + x2 ∧ o1z + x2 < 40)) ∧ (((-2147483648 ≤ x2 + 1 ∧ x2 + 1 ≤ 2147483647)) ∧ (am_W m_X5_minute (am_ev am_prog (d + 3)) Q 62 [some (.inr (.inl r)), some (.inl (337180 + o1z)), some (.inl (x2 + 1))] [] (mo b r (ms (u3 S 10 0 (o1z + x2) (-1))) V W))))) : am_W m_X5_minute (am_ev am_prog (d + 3)) Q 62 [some (.inr (.inl r)), some (.inl (337180 + o1z)), some (.inl x2)] [] (mo b r (ms S) V W) := by
  refine r_X5_minute_62 ?_
  refine ⟨fun c => ?_, fun c => ?_⟩
  · replace H := H.1 c
    obtain ⟨a853, H⟩ := H
    refine r_X5_minute_74 ?_
    simp only [mo_ty, mo_f39, mo_t1, mo_n1, mo_a1, ms_r0 (k := 7) (p := 0) (i := 7) (by omega) (by omega) (by omega), mo_s1, ms_w0 (k := 7) (p := 0) (i := 7) (by omega) (by omega) (by omega), true_or, or_true, true_and]
    refine ⟨(by omega), a853, (by omega), ?_⟩
    refine r_X5_minute_82 ?_
    exact H
  · replace H := H.2 c
    obtain ⟨⟨a854, a855⟩, H⟩ := H
    refine r_X5_minute_65 ?_
    simp only [mo_ty, mo_f39, mo_t1, mo_n1, mo_s1, ms_w10 (k := (337180 + o1z) + x2) (p := 0) (i := o1z + x2) (by omega) (by omega) (by omega), true_or, or_true, true_and]
    refine ⟨a854, (by omega), ?_⟩
    obtain ⟨a856, H⟩ := H
    refine r_X5_minute_72 ?_
    refine ⟨a856, ?_⟩
    exact H
theorem w_minute_84 {d : Nat} {Q : am_K} {b : am_H} {r : Nat} {S : am_G} {V : Nat → Int → Int} {W : Nat → Int} {x1 : Int} {x2 : Int} (H : (S 0 0 3 ≤ x2 → Q (.inl none) (mo b r (ms S) V W)) ∧ (x2 < S 0 0 3 → ((0 ≤ x2 ∧ x2 < 2000000)) ∧ (((-2147483648 ≤ (320230 + 183 * x2) + 28 ∧ (320230 + 183 * x2) + 28 ≤ 2147483647) ∧ (0 ≤ x2 ∧ x2 < 4)) ∧ (((S 5 x2 28 : Int) ≠ 0 → am_W m_X5_minute (am_ev am_prog (d + 3)) Q 109 [some (.inr (.inl r)), some (.inl x1), some (.inl x2)] [] (mo b r (ms S) V W)) ∧ ((S 5 x2 28 : Int) = 0 → ((0 ≤ x2 ∧ x2 < 2000000)) ∧ (((-2147483648 ≤ (320230 + 183 * x2) + 29 ∧ (320230 + 183 * x2) + 29 ≤ 2147483647) ∧ (0 ≤ x2 ∧ x2 < 4)) ∧ ((S 5 x2 29 ≤ 0 → am_W m_X5_minute (am_ev am_prog (d + 3)) Q 109 [some (.inr (.inl r)), some (.inl x1), some (.inl x2)] [] (mo b r (ms S) V W)) ∧ (0 < S 5 x2 29 → am_ev am_prog (d + 3) 255 [.inr (.inl r), .inl x2] (mo b r (ms S) V W) (am_aft (am_hand m_X5_minute Q (am_W m_X5_minute (am_ev am_prog (d + 3)) Q) 108) (am_W m_X5_minute (am_ev am_prog (d + 3)) Q) 108 [some (.inr (.inl r)), some (.inl x1), some (.inl x2)] []))))))))) : am_W m_X5_minute (am_ev am_prog (d + 3)) Q 84 [some (.inr (.inl r)), some (.inl x1), some (.inl x2)] [] (mo b r (ms S) V W) := by
  refine r_X5_minute_84 ?_
  simp only [mo_ty, mo_f39, mo_t1, mo_n1, mo_a1, ms_r0 (k := 3) (p := 0) (i := 3) (by omega) (by omega) (by omega), true_or, or_true, true_and]
  refine ⟨(by omega), ⟨fun c => ?_, fun c => ?_⟩⟩
  · replace H := H.1 c
    refine r_X5_minute_111 ?_
    exact H
  · replace H := H.2 c
    refine r_X5_minute_90 ?_
    simp only [mo_ty, mo_f39, true_or, or_true, true_and]
    refine ?_
    obtain ⟨a857, H⟩ := H
    refine c_machine0 (by omega) (am_av ?_)
    obtain ⟨⟨a858, a859⟩, H⟩ := H
    refine r_X5_minute_94 ?_
    simp only [mo_t1, mo_n1, mo_a1, ms_r5 (k := (320230 + 183 * x2) + 28) (p := x2) (i := 28) (by omega) (by omega) (by omega), true_or, or_true, true_and]
    refine ⟨a858, (by omega), ⟨fun c => ?_, fun c => ?_⟩⟩
    · replace H := H.1 c
      exact H
    · replace H := H.2 c
      refine r_X5_minute_98 ?_
      simp only [mo_ty, mo_f39, true_or, or_true, true_and]
      refine ?_
      obtain ⟨a860, H⟩ := H
      refine c_machine0 (by omega) (am_av ?_)
      obtain ⟨⟨a861, a862⟩, H⟩ := H
      refine r_X5_minute_102 ?_
      simp only [mo_t1, mo_n1, mo_a1, ms_r5 (k := (320230 + 183 * x2) + 29) (p := x2) (i := 29) (by omega) (by omega) (by omega), true_or, or_true, true_and]
      refine ⟨a861, (by omega), ⟨fun c => ?_, fun c => ?_⟩⟩
      · replace H := H.1 c
        exact H
      · replace H := H.2 c
        refine r_X5_minute_106 ?_
        simp only [mo_ty, true_or, or_true, true_and]
        exact H
theorem w_minute_109 {d : Nat} {Q : am_K} {b : am_H} {r : Nat} {S : am_G} {V : Nat → Int → Int} {W : Nat → Int} {x1 : Int} {x2 : Int} (H : ((-2147483648 ≤ x2 + 1 ∧ x2 + 1 ≤ 2147483647)) ∧ (am_W m_X5_minute (am_ev am_prog (d + 3)) Q 84 [some (.inr (.inl r)), some (.inl x1), some (.inl (x2 + 1))] [] (mo b r (ms S) V W))) : am_W m_X5_minute (am_ev am_prog (d + 3)) Q 109 [some (.inr (.inl r)), some (.inl x1), some (.inl x2)] [] (mo b r (ms S) V W) := by
  obtain ⟨a863, H⟩ := H
  refine r_X5_minute_109 ?_
  refine ⟨a863, ?_⟩
  exact H
theorem w_use_0 {d : Nat} {Q : am_K} {b : am_H} {r : Nat} {S : am_G} {V : Nat → Int → Int} {W : Nat → Int}  (H : Q (.inl none) (mo b r (ms S) V (am_up (am_up (am_up W 45 (W 44)) 44 0) 46 0))) : am_W m_X5_use (am_ev am_prog (d + 3)) Q 0 [some (.inr (.inl r))] [] (mo b r (ms S) V W) := by
  refine r_X5_use_0 ?_
  simp only [mo_ty, mo_i, mo_si, true_or, or_true, true_and]
  refine ?_
  refine r_X5_use_4 ?_
  simp only [mo_ty, mo_si, true_or, or_true, true_and]
  refine ?_
  refine r_X5_use_7 ?_
  simp only [mo_ty, mo_si, true_or, or_true, true_and]
  refine ?_
  refine r_X5_use_10 ?_
  exact H
theorem w_readStyle_0 {d : Nat} {Q : am_K} {b : am_H} {r : Nat} {S : am_G} {V : Nat → Int → Int} {W : Nat → Int} {o1 : Option am_V} (H : am_ev am_prog (d + 3) 256 [.inr (.inl r)] (mo b r (ms S) V (am_up (am_up (am_up W 57 0) 58 62) 48 0)) (am_aft (am_hand m_X5_readStyle Q (am_W m_X5_readStyle (am_ev am_prog (d + 3)) Q) 10) (am_W m_X5_readStyle (am_ev am_prog (d + 3)) Q) 10 [some (.inr (.inl r)), o1] [])) : am_W m_X5_readStyle (am_ev am_prog (d + 3)) Q 0 [some (.inr (.inl r)), o1] [] (mo b r (ms S) V W) := by
  refine r_X5_readStyle_0 ?_
  simp only [mo_ty, mo_si, true_or, or_true, true_and]
  refine ?_
  refine r_X5_readStyle_3 ?_
  simp only [mo_ty, mo_si, true_or, or_true, true_and]
  refine ?_
  refine r_X5_readStyle_6 ?_
  simp only [mo_ty, mo_si, true_or, or_true, true_and]
  refine ?_
  refine r_X5_readStyle_9 ?_
  simp only [mo_ty, true_or, or_true, true_and]
  exact H
theorem w_readStyle_11 {d : Nat} {Q : am_K} {b : am_H} {r : Nat} {S : am_G} {V : Nat → Int → Int} {W : Nat → Int} {o1 : Option am_V} (H : am_W m_X5_readStyle (am_ev am_prog (d + 3)) Q 20 [some (.inr (.inl r)), some (.inl (am_b (W 46 < W 45)))] [] (mo b r (ms S) V W)) : am_W m_X5_readStyle (am_ev am_prog (d + 3)) Q 11 [some (.inr (.inl r)), o1] [] (mo b r (ms S) V W) := by
  have J : ∀ y : Int, y = am_b (W 46 < W 45) → am_W m_X5_readStyle (am_ev am_prog (d + 3)) Q 19 [some (.inr (.inl r)), o1] [.inl y] (mo b r (ms S) V W) := by
    intro y hy
    subst hy
    refine r_X5_readStyle_19 ?_
    exact H
  refine r_X5_readStyle_11 ?_
  simp only [mo_ty, mo_i, true_or, or_true, true_and]
  refine ⟨fun c => ?_, fun c => ?_⟩
  · exact r_X5_readStyle_18 (J _ (am_bf (by omega)).symm)
  · exact r_X5_readStyle_16 (J _ (am_bt c).symm)
theorem w_readStyle_20 {d : Nat} {Q : am_K} {b : am_H} {r : Nat} {S : am_G} {V : Nat → Int → Int} {W : Nat → Int} {x1 : Int} (H : ((x1 : Int) = 0 → Q (.inl (some (.inl 1))) (mo b r (ms S) V W)) ∧ ((x1 : Int) ≠ 0 → am_ev am_prog (d + 3) 256 [.inr (.inl r)] (mo b r (ms S) V W) (am_aft (am_hand m_X5_readStyle Q (am_W m_X5_readStyle (am_ev am_prog (d + 3)) Q) 23) (am_W m_X5_readStyle (am_ev am_prog (d + 3)) Q) 23 [some (.inr (.inl r)), some (.inl x1)] []))) : am_W m_X5_readStyle (am_ev am_prog (d + 3)) Q 20 [some (.inr (.inl r)), some (.inl x1)] [] (mo b r (ms S) V W) := by
  refine r_X5_readStyle_20 ?_
  refine ⟨fun c => ?_, fun c => ?_⟩
  · replace H := H.1 c
    refine r_X5_readStyle_77 ?_
    exact ⟨(by decide), H⟩
  · replace H := H.2 c
    refine r_X5_readStyle_22 ?_
    simp only [mo_ty, true_or, or_true, true_and]
    exact H
theorem w_readStyle_24 {d : Nat} {Q : am_K} {b : am_H} {r : Nat} {S : am_G} {V : Nat → Int → Int} {W : Nat → Int} {x1 : Int} (H : ((W 57 : Int) ≠ 12 → am_ev am_prog (d + 3) 257 [.inr (.inl r)] (mo b r (ms S) V W) (am_aft (am_hand m_X5_readStyle Q (am_W m_X5_readStyle (am_ev am_prog (d + 3)) Q) 32) (am_W m_X5_readStyle (am_ev am_prog (d + 3)) Q) 32 [some (.inr (.inl r)), some (.inl x1)] [])) ∧ ((W 57 : Int) = 12 → am_ev am_prog (d + 3) 258 [.inr (.inl r)] (mo b r (ms S) V W) (am_aft (am_hand m_X5_readStyle Q (am_W m_X5_readStyle (am_ev am_prog (d + 3)) Q) 29) (am_W m_X5_readStyle (am_ev am_prog (d + 3)) Q) 29 [some (.inr (.inl r)), some (.inl x1)] []))) : am_W m_X5_readStyle (am_ev am_prog (d + 3)) Q 24 [some (.inr (.inl r)), some (.inl x1)] [] (mo b r (ms S) V W) := by
  refine r_X5_readStyle_24 ?_
  simp only [mo_ty, mo_i, true_or, or_true, true_and]
  refine ⟨fun c => ?_, fun c => ?_⟩
  · replace H := H.1 c
    refine r_X5_readStyle_31 ?_
    simp only [mo_ty, true_or, or_true, true_and]
    exact H
  · replace H := H.2 c
    refine r_X5_readStyle_28 ?_
    simp only [mo_ty, true_or, or_true, true_and]
    exact H
theorem w_readStyle_30 {d : Nat} {Q : am_K} {b : am_H} {r : Nat} {S : am_G} {V : Nat → Int → Int} {W : Nat → Int} {x1 : Int} {y0 : Int} (H : ((y0 = 0 ∨ y0 = 1)) ∧ (Q (.inl (some (.inl y0))) (mo b r (ms S) V W))) : am_W m_X5_readStyle (am_ev am_prog (d + 3)) Q 30 [some (.inr (.inl r)), some (.inl x1)] [.inl y0] (mo b r (ms S) V W) := by
  obtain ⟨a864, H⟩ := H
  refine r_X5_readStyle_30 ?_
  exact ⟨a864, H⟩
theorem w_readStyle_33 {d : Nat} {Q : am_K} {b : am_H} {r : Nat} {S : am_G} {V : Nat → Int → Int} {W : Nat → Int} {x1 : Int} {y0 : Int} (H : ((y0 : Int) ≠ 0 → ((-2147483648 ≤ (W 57) + 1 ∧ (W 57) + 1 ≤ 2147483647)) ∧ (am_ev am_prog (d + 3) 256 [.inr (.inl r)] (mo b r (ms S) V (am_up W 57 ((W 57) + 1))) (am_aft (am_hand m_X5_readStyle Q (am_W m_X5_readStyle (am_ev am_prog (d + 3)) Q) 43) (am_W m_X5_readStyle (am_ev am_prog (d + 3)) Q) 43 [some (.inr (.inl r)), some (.inl x1)] []))) ∧ ((y0 : Int) = 0 → Q (.inl (some (.inl 0))) (mo b r (ms S) V W))) : am_W m_X5_readStyle (am_ev am_prog (d + 3)) Q 33 [some (.inr (.inl r)), some (.inl x1)] [.inl y0] (mo b r (ms S) V W) := by
  refine r_X5_readStyle_33 ?_
  refine ⟨fun c => ?_, fun c => ?_⟩
  · replace H := H.1 c
    obtain ⟨a865, H⟩ := H
    refine r_X5_readStyle_36 ?_
    simp only [mo_ty, mo_i, mo_si, true_or, or_true, true_and]
    refine ⟨a865, ?_⟩
    refine r_X5_readStyle_42 ?_
    simp only [mo_ty, true_or, or_true, true_and]
    exact H
  · replace H := H.2 c
    refine r_X5_readStyle_34 ?_
    exact ⟨(by decide), H⟩
theorem w_readStyle_44 {d : Nat} {Q : am_K} {b : am_H} {r : Nat} {S : am_G} {V : Nat → Int → Int} {W : Nat → Int} {x1 : Int} (H : (W 45 ≤ W 46 → (W 45 ≤ W 46 → am_W m_X5_readStyle (am_ev am_prog (d + 3)) Q 20 [some (.inr (.inl r)), some (.inl 0)] [] (mo b r (ms S) V W)) ∧ (W 46 < W 45 → am_ev am_prog (d + 3) 258 [.inr (.inl r)] (mo b r (ms S) V W) (am_aft (am_hand m_X5_readStyle Q (am_W m_X5_readStyle (am_ev am_prog (d + 3)) Q) 75) (am_W m_X5_readStyle (am_ev am_prog (d + 3)) Q) 75 [some (.inr (.inl r)), some (.inl 0)] []))) ∧ (W 46 < W 45 → ((0 ≤ W 46 ∧ W 46 < 400)) ∧ (((V 4 (W 46) : Int) ≠ 59 → (W 45 ≤ W 46 → am_W m_X5_readStyle (am_ev am_prog (d + 3)) Q 20 [some (.inr (.inl r)), some (.inl (am_b ((V 4 (W 46) : Int) = 59)))] [] (mo b r (ms S) V W)) ∧ (W 46 < W 45 → am_ev am_prog (d + 3) 258 [.inr (.inl r)] (mo b r (ms S) V W) (am_aft (am_hand m_X5_readStyle Q (am_W m_X5_readStyle (am_ev am_prog (d + 3)) Q) 75) (am_W m_X5_readStyle (am_ev am_prog (d + 3)) Q) 75 [some (.inr (.inl r)), some (.inl (am_b ((V 4 (W 46) : Int) = 59)))] []))) ∧ ((V 4 (W 46) : Int) = 59 → ((-2147483648 ≤ (W 46) + 1 ∧ (W 46) + 1 ≤ 2147483647)) ∧ (am_W m_X5_readStyle (am_ev am_prog (d + 3)) Q 20 [some (.inr (.inl r)), some (.inl (am_b ((V 4 (W 46) : Int) = 59)))] [] (mo b r (ms S) V (am_up W 46 ((W 46) + 1)))))))) : am_W m_X5_readStyle (am_ev am_prog (d + 3)) Q 44 [some (.inr (.inl r)), some (.inl x1)] [] (mo b r (ms S) V W) := by
  refine r_X5_readStyle_44 ?_
  simp only [mo_ty, mo_i, true_or, or_true, true_and]
  refine ⟨fun c => ?_, fun c => ?_⟩
  · replace H := H.1 c
    refine r_X5_readStyle_58 ?_
    refine r_X5_readStyle_59 ?_
    refine ⟨fun c => ?_, fun c => absurd c (by decide)⟩
    refine r_X5_readStyle_69 ?_
    simp only [mo_ty, mo_i, true_or, or_true, true_and]
    refine ⟨fun c => ?_, fun c => ?_⟩
    · replace H := H.1 c
      exact H
    · replace H := H.2 c
      refine r_X5_readStyle_74 ?_
      simp only [mo_ty, true_or, or_true, true_and]
      exact H
  · replace H := H.2 c
    obtain ⟨a866, H⟩ := H
    have J : ∀ y : Int, y = am_b ((V 4 (W 46) : Int) = 59) → am_W m_X5_readStyle (am_ev am_prog (d + 3)) Q 59 [some (.inr (.inl r)), some (.inl x1)] [.inl y] (mo b r (ms S) V W) := by
      intro y hy
      subst hy
      refine r_X5_readStyle_59 ?_
      refine ⟨fun c => ?_, fun c => ?_⟩
      · replace c := am_b0 c
        replace c : (V 4 (W 46) : Int) ≠ 59 := by omega
        replace H := H.1 c
        refine r_X5_readStyle_69 ?_
        simp only [mo_ty, mo_i, true_or, or_true, true_and]
        refine ⟨fun c => ?_, fun c => ?_⟩
        · replace H := H.1 c
          exact H
        · replace H := H.2 c
          refine r_X5_readStyle_74 ?_
          simp only [mo_ty, true_or, or_true, true_and]
          exact H
      · replace c := am_b1 c
        replace H := H.2 c
        obtain ⟨a867, H⟩ := H
        refine r_X5_readStyle_62 ?_
        simp only [mo_ty, mo_i, mo_si, true_or, or_true, true_and]
        refine ⟨a867, ?_⟩
        refine r_X5_readStyle_68 ?_
        exact H
    refine r_X5_readStyle_49 ?_
    simp only [mo_ty, mo_f43, mo_i, mo_t4, mo_n4, mo_a4, true_or, or_true, true_and]
    refine ⟨a866, ⟨fun c => ?_, fun c => ?_⟩⟩
    · exact r_X5_readStyle_58 (J _ (am_bf (by omega)).symm)
    · exact r_X5_readStyle_56 (J _ (am_bt c).symm)
theorem w_readStyle_76 {d : Nat} {Q : am_K} {b : am_H} {r : Nat} {S : am_G} {V : Nat → Int → Int} {W : Nat → Int} {x1 : Int} {y0 : Int} (H : ((y0 = 0 ∨ y0 = 1)) ∧ (Q (.inl (some (.inl y0))) (mo b r (ms S) V W))) : am_W m_X5_readStyle (am_ev am_prog (d + 3)) Q 76 [some (.inr (.inl r)), some (.inl x1)] [.inl y0] (mo b r (ms S) V W) := by
  obtain ⟨a868, H⟩ := H
  refine r_X5_readStyle_76 ?_
  exact ⟨a868, H⟩
theorem w_isRight_0 {d : Nat} {Q : am_K} {b : am_H} {r : Nat} {S : am_G} {V : Nat → Int → Int} {W : Nat → Int} {x1 : Int} {x2 : Int} {o3 : Option am_V} {o4 : Option am_V} {o5 : Option am_V} {o6 : Option am_V} (H : ((0 ≤ x1 ∧ x1 < 3000000)) ∧ (((-2147483648 ≤ (130 + 645 * x1) + 45 ∧ (130 + 645 * x1) + 45 ≤ 2147483647) ∧ (-2147483648 ≤ ((130 + 645 * x1) + 45) + x2 ∧ ((130 + 645 * x1) + 45) + x2 ≤ 2147483647) ∧ (0 ≤ x1 ∧ x1 < 100) ∧ (0 ≤ 45 + x2 ∧ 45 + x2 < 645) ∧ (-2147483648 ≤ (S 3 x1 (45 + x2)) - 1 ∧ (S 3 x1 (45 + x2)) - 1 ≤ 2147483647)) ∧ ((((S 3 x1 (45 + x2)) - 1 : Int) ≠ (-1) → ((0 ≤ (S 3 x1 (45 + x2)) - 1 ∧ (S 3 x1 (45 + x2)) - 1 < 2000000)) ∧ (am_ev am_prog (d + 3) 193 [.inr (.inl r), .inl x1, .inl x2] (mo b r (ms S) V W) (am_aft (am_hand m_X5_isRight Q (am_W m_X5_isRight (am_ev am_prog (d + 3)) Q) 23) (am_W m_X5_isRight (am_ev am_prog (d + 3)) Q) 23 [some (.inr (.inl r)), some (.inl x1), some (.inl x2), some (.inl ((S 3 x1 (45 + x2)) - 1)), some (.inl (64630 + 852 * ((S 3 x1 (45 + x2)) - 1))), o5, o6] []))) ∧ (((S 3 x1 (45 + x2)) - 1 : Int) = (-1) → Q (.inl (some (.inl 0))) (mo b r (ms S) V W))))) : am_W m_X5_isRight (am_ev am_prog (d + 3)) Q 0 [some (.inr (.inl r)), some (.inl x1), some (.inl x2), o3, o4, o5, o6] [] (mo b r (ms S) V W) := by
  refine r_X5_isRight_0 ?_
  simp only [mo_ty, mo_f39, true_or, or_true, true_and]
  refine ?_
  obtain ⟨a869, H⟩ := H
  refine c_part0 (by omega) (am_av ?_)
  obtain ⟨⟨a870, a871, a872, a873, a874⟩, H⟩ := H
  refine r_X5_isRight_4 ?_
  simp only [mo_t1, mo_n1, mo_a1, ms_r3 (k := ((130 + 645 * x1) + 45) + x2) (p := x1) (i := 45 + x2) (by omega) (by omega) (by omega), true_or, or_true, true_and]
  refine ⟨a870, a871, (by omega), a874, ⟨fun c => ?_, fun c => ?_⟩⟩
  · replace H := H.1 c
    refine r_X5_isRight_17 ?_
    refine ?_
    obtain ⟨a875, H⟩ := H
    refine c_slug0 (by omega) (am_av ?_)
    refine r_X5_isRight_19 ?_
    simp only [mo_ty, true_or, or_true, true_and]
    exact H
  · replace H := H.2 c
    refine r_X5_isRight_15 ?_
    exact ⟨(by decide), H⟩
theorem w_isRight_24 {d : Nat} {Q : am_K} {b : am_H} {r : Nat} {S : am_G} {V : Nat → Int → Int} {W : Nat → Int} {x1 : Int} {x2 : Int} {x3 : Int} {p4 : Int} {o5 : Option am_V} {o6 : Option am_V} (H : ((-2147483648 ≤ (64630 + 852 * p4) + 9 ∧ (64630 + 852 * p4) + 9 ≤ 2147483647) ∧ (0 ≤ p4 ∧ p4 < 300)) ∧ ((S 4 p4 9 ≠ W 73 → am_W m_X5_isRight (am_ev am_prog (d + 3)) Q 61 [some (.inr (.inl r)), some (.inl x1), some (.inl x2), some (.inl x3), some (.inl (64630 + 852 * p4)), some (.inl 0), some (.inl 0)] [] (mo b r (ms S) V W)) ∧ (S 4 p4 9 = W 73 → ((-2147483648 ≤ (64630 + 852 * p4) + 0 ∧ (64630 + 852 * p4) + 0 ≤ 2147483647) ∧ (0 ≤ p4 ∧ p4 < 300) ∧ (0 ≤ S 4 p4 0 ∧ S 4 p4 0 ≤ 2147483647) ∧ (-2147483648 ≤ 70 + ((S 4 p4 0) / 5) ∧ 70 + ((S 4 p4 0) / 5) ≤ 2147483647) ∧ (0 ≤ ((S 4 p4 0) / 5) ∧ ((S 4 p4 0) / 5) < 20) ∧ (0 ≤ x1 ∧ x1 ≤ 2147483647) ∧ (-2147483648 ≤ 70 + (x1 / 5) ∧ 70 + (x1 / 5) ≤ 2147483647) ∧ (0 ≤ (x1 / 5) ∧ (x1 / 5) < 20)) ∧ (am_W m_X5_isRight (am_ev am_prog (d + 3)) Q 61 [some (.inr (.inl r)), some (.inl x1), some (.inl x2), some (.inl x3), some (.inl (64630 + 852 * p4)), some (.inl (am_b (S 2 0 ((S 4 p4 0) / 5) = S 2 0 (x1 / 5)))), some (.inl 0)] [] (mo b r (ms S) V W))))) : am_W m_X5_isRight (am_ev am_prog (d + 3)) Q 24 [some (.inr (.inl r)), some (.inl x1), some (.inl x2), some (.inl x3), some (.inl (64630 + 852 * p4)), o5, o6] [] (mo b r (ms S) V W) := by
  obtain ⟨⟨a876, a877⟩, H⟩ := H
  refine r_X5_isRight_24 ?_
  simp only [mo_ty, mo_f39, mo_t1, mo_n1, mo_a1, ms_r4 (k := (64630 + 852 * p4) + 9) (p := p4) (i := 9) (by omega) (by omega) (by omega), mo_i, true_or, or_true, true_and]
  refine ⟨a876, (by omega), ⟨fun c => ?_, fun c => ?_⟩⟩
  · replace H := H.1 c
    refine r_X5_isRight_57 ?_
    refine r_X5_isRight_58 ?_
    exact H
  · replace H := H.2 c
    obtain ⟨⟨a878, a879, a880, a881, a882, a883, a884, a885⟩, H⟩ := H
    have J : ∀ y : Int, y = am_b (S 2 0 ((S 4 p4 0) / 5) = S 2 0 (x1 / 5)) → am_W m_X5_isRight (am_ev am_prog (d + 3)) Q 58 [some (.inr (.inl r)), some (.inl x1), some (.inl x2), some (.inl x3), some (.inl (64630 + 852 * p4)), o5, o6] [.inl y] (mo b r (ms S) V W) := by
      intro y hy
      subst hy
      refine r_X5_isRight_58 ?_
      exact H
    refine r_X5_isRight_33 ?_
    simp only [mo_ty, mo_f39, mo_t1, mo_n1, mo_a1, ms_r4 (k := (64630 + 852 * p4) + 0) (p := p4) (i := 0) (by omega) (by omega) (by omega), am_td (x := S 4 p4 0) (y := 5) (by omega), am_tm (x := S 4 p4 0) (y := 5) (by omega), ms_r2 (k := 70 + ((S 4 p4 0) / 5)) (p := 0) (i := ((S 4 p4 0) / 5)) (by omega) (by omega) (by omega), am_td (x := x1) (y := 5) (by omega), am_tm (x := x1) (y := 5) (by omega), ms_r2 (k := 70 + (x1 / 5)) (p := 0) (i := (x1 / 5)) (by omega) (by omega) (by omega), true_or, or_true, true_and]
    refine ⟨a878, (by omega), ⟨by decide, am_dk (by omega) (by omega)⟩, a881, (by omega), ⟨by decide, am_dk (by omega) (by omega)⟩, a884, (by omega), ⟨fun c => ?_, fun c => ?_⟩⟩
    · exact r_X5_isRight_57 (J _ (am_bf (by omega)).symm)
    · exact r_X5_isRight_55 (J _ (am_bt c).symm)
theorem w_isRight_61 {d : Nat} {Q : am_K} {b : am_H} {r : Nat} {S : am_G} {V : Nat → Int → Int} {W : Nat → Int} {x1 : Int} {x2 : Int} {x3 : Int} {p4 : Int} {x5 : Int} {x6 : Int} (H : (W 73 ≤ x6 → ((x5 = 0 ∨ x5 = 1)) ∧ (Q (.inl (some (.inl x5))) (mo b r (ms S) V W))) ∧ (x6 < W 73 → ((x5 : Int) = 0 → ((x5 = 0 ∨ x5 = 1)) ∧ (Q (.inl (some (.inl x5))) (mo b r (ms S) V W))) ∧ ((x5 : Int) ≠ 0 → ((-2147483648 ≤ (64630 + 852 * p4) + 432 ∧ (64630 + 852 * p4) + 432 ≤ 2147483647) ∧ (-2147483648 ≤ ((64630 + 852 * p4) + 432) + x6 ∧ ((64630 + 852 * p4) + 432) + x6 ≤ 2147483647) ∧ (0 ≤ p4 ∧ p4 < 300) ∧ (0 ≤ 432 + x6 ∧ 432 + x6 < 852) ∧ (0 ≤ x6 ∧ x6 < 430)) ∧ (((-2147483648 ≤ x6 + 1 ∧ x6 + 1 ≤ 2147483647)) ∧ (am_W m_X5_isRight (am_ev am_prog (d + 3)) Q 61 [some (.inr (.inl r)), some (.inl x1), some (.inl x2), some (.inl x3), some (.inl (64630 + 852 * p4)), some (.inl (am_b (S 4 p4 (432 + x6) = V 17 x6))), some (.inl (x6 + 1))] [] (mo b r (ms S) V W)))))) : am_W m_X5_isRight (am_ev am_prog (d + 3)) Q 61 [some (.inr (.inl r)), some (.inl x1), some (.inl x2), some (.inl x3), some (.inl (64630 + 852 * p4)), some (.inl x5), some (.inl x6)] [] (mo b r (ms S) V W) := by
  refine r_X5_isRight_61 ?_
  simp only [mo_ty, mo_i, true_or, or_true, true_and]
  refine ⟨fun c => ?_, fun c => ?_⟩
  · replace H := H.1 c
    obtain ⟨a888, H⟩ := H
    refine r_X5_isRight_86 ?_
    exact ⟨a888, H⟩
  · replace H := H.2 c
    refine r_X5_isRight_65 ?_
    refine ⟨fun c => ?_, fun c => ?_⟩
    · replace H := H.1 c
      obtain ⟨a889, H⟩ := H
      refine r_X5_isRight_86 ?_
      exact ⟨a889, H⟩
    · replace H := H.2 c
      obtain ⟨⟨a890, a891, a892, a893, a894⟩, H⟩ := H
      have J : ∀ y : Int, y = am_b (S 4 p4 (432 + x6) = V 17 x6) → am_W m_X5_isRight (am_ev am_prog (d + 3)) Q 83 [some (.inr (.inl r)), some (.inl x1), some (.inl x2), some (.inl x3), some (.inl (64630 + 852 * p4)), some (.inl x5), some (.inl x6)] [.inl y] (mo b r (ms S) V W) := by
        intro y hy
        subst hy
        obtain ⟨a895, H⟩ := H
        refine r_X5_isRight_83 ?_
        refine ⟨a895, ?_⟩
        exact H
      refine r_X5_isRight_67 ?_
      simp only [mo_ty, mo_f39, mo_t1, mo_n1, mo_a1, ms_r4 (k := ((64630 + 852 * p4) + 432) + x6) (p := p4) (i := 432 + x6) (by omega) (by omega) (by omega), mo_f72, mo_t17, mo_n17, mo_a17, true_or, or_true, true_and]
      refine ⟨a890, a891, (by omega), a894, ⟨fun c => ?_, fun c => ?_⟩⟩
      · exact r_X5_isRight_82 (J _ (am_bf (by omega)).symm)
      · exact r_X5_isRight_80 (J _ (am_bt c).symm)
theorem w_notFit_0 {d : Nat} {Q : am_K} {b : am_H} {r : Nat} {S : am_G} {V : Nat → Int → Int} {W : Nat → Int} {x1 : Int} {x2 : Int} {o3 : Option am_V} {o4 : Option am_V} {o5 : Option am_V} (H : (¬ (0 ≤ x1 ∧ x1 < 6) → Q (.inl (some (.inl 1))) (mo b r (ms S) V W)) ∧ (0 ≤ x1 ∧ x1 < 6 → (x2 < 0 → Q (.inl (some (.inl 1))) (mo b r (ms S) V W)) ∧ (0 ≤ x2 → (x2 < am_shlz 1 (S 0 0 1) → am_W m_X5_notFit (am_ev am_prog (d + 3)) Q 19 [some (.inr (.inl r)), some (.inl x1), some (.inl x2), some (.inl 0), some (.inl 0), o5] [] (mo b r (ms S) V W)) ∧ (am_shlz 1 (S 0 0 1) ≤ x2 → Q (.inl (some (.inl 1))) (mo b r (ms S) V W))))) : am_W m_X5_notFit (am_ev am_prog (d + 3)) Q 0 [some (.inr (.inl r)), some (.inl x1), some (.inl x2), o3, o4, o5] [] (mo b r (ms S) V W) := by
  refine r_X5_notFit_0 ?_
  refine ?_
  refine c_isPage (am_av ?_)
  refine r_X5_notFit_2 ?_
  refine ⟨fun c => ?_, fun c => ?_⟩
  · replace c := am_b0 c
    replace H := H.1 c
    refine r_X5_notFit_13 ?_
    exact H
  · replace c := am_b1 c
    replace H := H.2 c
    refine r_X5_notFit_3 ?_
    refine ⟨fun c => ?_, fun c => ?_⟩
    · replace H := H.1 c
      refine r_X5_notFit_13 ?_
      exact H
    · replace H := H.2 c
      refine r_X5_notFit_5 ?_
      simp only [mo_ty, mo_f39, mo_t1, mo_n1, mo_a1, ms_r0 (k := 1) (p := 0) (i := 1) (by omega) (by omega) (by omega), true_or, or_true, true_and]
      refine ⟨(by omega), ⟨fun c => ?_, fun c => ?_⟩⟩
      · replace H := H.1 c
        refine r_X5_notFit_15 ?_
        exact H
      · replace H := H.2 c
        refine r_X5_notFit_13 ?_
        exact H
theorem w_notFit_19 {d : Nat} {Q : am_K} {b : am_H} {r : Nat} {S : am_G} {V : Nat → Int → Int} {W : Nat → Int} {x1 : Int} {x2 : Int} {x3 : Int} {x4 : Int} {o5 : Option am_V} (H : (S 0 0 1 ≤ x4 → (x3 < 1 → Q (.inl (some (.inl 2))) (mo b r (ms S) V W)) ∧ (1 ≤ x3 → (x3 ≤ 4 → am_W m_X5_notFit (am_ev am_prog (d + 3)) Q 45 [some (.inr (.inl r)), some (.inl x1), some (.inl x2), some (.inl x3), some (.inl 0), o5] [] (mo b r (ms S) V W)) ∧ (4 < x3 → Q (.inl (some (.inl 2))) (mo b r (ms S) V W)))) ∧ (x4 < S 0 0 1 → ((-2147483648 ≤ x3 + (am_andz (am_shrz x2 x4) 1) ∧ x3 + (am_andz (am_shrz x2 x4) 1) ≤ 2147483647) ∧ (-2147483648 ≤ x4 + 1 ∧ x4 + 1 ≤ 2147483647)) ∧ (am_W m_X5_notFit (am_ev am_prog (d + 3)) Q 19 [some (.inr (.inl r)), some (.inl x1), some (.inl x2), some (.inl (x3 + (am_andz (am_shrz x2 x4) 1))), some (.inl (x4 + 1)), o5] [] (mo b r (ms S) V W)))) : am_W m_X5_notFit (am_ev am_prog (d + 3)) Q 19 [some (.inr (.inl r)), some (.inl x1), some (.inl x2), some (.inl x3), some (.inl x4), o5] [] (mo b r (ms S) V W) := by
  refine r_X5_notFit_19 ?_
  simp only [mo_ty, mo_f39, mo_t1, mo_n1, mo_a1, ms_r0 (k := 1) (p := 0) (i := 1) (by omega) (by omega) (by omega), true_or, or_true, true_and]
  refine ⟨(by omega), ⟨fun c => ?_, fun c => ?_⟩⟩
  · replace H := H.1 c
    refine r_X5_notFit_35 ?_
    refine ⟨fun c => ?_, fun c => ?_⟩
    · replace H := H.1 c
      refine r_X5_notFit_41 ?_
      exact H
    · replace H := H.2 c
      refine r_X5_notFit_38 ?_
      refine ⟨fun c => ?_, fun c => ?_⟩
      · replace H := H.1 c
        refine r_X5_notFit_43 ?_
        exact H
      · replace H := H.2 c
        refine r_X5_notFit_41 ?_
        exact H
  · replace H := H.2 c
    obtain ⟨⟨a896, a897⟩, H⟩ := H
    refine r_X5_notFit_25 ?_
    refine ⟨a896, a897, ?_⟩
    exact H
theorem w_notFit_45 {d : Nat} {Q : am_K} {b : am_H} {r : Nat} {S : am_G} {V : Nat → Int → Int} {W : Nat → Int} {x1 : Int} {x2 : Int} {x3 : Int} {x4 : Int} {o5 : Option am_V} (H : (S 0 0 1 ≤ x4 → Q (.inl (some (.inl 0))) (mo b r (ms S) V W)) ∧ (x4 < S 0 0 1 → am_W m_X5_notFit (am_ev am_prog (d + 3)) Q 53 [some (.inr (.inl r)), some (.inl x1), some (.inl x2), some (.inl x3), some (.inl x4), some (.inl 0)] [] (mo b r (ms S) V W))) : am_W m_X5_notFit (am_ev am_prog (d + 3)) Q 45 [some (.inr (.inl r)), some (.inl x1), some (.inl x2), some (.inl x3), some (.inl x4), o5] [] (mo b r (ms S) V W) := by
  refine r_X5_notFit_45 ?_
  simp only [mo_ty, mo_f39, mo_t1, mo_n1, mo_a1, ms_r0 (k := 1) (p := 0) (i := 1) (by omega) (by omega) (by omega), true_or, or_true, true_and]
  refine ⟨(by omega), ⟨fun c => ?_, fun c => ?_⟩⟩
  · replace H := H.1 c
    refine r_X5_notFit_86 ?_
    exact H
  · replace H := H.2 c
    refine r_X5_notFit_51 ?_
    exact H
theorem w_notFit_53 {d : Nat} {Q : am_K} {b : am_H} {r : Nat} {S : am_G} {V : Nat → Int → Int} {W : Nat → Int} {x1 : Int} {x2 : Int} {x3 : Int} {x4 : Int} {x5 : Int} (H : ((-2147483648 ≤ 110 + x4 ∧ 110 + x4 ≤ 2147483647) ∧ (0 ≤ x4 ∧ x4 < 20)) ∧ ((S 2 2 x4 ≤ x5 → ((-2147483648 ≤ x4 + 1 ∧ x4 + 1 ≤ 2147483647)) ∧ (am_W m_X5_notFit (am_ev am_prog (d + 3)) Q 45 [some (.inr (.inl r)), some (.inl x1), some (.inl x2), some (.inl x3), some (.inl (x4 + 1)), some (.inl x5)] [] (mo b r (ms S) V W))) ∧ (x5 < S 2 2 x4 → ((am_andz (am_shrz x2 x4) 1 : Int) ≠ 1 → ((-2147483648 ≤ x4 + 1 ∧ x4 + 1 ≤ 2147483647)) ∧ (am_W m_X5_notFit (am_ev am_prog (d + 3)) Q 45 [some (.inr (.inl r)), some (.inl x1), some (.inl x2), some (.inl x3), some (.inl (x4 + 1)), some (.inl x5)] [] (mo b r (ms S) V W))) ∧ ((am_andz (am_shrz x2 x4) 1 : Int) = 1 → ((-2147483648 ≤ 5 * x4 ∧ 5 * x4 ≤ 2147483647) ∧ (-2147483648 ≤ (5 * x4) + x5 ∧ (5 * x4) + x5 ≤ 2147483647)) ∧ (((0 ≤ (5 * x4) + x5 ∧ (5 * x4) + x5 < 3000000)) ∧ (((-2147483648 ≤ (130 + 645 * ((5 * x4) + x5)) + 3 ∧ (130 + 645 * ((5 * x4) + x5)) + 3 ≤ 2147483647) ∧ (0 ≤ (5 * x4) + x5 ∧ (5 * x4) + x5 < 100)) ∧ (((S 3 ((5 * x4) + x5) 3 : Int) ≠ 0 → ((-2147483648 ≤ x5 + 1 ∧ x5 + 1 ≤ 2147483647)) ∧ (am_W m_X5_notFit (am_ev am_prog (d + 3)) Q 53 [some (.inr (.inl r)), some (.inl x1), some (.inl x2), some (.inl x3), some (.inl x4), some (.inl (x5 + 1))] [] (mo b r (ms S) V W))) ∧ ((S 3 ((5 * x4) + x5) 3 : Int) = 0 → Q (.inl (some (.inl 3))) (mo b r (ms S) V W))))))))) : am_W m_X5_notFit (am_ev am_prog (d + 3)) Q 53 [some (.inr (.inl r)), some (.inl x1), some (.inl x2), some (.inl x3), some (.inl x4), some (.inl x5)] [] (mo b r (ms S) V W) := by
  obtain ⟨⟨a898, a899⟩, H⟩ := H
  refine r_X5_notFit_53 ?_
  simp only [mo_ty, mo_f39, mo_t1, mo_n1, mo_a1, ms_r2 (k := 110 + x4) (p := 2) (i := x4) (by omega) (by omega) (by omega), true_or, or_true, true_and]
  refine ⟨a898, (by omega), ⟨fun c => ?_, fun c => ?_⟩⟩
  · replace H := H.1 c
    obtain ⟨a900, H⟩ := H
    refine r_X5_notFit_84 ?_
    refine ⟨a900, ?_⟩
    exact H
  · replace H := H.2 c
    refine r_X5_notFit_61 ?_
    refine ⟨fun c => ?_, fun c => ?_⟩
    · replace H := H.1 c
      obtain ⟨a901, H⟩ := H
      refine r_X5_notFit_84 ?_
      refine ⟨a901, ?_⟩
      exact H
    · replace H := H.2 c
      obtain ⟨⟨a902, a903⟩, H⟩ := H
      refine r_X5_notFit_68 ?_
      simp only [mo_ty, mo_f39, true_or, or_true, true_and]
      refine ⟨a902, a903, ?_⟩
      obtain ⟨a904, H⟩ := H
      refine c_part0 (by omega) (am_av ?_)
      obtain ⟨⟨a905, a906⟩, H⟩ := H
      refine r_X5_notFit_76 ?_
      simp only [mo_t1, mo_n1, mo_a1, ms_r3 (k := (130 + 645 * ((5 * x4) + x5)) + 3) (p := (5 * x4) + x5) (i := 3) (by omega) (by omega) (by omega), true_or, or_true, true_and]
      refine ⟨a905, (by omega), ⟨fun c => ?_, fun c => ?_⟩⟩
      · replace H := H.1 c
        obtain ⟨a907, H⟩ := H
        refine r_X5_notFit_82 ?_
        refine ⟨a907, ?_⟩
        exact H
      · replace H := H.2 c
        refine r_X5_notFit_80 ?_
        exact H
theorem w_fitting_0 {d : Nat} {Q : am_K} {b : am_H} {r : Nat} {S : am_G} {V : Nat → Int → Int} {W : Nat → Int} {x1 : Int} {x2 : Int} {o3 : Option am_V} (H : am_W m_X5_fitting (am_ev am_prog (d + 3)) Q 5 [some (.inr (.inl r)), some (.inl x1), some (.inl x2), some (.inl 0)] [] (mo b r (ms S) V (am_up W 89 0))) : am_W m_X5_fitting (am_ev am_prog (d + 3)) Q 0 [some (.inr (.inl r)), some (.inl x1), some (.inl x2), o3] [] (mo b r (ms S) V W) := by
  refine r_X5_fitting_0 ?_
  simp only [mo_ty, mo_si, true_or, or_true, true_and]
  refine ?_
  refine r_X5_fitting_3 ?_
  exact H
theorem w_fitting_5 {d : Nat} {Q : am_K} {b : am_H} {r : Nat} {S : am_G} {V : Nat → Int → Int} {W : Nat → Int} {x1 : Int} {x2 : Int} {x3 : Int} (H : (S 0 0 1 ≤ x3 → am_ev am_prog (d + 3) 281 [.inr (.inl r), .inl x1, .inl 0] (mo b r (ms S) V (am_up W 90 (-1))) (am_aft (am_hand m_X5_fitting Q (am_W m_X5_fitting (am_ev am_prog (d + 3)) Q) 38) (am_W m_X5_fitting (am_ev am_prog (d + 3)) Q) 38 [some (.inr (.inl r)), some (.inl x1), some (.inl x2), some (.inl x3)] [])) ∧ (x3 < S 0 0 1 → ((am_andz (am_shrz x2 x3) 1 : Int) ≠ 0 → ((0 ≤ W 89 ∧ W 89 < 4)) ∧ (((-2147483648 ≤ (W 89) + 1 ∧ (W 89) + 1 ≤ 2147483647)) ∧ (((-2147483648 ≤ x3 + 1 ∧ x3 + 1 ≤ 2147483647)) ∧ (am_W m_X5_fitting (am_ev am_prog (d + 3)) Q 5 [some (.inr (.inl r)), some (.inl x1), some (.inl x2), some (.inl (x3 + 1))] [] (mo b r (ms S) (am_up V 27 (am_uz (V 27) (W 89) x3)) (am_up W 89 ((W 89) + 1))))))) ∧ ((am_andz (am_shrz x2 x3) 1 : Int) = 0 → ((-2147483648 ≤ x3 + 1 ∧ x3 + 1 ≤ 2147483647)) ∧ (am_W m_X5_fitting (am_ev am_prog (d + 3)) Q 5 [some (.inr (.inl r)), some (.inl x1), some (.inl x2), some (.inl (x3 + 1))] [] (mo b r (ms S) V W))))) : am_W m_X5_fitting (am_ev am_prog (d + 3)) Q 5 [some (.inr (.inl r)), some (.inl x1), some (.inl x2), some (.inl x3)] [] (mo b r (ms S) V W) := by
  refine r_X5_fitting_5 ?_
  simp only [mo_ty, mo_f39, mo_t1, mo_n1, mo_a1, ms_r0 (k := 1) (p := 0) (i := 1) (by omega) (by omega) (by omega), true_or, or_true, true_and]
  refine ⟨(by omega), ⟨fun c => ?_, fun c => ?_⟩⟩
  · replace H := H.1 c
    refine r_X5_fitting_32 ?_
    simp only [mo_ty, mo_si, true_or, or_true, true_and]
    refine ?_
    refine r_X5_fitting_35 ?_
    simp only [mo_ty, true_or, or_true, true_and]
    exact H
  · replace H := H.2 c
    refine r_X5_fitting_11 ?_
    refine ⟨fun c => ?_, fun c => ?_⟩
    · replace H := H.1 c
      obtain ⟨a908, H⟩ := H
      refine r_X5_fitting_18 ?_
      simp only [mo_ty, mo_f83, mo_i, mo_t27, mo_n27, mo_s27, true_or, or_true, true_and]
      refine ⟨a908, ?_⟩
      obtain ⟨a909, H⟩ := H
      refine r_X5_fitting_24 ?_
      simp only [mo_ty, mo_i, mo_si, true_or, or_true, true_and]
      refine ⟨a909, ?_⟩
      obtain ⟨a910, H⟩ := H
      refine r_X5_fitting_30 ?_
      refine ⟨a910, ?_⟩
      exact H
    · replace H := H.2 c
      refine r_X5_fitting_17 ?_
      obtain ⟨a911, H⟩ := H
      refine r_X5_fitting_30 ?_
      refine ⟨a911, ?_⟩
      exact H
theorem w_fitting_39 {d : Nat} {Q : am_K} {b : am_H} {r : Nat} {S : am_G} {V : Nat → Int → Int} {W : Nat → Int} {x1 : Int} {x2 : Int} {x3 : Int} (H : Q (.inl none) (mo b r (ms S) V W)) : am_W m_X5_fitting (am_ev am_prog (d + 3)) Q 39 [some (.inr (.inl r)), some (.inl x1), some (.inl x2), some (.inl x3)] [] (mo b r (ms S) V W) := by
  refine r_X5_fitting_39 ?_
  exact H
theorem w_readStory_0 {d : Nat} {Q : am_K} {b : am_H} {r : Nat} {S : am_G} {V : Nat → Int → Int} {W : Nat → Int} {o1 : Option am_V} (H : am_ev am_prog (d + 3) 256 [.inr (.inl r)] (mo b r (ms S) (am_up (am_up V 8 (am_uz (V 8) 0 0)) 9 (am_uz (V 9) 0 0)) (am_up W 55 0)) (am_aft (am_hand m_X5_readStory Q (am_W m_X5_readStory (am_ev am_prog (d + 3)) Q) 14) (am_W m_X5_readStory (am_ev am_prog (d + 3)) Q) 14 [some (.inr (.inl r)), o1] [])) : am_W m_X5_readStory (am_ev am_prog (d + 3)) Q 0 [some (.inr (.inl r)), o1] [] (mo b r (ms S) V W) := by
  refine r_X5_readStory_0 ?_
  simp only [mo_ty, mo_si, true_or, or_true, true_and]
  refine ?_
  refine r_X5_readStory_3 ?_
  simp only [mo_ty, mo_f53, mo_t8, mo_n8, mo_s8, true_or, or_true, true_and]
  refine ⟨(by decide), ?_⟩
  refine r_X5_readStory_8 ?_
  simp only [mo_ty, mo_f54, mo_t9, mo_n9, mo_s9, am_up_ne (by decide : (9 : Nat) ≠ 8), true_or, or_true, true_and]
  refine ⟨(by decide), ?_⟩
  refine r_X5_readStory_13 ?_
  simp only [mo_ty, true_or, or_true, true_and]
  exact H
theorem w_readStory_15 {d : Nat} {Q : am_K} {b : am_H} {r : Nat} {S : am_G} {V : Nat → Int → Int} {W : Nat → Int} {o1 : Option am_V} (H : (W 45 ≤ W 46 → ((0 ≤ W 55 ∧ W 55 < 5)) ∧ (((V 9 (W 55) : Int) ≠ 0 → Q (.inl (some (.inl (am_b ((W 47 : Int) = (-1)))))) (mo b r (ms S) V W)) ∧ ((V 9 (W 55) : Int) = 0 → Q (.inl (some (.inl (am_b ((W 45 : Int) = (-1)))))) (mo b r (ms S) V (am_up W 47 (W 45)))))) ∧ (W 46 < W 45 → ((0 ≤ W 46 ∧ W 46 < 400)) ∧ ((¬ (97 ≤ V 4 (W 46) ∧ V 4 (W 46) ≤ 122) → ((V 4 (W 46) : Int) ≠ 47 → Q (.inl (some (.inl 0))) (mo b r (ms S) V (am_up W 47 (W 46)))) ∧ ((V 4 (W 46) : Int) = 47 → ((0 ≤ W 55 ∧ W 55 < 5)) ∧ ((V 9 (W 55) ≤ 0 → Q (.inl (some (.inl 0))) (mo b r (ms S) V (am_up W 47 (W 46)))) ∧ (0 < V 9 (W 55) → (4 ≤ W 55 → Q (.inl (some (.inl 0))) (mo b r (ms S) V (am_up W 47 (W 46)))) ∧ (W 55 < 4 → ((-2147483648 ≤ (W 55) + 1 ∧ (W 55) + 1 ≤ 2147483647)) ∧ (((0 ≤ (W 55) + 1 ∧ (W 55) + 1 < 5)) ∧ (((0 ≤ (W 55) + 1 ∧ (W 55) + 1 < 5)) ∧ (((-2147483648 ≤ (W 46) + 1 ∧ (W 46) + 1 ≤ 2147483647)) ∧ (am_ev am_prog (d + 3) 256 [.inr (.inl r)] (mo b r (ms S) (am_up (am_up V 8 (am_uz (V 8) ((W 55) + 1) 0)) 9 (am_uz (V 9) ((W 55) + 1) 0)) (am_up (am_up W 55 ((W 55) + 1)) 46 ((W 46) + 1))) (am_aft (am_hand m_X5_readStory Q (am_W m_X5_readStory (am_ev am_prog (d + 3)) Q) 132) (am_W m_X5_readStory (am_ev am_prog (d + 3)) Q) 132 [some (.inr (.inl r)), some (.inl (V 4 (W 46)))] [])))))))))) ∧ (97 ≤ V 4 (W 46) ∧ V 4 (W 46) ≤ 122 → ((0 ≤ W 55 ∧ W 55 < 5)) ∧ (((V 9 (W 55) : Int) ≠ 24 → ((-2147483648 ≤ 40 * (W 55) ∧ 40 * (W 55) ≤ 2147483647) ∧ (0 ≤ W 55 ∧ W 55 < 5)) ∧ (am_ev am_prog (d + 3) 282 [.inr (.inl r), .inl (40 * (W 55)), .inl (V 9 (W 55)), .inl 0] (mo b r (ms S) V W) (am_aft (am_hand m_X5_readStory Q (am_W m_X5_readStory (am_ev am_prog (d + 3)) Q) 53) (am_W m_X5_readStory (am_ev am_prog (d + 3)) Q) 53 [some (.inr (.inl r)), some (.inl (V 4 (W 46)))] []))) ∧ ((V 9 (W 55) : Int) = 24 → Q (.inl (some (.inl 0))) (mo b r (ms S) V (am_up W 47 (W 46))))))))) : am_W m_X5_readStory (am_ev am_prog (d + 3)) Q 15 [some (.inr (.inl r)), o1] [] (mo b r (ms S) V W) := by
  refine r_X5_readStory_15 ?_
  simp only [mo_ty, mo_i, true_or, or_true, true_and]
  refine ⟨fun c => ?_, fun c => ?_⟩
  · replace H := H.1 c
    obtain ⟨a912, H⟩ := H
    refine r_X5_readStory_141 ?_
    simp only [mo_ty, mo_f54, mo_i, mo_t9, mo_n9, mo_a9, true_or, or_true, true_and]
    refine ⟨a912, ⟨fun c => ?_, fun c => ?_⟩⟩
    · replace H := H.1 c
      have J : ∀ y : Int, y = am_b ((W 47 : Int) = (-1)) → am_W m_X5_readStory (am_ev am_prog (d + 3)) Q 158 [some (.inr (.inl r)), o1] [.inl y] (mo b r (ms S) V W) := by
        intro y hy
        subst hy
        refine r_X5_readStory_158 ?_
        exact ⟨(am_bz _), H⟩
      refine r_X5_readStory_151 ?_
      simp only [mo_ty, mo_i, true_or, or_true, true_and]
      refine ⟨fun c => ?_, fun c => ?_⟩
      · exact r_X5_readStory_157 (J _ (am_bf (by omega)).symm)
      · exact r_X5_readStory_155 (J _ (am_bt c).symm)
    · replace H := H.2 c
      refine r_X5_readStory_147 ?_
      simp only [mo_ty, mo_i, mo_si, true_or, or_true, true_and]
      refine ?_
      have J : ∀ y : Int, y = am_b ((W 45 : Int) = (-1)) → am_W m_X5_readStory (am_ev am_prog (d + 3)) Q 158 [some (.inr (.inl r)), o1] [.inl y] (mo b r (ms S) V (am_up W 47 (W 45))) := by
        intro y hy
        subst hy
        refine r_X5_readStory_158 ?_
        exact ⟨(am_bz _), H⟩
      refine r_X5_readStory_151 ?_
      simp only [mo_ty, mo_i, am_up_eq, true_or, or_true, true_and]
      refine ⟨fun c => ?_, fun c => ?_⟩
      · exact r_X5_readStory_157 (J _ (am_bf (by omega)).symm)
      · exact r_X5_readStory_155 (J _ (am_bt c).symm)
  · replace H := H.2 c
    obtain ⟨a913, H⟩ := H
    refine r_X5_readStory_20 ?_
    simp only [mo_ty, mo_f43, mo_i, mo_t4, mo_n4, mo_a4, true_or, or_true, true_and]
    refine ⟨a913, ?_⟩
    refine c_isLetter (am_av ?_)
    refine r_X5_readStory_28 ?_
    refine ⟨fun c => ?_, fun c => ?_⟩
    · replace c := am_b0 c
      replace H := H.1 c
      refine r_X5_readStory_94 ?_
      refine ⟨fun c => ?_, fun c => ?_⟩
      · replace H := H.1 c
        refine r_X5_readStory_134 ?_
        simp only [mo_ty, mo_i, mo_si, true_or, or_true, true_and]
        refine ?_
        refine r_X5_readStory_138 ?_
        exact ⟨(by decide), H⟩
      · replace H := H.2 c
        obtain ⟨a914, H⟩ := H
        refine r_X5_readStory_97 ?_
        simp only [mo_ty, mo_f54, mo_i, mo_t9, mo_n9, mo_a9, true_or, or_true, true_and]
        refine ⟨a914, ⟨fun c => ?_, fun c => ?_⟩⟩
        · replace H := H.1 c
          refine r_X5_readStory_134 ?_
          simp only [mo_ty, mo_i, mo_si, true_or, or_true, true_and]
          refine ?_
          refine r_X5_readStory_138 ?_
          exact ⟨(by decide), H⟩
        · replace H := H.2 c
          refine r_X5_readStory_103 ?_
          simp only [mo_ty, mo_i, true_or, or_true, true_and]
          refine ⟨fun c => ?_, fun c => ?_⟩
          · replace H := H.1 c
            refine r_X5_readStory_134 ?_
            simp only [mo_ty, mo_i, mo_si, true_or, or_true, true_and]
            refine ?_
            refine r_X5_readStory_138 ?_
            exact ⟨(by decide), H⟩
          · replace H := H.2 c
            obtain ⟨a915, H⟩ := H
            refine r_X5_readStory_107 ?_
            simp only [mo_ty, mo_i, mo_si, true_or, or_true, true_and]
            refine ⟨a915, ?_⟩
            obtain ⟨a916, H⟩ := H
            refine r_X5_readStory_113 ?_
            simp only [mo_ty, mo_f53, mo_i, am_up_eq, mo_t8, mo_n8, mo_s8, true_or, or_true, true_and]
            refine ⟨a916, ?_⟩
            obtain ⟨a917, H⟩ := H
            refine r_X5_readStory_119 ?_
            simp only [mo_ty, mo_f54, mo_i, am_up_eq, mo_t9, mo_n9, mo_s9, am_up_ne (by decide : (9 : Nat) ≠ 8), true_or, or_true, true_and]
            refine ⟨a917, ?_⟩
            obtain ⟨a918, H⟩ := H
            refine r_X5_readStory_125 ?_
            simp only [mo_ty, mo_i, am_up_ne (by decide : (46 : Nat) ≠ 55), mo_si, true_or, or_true, true_and]
            refine ⟨a918, ?_⟩
            refine r_X5_readStory_131 ?_
            simp only [mo_ty, true_or, or_true, true_and]
            exact H
    · replace c := am_b1 c
      replace H := H.2 c
      obtain ⟨a919, H⟩ := H
      refine r_X5_readStory_29 ?_
      simp only [mo_ty, mo_f54, mo_i, mo_t9, mo_n9, mo_a9, true_or, or_true, true_and]
      refine ⟨a919, ⟨fun c => ?_, fun c => ?_⟩⟩
      · replace H := H.1 c
        obtain ⟨⟨a920, a921⟩, H⟩ := H
        refine r_X5_readStory_42 ?_
        simp only [mo_ty, mo_i, mo_f54, mo_t9, mo_n9, mo_a9, true_or, or_true, true_and]
        exact ⟨a920, a921, H⟩
      · replace H := H.2 c
        refine r_X5_readStory_36 ?_
        simp only [mo_ty, mo_i, mo_si, true_or, or_true, true_and]
        refine ?_
        refine r_X5_readStory_40 ?_
        exact ⟨(by decide), H⟩
theorem w_readStory_54 {d : Nat} {Q : am_K} {b : am_H} {r : Nat} {S : am_G} {V : Nat → Int → Int} {W : Nat → Int} {x1 : Int} {y0 : Int} (H : ((y0 : Int) ≠ 0 → ((0 ≤ W 55 ∧ W 55 < 5) ∧ (-2147483648 ≤ (V 9 (W 55)) + 1 ∧ (V 9 (W 55)) + 1 ≤ 2147483647)) ∧ ((W 45 ≤ W 46 → am_ev am_prog (d + 3) 256 [.inr (.inl r)] (mo b r (ms S) (am_up V 9 (am_uz (V 9) (W 55) ((V 9 (W 55)) + 1))) W) (am_aft (am_hand m_X5_readStory Q (am_W m_X5_readStory (am_ev am_prog (d + 3)) Q) 92) (am_W m_X5_readStory (am_ev am_prog (d + 3)) Q) 92 [some (.inr (.inl r)), some (.inl x1)] [])) ∧ (W 46 < W 45 → ((0 ≤ W 46 ∧ W 46 < 400)) ∧ (((V 4 (W 46) : Int) = 32 → am_ev am_prog (d + 3) 256 [.inr (.inl r)] (mo b r (ms S) (am_up V 9 (am_uz (V 9) (W 55) ((V 9 (W 55)) + 1))) W) (am_aft (am_hand m_X5_readStory Q (am_W m_X5_readStory (am_ev am_prog (d + 3)) Q) 92) (am_W m_X5_readStory (am_ev am_prog (d + 3)) Q) 92 [some (.inr (.inl r)), some (.inl x1)] [])) ∧ ((V 4 (W 46) : Int) ≠ 32 → ((0 ≤ W 46 ∧ W 46 < 400)) ∧ (((V 4 (W 46) : Int) = 47 → am_ev am_prog (d + 3) 256 [.inr (.inl r)] (mo b r (ms S) (am_up V 9 (am_uz (V 9) (W 55) ((V 9 (W 55)) + 1))) W) (am_aft (am_hand m_X5_readStory Q (am_W m_X5_readStory (am_ev am_prog (d + 3)) Q) 92) (am_W m_X5_readStory (am_ev am_prog (d + 3)) Q) 92 [some (.inr (.inl r)), some (.inl x1)] [])) ∧ ((V 4 (W 46) : Int) ≠ 47 → Q (.inl (some (.inl 0))) (mo b r (ms S) (am_up V 9 (am_uz (V 9) (W 55) ((V 9 (W 55)) + 1))) (am_up W 47 (W 46)))))))))) ∧ ((y0 : Int) = 0 → Q (.inl (some (.inl 0))) (mo b r (ms S) V W))) : am_W m_X5_readStory (am_ev am_prog (d + 3)) Q 54 [some (.inr (.inl r)), some (.inl x1)] [.inl y0] (mo b r (ms S) V W) := by
  refine r_X5_readStory_54 ?_
  refine ⟨fun c => ?_, fun c => ?_⟩
  · replace H := H.1 c
    obtain ⟨⟨a922, a923⟩, H⟩ := H
    refine r_X5_readStory_57 ?_
    simp only [mo_ty, mo_f54, mo_i, mo_t9, mo_n9, mo_a9, mo_s9, true_or, or_true, true_and]
    refine ⟨a922, a923, a922, ?_⟩
    refine r_X5_readStory_66 ?_
    simp only [mo_ty, mo_i, true_or, or_true, true_and]
    refine ⟨fun c => ?_, fun c => ?_⟩
    · replace H := H.1 c
      refine r_X5_readStory_91 ?_
      simp only [mo_ty, true_or, or_true, true_and]
      exact H
    · replace H := H.2 c
      obtain ⟨a924, H⟩ := H
      refine r_X5_readStory_71 ?_
      simp only [mo_ty, mo_f43, mo_i, mo_t4, mo_n4, mo_a4, am_up_ne (by decide : (4 : Nat) ≠ 9), true_or, or_true, true_and]
      refine ⟨a924, ⟨fun c => ?_, fun c => ?_⟩⟩
      · replace H := H.1 c
        refine r_X5_readStory_91 ?_
        simp only [mo_ty, true_or, or_true, true_and]
        exact H
      · replace H := H.2 c
        obtain ⟨a925, H⟩ := H
        refine r_X5_readStory_78 ?_
        simp only [mo_ty, mo_f43, mo_i, mo_t4, mo_n4, mo_a4, am_up_ne (by decide : (4 : Nat) ≠ 9), true_or, or_true, true_and]
        refine ⟨a925, ⟨fun c => ?_, fun c => ?_⟩⟩
        · replace H := H.1 c
          refine r_X5_readStory_91 ?_
          simp only [mo_ty, true_or, or_true, true_and]
          exact H
        · replace H := H.2 c
          refine r_X5_readStory_85 ?_
          simp only [mo_ty, mo_i, mo_si, true_or, or_true, true_and]
          refine ?_
          refine r_X5_readStory_89 ?_
          exact ⟨(by decide), H⟩
  · replace H := H.2 c
    refine r_X5_readStory_55 ?_
    exact ⟨(by decide), H⟩
theorem w_readStory_93 {d : Nat} {Q : am_K} {b : am_H} {r : Nat} {S : am_G} {V : Nat → Int → Int} {W : Nat → Int} {x1 : Int} (H : am_W m_X5_readStory (am_ev am_prog (d + 3)) Q 15 [some (.inr (.inl r)), some (.inl x1)] [] (mo b r (ms S) V W)) : am_W m_X5_readStory (am_ev am_prog (d + 3)) Q 93 [some (.inr (.inl r)), some (.inl x1)] [] (mo b r (ms S) V W) := by
  refine r_X5_readStory_93 ?_
  refine r_X5_readStory_140 ?_
  exact H
theorem w_readStory_133 {d : Nat} {Q : am_K} {b : am_H} {r : Nat} {S : am_G} {V : Nat → Int → Int} {W : Nat → Int} {x1 : Int} (H : am_W m_X5_readStory (am_ev am_prog (d + 3)) Q 15 [some (.inr (.inl r)), some (.inl x1)] [] (mo b r (ms S) V W)) : am_W m_X5_readStory (am_ev am_prog (d + 3)) Q 133 [some (.inr (.inl r)), some (.inl x1)] [] (mo b r (ms S) V W) := by
  refine r_X5_readStory_133 ?_
  refine r_X5_readStory_140 ?_
  exact H
theorem w_puts_0 {d : Nat} {Q : am_K} {b : am_H} {r : Nat} {S : am_G} {V : Nat → Int → Int} {W : Nat → Int} {x1 : Int} {x2 : Int} {x3 : Int} (H : ((0 ≤ x1 ∧ x1 < 2000000)) ∧ (((-2147483648 ≤ (64630 + 852 * x1) + 5 ∧ (64630 + 852 * x1) + 5 ≤ 2147483647) ∧ (0 ≤ x1 ∧ x1 < 300)) ∧ (((0 ≤ x1 ∧ x1 < 2000000)) ∧ (((-2147483648 ≤ (64630 + 852 * x1) + 6 ∧ (64630 + 852 * x1) + 6 ≤ 2147483647) ∧ (0 ≤ x1 ∧ x1 < 300)) ∧ (((0 ≤ x2 ∧ x2 < 3000000)) ∧ (((-2147483648 ≤ (130 + 645 * x2) + 45 ∧ (130 + 645 * x2) + 45 ≤ 2147483647) ∧ (-2147483648 ≤ ((130 + 645 * x2) + 45) + x3 ∧ ((130 + 645 * x2) + 45) + x3 ≤ 2147483647) ∧ (-2147483648 ≤ x1 + 1 ∧ x1 + 1 ≤ 2147483647) ∧ (0 ≤ x2 ∧ x2 < 100) ∧ (0 ≤ 45 + x3 ∧ 45 + x3 < 645)) ∧ (Q (.inl none) (mo b r (ms (u3 (u3 (u3 S 4 x1 5 x3) 4 x1 6 x2) 3 x2 (45 + x3) (x1 + 1))) V W)))))))) : am_W m_X5_puts (am_ev am_prog (d + 3)) Q 0 [some (.inr (.inl r)), some (.inl x1), some (.inl x2), some (.inl x3)] [] (mo b r (ms S) V W) := by
  refine r_X5_puts_0 ?_
  simp only [mo_ty, mo_f39, true_or, or_true, true_and]
  refine ?_
  obtain ⟨a926, H⟩ := H
  refine c_slug0 (by omega) (am_av ?_)
  obtain ⟨⟨a927, a928⟩, H⟩ := H
  refine r_X5_puts_4 ?_
  simp only [mo_t1, mo_n1, mo_s1, ms_w4 (k := (64630 + 852 * x1) + 5) (p := x1) (i := 5) (by omega) (by omega) (by omega), true_or, or_true, true_and]
  refine ⟨a927, (by omega), ?_⟩
  refine r_X5_puts_8 ?_
  simp only [mo_ty, mo_f39, true_or, or_true, true_and]
  refine ?_
  obtain ⟨a929, H⟩ := H
  refine c_slug0 (by omega) (am_av ?_)
  obtain ⟨⟨a930, a931⟩, H⟩ := H
  refine r_X5_puts_12 ?_
  simp only [mo_t1, mo_n1, mo_s1, ms_w4 (k := (64630 + 852 * x1) + 6) (p := x1) (i := 6) (by omega) (by omega) (by omega), true_or, or_true, true_and]
  refine ⟨a930, (by omega), ?_⟩
  refine r_X5_puts_16 ?_
  simp only [mo_ty, mo_f39, true_or, or_true, true_and]
  refine ?_
  obtain ⟨a932, H⟩ := H
  refine c_part0 (by omega) (am_av ?_)
  obtain ⟨⟨a933, a934, a935, a936, a937⟩, H⟩ := H
  refine r_X5_puts_20 ?_
  simp only [mo_t1, mo_n1, mo_s1, ms_w3 (k := ((130 + 645 * x2) + 45) + x3) (p := x2) (i := 45 + x3) (by omega) (by omega) (by omega), true_or, or_true, true_and]
  refine ⟨a933, a934, a935, (by omega), ?_⟩
  refine r_X5_puts_28 ?_
  exact H
theorem w_reach_0 {d : Nat} {Q : am_K} {b : am_H} {r : Nat} {S : am_G} {V : Nat → Int → Int} {W : Nat → Int} {x1 : Int} {o2 : Option am_V} {o3 : Option am_V} {o4 : Option am_V} {o5 : Option am_V} (H : ((0 ≤ x1 ∧ x1 < 3000000)) ∧ (((-2147483648 ≤ (130 + 645 * x1) + 1 ∧ (130 + 645 * x1) + 1 ≤ 2147483647) ∧ (0 ≤ x1 ∧ x1 < 100)) ∧ (am_W m_X5_reach (am_ev am_prog (d + 3)) Q 10 [some (.inr (.inl r)), some (.inl x1), some (.inl (S 3 x1 1)), some (.inl 1), o4, o5] [] (mo b r (ms S) V W)))) : am_W m_X5_reach (am_ev am_prog (d + 3)) Q 0 [some (.inr (.inl r)), some (.inl x1), o2, o3, o4, o5] [] (mo b r (ms S) V W) := by
  refine r_X5_reach_0 ?_
  simp only [mo_ty, mo_f39, true_or, or_true, true_and]
  refine ?_
  obtain ⟨a938, H⟩ := H
  refine c_part0 (by omega) (am_av ?_)
  obtain ⟨⟨a939, a940⟩, H⟩ := H
  refine r_X5_reach_4 ?_
  simp only [mo_t1, mo_n1, mo_a1, ms_r3 (k := (130 + 645 * x1) + 1) (p := x1) (i := 1) (by omega) (by omega) (by omega), true_or, or_true, true_and]
  refine ⟨a939, (by omega), ?_⟩
  exact H
theorem w_reach_10 {d : Nat} {Q : am_K} {b : am_H} {r : Nat} {S : am_G} {V : Nat → Int → Int} {W : Nat → Int} {x1 : Int} {x2 : Int} {x3 : Int} {o4 : Option am_V} {o5 : Option am_V} (H : (41 ≤ x3 → am_W m_X5_reach (am_ev am_prog (d + 3)) Q 29 [some (.inr (.inl r)), some (.inl x1), some (.inl x2), some (.inl 0), some (.inl 0), o5] [] (mo b r (ms S) (am_up V 19 (am_uz (V 19) 0 1)) W)) ∧ (x3 < 41 → ((0 ≤ x3 ∧ x3 < 41)) ∧ (((-2147483648 ≤ x3 + 1 ∧ x3 + 1 ≤ 2147483647)) ∧ (am_W m_X5_reach (am_ev am_prog (d + 3)) Q 10 [some (.inr (.inl r)), some (.inl x1), some (.inl x2), some (.inl (x3 + 1)), o4, o5] [] (mo b r (ms S) (am_up V 19 (am_uz (V 19) x3 0)) W))))) : am_W m_X5_reach (am_ev am_prog (d + 3)) Q 10 [some (.inr (.inl r)), some (.inl x1), some (.inl x2), some (.inl x3), o4, o5] [] (mo b r (ms S) V W) := by
  refine r_X5_reach_10 ?_
  refine ⟨fun c => ?_, fun c => ?_⟩
  · replace H := H.1 c
    refine r_X5_reach_20 ?_
    simp only [mo_ty, mo_f75, mo_t19, mo_n19, mo_s19, am_nz1, true_or, or_true, true_and]
    refine ⟨(by decide), ?_⟩
    refine r_X5_reach_25 ?_
    exact H
  · replace H := H.2 c
    obtain ⟨a941, H⟩ := H
    refine r_X5_reach_13 ?_
    simp only [mo_ty, mo_f75, mo_t19, mo_n19, mo_s19, am_nz0, true_or, or_true, true_and]
    refine ⟨a941, ?_⟩
    obtain ⟨a942, H⟩ := H
    refine r_X5_reach_18 ?_
    refine ⟨a942, ?_⟩
    exact H
theorem w_reach_29 {d : Nat} {Q : am_K} {b : am_H} {r : Nat} {S : am_G} {V : Nat → Int → Int} {W : Nat → Int} {x1 : Int} {x2 : Int} {x3 : Int} {x4 : Int} {o5 : Option am_V} (H : (x2 ≤ x4 → Q (.inl (some (.inl x3))) (mo b r (ms S) V W)) ∧ (x4 < x2 → ((-2147483648 ≤ x4 + 1 ∧ x4 + 1 ≤ 2147483647)) ∧ (am_W m_X5_reach (am_ev am_prog (d + 3)) Q 36 [some (.inr (.inl r)), some (.inl x1), some (.inl x2), some (.inl x3), some (.inl x4), some (.inl (x4 + 1))] [] (mo b r (ms S) V W)))) : am_W m_X5_reach (am_ev am_prog (d + 3)) Q 29 [some (.inr (.inl r)), some (.inl x1), some (.inl x2), some (.inl x3), some (.inl x4), o5] [] (mo b r (ms S) V W) := by
  refine r_X5_reach_29 ?_
  refine ⟨fun c => ?_, fun c => ?_⟩
  · replace H := H.1 c
    refine r_X5_reach_79 ?_
    exact H
  · replace H := H.2 c
    obtain ⟨a943, H⟩ := H
    refine r_X5_reach_32 ?_
    refine ⟨a943, ?_⟩
    exact H
theorem w_reach_36 {d : Nat} {Q : am_K} {b : am_H} {r : Nat} {S : am_G} {V : Nat → Int → Int} {W : Nat → Int} {x1 : Int} {x2 : Int} {x3 : Int} {x4 : Int} {x5 : Int} (H : (x2 < x5 → ((-2147483648 ≤ x4 + 1 ∧ x4 + 1 ≤ 2147483647) ∧ (0 ≤ x4 + 1 ∧ x4 + 1 < 41)) ∧ (((V 19 (x4 + 1) : Int) = 0 → ((-2147483648 ≤ x4 + 1 ∧ x4 + 1 ≤ 2147483647)) ∧ (am_W m_X5_reach (am_ev am_prog (d + 3)) Q 29 [some (.inr (.inl r)), some (.inl x1), some (.inl x2), some (.inl x3), some (.inl (x4 + 1)), some (.inl x5)] [] (mo b r (ms S) V W))) ∧ ((V 19 (x4 + 1) : Int) ≠ 0 → ((-2147483648 ≤ x4 + 1 ∧ x4 + 1 ≤ 2147483647)) ∧ (((-2147483648 ≤ x4 + 1 ∧ x4 + 1 ≤ 2147483647)) ∧ (am_W m_X5_reach (am_ev am_prog (d + 3)) Q 29 [some (.inr (.inl r)), some (.inl x1), some (.inl x2), some (.inl (x4 + 1)), some (.inl (x4 + 1)), some (.inl x5)] [] (mo b r (ms S) V W)))))) ∧ (x5 ≤ x2 → ((0 ≤ x4 ∧ x4 < 41)) ∧ (((V 19 x4 : Int) = 0 → ((-2147483648 ≤ x4 + 1 ∧ x4 + 1 ≤ 2147483647) ∧ (0 ≤ x4 + 1 ∧ x4 + 1 < 41)) ∧ (((V 19 (x4 + 1) : Int) = 0 → ((-2147483648 ≤ x4 + 1 ∧ x4 + 1 ≤ 2147483647)) ∧ (am_W m_X5_reach (am_ev am_prog (d + 3)) Q 29 [some (.inr (.inl r)), some (.inl x1), some (.inl x2), some (.inl x3), some (.inl (x4 + 1)), some (.inl x5)] [] (mo b r (ms S) V W))) ∧ ((V 19 (x4 + 1) : Int) ≠ 0 → ((-2147483648 ≤ x4 + 1 ∧ x4 + 1 ≤ 2147483647)) ∧ (((-2147483648 ≤ x4 + 1 ∧ x4 + 1 ≤ 2147483647)) ∧ (am_W m_X5_reach (am_ev am_prog (d + 3)) Q 29 [some (.inr (.inl r)), some (.inl x1), some (.inl x2), some (.inl (x4 + 1)), some (.inl (x4 + 1)), some (.inl x5)] [] (mo b r (ms S) V W)))))) ∧ ((V 19 x4 : Int) ≠ 0 → ((0 ≤ x5 ∧ x5 < 41)) ∧ (((V 19 x5 : Int) ≠ 0 → ((0 ≤ x5 ∧ x5 < 41)) ∧ (((-2147483648 ≤ x5 + 1 ∧ x5 + 1 ≤ 2147483647)) ∧ (am_W m_X5_reach (am_ev am_prog (d + 3)) Q 36 [some (.inr (.inl r)), some (.inl x1), some (.inl x2), some (.inl x3), some (.inl x4), some (.inl (x5 + 1))] [] (mo b r (ms S) (am_up V 19 (am_uz (V 19) x5 1)) W)))) ∧ ((V 19 x5 : Int) = 0 → ((-2147483648 ≤ x5 - 1 ∧ x5 - 1 ≤ 2147483647)) ∧ (am_ev am_prog (d + 3) 180 [.inr (.inl r), .inl x1, .inl x4, .inl (x5 - 1)] (mo b r (ms S) V W) (am_aft (am_hand m_X5_reach Q (am_W m_X5_reach (am_ev am_prog (d + 3)) Q) 58) (am_W m_X5_reach (am_ev am_prog (d + 3)) Q) 58 [some (.inr (.inl r)), some (.inl x1), some (.inl x2), some (.inl x3), some (.inl x4), some (.inl x5)] [.inl x5, .inr (.inl (r + 19))])))))))) : am_W m_X5_reach (am_ev am_prog (d + 3)) Q 36 [some (.inr (.inl r)), some (.inl x1), some (.inl x2), some (.inl x3), some (.inl x4), some (.inl x5)] [] (mo b r (ms S) V W) := by
  refine r_X5_reach_36 ?_
  refine ⟨fun c => ?_, fun c => ?_⟩
  · replace H := H.1 c
    obtain ⟨⟨a944, a945⟩, H⟩ := H
    refine r_X5_reach_66 ?_
    simp only [mo_ty, mo_f75, mo_t19, mo_n19, mo_a19, true_or, or_true, true_and]
    refine ⟨a944, a945, ⟨fun c => ?_, fun c => ?_⟩⟩
    · replace H := H.1 c
      obtain ⟨a946, H⟩ := H
      refine r_X5_reach_77 ?_
      refine ⟨a946, ?_⟩
      exact H
    · replace H := H.2 c
      obtain ⟨a947, H⟩ := H
      refine r_X5_reach_73 ?_
      refine ⟨a947, ?_⟩
      obtain ⟨a948, H⟩ := H
      refine r_X5_reach_77 ?_
      refine ⟨a948, ?_⟩
      exact H
  · replace H := H.2 c
    obtain ⟨a949, H⟩ := H
    refine r_X5_reach_39 ?_
    simp only [mo_ty, mo_f75, mo_t19, mo_n19, mo_a19, true_or, or_true, true_and]
    refine ⟨a949, ⟨fun c => ?_, fun c => ?_⟩⟩
    · replace H := H.1 c
      obtain ⟨⟨a950, a951⟩, H⟩ := H
      refine r_X5_reach_66 ?_
      simp only [mo_ty, mo_f75, mo_t19, mo_n19, mo_a19, true_or, or_true, true_and]
      refine ⟨a950, a951, ⟨fun c => ?_, fun c => ?_⟩⟩
      · replace H := H.1 c
        obtain ⟨a952, H⟩ := H
        refine r_X5_reach_77 ?_
        refine ⟨a952, ?_⟩
        exact H
      · replace H := H.2 c
        obtain ⟨a953, H⟩ := H
        refine r_X5_reach_73 ?_
        refine ⟨a953, ?_⟩
        obtain ⟨a954, H⟩ := H
        refine r_X5_reach_77 ?_
        refine ⟨a954, ?_⟩
        exact H
    · replace H := H.2 c
      obtain ⟨a955, H⟩ := H
      refine r_X5_reach_44 ?_
      simp only [mo_ty, mo_f75, mo_t19, mo_n19, mo_a19, true_or, or_true, true_and]
      refine ⟨a955, ⟨fun c => ?_, fun c => ?_⟩⟩
      · replace H := H.1 c
        refine r_X5_reach_60 ?_
        obtain ⟨a956, H⟩ := H
        refine r_X5_reach_63 ?_
        simp only [mo_t19, mo_n19, mo_s19, am_nz1, true_or, or_true, true_and]
        refine ⟨a956, ?_⟩
        obtain ⟨a957, H⟩ := H
        refine r_X5_reach_64 ?_
        refine ⟨a957, ?_⟩
        exact H
      · replace H := H.2 c
        obtain ⟨a958, H⟩ := H
        refine r_X5_reach_52 ?_
        simp only [mo_ty, true_or, or_true, true_and]
        exact ⟨a958, H⟩
theorem w_reach_59 {d : Nat} {Q : am_K} {b : am_H} {r : Nat} {S : am_G} {V : Nat → Int → Int} {W : Nat → Int} {x1 : Int} {x2 : Int} {x3 : Int} {x4 : Int} {x5 : Int} {y2 : Int} {y1 : Int} (H : ((0 ≤ y1 ∧ y1 < 41)) ∧ (((-2147483648 ≤ x5 + 1 ∧ x5 + 1 ≤ 2147483647)) ∧ (am_W m_X5_reach (am_ev am_prog (d + 3)) Q 36 [some (.inr (.inl r)), some (.inl x1), some (.inl x2), some (.inl x3), some (.inl x4), some (.inl (x5 + 1))] [] (mo b r (ms S) (am_up V 19 (am_uz (V 19) y1 (am_b ((y2 : Int) ≠ 0)))) W)))) : am_W m_X5_reach (am_ev am_prog (d + 3)) Q 59 [some (.inr (.inl r)), some (.inl x1), some (.inl x2), some (.inl x3), some (.inl x4), some (.inl x5)] [.inl y2, .inl y1, .inr (.inl (r + 19))] (mo b r (ms S) V W) := by
  have J : ∀ y : Int, y = am_b ((y2 : Int) ≠ 0) → am_W m_X5_reach (am_ev am_prog (d + 3)) Q 63 [some (.inr (.inl r)), some (.inl x1), some (.inl x2), some (.inl x3), some (.inl x4), some (.inl x5)] [.inl y, .inl y1, .inr (.inl (r + 19))] (mo b r (ms S) V W) := by
    intro y hy
    subst hy
    obtain ⟨a959, H⟩ := H
    refine r_X5_reach_63 ?_
    simp only [mo_t19, mo_n19, mo_s19, am_nzb, true_or, or_true, true_and]
    refine ⟨a959, ?_⟩
    obtain ⟨a960, H⟩ := H
    refine r_X5_reach_64 ?_
    refine ⟨a960, ?_⟩
    exact H
  refine r_X5_reach_59 ?_
  refine ⟨fun c => ?_, fun c => ?_⟩
  · exact r_X5_reach_62 (J _ (am_bf (by omega)).symm)
  · exact r_X5_reach_60 (J _ (am_bt c).symm)
theorem w_noPlace_0 {d : Nat} {Q : am_K} {b : am_H} {r : Nat} {S : am_G} {V : Nat → Int → Int} {W : Nat → Int} {x1 : Int} {x2 : Int} {o3 : Option am_V} (H : ((0 ≤ x1 ∧ x1 < 3000000)) ∧ (((-2147483648 ≤ (130 + 645 * x1) + 3 ∧ (130 + 645 * x1) + 3 ≤ 2147483647) ∧ (0 ≤ x1 ∧ x1 < 100)) ∧ (((S 3 x1 3 : Int) ≠ 0 → ((-2147483648 ≤ (130 + 645 * x1) + 4 ∧ (130 + 645 * x1) + 4 ≤ 2147483647) ∧ (0 ≤ x1 ∧ x1 < 100) ∧ (-2147483648 ≤ (S 3 x1 4) - 1 ∧ (S 3 x1 4) - 1 ≤ 2147483647)) ∧ (Q (.inl (some (.inl (am_b (¬ (0 ≤ x2 ∧ x2 ≤ (S 3 x1 4) - 1)))))) (mo b r (ms S) V W))) ∧ ((S 3 x1 3 : Int) = 0 → Q (.inl (some (.inl 2))) (mo b r (ms S) V W))))) : am_W m_X5_noPlace (am_ev am_prog (d + 3)) Q 0 [some (.inr (.inl r)), some (.inl x1), some (.inl x2), o3] [] (mo b r (ms S) V W) := by
  refine r_X5_noPlace_0 ?_
  refine ?_
  obtain ⟨a961, H⟩ := H
  refine c_part0 (by omega) (am_av ?_)
  obtain ⟨⟨a962, a963⟩, H⟩ := H
  refine r_X5_noPlace_2 ?_
  simp only [mo_ty, mo_f39, mo_t1, mo_n1, mo_a1, ms_r3 (k := (130 + 645 * x1) + 3) (p := x1) (i := 3) (by omega) (by omega) (by omega), true_or, or_true, true_and]
  refine ⟨a962, (by omega), ⟨fun c => ?_, fun c => ?_⟩⟩
  · replace H := H.1 c
    obtain ⟨⟨a964, a965, a966⟩, H⟩ := H
    refine r_X5_noPlace_12 ?_
    simp only [mo_ty, mo_f39, mo_t1, mo_n1, mo_a1, ms_r3 (k := (130 + 645 * x1) + 4) (p := x1) (i := 4) (by omega) (by omega) (by omega), true_or, or_true, true_and]
    refine ⟨a964, (by omega), a966, ?_⟩
    refine c_isIn (am_av ?_)
    have J : ∀ y : Int, y = am_b (¬ (0 ≤ x2 ∧ x2 ≤ (S 3 x1 4) - 1)) → am_W m_X5_noPlace (am_ev am_prog (d + 3)) Q 27 [some (.inr (.inl r)), some (.inl x1), some (.inl x2), some (.inl (130 + 645 * x1))] [.inl y] (mo b r (ms S) V W) := by
      intro y hy
      subst hy
      refine r_X5_noPlace_27 ?_
      exact H
    refine r_X5_noPlace_23 ?_
    refine ⟨fun c => ?_, fun c => ?_⟩
    · replace c := am_b1 c
      exact r_X5_noPlace_26 (J _ (am_bf (by omega)).symm)
    · replace c := am_b0 c
      exact r_X5_noPlace_24 (J _ (am_bt c).symm)
  · replace H := H.2 c
    refine r_X5_noPlace_10 ?_
    refine r_X5_noPlace_27 ?_
    exact H
theorem w_queues_0 {d : Nat} {Q : am_K} {b : am_H} {r : Nat} {S : am_G} {V : Nat → Int → Int} {W : Nat → Int} {x1 : Int} {x2 : Int} {x3 : Int} {x4 : Int} {x5 : Int} {x6 : Int} {o7 : Option am_V} {o8 : Option am_V} (H : ((0 ≤ x1 ∧ x1 < 2000000)) ∧ (((-2147483648 ≤ (320230 + 183 * x1) + 33 ∧ (320230 + 183 * x1) + 33 ≤ 2147483647) ∧ (-2147483648 ≤ (320230 + 183 * x1) + 29 ∧ (320230 + 183 * x1) + 29 ≤ 2147483647) ∧ (0 ≤ x1 ∧ x1 < 4) ∧ (-2147483648 ≤ 5 * (S 5 x1 29) ∧ 5 * (S 5 x1 29) ≤ 2147483647) ∧ (-2147483648 ≤ ((320230 + 183 * x1) + 33) + (5 * (S 5 x1 29)) ∧ ((320230 + 183 * x1) + 33) + (5 * (S 5 x1 29)) ≤ 2147483647) ∧ (0 ≤ 33 + 5 * (S 5 x1 29) ∧ 33 + 5 * (S 5 x1 29) < 183)) ∧ (((-2147483648 ≤ (((320230 + 183 * x1) + 33) + (5 * (S 5 x1 29))) + 1 ∧ (((320230 + 183 * x1) + 33) + (5 * (S 5 x1 29))) + 1 ≤ 2147483647) ∧ (0 ≤ x1 ∧ x1 < 4) ∧ (0 ≤ 34 + 5 * (S 5 x1 29) ∧ 34 + 5 * (S 5 x1 29) < 183)) ∧ (((-2147483648 ≤ (((320230 + 183 * x1) + 33) + (5 * (S 5 x1 29))) + 2 ∧ (((320230 + 183 * x1) + 33) + (5 * (S 5 x1 29))) + 2 ≤ 2147483647) ∧ (0 ≤ x1 ∧ x1 < 4) ∧ (0 ≤ 35 + 5 * (S 5 x1 29) ∧ 35 + 5 * (S 5 x1 29) < 183)) ∧ (((-2147483648 ≤ (((320230 + 183 * x1) + 33) + (5 * (S 5 x1 29))) + 3 ∧ (((320230 + 183 * x1) + 33) + (5 * (S 5 x1 29))) + 3 ≤ 2147483647) ∧ (0 ≤ x1 ∧ x1 < 4) ∧ (0 ≤ 36 + 5 * (S 5 x1 29) ∧ 36 + 5 * (S 5 x1 29) < 183)) ∧ (((-2147483648 ≤ (((320230 + 183 * x1) + 33) + (5 * (S 5 x1 29))) + 4 ∧ (((320230 + 183 * x1) + 33) + (5 * (S 5 x1 29))) + 4 ≤ 2147483647) ∧ (0 ≤ x1 ∧ x1 < 4) ∧ (0 ≤ 37 + 5 * (S 5 x1 29) ∧ 37 + 5 * (S 5 x1 29) < 183)) ∧ (((-2147483648 ≤ (320230 + 183 * x1) + 29 ∧ (320230 + 183 * x1) + 29 ≤ 2147483647) ∧ (0 ≤ x1 ∧ x1 < 4) ∧ (-2147483648 ≤ ((u3 (u3 (u3 (u3 (u3 S 5 x1 (33 + 5 * (S 5 x1 29)) x2) 5 x1 (34 + 5 * (S 5 x1 29)) x3) 5 x1 (35 + 5 * (S 5 x1 29)) x4) 5 x1 (36 + 5 * (S 5 x1 29)) x5) 5 x1 (37 + 5 * (S 5 x1 29)) x6) 5 x1 29) + 1 ∧ ((u3 (u3 (u3 (u3 (u3 S 5 x1 (33 + 5 * (S 5 x1 29)) x2) 5 x1 (34 + 5 * (S 5 x1 29)) x3) 5 x1 (35 + 5 * (S 5 x1 29)) x4) 5 x1 (36 + 5 * (S 5 x1 29)) x5) 5 x1 (37 + 5 * (S 5 x1 29)) x6) 5 x1 29) + 1 ≤ 2147483647)) ∧ (((-2147483648 ≤ (320230 + 183 * x1) + 29 ∧ (320230 + 183 * x1) + 29 ≤ 2147483647) ∧ (0 ≤ x1 ∧ x1 < 4)) ∧ (Q (.inl (some (.inl (((u3 (u3 (u3 (u3 (u3 S 5 x1 (33 + 5 * (S 5 x1 29)) x2) 5 x1 (34 + 5 * (S 5 x1 29)) x3) 5 x1 (35 + 5 * (S 5 x1 29)) x4) 5 x1 (36 + 5 * (S 5 x1 29)) x5) 5 x1 (37 + 5 * (S 5 x1 29)) x6) 5 x1 29) + 1)))) (mo b r (ms (u3 (u3 (u3 (u3 (u3 (u3 S 5 x1 (33 + 5 * (S 5 x1 29)) x2) 5 x1 (34 + 5 * (S 5 x1 29)) x3) 5 x1 (35 + 5 * (S 5 x1 29)) x4) 5 x1 (36 + 5 * (S 5 x1 29)) x5) 5 x1 (37 + 5 * (S 5 x1 29)) x6) 5 x1 29 (((u3 (u3 (u3 (u3 (u3 S 5 x1 (33 + 5 * (S 5 x1 29)) x2) 5 x1 (34 + 5 * (S 5 x1 29)) x3) 5 x1 (35 + 5 * (S 5 x1 29)) x4) 5 x1 (36 + 5 * (S 5 x1 29)) x5) 5 x1 (37 + 5 * (S 5 x1 29)) x6) 5 x1 29) + 1))) V W)))))))))) : am_W m_X5_queues (am_ev am_prog (d + 3)) Q 0 [some (.inr (.inl r)), some (.inl x1), some (.inl x2), some (.inl x3), some (.inl x4), some (.inl x5), some (.inl x6), o7, o8] [] (mo b r (ms S) V W) := by
  refine r_X5_queues_0 ?_
  refine ?_
  obtain ⟨a967, H⟩ := H
  refine c_machine0 (by omega) (am_av ?_)
  obtain ⟨⟨a968, a969, a970, a971, a972, a973⟩, H⟩ := H
  refine r_X5_queues_2 ?_
  simp only [mo_ty, mo_f39, mo_t1, mo_n1, mo_a1, ms_r5 (k := (320230 + 183 * x1) + 29) (p := x1) (i := 29) (by omega) (by omega) (by omega), mo_s1, ms_w5 (k := ((320230 + 183 * x1) + 33) + (5 * (S 5 x1 29))) (p := x1) (i := 33 + 5 * (S 5 x1 29)) (by omega) (by omega) (by omega), true_or, or_true, true_and]
  refine ⟨a968, a969, (by omega), a971, a972, (by omega), ?_⟩
  obtain ⟨⟨a974, a975, a976⟩, H⟩ := H
  refine r_X5_queues_21 ?_
  simp only [mo_ty, mo_f39, mo_t1, mo_n1, mo_s1, ms_w5 (k := (((320230 + 183 * x1) + 33) + (5 * (S 5 x1 29))) + 1) (p := x1) (i := 34 + 5 * (S 5 x1 29)) (by omega) (by omega) (by omega), true_or, or_true, true_and]
  refine ⟨a974, (by omega), ?_⟩
  obtain ⟨⟨a977, a978, a979⟩, H⟩ := H
  refine r_X5_queues_28 ?_
  simp only [mo_ty, mo_f39, mo_t1, mo_n1, mo_s1, ms_w5 (k := (((320230 + 183 * x1) + 33) + (5 * (S 5 x1 29))) + 2) (p := x1) (i := 35 + 5 * (S 5 x1 29)) (by omega) (by omega) (by omega), true_or, or_true, true_and]
  refine ⟨a977, (by omega), ?_⟩
  obtain ⟨⟨a980, a981, a982⟩, H⟩ := H
  refine r_X5_queues_35 ?_
  simp only [mo_ty, mo_f39, mo_t1, mo_n1, mo_s1, ms_w5 (k := (((320230 + 183 * x1) + 33) + (5 * (S 5 x1 29))) + 3) (p := x1) (i := 36 + 5 * (S 5 x1 29)) (by omega) (by omega) (by omega), true_or, or_true, true_and]
  refine ⟨a980, (by omega), ?_⟩
  obtain ⟨⟨a983, a984, a985⟩, H⟩ := H
  refine r_X5_queues_42 ?_
  simp only [mo_ty, mo_f39, mo_t1, mo_n1, mo_s1, ms_w5 (k := (((320230 + 183 * x1) + 33) + (5 * (S 5 x1 29))) + 4) (p := x1) (i := 37 + 5 * (S 5 x1 29)) (by omega) (by omega) (by omega), true_or, or_true, true_and]
  refine ⟨a983, (by omega), ?_⟩
  obtain ⟨⟨a986, a987, a988⟩, H⟩ := H
  refine r_X5_queues_49 ?_
  simp only [mo_ty, mo_f39, mo_t1, mo_n1, mo_a1, ms_r5 (k := (320230 + 183 * x1) + 29) (p := x1) (i := 29) (by omega) (by omega) (by omega), mo_s1, ms_w5 (k := (320230 + 183 * x1) + 29) (p := x1) (i := 29) (by omega) (by omega) (by omega), true_or, or_true, true_and]
  refine ⟨a986, (by omega), a988, (by omega), ?_⟩
  obtain ⟨⟨a989, a990⟩, H⟩ := H
  refine r_X5_queues_59 ?_
  simp only [mo_ty, mo_f39, mo_t1, mo_n1, mo_a1, ms_r5 (k := (320230 + 183 * x1) + 29) (p := x1) (i := 29) (by omega) (by omega) (by omega), u3_eq, true_or, or_true, true_and]
  exact ⟨a989, (by omega), H⟩
theorem w_tells_0 {d : Nat} {Q : am_K} {b : am_H} {r : Nat} {S : am_G} {V : Nat → Int → Int} {W : Nat → Int} {x1 : Int} {x2 : Int} {o3 : Option am_V} {o4 : Option am_V} (H : am_ev am_prog (d + 3) 182 [.inr (.inl r), .inl x1, .inl x2] (mo b r (ms S) V W) (am_aft (am_hand m_X5_tells Q (am_W m_X5_tells (am_ev am_prog (d + 3)) Q) 3) (am_W m_X5_tells (am_ev am_prog (d + 3)) Q) 3 [some (.inr (.inl r)), some (.inl x1), some (.inl x2), o3, o4] [])) : am_W m_X5_tells (am_ev am_prog (d + 3)) Q 0 [some (.inr (.inl r)), some (.inl x1), some (.inl x2), o3, o4] [] (mo b r (ms S) V W) := by
  refine r_X5_tells_0 ?_
  simp only [mo_ty, true_or, or_true, true_and]
  exact H
theorem w_tells_4 {d : Nat} {Q : am_K} {b : am_H} {r : Nat} {S : am_G} {V : Nat → Int → Int} {W : Nat → Int} {x1 : Int} {x2 : Int} {o3 : Option am_V} {o4 : Option am_V} (H : am_ev am_prog (d + 3) 141 [.inr (.inl r), .inl x2] (mo b r (ms S) V W) (am_aft (am_hand m_X5_tells Q (am_W m_X5_tells (am_ev am_prog (d + 3)) Q) 6) (am_W m_X5_tells (am_ev am_prog (d + 3)) Q) 6 [some (.inr (.inl r)), some (.inl x1), some (.inl x2), o3, o4] [])) : am_W m_X5_tells (am_ev am_prog (d + 3)) Q 4 [some (.inr (.inl r)), some (.inl x1), some (.inl x2), o3, o4] [] (mo b r (ms S) V W) := by
  refine r_X5_tells_4 ?_
  simp only [mo_ty, true_or, or_true, true_and]
  exact H
theorem w_tells_7 {d : Nat} {Q : am_K} {b : am_H} {r : Nat} {S : am_G} {V : Nat → Int → Int} {W : Nat → Int} {x1 : Int} {x2 : Int} {o3 : Option am_V} {o4 : Option am_V} {y0 : Int} (H : am_ev am_prog (d + 3) 183 [.inr (.inl r), .inl y0, .inl 0] (mo b r (ms S) V W) (am_aft (am_hand m_X5_tells Q (am_W m_X5_tells (am_ev am_prog (d + 3)) Q) 12) (am_W m_X5_tells (am_ev am_prog (d + 3)) Q) 12 [some (.inr (.inl r)), some (.inl x1), some (.inl x2), some (.inl y0), o4] [.inr (.inl r)])) : am_W m_X5_tells (am_ev am_prog (d + 3)) Q 7 [some (.inr (.inl r)), some (.inl x1), some (.inl x2), o3, o4] [.inl y0] (mo b r (ms S) V W) := by
  refine r_X5_tells_7 ?_
  simp only [mo_ty, true_or, or_true, true_and]
  exact H
theorem w_tells_13 {d : Nat} {Q : am_K} {b : am_H} {r : Nat} {S : am_G} {V : Nat → Int → Int} {W : Nat → Int} {x1 : Int} {x2 : Int} {x3 : Int} {o4 : Option am_V} {y1 : Int} (H : am_ev am_prog (d + 3) 184 [.inr (.inl r), .inl x3, .inl y1, .inl 1, .inl 60] (mo b r (ms S) V (am_up W 64 y1)) (am_aft (am_hand m_X5_tells Q (am_W m_X5_tells (am_ev am_prog (d + 3)) Q) 21) (am_W m_X5_tells (am_ev am_prog (d + 3)) Q) 21 [some (.inr (.inl r)), some (.inl x1), some (.inl x2), some (.inl x3), o4] [.inr (.inl r)])) : am_W m_X5_tells (am_ev am_prog (d + 3)) Q 13 [some (.inr (.inl r)), some (.inl x1), some (.inl x2), some (.inl x3), o4] [.inl y1, .inr (.inl r)] (mo b r (ms S) V W) := by
  refine r_X5_tells_13 ?_
  simp only [mo_ty, mo_si, true_or, or_true, true_and]
  refine ?_
  refine r_X5_tells_14 ?_
  simp only [mo_ty, mo_i, am_up_eq, true_or, or_true, true_and]
  exact H
theorem w_tells_22 {d : Nat} {Q : am_K} {b : am_H} {r : Nat} {S : am_G} {V : Nat → Int → Int} {W : Nat → Int} {x1 : Int} {x2 : Int} {x3 : Int} {o4 : Option am_V} {y1 : Int} (H : am_ev am_prog (d + 3) 183 [.inr (.inl r), .inl x3, .inl 1] (mo b r (ms S) V (am_up W 63 y1)) (am_aft (am_hand m_X5_tells Q (am_W m_X5_tells (am_ev am_prog (d + 3)) Q) 26) (am_W m_X5_tells (am_ev am_prog (d + 3)) Q) 26 [some (.inr (.inl r)), some (.inl x1), some (.inl x2), some (.inl x3), o4] [])) : am_W m_X5_tells (am_ev am_prog (d + 3)) Q 22 [some (.inr (.inl r)), some (.inl x1), some (.inl x2), some (.inl x3), o4] [.inl y1, .inr (.inl r)] (mo b r (ms S) V W) := by
  refine r_X5_tells_22 ?_
  simp only [mo_ty, mo_si, true_or, or_true, true_and]
  refine ?_
  refine r_X5_tells_23 ?_
  simp only [mo_ty, true_or, or_true, true_and]
  exact H
theorem w_tells_27 {d : Nat} {Q : am_K} {b : am_H} {r : Nat} {S : am_G} {V : Nat → Int → Int} {W : Nat → Int} {x1 : Int} {x2 : Int} {x3 : Int} {o4 : Option am_V} {y0 : Int} (H : am_ev am_prog (d + 3) 184 [.inr (.inl r), .inl x3, .inl y0, .inl 1, .inl 2] (mo b r (ms S) V W) (am_aft (am_hand m_X5_tells Q (am_W m_X5_tells (am_ev am_prog (d + 3)) Q) 34) (am_W m_X5_tells (am_ev am_prog (d + 3)) Q) 34 [some (.inr (.inl r)), some (.inl x1), some (.inl x2), some (.inl x3), some (.inl y0)] [.inr (.inl r)])) : am_W m_X5_tells (am_ev am_prog (d + 3)) Q 27 [some (.inr (.inl r)), some (.inl x1), some (.inl x2), some (.inl x3), o4] [.inl y0] (mo b r (ms S) V W) := by
  refine r_X5_tells_27 ?_
  simp only [mo_ty, true_or, or_true, true_and]
  exact H
theorem w_tells_35 {d : Nat} {Q : am_K} {b : am_H} {r : Nat} {S : am_G} {V : Nat → Int → Int} {W : Nat → Int} {x1 : Int} {x2 : Int} {x3 : Int} {x4 : Int} {y1 : Int} (H : am_ev am_prog (d + 3) 184 [.inr (.inl r), .inl x3, .inl x4, .inl 2, .inl 6] (mo b r (ms S) V (am_up W 65 y1)) (am_aft (am_hand m_X5_tells Q (am_W m_X5_tells (am_ev am_prog (d + 3)) Q) 42) (am_W m_X5_tells (am_ev am_prog (d + 3)) Q) 42 [some (.inr (.inl r)), some (.inl x1), some (.inl x2), some (.inl x3), some (.inl x4)] [.inr (.inl r)])) : am_W m_X5_tells (am_ev am_prog (d + 3)) Q 35 [some (.inr (.inl r)), some (.inl x1), some (.inl x2), some (.inl x3), some (.inl x4)] [.inl y1, .inr (.inl r)] (mo b r (ms S) V W) := by
  refine r_X5_tells_35 ?_
  simp only [mo_ty, mo_si, true_or, or_true, true_and]
  refine ?_
  refine r_X5_tells_36 ?_
  simp only [mo_ty, true_or, or_true, true_and]
  exact H
theorem w_tells_43 {d : Nat} {Q : am_K} {b : am_H} {r : Nat} {S : am_G} {V : Nat → Int → Int} {W : Nat → Int} {x1 : Int} {x2 : Int} {x3 : Int} {x4 : Int} {y1 : Int} (H : am_ev am_prog (d + 3) 183 [.inr (.inl r), .inl x3, .inl 2] (mo b r (ms S) V (am_up W 66 y1)) (am_aft (am_hand m_X5_tells Q (am_W m_X5_tells (am_ev am_prog (d + 3)) Q) 50) (am_W m_X5_tells (am_ev am_prog (d + 3)) Q) 50 [some (.inr (.inl r)), some (.inl x1), some (.inl x2), some (.inl x3), some (.inl x4)] [.inl x3, .inr (.inl r), .inr (.inl r)])) : am_W m_X5_tells (am_ev am_prog (d + 3)) Q 43 [some (.inr (.inl r)), some (.inl x1), some (.inl x2), some (.inl x3), some (.inl x4)] [.inl y1, .inr (.inl r)] (mo b r (ms S) V W) := by
  refine r_X5_tells_43 ?_
  simp only [mo_ty, mo_si, true_or, or_true, true_and]
  refine ?_
  refine r_X5_tells_44 ?_
  simp only [mo_ty, true_or, or_true, true_and]
  exact H
theorem w_tells_51 {d : Nat} {Q : am_K} {b : am_H} {r : Nat} {S : am_G} {V : Nat → Int → Int} {W : Nat → Int} {x1 : Int} {x2 : Int} {x3 : Int} {x4 : Int} {y3 : Int} {y2 : Int} (H : am_ev am_prog (d + 3) 184 [.inr (.inl r), .inl y2, .inl y3, .inl 1, .inl 25] (mo b r (ms S) V W) (am_aft (am_hand m_X5_tells Q (am_W m_X5_tells (am_ev am_prog (d + 3)) Q) 53) (am_W m_X5_tells (am_ev am_prog (d + 3)) Q) 53 [some (.inr (.inl r)), some (.inl x1), some (.inl x2), some (.inl x3), some (.inl x4)] [.inr (.inl r)])) : am_W m_X5_tells (am_ev am_prog (d + 3)) Q 51 [some (.inr (.inl r)), some (.inl x1), some (.inl x2), some (.inl x3), some (.inl x4)] [.inl y3, .inl y2, .inr (.inl r), .inr (.inl r)] (mo b r (ms S) V W) := by
  refine r_X5_tells_51 ?_
  simp only [mo_ty, true_or, or_true, true_and]
  exact H
theorem w_tells_54 {d : Nat} {Q : am_K} {b : am_H} {r : Nat} {S : am_G} {V : Nat → Int → Int} {W : Nat → Int} {x1 : Int} {x2 : Int} {x3 : Int} {x4 : Int} {y1 : Int} (H : am_ev am_prog (d + 3) 183 [.inr (.inl r), .inl x3, .inl 3] (mo b r (ms S) V (am_up W 67 y1)) (am_aft (am_hand m_X5_tells Q (am_W m_X5_tells (am_ev am_prog (d + 3)) Q) 61) (am_W m_X5_tells (am_ev am_prog (d + 3)) Q) 61 [some (.inr (.inl r)), some (.inl x1), some (.inl x2), some (.inl x3), some (.inl x4)] [.inl x3, .inr (.inl r), .inr (.inl r)])) : am_W m_X5_tells (am_ev am_prog (d + 3)) Q 54 [some (.inr (.inl r)), some (.inl x1), some (.inl x2), some (.inl x3), some (.inl x4)] [.inl y1, .inr (.inl r)] (mo b r (ms S) V W) := by
  refine r_X5_tells_54 ?_
  simp only [mo_ty, mo_si, true_or, or_true, true_and]
  refine ?_
  refine r_X5_tells_55 ?_
  simp only [mo_ty, true_or, or_true, true_and]
  exact H
theorem w_tells_62 {d : Nat} {Q : am_K} {b : am_H} {r : Nat} {S : am_G} {V : Nat → Int → Int} {W : Nat → Int} {x1 : Int} {x2 : Int} {x3 : Int} {x4 : Int} {y3 : Int} {y2 : Int} (H : am_ev am_prog (d + 3) 184 [.inr (.inl r), .inl y2, .inl y3, .inl 1, .inl 0] (mo b r (ms S) V W) (am_aft (am_hand m_X5_tells Q (am_W m_X5_tells (am_ev am_prog (d + 3)) Q) 64) (am_W m_X5_tells (am_ev am_prog (d + 3)) Q) 64 [some (.inr (.inl r)), some (.inl x1), some (.inl x2), some (.inl x3), some (.inl x4)] [.inr (.inl r)])) : am_W m_X5_tells (am_ev am_prog (d + 3)) Q 62 [some (.inr (.inl r)), some (.inl x1), some (.inl x2), some (.inl x3), some (.inl x4)] [.inl y3, .inl y2, .inr (.inl r), .inr (.inl r)] (mo b r (ms S) V W) := by
  refine r_X5_tells_62 ?_
  simp only [mo_ty, true_or, or_true, true_and]
  exact H
theorem w_tells_65 {d : Nat} {Q : am_K} {b : am_H} {r : Nat} {S : am_G} {V : Nat → Int → Int} {W : Nat → Int} {x1 : Int} {x2 : Int} {x3 : Int} {x4 : Int} {y1 : Int} (H : Q (.inl none) (mo b r (ms S) V (am_up W 68 y1))) : am_W m_X5_tells (am_ev am_prog (d + 3)) Q 65 [some (.inr (.inl r)), some (.inl x1), some (.inl x2), some (.inl x3), some (.inl x4)] [.inl y1, .inr (.inl r)] (mo b r (ms S) V W) := by
  refine r_X5_tells_65 ?_
  simp only [mo_ty, mo_si, true_or, or_true, true_and]
  refine ?_
  refine r_X5_tells_66 ?_
  exact H
theorem w_tight_0 {d : Nat} {Q : am_K} {b : am_H} {r : Nat} {S : am_G} {V : Nat → Int → Int} {W : Nat → Int} {x1 : Int} {x2 : Int} {x3 : Int} (H : am_ev am_prog (d + 3) 283 [.inr (.inl r), .inl x1, .inl x2, .inl x3] (mo b r (ms S) V W) (am_aft (am_hand m_X5_tight Q (am_W m_X5_tight (am_ev am_prog (d + 3)) Q) 4) (am_W m_X5_tight (am_ev am_prog (d + 3)) Q) 4 [some (.inr (.inl r)), some (.inl x1), some (.inl x2), some (.inl x3)] [])) : am_W m_X5_tight (am_ev am_prog (d + 3)) Q 0 [some (.inr (.inl r)), some (.inl x1), some (.inl x2), some (.inl x3)] [] (mo b r (ms S) V W) := by
  refine r_X5_tight_0 ?_
  simp only [mo_ty, true_or, or_true, true_and]
  exact H
theorem w_tight_5 {d : Nat} {Q : am_K} {b : am_H} {r : Nat} {S : am_G} {V : Nat → Int → Int} {W : Nat → Int} {x1 : Int} {x2 : Int} {x3 : Int} {y0 : Int} (H : ((0 ≤ x1 ∧ x1 < 3000000)) ∧ (((0 ≤ x1 ∧ x1 < 100) ∧ (0 ≤ x2 ∧ x2 < 500) ∧ (0 ≤ x3 ∧ x3 < 500) ∧ (-2147483648 ≤ S 3 x1 (85 + x3) - S 3 x1 (85 + x2) ∧ S 3 x1 (85 + x3) - S 3 x1 (85 + x2) ≤ 2147483647)) ∧ (((-2147483648 ≤ (W 65) * (S 3 x1 (85 + x3) - S 3 x1 (85 + x2)) ∧ (W 65) * (S 3 x1 (85 + x3) - S 3 x1 (85 + x2)) ≤ 2147483647) ∧ (-2147483648 ≤ y0 + ((W 65) * (S 3 x1 (85 + x3) - S 3 x1 (85 + x2))) ∧ y0 + ((W 65) * (S 3 x1 (85 + x3) - S 3 x1 (85 + x2))) ≤ 2147483647)) ∧ (Q (.inl (some (.inl (y0 + ((W 65) * (S 3 x1 (85 + x3) - S 3 x1 (85 + x2))))))) (mo b r (ms S) V W))))) : am_W m_X5_tight (am_ev am_prog (d + 3)) Q 5 [some (.inr (.inl r)), some (.inl x1), some (.inl x2), some (.inl x3)] [.inl y0] (mo b r (ms S) V W) := by
  refine r_X5_tight_5 ?_
  simp only [mo_ty, mo_i, true_or, or_true, true_and]
  refine ?_
  obtain ⟨a991, H⟩ := H
  refine c_part0 (by omega) (am_av ?_)
  refine r_X5_tight_10 ?_
  simp only [mo_ty, true_or, or_true, true_and]
  refine ?_
  obtain ⟨⟨a992, a993, a994, a995⟩, H⟩ := H
  refine c_gapsOf (by omega) (by omega) (by omega) (by omega) (am_av ?_)
  obtain ⟨⟨a996, a997⟩, H⟩ := H
  refine r_X5_tight_13 ?_
  exact ⟨a996, a997, H⟩
theorem w_isStanding_0 {d : Nat} {Q : am_K} {b : am_H} {r : Nat} {S : am_G} {V : Nat → Int → Int} {W : Nat → Int} {x1 : Int} {x2 : Int} {x3 : Int} (H : am_ev am_prog (d + 3) 179 [.inr (.inl r), .inl x1, .inl x2, .inl x3] (mo b r (ms S) V W) (am_aft (am_hand m_X5_isStanding Q (am_W m_X5_isStanding (am_ev am_prog (d + 3)) Q) 4) (am_W m_X5_isStanding (am_ev am_prog (d + 3)) Q) 4 [some (.inr (.inl r)), some (.inl x1), some (.inl x2), some (.inl x3)] [])) : am_W m_X5_isStanding (am_ev am_prog (d + 3)) Q 0 [some (.inr (.inl r)), some (.inl x1), some (.inl x2), some (.inl x3)] [] (mo b r (ms S) V W) := by
  refine r_X5_isStanding_0 ?_
  simp only [mo_ty, true_or, or_true, true_and]
  exact H
theorem w_isStanding_5 {d : Nat} {Q : am_K} {b : am_H} {r : Nat} {S : am_G} {V : Nat → Int → Int} {W : Nat → Int} {x1 : Int} {x2 : Int} {x3 : Int} {y0 : Int} (H : (y0 ≤ W 63 → ((0 ≤ x1 ∧ x1 < 100) ∧ (-2147483648 ≤ S 3 x1 1 - 1 ∧ S 3 x1 1 - 1 ≤ 2147483647)) ∧ ((x3 = S 3 x1 1 - 1 → Q (.inl (some (.inl 1))) (mo b r (ms S) V W)) ∧ (¬ (x3 = S 3 x1 1 - 1) → am_ev am_prog (d + 3) 283 [.inr (.inl r), .inl x1, .inl x2, .inl x3] (mo b r (ms S) V W) (am_aft (am_hand m_X5_isStanding Q (am_W m_X5_isStanding (am_ev am_prog (d + 3)) Q) 19) (am_W m_X5_isStanding (am_ev am_prog (d + 3)) Q) 19 [some (.inr (.inl r)), some (.inl x1), some (.inl x2), some (.inl x3)] [])))) ∧ (W 63 < y0 → Q (.inl (some (.inl 0))) (mo b r (ms S) V W))) : am_W m_X5_isStanding (am_ev am_prog (d + 3)) Q 5 [some (.inr (.inl r)), some (.inl x1), some (.inl x2), some (.inl x3)] [.inl y0] (mo b r (ms S) V W) := by
  refine r_X5_isStanding_5 ?_
  simp only [mo_ty, mo_i, true_or, or_true, true_and]
  refine ⟨fun c => ?_, fun c => ?_⟩
  · replace H := H.1 c
    refine r_X5_isStanding_10 ?_
    simp only [mo_ty, true_or, or_true, true_and]
    refine ?_
    obtain ⟨⟨a998, a999⟩, H⟩ := H
    refine c_isLast (by omega) (by omega) (am_av ?_)
    refine r_X5_isStanding_14 ?_
    refine ⟨fun c => ?_, fun c => ?_⟩
    · replace c := am_b1 c
      replace H := H.1 c
      refine r_X5_isStanding_33 ?_
      refine r_X5_isStanding_36 ?_
      exact ⟨(by decide), H⟩
    · replace c := am_b0 c
      replace H := H.2 c
      refine r_X5_isStanding_15 ?_
      simp only [mo_ty, true_or, or_true, true_and]
      exact H
  · replace H := H.2 c
    refine r_X5_isStanding_8 ?_
    exact ⟨(by decide), H⟩
theorem w_isStanding_20 {d : Nat} {Q : am_K} {b : am_H} {r : Nat} {S : am_G} {V : Nat → Int → Int} {W : Nat → Int} {x1 : Int} {x2 : Int} {x3 : Int} {y0 : Int} (H : ((0 ≤ x1 ∧ x1 < 3000000)) ∧ (((0 ≤ x1 ∧ x1 < 100) ∧ (0 ≤ x2 ∧ x2 < 500) ∧ (0 ≤ x3 ∧ x3 < 500) ∧ (-2147483648 ≤ S 3 x1 (85 + x3) - S 3 x1 (85 + x2) ∧ S 3 x1 (85 + x3) - S 3 x1 (85 + x2) ≤ 2147483647)) ∧ (((-2147483648 ≤ (W 66) * (S 3 x1 (85 + x3) - S 3 x1 (85 + x2)) ∧ (W 66) * (S 3 x1 (85 + x3) - S 3 x1 (85 + x2)) ≤ 2147483647) ∧ (-2147483648 ≤ y0 + ((W 66) * (S 3 x1 (85 + x3) - S 3 x1 (85 + x2))) ∧ y0 + ((W 66) * (S 3 x1 (85 + x3) - S 3 x1 (85 + x2))) ≤ 2147483647)) ∧ (Q (.inl (some (.inl (am_b (W 63 ≤ y0 + ((W 66) * (S 3 x1 (85 + x3) - S 3 x1 (85 + x2)))))))) (mo b r (ms S) V W))))) : am_W m_X5_isStanding (am_ev am_prog (d + 3)) Q 20 [some (.inr (.inl r)), some (.inl x1), some (.inl x2), some (.inl x3)] [.inl y0] (mo b r (ms S) V W) := by
  refine r_X5_isStanding_20 ?_
  simp only [mo_ty, mo_i, true_or, or_true, true_and]
  refine ?_
  obtain ⟨a1000, H⟩ := H
  refine c_part0 (by omega) (am_av ?_)
  refine r_X5_isStanding_25 ?_
  simp only [mo_ty, true_or, or_true, true_and]
  refine ?_
  obtain ⟨⟨a1001, a1002, a1003, a1004⟩, H⟩ := H
  refine c_gapsOf (by omega) (by omega) (by omega) (by omega) (am_av ?_)
  obtain ⟨⟨a1005, a1006⟩, H⟩ := H
  have J : ∀ y : Int, y = am_b (W 63 ≤ y0 + ((W 66) * (S 3 x1 (85 + x3) - S 3 x1 (85 + x2)))) → am_W m_X5_isStanding (am_ev am_prog (d + 3)) Q 36 [some (.inr (.inl r)), some (.inl x1), some (.inl x2), some (.inl x3)] [.inl y] (mo b r (ms S) V W) := by
    intro y hy
    subst hy
    refine r_X5_isStanding_36 ?_
    exact ⟨(am_bz _), H⟩
  refine r_X5_isStanding_28 ?_
  simp only [mo_ty, mo_i, true_or, or_true, true_and]
  refine ⟨a1005, a1006, ⟨fun c => ?_, fun c => ?_⟩⟩
  · exact r_X5_isStanding_35 (J _ (am_bf (by omega)).symm)
  · exact r_X5_isStanding_33 (J _ (am_bt c).symm)
theorem w_there_0 {d : Nat} {Q : am_K} {b : am_H} {r : Nat} {S : am_G} {V : Nat → Int → Int} {W : Nat → Int} {x1 : Int} {x2 : Int} {x3 : Int} {o4 : Option am_V} {o5 : Option am_V} {o6 : Option am_V} {o7 : Option am_V} {o8 : Option am_V} {o9 : Option am_V} (H : ((0 ≤ x1 ∧ x1 < 2000000)) ∧ (((-2147483648 ≤ (320230 + 183 * x1) + x2 ∧ (320230 + 183 * x1) + x2 ≤ 2147483647) ∧ (0 ≤ x1 ∧ x1 < 4) ∧ (0 ≤ x2 ∧ x2 < 183)) ∧ (((0 ≤ x1 ∧ x1 < 2000000)) ∧ (((-2147483648 ≤ (320230 + 183 * x1) + 27 ∧ (320230 + 183 * x1) + 27 ≤ 2147483647) ∧ (0 ≤ x1 ∧ x1 < 4) ∧ (-2147483648 ≤ x3 - (S 5 x1 27) ∧ x3 - (S 5 x1 27) ≤ 2147483647) ∧ (-2147483648 ≤ (S 0 0 4) - 1 ∧ (S 0 0 4) - 1 ≤ 2147483647)) ∧ (am_W m_X5_there (am_ev am_prog (d + 3)) Q 25 [some (.inr (.inl r)), some (.inl x1), some (.inl x2), some (.inl x3), some (.inl (S 5 x1 x2)), some (.inl (x3 - (S 5 x1 27))), some (.inl ((S 0 0 4) - 1)), o7, o8, o9] [] (mo b r (ms S) V W)))))) : am_W m_X5_there (am_ev am_prog (d + 3)) Q 0 [some (.inr (.inl r)), some (.inl x1), some (.inl x2), some (.inl x3), o4, o5, o6, o7, o8, o9] [] (mo b r (ms S) V W) := by
  refine r_X5_there_0 ?_
  simp only [mo_ty, mo_f39, true_or, or_true, true_and]
  refine ?_
  obtain ⟨a1007, H⟩ := H
  refine c_machine0 (by omega) (am_av ?_)
  obtain ⟨⟨a1008, a1009, a1010⟩, H⟩ := H
  refine r_X5_there_4 ?_
  simp only [mo_t1, mo_n1, mo_a1, ms_r5 (k := (320230 + 183 * x1) + x2) (p := x1) (i := x2) (by omega) (by omega) (by omega), mo_ty, mo_f39, true_or, or_true, true_and]
  refine ⟨a1008, (by omega), ?_⟩
  obtain ⟨a1011, H⟩ := H
  refine c_machine0 (by omega) (am_av ?_)
  obtain ⟨⟨a1012, a1013, a1014, a1015⟩, H⟩ := H
  refine r_X5_there_13 ?_
  simp only [mo_t1, mo_n1, mo_a1, ms_r5 (k := (320230 + 183 * x1) + 27) (p := x1) (i := 27) (by omega) (by omega) (by omega), mo_ty, mo_f39, ms_r0 (k := 4) (p := 0) (i := 4) (by omega) (by omega) (by omega), true_or, or_true, true_and]
  refine ⟨a1012, (by omega), a1014, (by omega), a1015, ?_⟩
  exact H
theorem w_there_25 {d : Nat} {Q : am_K} {b : am_H} {r : Nat} {S : am_G} {V : Nat → Int → Int} {W : Nat → Int} {x1 : Int} {x2 : Int} {x3 : Int} {x4 : Int} {x5 : Int} {x6 : Int} {o7 : Option am_V} {o8 : Option am_V} {o9 : Option am_V} (H : (x6 < 0 → (0 ≤ x4 → Q (.inl (some (.inl x4))) (mo b r (ms S) V W)) ∧ (x4 < 0 → Q (.inl (some (.inl 0))) (mo b r (ms S) V W))) ∧ (0 ≤ x6 → ((0 ≤ x6 ∧ x6 < 2000000)) ∧ (((-2147483648 ≤ (64630 + 852 * x6) + 2 ∧ (64630 + 852 * x6) + 2 ≤ 2147483647) ∧ (0 ≤ x6 ∧ x6 < 300)) ∧ ((S 4 x6 2 < x5 → (0 ≤ x4 → Q (.inl (some (.inl x4))) (mo b r (ms S) V W)) ∧ (x4 < 0 → Q (.inl (some (.inl 0))) (mo b r (ms S) V W))) ∧ (x5 ≤ S 4 x6 2 → ((0 ≤ x6 ∧ x6 < 2000000)) ∧ (((-2147483648 ≤ (64630 + 852 * x6) + 1 ∧ (64630 + 852 * x6) + 1 ≤ 2147483647) ∧ (0 ≤ x6 ∧ x6 < 300)) ∧ ((S 4 x6 1 ≠ x1 → ((-2147483648 ≤ x6 + (-1) ∧ x6 + (-1) ≤ 2147483647)) ∧ (am_W m_X5_there (am_ev am_prog (d + 3)) Q 25 [some (.inr (.inl r)), some (.inl x1), some (.inl x2), some (.inl x3), some (.inl x4), some (.inl x5), some (.inl (x6 + (-1))), some (.inl (64630 + 852 * x6)), o8, o9] [] (mo b r (ms S) V W))) ∧ (S 4 x6 1 = x1 → ((-2147483648 ≤ (64630 + 852 * x6) + 2 ∧ (64630 + 852 * x6) + 2 ≤ 2147483647) ∧ (0 ≤ x6 ∧ x6 < 300)) ∧ ((S 4 x6 2 < x3 → am_W m_X5_there (am_ev am_prog (d + 3)) Q 58 [some (.inr (.inl r)), some (.inl x1), some (.inl x2), some (.inl x3), some (.inl x4), some (.inl x5), some (.inl x6), some (.inl (64630 + 852 * x6)), some (.inl 0), o9] [] (mo b r (ms S) V W)) ∧ (x3 ≤ S 4 x6 2 → ((-2147483648 ≤ x6 + (-1) ∧ x6 + (-1) ≤ 2147483647)) ∧ (am_W m_X5_there (am_ev am_prog (d + 3)) Q 25 [some (.inr (.inl r)), some (.inl x1), some (.inl x2), some (.inl x3), some (.inl x4), some (.inl x5), some (.inl (x6 + (-1))), some (.inl (64630 + 852 * x6)), o8, o9] [] (mo b r (ms S) V W)))))))))))) : am_W m_X5_there (am_ev am_prog (d + 3)) Q 25 [some (.inr (.inl r)), some (.inl x1), some (.inl x2), some (.inl x3), some (.inl x4), some (.inl x5), some (.inl x6), o7, o8, o9] [] (mo b r (ms S) V W) := by
  refine r_X5_there_25 ?_
  refine ⟨fun c => ?_, fun c => ?_⟩
  · replace H := H.1 c
    refine r_X5_there_95 ?_
    refine ⟨fun c => ?_, fun c => ?_⟩
    · replace H := H.1 c
      refine r_X5_there_99 ?_
      refine r_X5_there_100 ?_
      exact H
    · replace H := H.2 c
      refine r_X5_there_97 ?_
      refine r_X5_there_100 ?_
      exact H
  · replace H := H.2 c
    refine r_X5_there_27 ?_
    simp only [mo_ty, mo_f39, true_or, or_true, true_and]
    refine ?_
    obtain ⟨a1016, H⟩ := H
    refine c_slug0 (by omega) (am_av ?_)
    obtain ⟨⟨a1017, a1018⟩, H⟩ := H
    refine r_X5_there_31 ?_
    simp only [mo_t1, mo_n1, mo_a1, ms_r4 (k := (64630 + 852 * x6) + 2) (p := x6) (i := 2) (by omega) (by omega) (by omega), true_or, or_true, true_and]
    refine ⟨a1017, (by omega), ⟨fun c => ?_, fun c => ?_⟩⟩
    · replace H := H.1 c
      refine r_X5_there_95 ?_
      refine ⟨fun c => ?_, fun c => ?_⟩
      · replace H := H.1 c
        refine r_X5_there_99 ?_
        refine r_X5_there_100 ?_
        exact H
      · replace H := H.2 c
        refine r_X5_there_97 ?_
        refine r_X5_there_100 ?_
        exact H
    · replace H := H.2 c
      refine r_X5_there_36 ?_
      refine ?_
      obtain ⟨a1019, H⟩ := H
      refine c_slug0 (by omega) (am_av ?_)
      obtain ⟨⟨a1020, a1021⟩, H⟩ := H
      refine r_X5_there_38 ?_
      simp only [mo_ty, mo_f39, mo_t1, mo_n1, mo_a1, ms_r4 (k := (64630 + 852 * x6) + 1) (p := x6) (i := 1) (by omega) (by omega) (by omega), true_or, or_true, true_and]
      refine ⟨a1020, (by omega), ⟨fun c => ?_, fun c => ?_⟩⟩
      · replace H := H.1 c
        obtain ⟨a1022, H⟩ := H
        refine r_X5_there_93 ?_
        refine ⟨a1022, ?_⟩
        exact H
      · replace H := H.2 c
        obtain ⟨⟨a1023, a1024⟩, H⟩ := H
        refine r_X5_there_47 ?_
        simp only [mo_ty, mo_f39, mo_t1, mo_n1, mo_a1, ms_r4 (k := (64630 + 852 * x6) + 2) (p := x6) (i := 2) (by omega) (by omega) (by omega), true_or, or_true, true_and]
        refine ⟨a1023, (by omega), ⟨fun c => ?_, fun c => ?_⟩⟩
        · replace H := H.1 c
          refine r_X5_there_56 ?_
          exact H
        · replace H := H.2 c
          refine r_X5_there_55 ?_
          obtain ⟨a1025, H⟩ := H
          refine r_X5_there_93 ?_
          refine ⟨a1025, ?_⟩
          exact H
theorem w_there_58 {d : Nat} {Q : am_K} {b : am_H} {r : Nat} {S : am_G} {V : Nat → Int → Int} {W : Nat → Int} {x1 : Int} {x2 : Int} {x3 : Int} {x4 : Int} {x5 : Int} {x6 : Int} {p7 : Int} {x8 : Int} {o9 : Option am_V} (H : ((-2147483648 ≤ (64630 + 852 * p7) + 9 ∧ (64630 + 852 * p7) + 9 ≤ 2147483647) ∧ (0 ≤ p7 ∧ p7 < 300)) ∧ ((S 4 p7 9 ≤ x8 → ((-2147483648 ≤ x6 + (-1) ∧ x6 + (-1) ≤ 2147483647)) ∧ (am_W m_X5_there (am_ev am_prog (d + 3)) Q 25 [some (.inr (.inl r)), some (.inl x1), some (.inl x2), some (.inl x3), some (.inl x4), some (.inl x5), some (.inl (x6 + (-1))), some (.inl (64630 + 852 * p7)), some (.inl x8), o9] [] (mo b r (ms S) V W))) ∧ (x8 < S 4 p7 9 → ((-2147483648 ≤ (64630 + 852 * p7) + 12 ∧ (64630 + 852 * p7) + 12 ≤ 2147483647) ∧ (-2147483648 ≤ ((64630 + 852 * p7) + 12) + x8 ∧ ((64630 + 852 * p7) + 12) + x8 ≤ 2147483647) ∧ (0 ≤ p7 ∧ p7 < 300) ∧ (0 ≤ 12 + x8 ∧ 12 + x8 < 852)) ∧ (((x2 : Int) ≠ 26 → ((-2147483648 ≤ 97 + x2 ∧ 97 + x2 ≤ 2147483647)) ∧ (((-2147483648 ≤ x4 - (am_b (S 4 p7 (12 + x8) = 97 + x2)) ∧ x4 - (am_b (S 4 p7 (12 + x8) = 97 + x2)) ≤ 2147483647) ∧ (-2147483648 ≤ x8 + 1 ∧ x8 + 1 ≤ 2147483647)) ∧ (am_W m_X5_there (am_ev am_prog (d + 3)) Q 58 [some (.inr (.inl r)), some (.inl x1), some (.inl x2), some (.inl x3), some (.inl (x4 - (am_b (S 4 p7 (12 + x8) = 97 + x2)))), some (.inl x5), some (.inl x6), some (.inl (64630 + 852 * p7)), some (.inl (x8 + 1)), some (.inl (S 4 p7 (12 + x8)))] [] (mo b r (ms S) V W)))) ∧ ((x2 : Int) = 26 → ((-2147483648 ≤ x4 - (am_b ((S 4 p7 (12 + x8) : Int) = 45)) ∧ x4 - (am_b ((S 4 p7 (12 + x8) : Int) = 45)) ≤ 2147483647) ∧ (-2147483648 ≤ x8 + 1 ∧ x8 + 1 ≤ 2147483647)) ∧ (am_W m_X5_there (am_ev am_prog (d + 3)) Q 58 [some (.inr (.inl r)), some (.inl x1), some (.inl x2), some (.inl x3), some (.inl (x4 - (am_b ((S 4 p7 (12 + x8) : Int) = 45)))), some (.inl x5), some (.inl x6), some (.inl (64630 + 852 * p7)), some (.inl (x8 + 1)), some (.inl (S 4 p7 (12 + x8)))] [] (mo b r (ms S) V W))))))) : am_W m_X5_there (am_ev am_prog (d + 3)) Q 58 [some (.inr (.inl r)), some (.inl x1), some (.inl x2), some (.inl x3), some (.inl x4), some (.inl x5), some (.inl x6), some (.inl (64630 + 852 * p7)), some (.inl x8), o9] [] (mo b r (ms S) V W) := by
  obtain ⟨⟨a1026, a1027⟩, H⟩ := H
  refine r_X5_there_58 ?_
  simp only [mo_ty, mo_f39, mo_t1, mo_n1, mo_a1, ms_r4 (k := (64630 + 852 * p7) + 9) (p := p7) (i := 9) (by omega) (by omega) (by omega), true_or, or_true, true_and]
  refine ⟨a1026, (by omega), ⟨fun c => ?_, fun c => ?_⟩⟩
  · replace H := H.1 c
    obtain ⟨a1028, H⟩ := H
    refine r_X5_there_93 ?_
    refine ⟨a1028, ?_⟩
    exact H
  · replace H := H.2 c
    obtain ⟨⟨a1029, a1030, a1031, a1032⟩, H⟩ := H
    refine r_X5_there_66 ?_
    simp only [mo_ty, mo_f39, mo_t1, mo_n1, mo_a1, ms_r4 (k := ((64630 + 852 * p7) + 12) + x8) (p := p7) (i := 12 + x8) (by omega) (by omega) (by omega), true_or, or_true, true_and]
    refine ⟨a1029, a1030, (by omega), ⟨fun c => ?_, fun c => ?_⟩⟩
    · replace H := H.1 c
      obtain ⟨a1033, H⟩ := H
      refine r_X5_there_82 ?_
      refine ⟨a1033, ?_⟩
      have J : ∀ y : Int, y = am_b (S 4 p7 (12 + x8) = 97 + x2) → am_W m_X5_there (am_ev am_prog (d + 3)) Q 89 [some (.inr (.inl r)), some (.inl x1), some (.inl x2), some (.inl x3), some (.inl x4), some (.inl x5), some (.inl x6), some (.inl (64630 + 852 * p7)), some (.inl x8), some (.inl (S 4 p7 (12 + x8)))] [.inl y, .inl x4] (mo b r (ms S) V W) := by
        intro y hy
        subst hy
        obtain ⟨⟨a1034, a1035⟩, H⟩ := H
        refine r_X5_there_89 ?_
        refine ⟨a1034, a1035, ?_⟩
        exact H
      refine r_X5_there_85 ?_
      refine ⟨fun c => ?_, fun c => ?_⟩
      · exact r_X5_there_88 (J _ (am_bf (by omega)).symm)
      · exact r_X5_there_86 (J _ (am_bt c).symm)
    · replace H := H.2 c
      refine r_X5_there_80 ?_
      have J : ∀ y : Int, y = am_b ((S 4 p7 (12 + x8) : Int) = 45) → am_W m_X5_there (am_ev am_prog (d + 3)) Q 89 [some (.inr (.inl r)), some (.inl x1), some (.inl x2), some (.inl x3), some (.inl x4), some (.inl x5), some (.inl x6), some (.inl (64630 + 852 * p7)), some (.inl x8), some (.inl (S 4 p7 (12 + x8)))] [.inl y, .inl x4] (mo b r (ms S) V W) := by
        intro y hy
        subst hy
        obtain ⟨⟨a1036, a1037⟩, H⟩ := H
        refine r_X5_there_89 ?_
        refine ⟨a1036, a1037, ?_⟩
        exact H
      refine r_X5_there_85 ?_
      refine ⟨fun c => ?_, fun c => ?_⟩
      · exact r_X5_there_88 (J _ (am_bf (by omega)).symm)
      · exact r_X5_there_86 (J _ (am_bt c).symm)
theorem w_factsOf_0 {d : Nat} {Q : am_K} {b : am_H} {r : Nat} {S : am_G} {V : Nat → Int → Int} {W : Nat → Int} {x1 : Int} {x2 : Int} {o3 : Option am_V} {o4 : Option am_V} (H : ((0 ≤ x1 ∧ x1 < 3000000)) ∧ (((0 ≤ x1 ∧ x1 ≤ 2147483647) ∧ (-2147483648 ≤ 90 + (x1 / 5) ∧ 90 + (x1 / 5) ≤ 2147483647) ∧ (0 ≤ (x1 / 5) ∧ (x1 / 5) < 20) ∧ (-2147483648 ≤ 70 + (x1 / 5) ∧ 70 + (x1 / 5) ≤ 2147483647)) ∧ (((-2147483648 ≤ (130 + 645 * x1) + 0 ∧ (130 + 645 * x1) + 0 ≤ 2147483647) ∧ (0 ≤ x1 ∧ x1 < 100)) ∧ (((-2147483648 ≤ (130 + 645 * x1) + 1 ∧ (130 + 645 * x1) + 1 ≤ 2147483647) ∧ (0 ≤ x1 ∧ x1 < 100)) ∧ (Q (.inl none) (mo b r (ms S) (am_up (am_up V 11 (am_uz (am_uz (am_uz (V 11) 0 (am_b ((S 2 0 (x1 / 5) : Int) = 1))) 1 (am_b (S 2 1 (x1 / 5) < x2))) 2 0)) 12 (am_uz (am_uz (am_uz (am_uz (am_uz (am_uz (V 12) 0 (S 3 x1 0)) 1 (S 3 x1 1)) 2 (S 2 1 (x1 / 5))) 3 x2) 4 0) 5 99)) W)))))) : am_W m_X5_factsOf (am_ev am_prog (d + 3)) Q 0 [some (.inr (.inl r)), some (.inl x1), some (.inl x2), o3, o4] [] (mo b r (ms S) V W) := by
  refine r_X5_factsOf_0 ?_
  refine ?_
  obtain ⟨a1038, H⟩ := H
  refine c_part0 (by omega) (am_av ?_)
  obtain ⟨⟨a1039, a1040, a1041, a1042⟩, H⟩ := H
  have J : ∀ y : Int, y = am_b ((S 2 0 (x1 / 5) : Int) = 1) → am_W m_X5_factsOf (am_ev am_prog (d + 3)) Q 28 [some (.inr (.inl r)), some (.inl x1), some (.inl x2), some (.inl (130 + 645 * x1)), some (.inl (S 2 1 (x1 / 5)))] [.inl y, .inl 0, .inr (.inl (r + 11))] (mo b r (ms S) V W) := by
    intro y hy
    subst hy
    refine r_X5_factsOf_28 ?_
    simp only [mo_t11, mo_n11, mo_s11, am_nzb, true_or, or_true, true_and]
    refine ⟨(by decide), ?_⟩
    have J : ∀ y : Int, y = am_b (S 2 1 (x1 / 5) < x2) → am_W m_X5_factsOf (am_ev am_prog (d + 3)) Q 38 [some (.inr (.inl r)), some (.inl x1), some (.inl x2), some (.inl (130 + 645 * x1)), some (.inl (S 2 1 (x1 / 5)))] [.inl y, .inl 1, .inr (.inl (r + 11))] (mo b r (ms S) (am_up V 11 (am_uz (V 11) 0 (am_b ((S 2 0 (x1 / 5) : Int) = 1)))) W) := by
      intro y hy
      subst hy
      refine r_X5_factsOf_38 ?_
      simp only [mo_t11, mo_n11, mo_s11, am_nzb, am_up_eq, am_up_up, true_or, or_true, true_and]
      refine ⟨(by decide), ?_⟩
      refine r_X5_factsOf_39 ?_
      simp only [mo_ty, mo_f59, mo_t11, mo_n11, mo_s11, am_nz0, am_up_eq, am_up_up, true_or, or_true, true_and]
      refine ⟨(by decide), ?_⟩
      obtain ⟨⟨a1043, a1044⟩, H⟩ := H
      refine r_X5_factsOf_44 ?_
      simp only [mo_ty, mo_f60, mo_f39, mo_t1, mo_n1, mo_a1, ms_r3 (k := (130 + 645 * x1) + 0) (p := x1) (i := 0) (by omega) (by omega) (by omega), mo_t12, mo_n12, mo_s12, am_up_ne (by decide : (12 : Nat) ≠ 11), true_or, or_true, true_and]
      refine ⟨a1043, (by omega), (by decide), ?_⟩
      obtain ⟨⟨a1045, a1046⟩, H⟩ := H
      refine r_X5_factsOf_54 ?_
      simp only [mo_ty, mo_f60, mo_f39, mo_t1, mo_n1, mo_a1, ms_r3 (k := (130 + 645 * x1) + 1) (p := x1) (i := 1) (by omega) (by omega) (by omega), mo_t12, mo_n12, mo_s12, am_up_ne (by decide : (12 : Nat) ≠ 11), am_up_eq, am_up_up, true_or, or_true, true_and]
      refine ⟨a1045, (by omega), (by decide), ?_⟩
      refine r_X5_factsOf_64 ?_
      simp only [mo_ty, mo_f60, mo_t12, mo_n12, mo_s12, am_up_ne (by decide : (12 : Nat) ≠ 11), am_up_eq, am_up_up, true_or, or_true, true_and]
      refine ⟨(by decide), ?_⟩
      refine r_X5_factsOf_69 ?_
      simp only [mo_ty, mo_f60, mo_t12, mo_n12, mo_s12, am_up_ne (by decide : (12 : Nat) ≠ 11), am_up_eq, am_up_up, true_or, or_true, true_and]
      refine ⟨(by decide), ?_⟩
      refine r_X5_factsOf_74 ?_
      simp only [mo_ty, mo_f60, mo_t12, mo_n12, mo_s12, am_up_ne (by decide : (12 : Nat) ≠ 11), am_up_eq, am_up_up, true_or, or_true, true_and]
      refine ⟨(by decide), ?_⟩
      refine r_X5_factsOf_79 ?_
      simp only [mo_ty, mo_f60, mo_t12, mo_n12, mo_s12, am_up_ne (by decide : (12 : Nat) ≠ 11), am_up_eq, am_up_up, true_or, or_true, true_and]
      refine ⟨(by decide), ?_⟩
      refine r_X5_factsOf_84 ?_
      exact H
    refine r_X5_factsOf_29 ?_
    simp only [mo_ty, mo_f59, true_or, or_true, true_and]
    refine ⟨fun c => ?_, fun c => ?_⟩
    · exact r_X5_factsOf_37 (J _ (am_bf (by omega)).symm)
    · exact r_X5_factsOf_35 (J _ (am_bt c).symm)
  refine r_X5_factsOf_2 ?_
  simp only [mo_ty, mo_f39, am_td (x := x1) (y := 5) (by omega), am_tm (x := x1) (y := 5) (by omega), mo_t1, mo_n1, mo_a1, ms_r2 (k := 90 + (x1 / 5)) (p := 1) (i := (x1 / 5)) (by omega) (by omega) (by omega), mo_f59, ms_r2 (k := 70 + (x1 / 5)) (p := 0) (i := (x1 / 5)) (by omega) (by omega) (by omega), true_or, or_true, true_and]
  refine ⟨⟨by decide, am_dk (by omega) (by omega)⟩, a1040, (by omega), ⟨by decide, am_dk (by omega) (by omega)⟩, a1042, (by omega), ⟨fun c => ?_, fun c => ?_⟩⟩
  · exact r_X5_factsOf_27 (J _ (am_bf (by omega)).symm)
  · exact r_X5_factsOf_25 (J _ (am_bt c).symm)
theorem w_lastRule_0 {d : Nat} {Q : am_K} {b : am_H} {r : Nat} {S : am_G} {V : Nat → Int → Int} {W : Nat → Int} {x1 : Int} {x2 : Int} {o3 : Option am_V} {o4 : Option am_V} (H : am_W m_X5_lastRule (am_ev am_prog (d + 3)) Q 4 [some (.inr (.inl r)), some (.inl x1), some (.inl x2), some (.inl (-1)), some (.inl 0)] [] (mo b r (ms S) V W)) : am_W m_X5_lastRule (am_ev am_prog (d + 3)) Q 0 [some (.inr (.inl r)), some (.inl x1), some (.inl x2), o3, o4] [] (mo b r (ms S) V W) := by
  refine r_X5_lastRule_0 ?_
  exact H
theorem w_lastRule_4 {d : Nat} {Q : am_K} {b : am_H} {r : Nat} {S : am_G} {V : Nat → Int → Int} {W : Nat → Int} {x1 : Int} {p1 : Int} {x2 : Int} {x3 : Int} {x4 : Int} (H : ((x1 : Int) = (-1) → Q (.inl (some (.inl x3))) (mo b r (ms S) V W)) ∧ ((x1 : Int) ≠ (-1) → ((-2147483648 ≤ x1 + 1 ∧ x1 + 1 ≤ 2147483647) ∧ x1 = 320962 + 562 * p1 ∧ (0 ≤ p1 ∧ p1 < 10)) ∧ ((S 6 p1 1 ≤ x4 → Q (.inl (some (.inl x3))) (mo b r (ms S) V W)) ∧ (x4 < S 6 p1 1 → ((-2147483648 ≤ x1 + 2 ∧ x1 + 2 ≤ 2147483647) ∧ (-2147483648 ≤ 5 * x4 ∧ 5 * x4 ≤ 2147483647) ∧ (-2147483648 ≤ (x1 + 2) + (5 * x4) ∧ (x1 + 2) + (5 * x4) ≤ 2147483647) ∧ x1 = 320962 + 562 * p1 ∧ (0 ≤ p1 ∧ p1 < 10) ∧ (0 ≤ 2 + 5 * x4 ∧ 2 + 5 * x4 < 562)) ∧ ((S 6 p1 (2 + 5 * x4) ≠ x2 → ((-2147483648 ≤ x4 + 1 ∧ x4 + 1 ≤ 2147483647)) ∧ (am_W m_X5_lastRule (am_ev am_prog (d + 3)) Q 4 [some (.inr (.inl r)), some (.inl x1), some (.inl x2), some (.inl x3), some (.inl (x4 + 1))] [] (mo b r (ms S) V W))) ∧ (S 6 p1 (2 + 5 * x4) = x2 → am_ev am_prog (d + 3) 286 [.inr (.inl r), .inl x1, .inl x4] (mo b r (ms S) V W) (am_aft (am_hand m_X5_lastRule Q (am_W m_X5_lastRule (am_ev am_prog (d + 3)) Q) 30) (am_W m_X5_lastRule (am_ev am_prog (d + 3)) Q) 30 [some (.inr (.inl r)), some (.inl x1), some (.inl x2), some (.inl x3), some (.inl x4)] []))))))) : am_W m_X5_lastRule (am_ev am_prog (d + 3)) Q 4 [some (.inr (.inl r)), some (.inl x1), some (.inl x2), some (.inl x3), some (.inl x4)] [] (mo b r (ms S) V W) := by
  refine r_X5_lastRule_4 ?_
  refine ⟨fun c => ?_, fun c => ?_⟩
  · replace H := H.1 c
    refine r_X5_lastRule_36 ?_
    exact H
  · replace H := H.2 c
    obtain ⟨⟨a1047, a1048, a1049⟩, H⟩ := H
    refine r_X5_lastRule_7 ?_
    simp only [mo_ty, mo_f39, mo_t1, mo_n1, mo_a1, ms_r6 (k := x1 + 1) (p := p1) (i := 1) (by omega) (by omega) (by omega), true_or, or_true, true_and]
    refine ⟨a1047, (by omega), ⟨fun c => ?_, fun c => ?_⟩⟩
    · replace H := H.1 c
      refine r_X5_lastRule_36 ?_
      exact H
    · replace H := H.2 c
      obtain ⟨⟨a1050, a1051, a1052, a1053, a1054, a1055⟩, H⟩ := H
      refine r_X5_lastRule_15 ?_
      simp only [mo_ty, mo_f39, mo_t1, mo_n1, mo_a1, ms_r6 (k := (x1 + 2) + (5 * x4)) (p := p1) (i := 2 + 5 * x4) (by omega) (by omega) (by omega), true_or, or_true, true_and]
      refine ⟨a1050, a1051, a1052, (by omega), ⟨fun c => ?_, fun c => ?_⟩⟩
      · replace H := H.1 c
        obtain ⟨a1056, H⟩ := H
        refine r_X5_lastRule_34 ?_
        refine ⟨a1056, ?_⟩
        exact H
      · replace H := H.2 c
        refine r_X5_lastRule_27 ?_
        simp only [mo_ty, true_or, or_true, true_and]
        exact H
theorem w_lastRule_31 {d : Nat} {Q : am_K} {b : am_H} {r : Nat} {S : am_G} {V : Nat → Int → Int} {W : Nat → Int} {x1 : Int} {x2 : Int} {x3 : Int} {x4 : Int} {y0 : Int} (H : ((y0 : Int) = 0 → ((-2147483648 ≤ x4 + 1 ∧ x4 + 1 ≤ 2147483647)) ∧ (am_W m_X5_lastRule (am_ev am_prog (d + 3)) Q 4 [some (.inr (.inl r)), some (.inl x1), some (.inl x2), some (.inl x3), some (.inl (x4 + 1))] [] (mo b r (ms S) V W))) ∧ ((y0 : Int) ≠ 0 → ((-2147483648 ≤ x4 + 1 ∧ x4 + 1 ≤ 2147483647)) ∧ (am_W m_X5_lastRule (am_ev am_prog (d + 3)) Q 4 [some (.inr (.inl r)), some (.inl x1), some (.inl x2), some (.inl x4), some (.inl (x4 + 1))] [] (mo b r (ms S) V W)))) : am_W m_X5_lastRule (am_ev am_prog (d + 3)) Q 31 [some (.inr (.inl r)), some (.inl x1), some (.inl x2), some (.inl x3), some (.inl x4)] [.inl y0] (mo b r (ms S) V W) := by
  refine r_X5_lastRule_31 ?_
  refine ⟨fun c => ?_, fun c => ?_⟩
  · replace H := H.1 c
    obtain ⟨a1057, H⟩ := H
    refine r_X5_lastRule_34 ?_
    refine ⟨a1057, ?_⟩
    exact H
  · replace H := H.2 c
    refine r_X5_lastRule_32 ?_
    obtain ⟨a1058, H⟩ := H
    refine r_X5_lastRule_34 ?_
    refine ⟨a1058, ?_⟩
    exact H
theorem w_said_0 {d : Nat} {Q : am_K} {b : am_H} {r : Nat} {S : am_G} {V : Nat → Int → Int} {W : Nat → Int} {x1 : Int} {p1 : Int} {x2 : Int} {x3 : Int} {x4 : Int} (H : ((x2 : Int) ≠ (-1) → ((-2147483648 ≤ x1 + 2 ∧ x1 + 2 ≤ 2147483647) ∧ (-2147483648 ≤ 5 * x2 ∧ 5 * x2 ≤ 2147483647) ∧ (-2147483648 ≤ (x1 + 2) + (5 * x2) ∧ (x1 + 2) + (5 * x2) ≤ 2147483647) ∧ (-2147483648 ≤ ((x1 + 2) + (5 * x2)) + x3 ∧ ((x1 + 2) + (5 * x2)) + x3 ≤ 2147483647) ∧ x1 = 320962 + 562 * p1 ∧ (0 ≤ p1 ∧ p1 < 10) ∧ (0 ≤ 2 + 5 * x2 + x3 ∧ 2 + 5 * x2 + x3 < 562)) ∧ (Q (.inl (some (.inl (S 6 p1 (2 + 5 * x2 + x3))))) (mo b r (ms S) V W))) ∧ ((x2 : Int) = (-1) → Q (.inl (some (.inl x4))) (mo b r (ms S) V W))) : am_W m_X5_said (am_ev am_prog (d + 3)) Q 0 [some (.inr (.inl r)), some (.inl x1), some (.inl x2), some (.inl x3), some (.inl x4)] [] (mo b r (ms S) V W) := by
  refine r_X5_said_0 ?_
  refine ⟨fun c => ?_, fun c => ?_⟩
  · replace H := H.1 c
    obtain ⟨⟨a1059, a1060, a1061, a1062, a1063, a1064, a1065⟩, H⟩ := H
    refine r_X5_said_5 ?_
    simp only [mo_ty, mo_f39, mo_t1, mo_n1, mo_a1, ms_r6 (k := ((x1 + 2) + (5 * x2)) + x3) (p := p1) (i := 2 + 5 * x2 + x3) (by omega) (by omega) (by omega), true_or, or_true, true_and]
    refine ⟨a1059, a1060, a1061, a1062, (by omega), ?_⟩
    refine r_X5_said_17 ?_
    exact H
  · replace H := H.2 c
    refine r_X5_said_3 ?_
    refine r_X5_said_17 ?_
    exact H
theorem w_slugsOn_0 {d : Nat} {Q : am_K} {b : am_H} {r : Nat} {S : am_G} {V : Nat → Int → Int} {W : Nat → Int} {x1 : Int} {x2 : Int} (H : ((x2 : Int) ≠ (-1) → ((0 ≤ x1 ∧ x1 < 1000) ∧ (0 ≤ x2 ∧ x2 < 1000)) ∧ (((0 ≤ 6 * x2 + x1 ∧ 6 * x2 + x1 < 48)) ∧ (Q (.inl (some (.inl (S 9 (6 * x2 + x1) 0)))) (mo b r (ms S) V W)))) ∧ ((x2 : Int) = (-1) → ((-2147483648 ≤ 185 * x1 ∧ 185 * x1 ≤ 2147483647) ∧ (-2147483648 ≤ 327382 + (185 * x1) ∧ 327382 + (185 * x1) ≤ 2147483647) ∧ (-2147483648 ≤ (327382 + (185 * x1)) + 2 ∧ (327382 + (185 * x1)) + 2 ≤ 2147483647) ∧ (0 ≤ x1 ∧ x1 < 6)) ∧ (Q (.inl (some (.inl (S 8 x1 2)))) (mo b r (ms S) V W)))) : am_W m_X5_slugsOn (am_ev am_prog (d + 3)) Q 0 [some (.inr (.inl r)), some (.inl x1), some (.inl x2)] [] (mo b r (ms S) V W) := by
  refine r_X5_slugsOn_0 ?_
  refine ⟨fun c => ?_, fun c => ?_⟩
  · replace H := H.1 c
    refine r_X5_slugsOn_14 ?_
    simp only [mo_ty, mo_f39, true_or, or_true, true_and]
    refine ?_
    obtain ⟨⟨a1066, a1067⟩, H⟩ := H
    refine c_many0 (by omega) (by omega) (am_av ?_)
    obtain ⟨a1068, H⟩ := H
    refine r_X5_slugsOn_20 ?_
    simp only [mo_t1, mo_n1, mo_a1, ms_r9 (k := 328492 + 181 * (6 * x2 + x1)) (p := 6 * x2 + x1) (i := 0) (by omega) (by omega) (by omega), true_or, or_true, true_and]
    refine ⟨(by omega), ?_⟩
    refine r_X5_slugsOn_21 ?_
    exact H
  · replace H := H.2 c
    obtain ⟨⟨a1069, a1070, a1071, a1072⟩, H⟩ := H
    refine r_X5_slugsOn_3 ?_
    simp only [mo_ty, mo_f39, mo_t1, mo_n1, mo_a1, ms_r8 (k := (327382 + (185 * x1)) + 2) (p := x1) (i := 2) (by omega) (by omega) (by omega), true_or, or_true, true_and]
    refine ⟨a1069, a1070, a1071, (by omega), ?_⟩
    refine r_X5_slugsOn_21 ?_
    exact H
theorem w_slugOn_0 {d : Nat} {Q : am_K} {b : am_H} {r : Nat} {S : am_G} {V : Nat → Int → Int} {W : Nat → Int} {x1 : Int} {x2 : Int} {x3 : Int} (H : ((x2 : Int) ≠ (-1) → ((0 ≤ x1 ∧ x1 < 1000) ∧ (0 ≤ x2 ∧ x2 < 1000)) ∧ (((-2147483648 ≤ (328492 + 181 * (6 * x2 + x1)) + 1 ∧ (328492 + 181 * (6 * x2 + x1)) + 1 ≤ 2147483647) ∧ (-2147483648 ≤ ((328492 + 181 * (6 * x2 + x1)) + 1) + x3 ∧ ((328492 + 181 * (6 * x2 + x1)) + 1) + x3 ≤ 2147483647) ∧ (0 ≤ 6 * x2 + x1 ∧ 6 * x2 + x1 < 48) ∧ (0 ≤ 1 + x3 ∧ 1 + x3 < 181)) ∧ (Q (.inl (some (.inl (S 9 (6 * x2 + x1) (1 + x3))))) (mo b r (ms S) V W)))) ∧ ((x2 : Int) = (-1) → ((-2147483648 ≤ 185 * x1 ∧ 185 * x1 ≤ 2147483647) ∧ (-2147483648 ≤ 327382 + (185 * x1) ∧ 327382 + (185 * x1) ≤ 2147483647) ∧ (-2147483648 ≤ (327382 + (185 * x1)) + 5 ∧ (327382 + (185 * x1)) + 5 ≤ 2147483647) ∧ (-2147483648 ≤ ((327382 + (185 * x1)) + 5) + x3 ∧ ((327382 + (185 * x1)) + 5) + x3 ≤ 2147483647) ∧ (0 ≤ x1 ∧ x1 < 6) ∧ (0 ≤ 5 + x3 ∧ 5 + x3 < 185)) ∧ (Q (.inl (some (.inl (S 8 x1 (5 + x3))))) (mo b r (ms S) V W)))) : am_W m_X5_slugOn (am_ev am_prog (d + 3)) Q 0 [some (.inr (.inl r)), some (.inl x1), some (.inl x2), some (.inl x3)] [] (mo b r (ms S) V W) := by
  refine r_X5_slugOn_0 ?_
  refine ⟨fun c => ?_, fun c => ?_⟩
  · replace H := H.1 c
    refine r_X5_slugOn_16 ?_
    simp only [mo_ty, mo_f39, true_or, or_true, true_and]
    refine ?_
    obtain ⟨⟨a1073, a1074⟩, H⟩ := H
    refine c_many0 (by omega) (by omega) (am_av ?_)
    obtain ⟨⟨a1075, a1076, a1077, a1078⟩, H⟩ := H
    refine r_X5_slugOn_22 ?_
    simp only [mo_t1, mo_n1, mo_a1, ms_r9 (k := ((328492 + 181 * (6 * x2 + x1)) + 1) + x3) (p := 6 * x2 + x1) (i := 1 + x3) (by omega) (by omega) (by omega), true_or, or_true, true_and]
    refine ⟨a1075, a1076, (by omega), ?_⟩
    refine r_X5_slugOn_27 ?_
    exact H
  · replace H := H.2 c
    obtain ⟨⟨a1079, a1080, a1081, a1082, a1083, a1084⟩, H⟩ := H
    refine r_X5_slugOn_3 ?_
    simp only [mo_ty, mo_f39, mo_t1, mo_n1, mo_a1, ms_r8 (k := ((327382 + (185 * x1)) + 5) + x3) (p := x1) (i := 5 + x3) (by omega) (by omega) (by omega), true_or, or_true, true_and]
    refine ⟨a1079, a1080, a1081, a1082, (by omega), ?_⟩
    refine r_X5_slugOn_27 ?_
    exact H
theorem w_readOne_0 {d : Nat} {Q : am_K} {b : am_H} {r : Nat} {S : am_G} {V : Nat → Int → Int} {W : Nat → Int} {x1 : Int} (H : am_ev am_prog (d + 3) 256 [.inr (.inl r)] (mo b r (ms S) (am_up V 8 (am_uz (V 8) 0 0)) (am_up W 55 0)) (am_aft (am_hand m_X5_readOne Q (am_W m_X5_readOne (am_ev am_prog (d + 3)) Q) 9) (am_W m_X5_readOne (am_ev am_prog (d + 3)) Q) 9 [some (.inr (.inl r)), some (.inl x1)] [])) : am_W m_X5_readOne (am_ev am_prog (d + 3)) Q 0 [some (.inr (.inl r)), some (.inl x1)] [] (mo b r (ms S) V W) := by
  refine r_X5_readOne_0 ?_
  simp only [mo_ty, mo_si, true_or, or_true, true_and]
  refine ?_
  refine r_X5_readOne_3 ?_
  simp only [mo_ty, mo_f53, mo_t8, mo_n8, mo_s8, true_or, or_true, true_and]
  refine ⟨(by decide), ?_⟩
  refine r_X5_readOne_8 ?_
  simp only [mo_ty, true_or, or_true, true_and]
  exact H
theorem w_readOne_10 {d : Nat} {Q : am_K} {b : am_H} {r : Nat} {S : am_G} {V : Nat → Int → Int} {W : Nat → Int} {x1 : Int} (H : (W 45 ≤ W 46 → am_ev am_prog (d + 3) 258 [.inr (.inl r)] (mo b r (ms S) V W) (am_aft (am_hand m_X5_readOne Q (am_W m_X5_readOne (am_ev am_prog (d + 3)) Q) 23) (am_W m_X5_readOne (am_ev am_prog (d + 3)) Q) 23 [some (.inr (.inl r)), some (.inl x1)] [])) ∧ (W 46 < W 45 → ((0 ≤ W 46 ∧ W 46 < 400)) ∧ ((97 ≤ V 4 (W 46) ∧ V 4 (W 46) ≤ 122 → am_ev am_prog (d + 3) 282 [.inr (.inl r), .inl 0, .inl 0, .inl x1] (mo b r (ms S) V W) (am_aft (am_hand m_X5_readOne Q (am_W m_X5_readOne (am_ev am_prog (d + 3)) Q) 29) (am_W m_X5_readOne (am_ev am_prog (d + 3)) Q) 29 [some (.inr (.inl r)), some (.inl x1)] [])) ∧ (¬ (97 ≤ V 4 (W 46) ∧ V 4 (W 46) ≤ 122) → am_ev am_prog (d + 3) 258 [.inr (.inl r)] (mo b r (ms S) V W) (am_aft (am_hand m_X5_readOne Q (am_W m_X5_readOne (am_ev am_prog (d + 3)) Q) 23) (am_W m_X5_readOne (am_ev am_prog (d + 3)) Q) 23 [some (.inr (.inl r)), some (.inl x1)] []))))) : am_W m_X5_readOne (am_ev am_prog (d + 3)) Q 10 [some (.inr (.inl r)), some (.inl x1)] [] (mo b r (ms S) V W) := by
  refine r_X5_readOne_10 ?_
  simp only [mo_ty, mo_i, true_or, or_true, true_and]
  refine ⟨fun c => ?_, fun c => ?_⟩
  · replace H := H.1 c
    refine r_X5_readOne_22 ?_
    simp only [mo_ty, true_or, or_true, true_and]
    exact H
  · replace H := H.2 c
    obtain ⟨a1085, H⟩ := H
    refine r_X5_readOne_15 ?_
    simp only [mo_ty, mo_f43, mo_i, mo_t4, mo_n4, mo_a4, true_or, or_true, true_and]
    refine ⟨a1085, ?_⟩
    refine c_isLetter (am_av ?_)
    refine r_X5_readOne_21 ?_
    refine ⟨fun c => ?_, fun c => ?_⟩
    · replace c := am_b1 c
      replace H := H.1 c
      refine r_X5_readOne_25 ?_
      simp only [mo_ty, true_or, or_true, true_and]
      exact H
    · replace c := am_b0 c
      replace H := H.2 c
      refine r_X5_readOne_22 ?_
      simp only [mo_ty, true_or, or_true, true_and]
      exact H
theorem w_readOne_24 {d : Nat} {Q : am_K} {b : am_H} {r : Nat} {S : am_G} {V : Nat → Int → Int} {W : Nat → Int} {x1 : Int} {y0 : Int} (H : ((y0 = 0 ∨ y0 = 1)) ∧ (Q (.inl (some (.inl y0))) (mo b r (ms S) V W))) : am_W m_X5_readOne (am_ev am_prog (d + 3)) Q 24 [some (.inr (.inl r)), some (.inl x1)] [.inl y0] (mo b r (ms S) V W) := by
  obtain ⟨a1086, H⟩ := H
  refine r_X5_readOne_24 ?_
  exact ⟨a1086, H⟩
theorem w_readOne_30 {d : Nat} {Q : am_K} {b : am_H} {r : Nat} {S : am_G} {V : Nat → Int → Int} {W : Nat → Int} {x1 : Int} {y0 : Int} (H : ((y0 : Int) ≠ 0 → am_ev am_prog (d + 3) 256 [.inr (.inl r)] (mo b r (ms S) V W) (am_aft (am_hand m_X5_readOne Q (am_W m_X5_readOne (am_ev am_prog (d + 3)) Q) 34) (am_W m_X5_readOne (am_ev am_prog (d + 3)) Q) 34 [some (.inr (.inl r)), some (.inl x1)] [])) ∧ ((y0 : Int) = 0 → Q (.inl (some (.inl 0))) (mo b r (ms S) V W))) : am_W m_X5_readOne (am_ev am_prog (d + 3)) Q 30 [some (.inr (.inl r)), some (.inl x1)] [.inl y0] (mo b r (ms S) V W) := by
  refine r_X5_readOne_30 ?_
  refine ⟨fun c => ?_, fun c => ?_⟩
  · replace H := H.1 c
    refine r_X5_readOne_33 ?_
    simp only [mo_ty, true_or, or_true, true_and]
    exact H
  · replace H := H.2 c
    refine r_X5_readOne_31 ?_
    exact ⟨(by decide), H⟩
theorem w_readOne_35 {d : Nat} {Q : am_K} {b : am_H} {r : Nat} {S : am_G} {V : Nat → Int → Int} {W : Nat → Int} {x1 : Int} (H : (W 45 ≤ W 46 → Q (.inl (some (.inl 1))) (mo b r (ms S) V W)) ∧ (W 46 < W 45 → am_ev am_prog (d + 3) 258 [.inr (.inl r)] (mo b r (ms S) V W) (am_aft (am_hand m_X5_readOne Q (am_W m_X5_readOne (am_ev am_prog (d + 3)) Q) 41) (am_W m_X5_readOne (am_ev am_prog (d + 3)) Q) 41 [some (.inr (.inl r)), some (.inl x1)] []))) : am_W m_X5_readOne (am_ev am_prog (d + 3)) Q 35 [some (.inr (.inl r)), some (.inl x1)] [] (mo b r (ms S) V W) := by
  refine r_X5_readOne_35 ?_
  simp only [mo_ty, mo_i, true_or, or_true, true_and]
  refine ⟨fun c => ?_, fun c => ?_⟩
  · replace H := H.1 c
    refine r_X5_readOne_43 ?_
    refine r_X5_readOne_46 ?_
    exact ⟨(by decide), H⟩
  · replace H := H.2 c
    refine r_X5_readOne_40 ?_
    simp only [mo_ty, true_or, or_true, true_and]
    exact H
theorem w_readOne_42 {d : Nat} {Q : am_K} {b : am_H} {r : Nat} {S : am_G} {V : Nat → Int → Int} {W : Nat → Int} {x1 : Int} {y0 : Int} (H : Q (.inl (some (.inl (am_b ((y0 : Int) ≠ 0))))) (mo b r (ms S) V W)) : am_W m_X5_readOne (am_ev am_prog (d + 3)) Q 42 [some (.inr (.inl r)), some (.inl x1)] [.inl y0] (mo b r (ms S) V W) := by
  have J : ∀ y : Int, y = am_b ((y0 : Int) ≠ 0) → am_W m_X5_readOne (am_ev am_prog (d + 3)) Q 46 [some (.inr (.inl r)), some (.inl x1)] [.inl y] (mo b r (ms S) V W) := by
    intro y hy
    subst hy
    refine r_X5_readOne_46 ?_
    exact ⟨(am_bz _), H⟩
  refine r_X5_readOne_42 ?_
  refine ⟨fun c => ?_, fun c => ?_⟩
  · exact r_X5_readOne_45 (J _ (am_bf (by omega)).symm)
  · exact r_X5_readOne_43 (J _ (am_bt c).symm)
theorem w_hasJob_0 {d : Nat} {Q : am_K} {b : am_H} {r : Nat} {S : am_G} {V : Nat → Int → Int} {W : Nat → Int} {x1 : Int} {o2 : Option am_V} {o3 : Option am_V} {o4 : Option am_V} (H : am_W m_X5_hasJob (am_ev am_prog (d + 3)) Q 4 [some (.inr (.inl r)), some (.inl x1), some (.inl 0), some (.inl 0), o4] [] (mo b r (ms S) V W)) : am_W m_X5_hasJob (am_ev am_prog (d + 3)) Q 0 [some (.inr (.inl r)), some (.inl x1), o2, o3, o4] [] (mo b r (ms S) V W) := by
  refine r_X5_hasJob_0 ?_
  exact H
theorem w_hasJob_4 {d : Nat} {Q : am_K} {b : am_H} {r : Nat} {S : am_G} {V : Nat → Int → Int} {W : Nat → Int} {x1 : Int} {x2 : Int} {x3 : Int} {o4 : Option am_V} (H : (S 0 0 3 ≤ x3 → ((x2 = 0 ∨ x2 = 1)) ∧ (Q (.inl (some (.inl x2))) (mo b r (ms S) V W))) ∧ (x3 < S 0 0 3 → am_W m_X5_hasJob (am_ev am_prog (d + 3)) Q 12 [some (.inr (.inl r)), some (.inl x1), some (.inl x2), some (.inl x3), some (.inl 0)] [] (mo b r (ms S) V W))) : am_W m_X5_hasJob (am_ev am_prog (d + 3)) Q 4 [some (.inr (.inl r)), some (.inl x1), some (.inl x2), some (.inl x3), o4] [] (mo b r (ms S) V W) := by
  refine r_X5_hasJob_4 ?_
  simp only [mo_ty, mo_f39, mo_t1, mo_n1, mo_a1, ms_r0 (k := 3) (p := 0) (i := 3) (by omega) (by omega) (by omega), true_or, or_true, true_and]
  refine ⟨(by omega), ⟨fun c => ?_, fun c => ?_⟩⟩
  · replace H := H.1 c
    obtain ⟨a1087, H⟩ := H
    refine r_X5_hasJob_44 ?_
    exact ⟨a1087, H⟩
  · replace H := H.2 c
    refine r_X5_hasJob_10 ?_
    exact H
theorem w_hasJob_12 {d : Nat} {Q : am_K} {b : am_H} {r : Nat} {S : am_G} {V : Nat → Int → Int} {W : Nat → Int} {x1 : Int} {x2 : Int} {x3 : Int} {x4 : Int} (H : ((0 ≤ x3 ∧ x3 < 2000000)) ∧ (((-2147483648 ≤ (320230 + 183 * x3) + 29 ∧ (320230 + 183 * x3) + 29 ≤ 2147483647) ∧ (0 ≤ x3 ∧ x3 < 4)) ∧ ((S 5 x3 29 ≤ x4 → ((-2147483648 ≤ x3 + 1 ∧ x3 + 1 ≤ 2147483647)) ∧ (am_W m_X5_hasJob (am_ev am_prog (d + 3)) Q 4 [some (.inr (.inl r)), some (.inl x1), some (.inl x2), some (.inl (x3 + 1)), some (.inl x4)] [] (mo b r (ms S) V W))) ∧ (x4 < S 5 x3 29 → ((x2 : Int) ≠ 0 → ((-2147483648 ≤ x4 + 1 ∧ x4 + 1 ≤ 2147483647)) ∧ (am_W m_X5_hasJob (am_ev am_prog (d + 3)) Q 12 [some (.inr (.inl r)), some (.inl x1), some (.inl 1), some (.inl x3), some (.inl (x4 + 1))] [] (mo b r (ms S) V W))) ∧ ((x2 : Int) = 0 → ((0 ≤ x3 ∧ x3 < 2000000)) ∧ (((-2147483648 ≤ (320230 + 183 * x3) + 33 ∧ (320230 + 183 * x3) + 33 ≤ 2147483647) ∧ (-2147483648 ≤ 5 * x4 ∧ 5 * x4 ≤ 2147483647) ∧ (-2147483648 ≤ ((320230 + 183 * x3) + 33) + (5 * x4) ∧ ((320230 + 183 * x3) + 33) + (5 * x4) ≤ 2147483647) ∧ (0 ≤ x3 ∧ x3 < 4) ∧ (0 ≤ 33 + 5 * x4 ∧ 33 + 5 * x4 < 183)) ∧ (((-2147483648 ≤ x4 + 1 ∧ x4 + 1 ≤ 2147483647)) ∧ (am_W m_X5_hasJob (am_ev am_prog (d + 3)) Q 12 [some (.inr (.inl r)), some (.inl x1), some (.inl (am_b (S 5 x3 (33 + 5 * x4) = x1))), some (.inl x3), some (.inl (x4 + 1))] [] (mo b r (ms S) V W))))))))) : am_W m_X5_hasJob (am_ev am_prog (d + 3)) Q 12 [some (.inr (.inl r)), some (.inl x1), some (.inl x2), some (.inl x3), some (.inl x4)] [] (mo b r (ms S) V W) := by
  refine r_X5_hasJob_12 ?_
  simp only [mo_ty, mo_f39, true_or, or_true, true_and]
  refine ?_
  obtain ⟨a1088, H⟩ := H
  refine c_machine0 (by omega) (am_av ?_)
  obtain ⟨⟨a1089, a1090⟩, H⟩ := H
  refine r_X5_hasJob_17 ?_
  simp only [mo_t1, mo_n1, mo_a1, ms_r5 (k := (320230 + 183 * x3) + 29) (p := x3) (i := 29) (by omega) (by omega) (by omega), true_or, or_true, true_and]
  refine ⟨a1089, (by omega), ⟨fun c => ?_, fun c => ?_⟩⟩
  · replace H := H.1 c
    obtain ⟨a1091, H⟩ := H
    refine r_X5_hasJob_42 ?_
    refine ⟨a1091, ?_⟩
    exact H
  · replace H := H.2 c
    refine r_X5_hasJob_21 ?_
    refine ⟨fun c => ?_, fun c => ?_⟩
    · replace H := H.1 c
      refine r_X5_hasJob_36 ?_
      obtain ⟨a1092, H⟩ := H
      refine r_X5_hasJob_39 ?_
      refine ⟨a1092, ?_⟩
      exact H
    · replace H := H.2 c
      refine r_X5_hasJob_23 ?_
      simp only [mo_ty, mo_f39, true_or, or_true, true_and]
      refine ?_
      obtain ⟨a1093, H⟩ := H
      refine c_machine0 (by omega) (am_av ?_)
      obtain ⟨⟨a1094, a1095, a1096, a1097, a1098⟩, H⟩ := H
      have J : ∀ y : Int, y = am_b (S 5 x3 (33 + 5 * x4) = x1) → am_W m_X5_hasJob (am_ev am_prog (d + 3)) Q 39 [some (.inr (.inl r)), some (.inl x1), some (.inl x2), some (.inl x3), some (.inl x4)] [.inl y] (mo b r (ms S) V W) := by
        intro y hy
        subst hy
        obtain ⟨a1099, H⟩ := H
        refine r_X5_hasJob_39 ?_
        refine ⟨a1099, ?_⟩
        exact H
      refine r_X5_hasJob_27 ?_
      simp only [mo_t1, mo_n1, mo_a1, ms_r5 (k := ((320230 + 183 * x3) + 33) + (5 * x4)) (p := x3) (i := 33 + 5 * x4) (by omega) (by omega) (by omega), true_or, or_true, true_and]
      refine ⟨a1094, a1095, a1096, (by omega), ⟨fun c => ?_, fun c => ?_⟩⟩
      · exact r_X5_hasJob_38 (J _ (am_bf (by omega)).symm)
      · exact r_X5_hasJob_36 (J _ (am_bt c).symm)
theorem w_changes_0 {d : Nat} {Q : am_K} {b : am_H} {r : Nat} {S : am_G} {V : Nat → Int → Int} {W : Nat → Int} {p1 : Int} {x2 : Int} {x3 : Int} {x4 : Int} {o5 : Option am_V} {o6 : Option am_V} {o7 : Option am_V} {o8 : Option am_V} (H : ((-2147483648 ≤ (130 + 645 * p1) + 1 ∧ (130 + 645 * p1) + 1 ≤ 2147483647) ∧ (0 ≤ p1 ∧ p1 < 100) ∧ (-2147483648 ≤ (V 8 0) - x4 ∧ (V 8 0) - x4 ≤ 2147483647) ∧ (-2147483648 ≤ x3 + x4 ∧ x3 + x4 ≤ 2147483647)) ∧ (am_W m_X5_changes (am_ev am_prog (d + 3)) Q 18 [some (.inr (.inl r)), some (.inl (130 + 645 * p1)), some (.inl x2), some (.inl x3), some (.inl x4), some (.inl (S 3 p1 1)), some (.inl ((V 8 0) - x4)), some (.inl (x3 + x4)), o8] [] (mo b r (ms S) V W))) : am_W m_X5_changes (am_ev am_prog (d + 3)) Q 0 [some (.inr (.inl r)), some (.inl (130 + 645 * p1)), some (.inl x2), some (.inl x3), some (.inl x4), o5, o6, o7, o8] [] (mo b r (ms S) V W) := by
  obtain ⟨⟨a1100, a1101, a1102, a1103⟩, H⟩ := H
  refine r_X5_changes_0 ?_
  simp only [mo_ty, mo_f39, mo_t1, mo_n1, mo_a1, ms_r3 (k := (130 + 645 * p1) + 1) (p := p1) (i := 1) (by omega) (by omega) (by omega), mo_f53, mo_t8, mo_n8, mo_a8, true_or, or_true, true_and]
  refine ⟨a1100, (by omega), (by decide), a1102, a1103, ?_⟩
  exact H
theorem w_changes_18 {d : Nat} {Q : am_K} {b : am_H} {r : Nat} {S : am_G} {V : Nat → Int → Int} {W : Nat → Int} {p1 : Int} {x2 : Int} {x3 : Int} {x4 : Int} {x5 : Int} {x6 : Int} {x7 : Int} {o8 : Option am_V} (H : (x5 ≤ x7 → ((-2147483648 ≤ x3 + x4 ∧ x3 + x4 ≤ 2147483647)) ∧ (am_W m_X5_changes (am_ev am_prog (d + 3)) Q 78 [some (.inr (.inl r)), some (.inl (130 + 645 * p1)), some (.inl x2), some (.inl x3), some (.inl x4), some (.inl x5), some (.inl x6), some (.inl (x3 + x4)), o8] [] (mo b r (ms S) V W))) ∧ (x7 < x5 → ((-2147483648 ≤ (130 + 645 * p1) + 85 ∧ (130 + 645 * p1) + 85 ≤ 2147483647) ∧ (-2147483648 ≤ ((130 + 645 * p1) + 85) + x7 ∧ ((130 + 645 * p1) + 85) + x7 ≤ 2147483647) ∧ (0 ≤ p1 ∧ p1 < 100) ∧ (0 ≤ 85 + x7 ∧ 85 + x7 < 645) ∧ (0 ≤ x7 ∧ x7 < 40)) ∧ (((-2147483648 ≤ (130 + 645 * p1) + 125 ∧ (130 + 645 * p1) + 125 ≤ 2147483647) ∧ (-2147483648 ≤ ((130 + 645 * p1) + 125) + x7 ∧ ((130 + 645 * p1) + 125) + x7 ≤ 2147483647) ∧ (0 ≤ p1 ∧ p1 < 100) ∧ (0 ≤ 125 + x7 ∧ 125 + x7 < 645) ∧ (0 ≤ x7 ∧ x7 < 40)) ∧ (am_W m_X5_changes (am_ev am_prog (d + 3)) Q 47 [some (.inr (.inl r)), some (.inl (130 + 645 * p1)), some (.inl x2), some (.inl x3), some (.inl x4), some (.inl x5), some (.inl x6), some (.inl x7), some (.inl 0)] [] (mo b r (ms S) (am_up (am_up V 24 (am_uz (V 24) x7 (S 3 p1 (85 + x7)))) 25 (am_uz (V 25) x7 (S 3 p1 (125 + x7)))) W))))) : am_W m_X5_changes (am_ev am_prog (d + 3)) Q 18 [some (.inr (.inl r)), some (.inl (130 + 645 * p1)), some (.inl x2), some (.inl x3), some (.inl x4), some (.inl x5), some (.inl x6), some (.inl x7), o8] [] (mo b r (ms S) V W) := by
  refine r_X5_changes_18 ?_
  refine ⟨fun c => ?_, fun c => ?_⟩
  · replace H := H.1 c
    obtain ⟨a1105, H⟩ := H
    refine r_X5_changes_74 ?_
    refine ⟨a1105, ?_⟩
    exact H
  · replace H := H.2 c
    obtain ⟨⟨a1106, a1107, a1108, a1109, a1110⟩, H⟩ := H
    refine r_X5_changes_21 ?_
    simp only [mo_ty, mo_f80, mo_f39, mo_t1, mo_n1, mo_a1, ms_r3 (k := ((130 + 645 * p1) + 85) + x7) (p := p1) (i := 85 + x7) (by omega) (by omega) (by omega), mo_t24, mo_n24, mo_s24, true_or, or_true, true_and]
    refine ⟨a1106, a1107, (by omega), a1110, ?_⟩
    obtain ⟨⟨a1111, a1112, a1113, a1114, a1115⟩, H⟩ := H
    refine r_X5_changes_33 ?_
    simp only [mo_ty, mo_f81, mo_f39, mo_t1, mo_n1, mo_a1, ms_r3 (k := ((130 + 645 * p1) + 125) + x7) (p := p1) (i := 125 + x7) (by omega) (by omega) (by omega), mo_t25, mo_n25, mo_s25, am_up_ne (by decide : (25 : Nat) ≠ 24), true_or, or_true, true_and]
    refine ⟨a1111, a1112, (by omega), a1115, ?_⟩
    refine r_X5_changes_45 ?_
    exact H
theorem w_changes_47 {d : Nat} {Q : am_K} {b : am_H} {r : Nat} {S : am_G} {V : Nat → Int → Int} {W : Nat → Int} {p1 : Int} {x2 : Int} {x3 : Int} {x4 : Int} {x5 : Int} {x6 : Int} {x7 : Int} {x8 : Int} (H : (12 ≤ x8 → ((-2147483648 ≤ x7 + 1 ∧ x7 + 1 ≤ 2147483647)) ∧ (am_W m_X5_changes (am_ev am_prog (d + 3)) Q 18 [some (.inr (.inl r)), some (.inl (130 + 645 * p1)), some (.inl x2), some (.inl x3), some (.inl x4), some (.inl x5), some (.inl x6), some (.inl (x7 + 1)), some (.inl x8)] [] (mo b r (ms S) V W))) ∧ (x8 < 12 → ((-2147483648 ≤ 12 * x7 ∧ 12 * x7 ≤ 2147483647) ∧ (-2147483648 ≤ (12 * x7) + x8 ∧ (12 * x7) + x8 ≤ 2147483647) ∧ (-2147483648 ≤ (130 + 645 * p1) + 165 ∧ (130 + 645 * p1) + 165 ≤ 2147483647) ∧ (-2147483648 ≤ ((130 + 645 * p1) + 165) + (12 * x7) ∧ ((130 + 645 * p1) + 165) + (12 * x7) ≤ 2147483647) ∧ (-2147483648 ≤ (((130 + 645 * p1) + 165) + (12 * x7)) + x8 ∧ (((130 + 645 * p1) + 165) + (12 * x7)) + x8 ≤ 2147483647) ∧ (0 ≤ p1 ∧ p1 < 100) ∧ (0 ≤ 165 + 12 * x7 + x8 ∧ 165 + 12 * x7 + x8 < 645) ∧ (0 ≤ (12 * x7) + x8 ∧ (12 * x7) + x8 < 480)) ∧ (((-2147483648 ≤ x8 + 1 ∧ x8 + 1 ≤ 2147483647)) ∧ (am_W m_X5_changes (am_ev am_prog (d + 3)) Q 47 [some (.inr (.inl r)), some (.inl (130 + 645 * p1)), some (.inl x2), some (.inl x3), some (.inl x4), some (.inl x5), some (.inl x6), some (.inl x7), some (.inl (x8 + 1))] [] (mo b r (ms S) (am_up V 26 (am_uz (V 26) ((12 * x7) + x8) (S 3 p1 (165 + 12 * x7 + x8)))) W))))) : am_W m_X5_changes (am_ev am_prog (d + 3)) Q 47 [some (.inr (.inl r)), some (.inl (130 + 645 * p1)), some (.inl x2), some (.inl x3), some (.inl x4), some (.inl x5), some (.inl x6), some (.inl x7), some (.inl x8)] [] (mo b r (ms S) V W) := by
  refine r_X5_changes_47 ?_
  refine ⟨fun c => ?_, fun c => ?_⟩
  · replace H := H.1 c
    obtain ⟨a1117, H⟩ := H
    refine r_X5_changes_72 ?_
    refine ⟨a1117, ?_⟩
    exact H
  · replace H := H.2 c
    obtain ⟨⟨a1118, a1119, a1120, a1121, a1122, a1123, a1124, a1125⟩, H⟩ := H
    refine r_X5_changes_50 ?_
    simp only [mo_ty, mo_f82, mo_f39, mo_t1, mo_n1, mo_a1, ms_r3 (k := (((130 + 645 * p1) + 165) + (12 * x7)) + x8) (p := p1) (i := 165 + 12 * x7 + x8) (by omega) (by omega) (by omega), mo_t26, mo_n26, mo_s26, true_or, or_true, true_and]
    refine ⟨a1118, a1119, a1120, a1118, a1121, a1122, (by omega), a1125, ?_⟩
    obtain ⟨a1126, H⟩ := H
    refine r_X5_changes_70 ?_
    refine ⟨a1126, ?_⟩
    exact H
theorem w_changes_78 {d : Nat} {Q : am_K} {b : am_H} {r : Nat} {S : am_G} {V : Nat → Int → Int} {W : Nat → Int} {p1 : Int} {x2 : Int} {x3 : Int} {x4 : Int} {x5 : Int} {x6 : Int} {x7 : Int} {o8 : Option am_V} (H : (x5 ≤ x7 → am_W m_X5_changes (am_ev am_prog (d + 3)) Q 142 [some (.inr (.inl r)), some (.inl (130 + 645 * p1)), some (.inl x2), some (.inl x3), some (.inl x4), some (.inl x5), some (.inl x6), some (.inl 0), o8] [] (mo b r (ms S) V W)) ∧ (x7 < x5 → ((-2147483648 ≤ (130 + 645 * p1) + 85 ∧ (130 + 645 * p1) + 85 ≤ 2147483647) ∧ (-2147483648 ≤ ((130 + 645 * p1) + 85) + x7 ∧ ((130 + 645 * p1) + 85) + x7 ≤ 2147483647) ∧ (-2147483648 ≤ (((130 + 645 * p1) + 85) + x7) + x6 ∧ (((130 + 645 * p1) + 85) + x7) + x6 ≤ 2147483647) ∧ (0 ≤ x7 ∧ x7 < 40) ∧ (0 ≤ p1 ∧ p1 < 100) ∧ (0 ≤ 85 + x7 + x6 ∧ 85 + x7 + x6 < 645)) ∧ (((-2147483648 ≤ (130 + 645 * p1) + 125 ∧ (130 + 645 * p1) + 125 ≤ 2147483647) ∧ (-2147483648 ≤ ((130 + 645 * p1) + 125) + x7 ∧ ((130 + 645 * p1) + 125) + x7 ≤ 2147483647) ∧ (-2147483648 ≤ (((130 + 645 * p1) + 125) + x7) + x6 ∧ (((130 + 645 * p1) + 125) + x7) + x6 ≤ 2147483647) ∧ (0 ≤ x7 ∧ x7 < 40) ∧ (0 ≤ p1 ∧ p1 < 100) ∧ (0 ≤ 125 + x7 + x6 ∧ 125 + x7 + x6 < 645)) ∧ (am_W m_X5_changes (am_ev am_prog (d + 3)) Q 111 [some (.inr (.inl r)), some (.inl (130 + 645 * p1)), some (.inl x2), some (.inl x3), some (.inl x4), some (.inl x5), some (.inl x6), some (.inl x7), some (.inl 0)] [] (mo b r (ms (u3 (u3 S 3 p1 (85 + x7 + x6) (V 24 x7)) 3 p1 (125 + x7 + x6) (V 25 x7))) V W))))) : am_W m_X5_changes (am_ev am_prog (d + 3)) Q 78 [some (.inr (.inl r)), some (.inl (130 + 645 * p1)), some (.inl x2), some (.inl x3), some (.inl x4), some (.inl x5), some (.inl x6), some (.inl x7), o8] [] (mo b r (ms S) V W) := by
  refine r_X5_changes_78 ?_
  refine ⟨fun c => ?_, fun c => ?_⟩
  · replace H := H.1 c
    refine r_X5_changes_140 ?_
    exact H
  · replace H := H.2 c
    obtain ⟨⟨a1127, a1128, a1129, a1130, a1131, a1132⟩, H⟩ := H
    refine r_X5_changes_81 ?_
    simp only [mo_ty, mo_f39, mo_f80, mo_t24, mo_n24, mo_a24, mo_t1, mo_n1, mo_s1, ms_w3 (k := (((130 + 645 * p1) + 85) + x7) + x6) (p := p1) (i := 85 + x7 + x6) (by omega) (by omega) (by omega), true_or, or_true, true_and]
    refine ⟨a1127, a1128, a1129, a1130, (by omega), ?_⟩
    obtain ⟨⟨a1133, a1134, a1135, a1136, a1137, a1138⟩, H⟩ := H
    refine r_X5_changes_95 ?_
    simp only [mo_ty, mo_f39, mo_f81, mo_t25, mo_n25, mo_a25, mo_t1, mo_n1, mo_s1, ms_w3 (k := (((130 + 645 * p1) + 125) + x7) + x6) (p := p1) (i := 125 + x7 + x6) (by omega) (by omega) (by omega), true_or, or_true, true_and]
    refine ⟨a1133, a1134, a1135, a1136, (by omega), ?_⟩
    refine r_X5_changes_109 ?_
    exact H
theorem w_changes_111 {d : Nat} {Q : am_K} {b : am_H} {r : Nat} {S : am_G} {V : Nat → Int → Int} {W : Nat → Int} {p1 : Int} {x2 : Int} {x3 : Int} {x4 : Int} {x5 : Int} {x6 : Int} {x7 : Int} {x8 : Int} (H : (12 ≤ x8 → ((-2147483648 ≤ x7 + 1 ∧ x7 + 1 ≤ 2147483647)) ∧ (am_W m_X5_changes (am_ev am_prog (d + 3)) Q 78 [some (.inr (.inl r)), some (.inl (130 + 645 * p1)), some (.inl x2), some (.inl x3), some (.inl x4), some (.inl x5), some (.inl x6), some (.inl (x7 + 1)), some (.inl x8)] [] (mo b r (ms S) V W))) ∧ (x8 < 12 → ((-2147483648 ≤ (130 + 645 * p1) + 165 ∧ (130 + 645 * p1) + 165 ≤ 2147483647) ∧ (-2147483648 ≤ x7 + x6 ∧ x7 + x6 ≤ 2147483647) ∧ (-2147483648 ≤ 12 * (x7 + x6) ∧ 12 * (x7 + x6) ≤ 2147483647) ∧ (-2147483648 ≤ ((130 + 645 * p1) + 165) + (12 * (x7 + x6)) ∧ ((130 + 645 * p1) + 165) + (12 * (x7 + x6)) ≤ 2147483647) ∧ (-2147483648 ≤ (((130 + 645 * p1) + 165) + (12 * (x7 + x6))) + x8 ∧ (((130 + 645 * p1) + 165) + (12 * (x7 + x6))) + x8 ≤ 2147483647) ∧ (-2147483648 ≤ 12 * x7 ∧ 12 * x7 ≤ 2147483647) ∧ (-2147483648 ≤ (12 * x7) + x8 ∧ (12 * x7) + x8 ≤ 2147483647) ∧ (0 ≤ (12 * x7) + x8 ∧ (12 * x7) + x8 < 480) ∧ (0 ≤ p1 ∧ p1 < 100) ∧ (0 ≤ 165 + 12 * (x7 + x6) + x8 ∧ 165 + 12 * (x7 + x6) + x8 < 645)) ∧ (((-2147483648 ≤ x8 + 1 ∧ x8 + 1 ≤ 2147483647)) ∧ (am_W m_X5_changes (am_ev am_prog (d + 3)) Q 111 [some (.inr (.inl r)), some (.inl (130 + 645 * p1)), some (.inl x2), some (.inl x3), some (.inl x4), some (.inl x5), some (.inl x6), some (.inl x7), some (.inl (x8 + 1))] [] (mo b r (ms (u3 S 3 p1 (165 + 12 * (x7 + x6) + x8) (V 26 ((12 * x7) + x8)))) V W))))) : am_W m_X5_changes (am_ev am_prog (d + 3)) Q 111 [some (.inr (.inl r)), some (.inl (130 + 645 * p1)), some (.inl x2), some (.inl x3), some (.inl x4), some (.inl x5), some (.inl x6), some (.inl x7), some (.inl x8)] [] (mo b r (ms S) V W) := by
  refine r_X5_changes_111 ?_
  refine ⟨fun c => ?_, fun c => ?_⟩
  · replace H := H.1 c
    obtain ⟨a1140, H⟩ := H
    refine r_X5_changes_138 ?_
    refine ⟨a1140, ?_⟩
    exact H
  · replace H := H.2 c
    obtain ⟨⟨a1141, a1142, a1143, a1144, a1145, a1146, a1147, a1148, a1149, a1150⟩, H⟩ := H
    refine r_X5_changes_114 ?_
    simp only [mo_ty, mo_f39, mo_f82, mo_t26, mo_n26, mo_a26, mo_t1, mo_n1, mo_s1, ms_w3 (k := (((130 + 645 * p1) + 165) + (12 * (x7 + x6))) + x8) (p := p1) (i := 165 + 12 * (x7 + x6) + x8) (by omega) (by omega) (by omega), true_or, or_true, true_and]
    refine ⟨a1141, a1142, a1143, a1144, a1145, a1146, a1147, a1148, (by omega), ?_⟩
    obtain ⟨a1151, H⟩ := H
    refine r_X5_changes_136 ?_
    refine ⟨a1151, ?_⟩
    exact H
theorem w_changes_142 {d : Nat} {Q : am_K} {b : am_H} {r : Nat} {S : am_G} {V : Nat → Int → Int} {W : Nat → Int} {p1 : Int} {x2 : Int} {x3 : Int} {x4 : Int} {x5 : Int} {x6 : Int} {x7 : Int} {o8 : Option am_V} (H : (V 8 0 ≤ x7 → ((-2147483648 ≤ (130 + 645 * p1) + 1 ∧ (130 + 645 * p1) + 1 ≤ 2147483647) ∧ (-2147483648 ≤ x5 + x6 ∧ x5 + x6 ≤ 2147483647) ∧ (0 ≤ p1 ∧ p1 < 100)) ∧ (Q (.inl none) (mo b r (ms (u3 S 3 p1 1 (x5 + x6))) V W))) ∧ (x7 < V 8 0 → ((-2147483648 ≤ (130 + 645 * p1) + 85 ∧ (130 + 645 * p1) + 85 ≤ 2147483647) ∧ (-2147483648 ≤ ((130 + 645 * p1) + 85) + x3 ∧ ((130 + 645 * p1) + 85) + x3 ≤ 2147483647) ∧ (-2147483648 ≤ (((130 + 645 * p1) + 85) + x3) + x7 ∧ (((130 + 645 * p1) + 85) + x3) + x7 ≤ 2147483647) ∧ (0 ≤ p1 ∧ p1 < 100) ∧ (0 ≤ 85 + x3 + x7 ∧ 85 + x3 + x7 < 645)) ∧ (((-2147483648 ≤ (130 + 645 * p1) + 125 ∧ (130 + 645 * p1) + 125 ≤ 2147483647) ∧ (-2147483648 ≤ ((130 + 645 * p1) + 125) + x3 ∧ ((130 + 645 * p1) + 125) + x3 ≤ 2147483647) ∧ (-2147483648 ≤ (((130 + 645 * p1) + 125) + x3) + x7 ∧ (((130 + 645 * p1) + 125) + x3) + x7 ≤ 2147483647) ∧ (0 ≤ x7 ∧ x7 < 200) ∧ (0 ≤ p1 ∧ p1 < 100) ∧ (0 ≤ 125 + x3 + x7 ∧ 125 + x3 + x7 < 645)) ∧ (am_W m_X5_changes (am_ev am_prog (d + 3)) Q 175 [some (.inr (.inl r)), some (.inl (130 + 645 * p1)), some (.inl x2), some (.inl x3), some (.inl x4), some (.inl x5), some (.inl x6), some (.inl x7), some (.inl 0)] [] (mo b r (ms (u3 (u3 S 3 p1 (85 + x3 + x7) x2) 3 p1 (125 + x3 + x7) (V 6 x7))) V W))))) : am_W m_X5_changes (am_ev am_prog (d + 3)) Q 142 [some (.inr (.inl r)), some (.inl (130 + 645 * p1)), some (.inl x2), some (.inl x3), some (.inl x4), some (.inl x5), some (.inl x6), some (.inl x7), o8] [] (mo b r (ms S) V W) := by
  refine r_X5_changes_142 ?_
  simp only [mo_ty, mo_f53, mo_t8, mo_n8, mo_a8, true_or, or_true, true_and]
  refine ⟨(by decide), ⟨fun c => ?_, fun c => ?_⟩⟩
  · replace H := H.1 c
    obtain ⟨⟨a1152, a1153, a1154⟩, H⟩ := H
    refine r_X5_changes_204 ?_
    simp only [mo_ty, mo_f39, mo_t1, mo_n1, mo_s1, ms_w3 (k := (130 + 645 * p1) + 1) (p := p1) (i := 1) (by omega) (by omega) (by omega), true_or, or_true, true_and]
    refine ⟨a1152, a1153, (by omega), ?_⟩
    refine r_X5_changes_213 ?_
    exact H
  · replace H := H.2 c
    obtain ⟨⟨a1155, a1156, a1157, a1158, a1159⟩, H⟩ := H
    refine r_X5_changes_148 ?_
    simp only [mo_ty, mo_f39, mo_t1, mo_n1, mo_s1, ms_w3 (k := (((130 + 645 * p1) + 85) + x3) + x7) (p := p1) (i := 85 + x3 + x7) (by omega) (by omega) (by omega), true_or, or_true, true_and]
    refine ⟨a1155, a1156, a1157, (by omega), ?_⟩
    obtain ⟨⟨a1160, a1161, a1162, a1163, a1164, a1165⟩, H⟩ := H
    refine r_X5_changes_159 ?_
    simp only [mo_ty, mo_f39, mo_f51, mo_t6, mo_n6, mo_a6, mo_t1, mo_n1, mo_s1, ms_w3 (k := (((130 + 645 * p1) + 125) + x3) + x7) (p := p1) (i := 125 + x3 + x7) (by omega) (by omega) (by omega), true_or, or_true, true_and]
    refine ⟨a1160, a1161, a1162, a1163, (by omega), ?_⟩
    refine r_X5_changes_173 ?_
    exact H
theorem w_changes_175 {d : Nat} {Q : am_K} {b : am_H} {r : Nat} {S : am_G} {V : Nat → Int → Int} {W : Nat → Int} {p1 : Int} {x2 : Int} {x3 : Int} {x4 : Int} {x5 : Int} {x6 : Int} {x7 : Int} {x8 : Int} (H : (12 ≤ x8 → ((-2147483648 ≤ x7 + 1 ∧ x7 + 1 ≤ 2147483647)) ∧ (am_W m_X5_changes (am_ev am_prog (d + 3)) Q 142 [some (.inr (.inl r)), some (.inl (130 + 645 * p1)), some (.inl x2), some (.inl x3), some (.inl x4), some (.inl x5), some (.inl x6), some (.inl (x7 + 1)), some (.inl x8)] [] (mo b r (ms S) V W))) ∧ (x8 < 12 → ((-2147483648 ≤ (130 + 645 * p1) + 165 ∧ (130 + 645 * p1) + 165 ≤ 2147483647) ∧ (-2147483648 ≤ x3 + x7 ∧ x3 + x7 ≤ 2147483647) ∧ (-2147483648 ≤ 12 * (x3 + x7) ∧ 12 * (x3 + x7) ≤ 2147483647) ∧ (-2147483648 ≤ ((130 + 645 * p1) + 165) + (12 * (x3 + x7)) ∧ ((130 + 645 * p1) + 165) + (12 * (x3 + x7)) ≤ 2147483647) ∧ (-2147483648 ≤ (((130 + 645 * p1) + 165) + (12 * (x3 + x7))) + x8 ∧ (((130 + 645 * p1) + 165) + (12 * (x3 + x7))) + x8 ≤ 2147483647) ∧ (-2147483648 ≤ 12 * x7 ∧ 12 * x7 ≤ 2147483647) ∧ (-2147483648 ≤ (12 * x7) + x8 ∧ (12 * x7) + x8 ≤ 2147483647) ∧ (0 ≤ (12 * x7) + x8 ∧ (12 * x7) + x8 < 2400) ∧ (0 ≤ p1 ∧ p1 < 100) ∧ (0 ≤ 165 + 12 * (x3 + x7) + x8 ∧ 165 + 12 * (x3 + x7) + x8 < 645)) ∧ (((-2147483648 ≤ x8 + 1 ∧ x8 + 1 ≤ 2147483647)) ∧ (am_W m_X5_changes (am_ev am_prog (d + 3)) Q 175 [some (.inr (.inl r)), some (.inl (130 + 645 * p1)), some (.inl x2), some (.inl x3), some (.inl x4), some (.inl x5), some (.inl x6), some (.inl x7), some (.inl (x8 + 1))] [] (mo b r (ms (u3 S 3 p1 (165 + 12 * (x3 + x7) + x8) (V 7 ((12 * x7) + x8)))) V W))))) : am_W m_X5_changes (am_ev am_prog (d + 3)) Q 175 [some (.inr (.inl r)), some (.inl (130 + 645 * p1)), some (.inl x2), some (.inl x3), some (.inl x4), some (.inl x5), some (.inl x6), some (.inl x7), some (.inl x8)] [] (mo b r (ms S) V W) := by
  refine r_X5_changes_175 ?_
  refine ⟨fun c => ?_, fun c => ?_⟩
  · replace H := H.1 c
    obtain ⟨a1167, H⟩ := H
    refine r_X5_changes_202 ?_
    refine ⟨a1167, ?_⟩
    exact H
  · replace H := H.2 c
    obtain ⟨⟨a1168, a1169, a1170, a1171, a1172, a1173, a1174, a1175, a1176, a1177⟩, H⟩ := H
    refine r_X5_changes_178 ?_
    simp only [mo_ty, mo_f39, mo_f52, mo_t7, mo_n7, mo_a7, mo_t1, mo_n1, mo_s1, ms_w3 (k := (((130 + 645 * p1) + 165) + (12 * (x3 + x7))) + x8) (p := p1) (i := 165 + 12 * (x3 + x7) + x8) (by omega) (by omega) (by omega), true_or, or_true, true_and]
    refine ⟨a1168, a1169, a1170, a1171, a1172, a1173, a1174, a1175, (by omega), ?_⟩
    obtain ⟨a1178, H⟩ := H
    refine r_X5_changes_200 ?_
    refine ⟨a1178, ?_⟩
    exact H
theorem w_write_0 {d : Nat} {Q : am_K} {b : am_H} {r : Nat} {S : am_G} {V : Nat → Int → Int} {W : Nat → Int} {x1 : Int} {x2 : Int} {o3 : Option am_V} {o4 : Option am_V} {o5 : Option am_V} {o6 : Option am_V} {o7 : Option am_V} (H : ((0 ≤ x1 ∧ x1 < 3000000)) ∧ (((-2147483648 ≤ (130 + 645 * x1) + 5 ∧ (130 + 645 * x1) + 5 ≤ 2147483647) ∧ (-2147483648 ≤ ((130 + 645 * x1) + 5) + x2 ∧ ((130 + 645 * x1) + 5) + x2 ≤ 2147483647) ∧ (0 ≤ x1 ∧ x1 < 100) ∧ (0 ≤ 5 + x2 ∧ 5 + x2 < 645)) ∧ (am_W m_X5_write (am_ev am_prog (d + 3)) Q 17 [some (.inr (.inl r)), some (.inl x1), some (.inl x2), some (.inl (130 + 645 * x1)), some (.inl (S 3 x1 (5 + x2))), some (.inl 0), o6, o7] [] (mo b r (ms S) V (am_up W 73 0))))) : am_W m_X5_write (am_ev am_prog (d + 3)) Q 0 [some (.inr (.inl r)), some (.inl x1), some (.inl x2), o3, o4, o5, o6, o7] [] (mo b r (ms S) V W) := by
  refine r_X5_write_0 ?_
  refine ?_
  obtain ⟨a1179, H⟩ := H
  refine c_part0 (by omega) (am_av ?_)
  obtain ⟨⟨a1180, a1181, a1182, a1183⟩, H⟩ := H
  refine r_X5_write_2 ?_
  simp only [mo_ty, mo_f39, mo_t1, mo_n1, mo_a1, ms_r3 (k := ((130 + 645 * x1) + 5) + x2) (p := x1) (i := 5 + x2) (by omega) (by omega) (by omega), mo_si, true_or, or_true, true_and]
  refine ⟨a1180, a1181, (by omega), ?_⟩
  refine r_X5_write_15 ?_
  exact H
theorem w_write_17 {d : Nat} {Q : am_K} {b : am_H} {r : Nat} {S : am_G} {V : Nat → Int → Int} {W : Nat → Int} {x1 : Int} {x2 : Int} {p3 : Int} {x4 : Int} {x5 : Int} {o6 : Option am_V} {o7 : Option am_V} (H : (27 ≤ x5 → ((0 ≤ p3 ∧ p3 < 100) ∧ (0 ≤ x2 ∧ x2 < 500) ∧ (-2147483648 ≤ S 3 p3 (4 + x2) + 1 ∧ S 3 p3 (4 + x2) + 1 ≤ 2147483647)) ∧ (am_W m_X5_write (am_ev am_prog (d + 3)) Q 32 [some (.inr (.inl r)), some (.inl x1), some (.inl x2), some (.inl (130 + 645 * p3)), some (.inl x4), some (.inl (if x2 = 0 then 0 else S 3 p3 (4 + x2) + 1)), o6, o7] [] (mo b r (ms S) V W))) ∧ (x5 < 27 → ((0 ≤ x5 ∧ x5 < 27)) ∧ (((-2147483648 ≤ x5 + 1 ∧ x5 + 1 ≤ 2147483647)) ∧ (am_W m_X5_write (am_ev am_prog (d + 3)) Q 17 [some (.inr (.inl r)), some (.inl x1), some (.inl x2), some (.inl (130 + 645 * p3)), some (.inl x4), some (.inl (x5 + 1)), o6, o7] [] (mo b r (ms S) (am_up V 18 (am_uz (V 18) x5 0)) W))))) : am_W m_X5_write (am_ev am_prog (d + 3)) Q 17 [some (.inr (.inl r)), some (.inl x1), some (.inl x2), some (.inl (130 + 645 * p3)), some (.inl x4), some (.inl x5), o6, o7] [] (mo b r (ms S) V W) := by
  refine r_X5_write_17 ?_
  refine ⟨fun c => ?_, fun c => ?_⟩
  · replace H := H.1 c
    refine r_X5_write_27 ?_
    simp only [mo_ty, true_or, or_true, true_and]
    refine ?_
    obtain ⟨⟨a1184, a1185, a1186⟩, H⟩ := H
    refine c_begins (by omega) (by omega) (by omega) (am_av ?_)
    refine r_X5_write_31 ?_
    exact H
  · replace H := H.2 c
    obtain ⟨a1187, H⟩ := H
    refine r_X5_write_20 ?_
    simp only [mo_ty, mo_f74, mo_t18, mo_n18, mo_s18, true_or, or_true, true_and]
    refine ⟨a1187, ?_⟩
    obtain ⟨a1188, H⟩ := H
    refine r_X5_write_25 ?_
    refine ⟨a1188, ?_⟩
    exact H
theorem w_write_32 {d : Nat} {Q : am_K} {b : am_H} {r : Nat} {S : am_G} {V : Nat → Int → Int} {W : Nat → Int} {x1 : Int} {x2 : Int} {p3 : Int} {x4 : Int} {x5 : Int} {o6 : Option am_V} {o7 : Option am_V} (H : (x4 < x5 → ((0 ≤ p3 ∧ p3 < 100) ∧ (0 ≤ x4 ∧ x4 < 500) ∧ (-2147483648 ≤ S 3 p3 1 - 1 ∧ S 3 p3 1 - 1 ≤ 2147483647)) ∧ ((¬ (x4 = S 3 p3 1 - 1 ∨ S 3 p3 (85 + x4) ≠ S 3 p3 (86 + x4)) → ((-2147483648 ≤ (V 18 26) + 1 ∧ (V 18 26) + 1 ≤ 2147483647)) ∧ (((0 ≤ W 73 ∧ W 73 < 430)) ∧ (((-2147483648 ≤ (W 73) + 1 ∧ (W 73) + 1 ≤ 2147483647)) ∧ (Q (.inl none) (mo b r (ms S) (am_up (am_up V 18 (am_uz (V 18) 26 ((V 18 26) + 1))) 17 (am_uz (V 17) (W 73) 45)) (am_up W 73 ((W 73) + 1))))))) ∧ (x4 = S 3 p3 1 - 1 ∨ S 3 p3 (85 + x4) ≠ S 3 p3 (86 + x4) → Q (.inl none) (mo b r (ms S) V W)))) ∧ (x5 ≤ x4 → ((0 ≤ p3 ∧ p3 < 100) ∧ (0 ≤ x2 ∧ x2 < 500) ∧ (-2147483648 ≤ S 3 p3 (4 + x2) + 1 ∧ S 3 p3 (4 + x2) + 1 ≤ 2147483647)) ∧ ((x5 ≤ (if x2 = 0 then 0 else S 3 p3 (4 + x2) + 1) → am_W m_X5_write (am_ev am_prog (d + 3)) Q 74 [some (.inr (.inl r)), some (.inl x1), some (.inl x2), some (.inl (130 + 645 * p3)), some (.inl x4), some (.inl x5), some (.inl 0), o7] [] (mo b r (ms S) V W)) ∧ ((if x2 = 0 then 0 else S 3 p3 (4 + x2) + 1) < x5 → ((-2147483648 ≤ (130 + 645 * p3) + 85 ∧ (130 + 645 * p3) + 85 ≤ 2147483647) ∧ (-2147483648 ≤ ((130 + 645 * p3) + 85) + x5 ∧ ((130 + 645 * p3) + 85) + x5 ≤ 2147483647) ∧ (0 ≤ p3 ∧ p3 < 100) ∧ (0 ≤ 85 + x5 ∧ 85 + x5 < 645) ∧ (-2147483648 ≤ (((130 + 645 * p3) + 85) + x5) - 1 ∧ (((130 + 645 * p3) + 85) + x5) - 1 ≤ 2147483647) ∧ (0 ≤ 84 + x5 ∧ 84 + x5 < 645)) ∧ ((S 3 p3 (85 + x5) = S 3 p3 (84 + x5) → am_W m_X5_write (am_ev am_prog (d + 3)) Q 74 [some (.inr (.inl r)), some (.inl x1), some (.inl x2), some (.inl (130 + 645 * p3)), some (.inl x4), some (.inl x5), some (.inl 0), o7] [] (mo b r (ms S) V W)) ∧ (S 3 p3 (85 + x5) ≠ S 3 p3 (84 + x5) → ((0 ≤ W 73 ∧ W 73 < 430)) ∧ (((-2147483648 ≤ (W 73) + 1 ∧ (W 73) + 1 ≤ 2147483647)) ∧ (am_W m_X5_write (am_ev am_prog (d + 3)) Q 74 [some (.inr (.inl r)), some (.inl x1), some (.inl x2), some (.inl (130 + 645 * p3)), some (.inl x4), some (.inl x5), some (.inl 0), o7] [] (mo b r (ms S) (am_up V 17 (am_uz (V 17) (W 73) 32)) (am_up W 73 ((W 73) + 1))))))))))) : am_W m_X5_write (am_ev am_prog (d + 3)) Q 32 [some (.inr (.inl r)), some (.inl x1), some (.inl x2), some (.inl (130 + 645 * p3)), some (.inl x4), some (.inl x5), o6, o7] [] (mo b r (ms S) V W) := by
  refine r_X5_write_32 ?_
  refine ⟨fun c => ?_, fun c => ?_⟩
  · replace H := H.1 c
    refine r_X5_write_123 ?_
    simp only [mo_ty, true_or, or_true, true_and]
    refine ?_
    obtain ⟨⟨a1189, a1190, a1191⟩, H⟩ := H
    refine c_endsWord (by omega) (by omega) (by omega) (am_av ?_)
    refine r_X5_write_127 ?_
    refine ⟨fun c => ?_, fun c => ?_⟩
    · replace c := am_b0 c
      replace H := H.1 c
      obtain ⟨a1192, H⟩ := H
      refine r_X5_write_129 ?_
      simp only [mo_ty, mo_f74, mo_t18, mo_n18, mo_a18, mo_s18, true_or, or_true, true_and]
      refine ⟨(by decide), a1192, (by decide), ?_⟩
      obtain ⟨a1193, H⟩ := H
      refine r_X5_write_137 ?_
      simp only [mo_ty, mo_f72, mo_i, mo_t17, mo_n17, mo_s17, am_up_ne (by decide : (17 : Nat) ≠ 18), true_or, or_true, true_and]
      refine ⟨a1193, ?_⟩
      obtain ⟨a1194, H⟩ := H
      refine r_X5_write_143 ?_
      simp only [mo_ty, mo_i, mo_si, true_or, or_true, true_and]
      refine ⟨a1194, ?_⟩
      refine r_X5_write_149 ?_
      exact H
    · replace c := am_b1 c
      replace H := H.2 c
      refine r_X5_write_128 ?_
      exact H
  · replace H := H.2 c
    refine r_X5_write_35 ?_
    simp only [mo_ty, true_or, or_true, true_and]
    refine ?_
    obtain ⟨⟨a1195, a1196, a1197⟩, H⟩ := H
    refine c_begins (by omega) (by omega) (by omega) (am_av ?_)
    refine r_X5_write_40 ?_
    refine ⟨fun c => ?_, fun c => ?_⟩
    · replace H := H.1 c
      refine r_X5_write_72 ?_
      exact H
    · replace H := H.2 c
      obtain ⟨⟨a1198, a1199, a1200, a1201, a1202, a1203⟩, H⟩ := H
      refine r_X5_write_41 ?_
      simp only [mo_ty, mo_f39, mo_t1, mo_n1, mo_a1, ms_r3 (k := ((130 + 645 * p3) + 85) + x5) (p := p3) (i := 85 + x5) (by omega) (by omega) (by omega), ms_r3 (k := (((130 + 645 * p3) + 85) + x5) - 1) (p := p3) (i := 84 + x5) (by omega) (by omega) (by omega), true_or, or_true, true_and]
      refine ⟨a1198, a1199, (by omega), a1198, a1199, a1202, (by omega), ⟨fun c => ?_, fun c => ?_⟩⟩
      · replace H := H.1 c
        refine r_X5_write_72 ?_
        exact H
      · replace H := H.2 c
        obtain ⟨a1204, H⟩ := H
        refine r_X5_write_60 ?_
        simp only [mo_ty, mo_f72, mo_i, mo_t17, mo_n17, mo_s17, true_or, or_true, true_and]
        refine ⟨a1204, ?_⟩
        obtain ⟨a1205, H⟩ := H
        refine r_X5_write_66 ?_
        simp only [mo_ty, mo_i, mo_si, true_or, or_true, true_and]
        refine ⟨a1205, ?_⟩
        refine r_X5_write_72 ?_
        exact H
theorem w_write_74 {d : Nat} {Q : am_K} {b : am_H} {r : Nat} {S : am_G} {V : Nat → Int → Int} {W : Nat → Int} {x1 : Int} {x2 : Int} {p3 : Int} {x4 : Int} {x5 : Int} {x6 : Int} {o7 : Option am_V} (H : ((-2147483648 ≤ (130 + 645 * p3) + 125 ∧ (130 + 645 * p3) + 125 ≤ 2147483647) ∧ (-2147483648 ≤ ((130 + 645 * p3) + 125) + x5 ∧ ((130 + 645 * p3) + 125) + x5 ≤ 2147483647) ∧ (0 ≤ p3 ∧ p3 < 100) ∧ (0 ≤ 125 + x5 ∧ 125 + x5 < 645)) ∧ ((S 3 p3 (125 + x5) ≤ x6 → ((-2147483648 ≤ x5 + 1 ∧ x5 + 1 ≤ 2147483647)) ∧ (am_W m_X5_write (am_ev am_prog (d + 3)) Q 32 [some (.inr (.inl r)), some (.inl x1), some (.inl x2), some (.inl (130 + 645 * p3)), some (.inl x4), some (.inl (x5 + 1)), some (.inl x6), o7] [] (mo b r (ms S) V W))) ∧ (x6 < S 3 p3 (125 + x5) → ((-2147483648 ≤ (130 + 645 * p3) + 165 ∧ (130 + 645 * p3) + 165 ≤ 2147483647) ∧ (-2147483648 ≤ 12 * x5 ∧ 12 * x5 ≤ 2147483647) ∧ (-2147483648 ≤ ((130 + 645 * p3) + 165) + (12 * x5) ∧ ((130 + 645 * p3) + 165) + (12 * x5) ≤ 2147483647) ∧ (-2147483648 ≤ (((130 + 645 * p3) + 165) + (12 * x5)) + x6 ∧ (((130 + 645 * p3) + 165) + (12 * x5)) + x6 ≤ 2147483647) ∧ (0 ≤ p3 ∧ p3 < 100) ∧ (0 ≤ 165 + 12 * x5 + x6 ∧ 165 + 12 * x5 + x6 < 645) ∧ (0 ≤ S 3 p3 (165 + 12 * x5 + x6) ∧ S 3 p3 (165 + 12 * x5 + x6) < 27) ∧ (-2147483648 ≤ (V 18 (S 3 p3 (165 + 12 * x5 + x6))) + 1 ∧ (V 18 (S 3 p3 (165 + 12 * x5 + x6))) + 1 ≤ 2147483647)) ∧ (((-2147483648 ≤ 97 + (S 3 p3 (165 + 12 * x5 + x6)) ∧ 97 + (S 3 p3 (165 + 12 * x5 + x6)) ≤ 2147483647) ∧ (0 ≤ W 73 ∧ W 73 < 430)) ∧ (((-2147483648 ≤ (W 73) + 1 ∧ (W 73) + 1 ≤ 2147483647)) ∧ (((-2147483648 ≤ x6 + 1 ∧ x6 + 1 ≤ 2147483647)) ∧ (am_W m_X5_write (am_ev am_prog (d + 3)) Q 74 [some (.inr (.inl r)), some (.inl x1), some (.inl x2), some (.inl (130 + 645 * p3)), some (.inl x4), some (.inl x5), some (.inl (x6 + 1)), some (.inl (S 3 p3 (165 + 12 * x5 + x6)))] [] (mo b r (ms S) (am_up (am_up V 18 (am_uz (V 18) (S 3 p3 (165 + 12 * x5 + x6)) ((V 18 (S 3 p3 (165 + 12 * x5 + x6))) + 1))) 17 (am_uz (V 17) (W 73) (97 + (S 3 p3 (165 + 12 * x5 + x6))))) (am_up W 73 ((W 73) + 1)))))))))) : am_W m_X5_write (am_ev am_prog (d + 3)) Q 74 [some (.inr (.inl r)), some (.inl x1), some (.inl x2), some (.inl (130 + 645 * p3)), some (.inl x4), some (.inl x5), some (.inl x6), o7] [] (mo b r (ms S) V W) := by
  obtain ⟨⟨a1206, a1207, a1208, a1209⟩, H⟩ := H
  refine r_X5_write_74 ?_
  simp only [mo_ty, mo_f39, mo_t1, mo_n1, mo_a1, ms_r3 (k := ((130 + 645 * p3) + 125) + x5) (p := p3) (i := 125 + x5) (by omega) (by omega) (by omega), true_or, or_true, true_and]
  refine ⟨a1206, a1207, (by omega), ⟨fun c => ?_, fun c => ?_⟩⟩
  · replace H := H.1 c
    obtain ⟨a1210, H⟩ := H
    refine r_X5_write_121 ?_
    refine ⟨a1210, ?_⟩
    exact H
  · replace H := H.2 c
    obtain ⟨⟨a1211, a1212, a1213, a1214, a1215, a1216, a1217, a1218⟩, H⟩ := H
    refine r_X5_write_84 ?_
    simp only [mo_ty, mo_f39, mo_t1, mo_n1, mo_a1, ms_r3 (k := (((130 + 645 * p3) + 165) + (12 * x5)) + x6) (p := p3) (i := 165 + 12 * x5 + x6) (by omega) (by omega) (by omega), mo_f74, mo_t18, mo_n18, mo_a18, mo_s18, true_or, or_true, true_and]
    refine ⟨a1211, a1212, a1213, a1214, (by omega), a1217, a1218, a1217, ?_⟩
    obtain ⟨⟨a1219, a1220⟩, H⟩ := H
    refine r_X5_write_105 ?_
    simp only [mo_ty, mo_f72, mo_i, mo_t17, mo_n17, mo_s17, am_up_ne (by decide : (17 : Nat) ≠ 18), true_or, or_true, true_and]
    refine ⟨a1219, a1220, ?_⟩
    obtain ⟨a1221, H⟩ := H
    refine r_X5_write_113 ?_
    simp only [mo_ty, mo_i, mo_si, true_or, or_true, true_and]
    refine ⟨a1221, ?_⟩
    obtain ⟨a1222, H⟩ := H
    refine r_X5_write_119 ?_
    refine ⟨a1222, ?_⟩
    exact H
theorem w_isSame_0 {d : Nat} {Q : am_K} {b : am_H} {r : Nat} {S : am_G} {V : Nat → Int → Int} {W : Nat → Int} {x1 : Int} {x2 : Int} {x3 : Int} {o4 : Option am_V} {o5 : Option am_V} (H : am_ev am_prog (d + 3) 193 [.inr (.inl r), .inl x1, .inl x3] (mo b r (ms S) V W) (am_aft (am_hand m_X5_isSame Q (am_W m_X5_isSame (am_ev am_prog (d + 3)) Q) 3) (am_W m_X5_isSame (am_ev am_prog (d + 3)) Q) 3 [some (.inr (.inl r)), some (.inl x1), some (.inl x2), some (.inl x3), o4, o5] [])) : am_W m_X5_isSame (am_ev am_prog (d + 3)) Q 0 [some (.inr (.inl r)), some (.inl x1), some (.inl x2), some (.inl x3), o4, o5] [] (mo b r (ms S) V W) := by
  refine r_X5_isSame_0 ?_
  simp only [mo_ty, true_or, or_true, true_and]
  exact H
theorem w_isSame_4 {d : Nat} {Q : am_K} {b : am_H} {r : Nat} {S : am_G} {V : Nat → Int → Int} {W : Nat → Int} {x1 : Int} {x2 : Int} {x3 : Int} {o4 : Option am_V} {o5 : Option am_V} (H : ((0 ≤ x2 ∧ x2 < 40)) ∧ (am_W m_X5_isSame (am_ev am_prog (d + 3)) Q 17 [some (.inr (.inl r)), some (.inl x1), some (.inl x2), some (.inl x3), some (.inl (am_b (V 21 x2 = W 73))), some (.inl 0)] [] (mo b r (ms S) V W))) : am_W m_X5_isSame (am_ev am_prog (d + 3)) Q 4 [some (.inr (.inl r)), some (.inl x1), some (.inl x2), some (.inl x3), o4, o5] [] (mo b r (ms S) V W) := by
  obtain ⟨a1223, H⟩ := H
  have J : ∀ y : Int, y = am_b (V 21 x2 = W 73) → am_W m_X5_isSame (am_ev am_prog (d + 3)) Q 14 [some (.inr (.inl r)), some (.inl x1), some (.inl x2), some (.inl x3), o4, o5] [.inl y] (mo b r (ms S) V W) := by
    intro y hy
    subst hy
    refine r_X5_isSame_14 ?_
    exact H
  refine r_X5_isSame_4 ?_
  simp only [mo_ty, mo_f77, mo_t21, mo_n21, mo_a21, mo_i, true_or, or_true, true_and]
  refine ⟨a1223, ⟨fun c => ?_, fun c => ?_⟩⟩
  · exact r_X5_isSame_13 (J _ (am_bf (by omega)).symm)
  · exact r_X5_isSame_11 (J _ (am_bt c).symm)
theorem w_isSame_17 {d : Nat} {Q : am_K} {b : am_H} {r : Nat} {S : am_G} {V : Nat → Int → Int} {W : Nat → Int} {x1 : Int} {x2 : Int} {x3 : Int} {x4 : Int} {x5 : Int} (H : (W 73 ≤ x5 → ((x4 = 0 ∨ x4 = 1)) ∧ (Q (.inl (some (.inl x4))) (mo b r (ms S) V W))) ∧ (x5 < W 73 → ((x4 : Int) = 0 → ((x4 = 0 ∨ x4 = 1)) ∧ (Q (.inl (some (.inl x4))) (mo b r (ms S) V W))) ∧ ((x4 : Int) ≠ 0 → ((-2147483648 ≤ 430 * x2 ∧ 430 * x2 ≤ 2147483647) ∧ (-2147483648 ≤ (430 * x2) + x5 ∧ (430 * x2) + x5 ≤ 2147483647) ∧ (0 ≤ (430 * x2) + x5 ∧ (430 * x2) + x5 < 17200) ∧ (0 ≤ x5 ∧ x5 < 430)) ∧ (((-2147483648 ≤ x5 + 1 ∧ x5 + 1 ≤ 2147483647)) ∧ (am_W m_X5_isSame (am_ev am_prog (d + 3)) Q 17 [some (.inr (.inl r)), some (.inl x1), some (.inl x2), some (.inl x3), some (.inl (am_b (V 20 ((430 * x2) + x5) = V 17 x5))), some (.inl (x5 + 1))] [] (mo b r (ms S) V W)))))) : am_W m_X5_isSame (am_ev am_prog (d + 3)) Q 17 [some (.inr (.inl r)), some (.inl x1), some (.inl x2), some (.inl x3), some (.inl x4), some (.inl x5)] [] (mo b r (ms S) V W) := by
  refine r_X5_isSame_17 ?_
  simp only [mo_ty, mo_i, true_or, or_true, true_and]
  refine ⟨fun c => ?_, fun c => ?_⟩
  · replace H := H.1 c
    obtain ⟨a1224, H⟩ := H
    refine r_X5_isSame_42 ?_
    exact ⟨a1224, H⟩
  · replace H := H.2 c
    refine r_X5_isSame_21 ?_
    refine ⟨fun c => ?_, fun c => ?_⟩
    · replace H := H.1 c
      obtain ⟨a1225, H⟩ := H
      refine r_X5_isSame_42 ?_
      exact ⟨a1225, H⟩
    · replace H := H.2 c
      obtain ⟨⟨a1226, a1227, a1228, a1229⟩, H⟩ := H
      have J : ∀ y : Int, y = am_b (V 20 ((430 * x2) + x5) = V 17 x5) → am_W m_X5_isSame (am_ev am_prog (d + 3)) Q 39 [some (.inr (.inl r)), some (.inl x1), some (.inl x2), some (.inl x3), some (.inl x4), some (.inl x5)] [.inl y] (mo b r (ms S) V W) := by
        intro y hy
        subst hy
        obtain ⟨a1230, H⟩ := H
        refine r_X5_isSame_39 ?_
        refine ⟨a1230, ?_⟩
        exact H
      refine r_X5_isSame_23 ?_
      simp only [mo_ty, mo_f76, mo_t20, mo_n20, mo_a20, mo_f72, mo_t17, mo_n17, mo_a17, true_or, or_true, true_and]
      refine ⟨a1226, a1227, a1228, a1229, ⟨fun c => ?_, fun c => ?_⟩⟩
      · exact r_X5_isSame_38 (J _ (am_bf (by omega)).symm)
      · exact r_X5_isSame_36 (J _ (am_bt c).symm)
theorem w_pots_0 {d : Nat} {Q : am_K} {b : am_H} {r : Nat} {S : am_G} {V : Nat → Int → Int} {W : Nat → Int} {x1 : Int} (H : ((x1 : Int) ≠ (-1) → ((0 ≤ x1 ∧ x1 < 2000000)) ∧ (((-2147483648 ≤ (64630 + 852 * x1) + 4 ∧ (64630 + 852 * x1) + 4 ≤ 2147483647) ∧ (0 ≤ x1 ∧ x1 < 300)) ∧ (((0 ≤ x1 ∧ x1 < 2000000)) ∧ (((-2147483648 ≤ (64630 + 852 * x1) + 5 ∧ (64630 + 852 * x1) + 5 ≤ 2147483647) ∧ (0 ≤ x1 ∧ x1 < 300)) ∧ (((0 ≤ x1 ∧ x1 < 2000000)) ∧ (((-2147483648 ≤ (64630 + 852 * x1) + 6 ∧ (64630 + 852 * x1) + 6 ≤ 2147483647) ∧ (0 ≤ x1 ∧ x1 < 300)) ∧ (Q (.inl none) (mo b r (ms (u3 (u3 (u3 S 4 x1 4 2) 4 x1 5 (-1)) 4 x1 6 (-1))) V W)))))))) ∧ ((x1 : Int) = (-1) → Q (.inl none) (mo b r (ms S) V W))) : am_W m_X5_pots (am_ev am_prog (d + 3)) Q 0 [some (.inr (.inl r)), some (.inl x1)] [] (mo b r (ms S) V W) := by
  refine r_X5_pots_0 ?_
  refine ⟨fun c => ?_, fun c => ?_⟩
  · replace H := H.1 c
    refine r_X5_pots_4 ?_
    simp only [mo_ty, mo_f39, true_or, or_true, true_and]
    refine ?_
    obtain ⟨a1231, H⟩ := H
    refine c_slug0 (by omega) (am_av ?_)
    obtain ⟨⟨a1232, a1233⟩, H⟩ := H
    refine r_X5_pots_8 ?_
    simp only [mo_t1, mo_n1, mo_s1, ms_w4 (k := (64630 + 852 * x1) + 4) (p := x1) (i := 4) (by omega) (by omega) (by omega), true_or, or_true, true_and]
    refine ⟨a1232, (by omega), ?_⟩
    refine r_X5_pots_12 ?_
    simp only [mo_ty, mo_f39, true_or, or_true, true_and]
    refine ?_
    obtain ⟨a1234, H⟩ := H
    refine c_slug0 (by omega) (am_av ?_)
    obtain ⟨⟨a1235, a1236⟩, H⟩ := H
    refine r_X5_pots_16 ?_
    simp only [mo_t1, mo_n1, mo_s1, ms_w4 (k := (64630 + 852 * x1) + 5) (p := x1) (i := 5) (by omega) (by omega) (by omega), true_or, or_true, true_and]
    refine ⟨a1235, (by omega), ?_⟩
    refine r_X5_pots_20 ?_
    simp only [mo_ty, mo_f39, true_or, or_true, true_and]
    refine ?_
    obtain ⟨a1237, H⟩ := H
    refine c_slug0 (by omega) (am_av ?_)
    obtain ⟨⟨a1238, a1239⟩, H⟩ := H
    refine r_X5_pots_24 ?_
    simp only [mo_t1, mo_n1, mo_s1, ms_w4 (k := (64630 + 852 * x1) + 6) (p := x1) (i := 6) (by omega) (by omega) (by omega), true_or, or_true, true_and]
    refine ⟨a1238, (by omega), ?_⟩
    refine r_X5_pots_28 ?_
    exact H
  · replace H := H.2 c
    refine r_X5_pots_3 ?_
    exact H
theorem w_byteCame_0 {d : Nat} {Q : am_K} {b : am_H} {r : Nat} {S : am_G} {V : Nat → Int → Int} {W : Nat → Int} {x1 : Int} (H : ((0 ≤ W 44 ∧ W 44 < 400)) ∧ (((-2147483648 ≤ (W 44) + 1 ∧ (W 44) + 1 ≤ 2147483647)) ∧ (Q (.inl none) (mo b r (ms S) (am_up V 4 (am_uz (V 4) (W 44) (am_andz x1 255))) (am_up W 44 ((W 44) + 1)))))) : am_W m_X5_byteCame (am_ev am_prog (d + 3)) Q 0 [some (.inr (.inl r)), some (.inl x1)] [] (mo b r (ms S) V W) := by
  obtain ⟨a1240, H⟩ := H
  refine r_X5_byteCame_0 ?_
  simp only [mo_ty, mo_f43, mo_i, mo_t4, mo_n4, mo_s4, true_or, or_true, true_and]
  refine ⟨a1240, ?_⟩
  obtain ⟨a1241, H⟩ := H
  refine r_X5_byteCame_8 ?_
  simp only [mo_ty, mo_i, mo_si, true_or, or_true, true_and]
  refine ⟨a1241, ?_⟩
  refine r_X5_byteCame_14 ?_
  exact H
theorem w_badness_0 {d : Nat} {Q : am_K} {b : am_H} {r : Nat} {S : am_G} {V : Nat → Int → Int} {W : Nat → Int} {x1 : Int} {x2 : Int} {x3 : Int} {o4 : Option am_V} (H : ((0 ≤ x1 ∧ x1 < 100) ∧ (-2147483648 ≤ S 3 x1 1 - 1 ∧ S 3 x1 1 - 1 ≤ 2147483647)) ∧ ((¬ (x3 = S 3 x1 1 - 1) → am_ev am_prog (d + 3) 179 [.inr (.inl r), .inl x1, .inl x2, .inl x3] (mo b r (ms S) V W) (am_aft (am_hand m_X5_badness Q (am_W m_X5_badness (am_ev am_prog (d + 3)) Q) 13) (am_W m_X5_badness (am_ev am_prog (d + 3)) Q) 13 [some (.inr (.inl r)), some (.inl x1), some (.inl x2), some (.inl x3), o4] [.inl (W 63)])) ∧ (x3 = S 3 x1 1 - 1 → Q (.inl (some (.inl 0))) (mo b r (ms S) V W)))) : am_W m_X5_badness (am_ev am_prog (d + 3)) Q 0 [some (.inr (.inl r)), some (.inl x1), some (.inl x2), some (.inl x3), o4] [] (mo b r (ms S) V W) := by
  refine r_X5_badness_0 ?_
  simp only [mo_ty, true_or, or_true, true_and]
  refine ?_
  obtain ⟨⟨a1242, a1243⟩, H⟩ := H
  refine c_isLast (by omega) (by omega) (am_av ?_)
  refine r_X5_badness_4 ?_
  refine ⟨fun c => ?_, fun c => ?_⟩
  · replace c := am_b0 c
    replace H := H.1 c
    refine r_X5_badness_7 ?_
    simp only [mo_ty, mo_i, true_or, or_true, true_and]
    exact H
  · replace c := am_b1 c
    replace H := H.2 c
    refine r_X5_badness_5 ?_
    exact H
theorem w_badness_14 {d : Nat} {Q : am_K} {b : am_H} {r : Nat} {S : am_G} {V : Nat → Int → Int} {W : Nat → Int} {x1 : Int} {x2 : Int} {x3 : Int} {o4 : Option am_V} {y1 : Int} {y0 : Int} (H : ((-2147483648 ≤ y0 - y1 ∧ y0 - y1 ≤ 2147483647) ∧ (-2147483648 ≤ (y0 - y1) * (y0 - y1) ∧ (y0 - y1) * (y0 - y1) ≤ 2147483647)) ∧ (((0 ≤ x1 ∧ x1 < 3000000)) ∧ (((0 ≤ x1 ∧ x1 < 100) ∧ (0 ≤ x3 ∧ x3 < 500) ∧ (-2147483648 ≤ S 3 x1 1 - 1 ∧ S 3 x1 1 - 1 ≤ 2147483647)) ∧ ((¬ (x3 = S 3 x1 1 - 1 ∨ S 3 x1 (85 + x3) ≠ S 3 x1 (86 + x3)) → ((-2147483648 ≤ ((y0 - y1) * (y0 - y1)) + (W 67) ∧ ((y0 - y1) * (y0 - y1)) + (W 67) ≤ 2147483647)) ∧ (Q (.inl (some (.inl (((y0 - y1) * (y0 - y1)) + (W 67))))) (mo b r (ms S) V W))) ∧ (x3 = S 3 x1 1 - 1 ∨ S 3 x1 (85 + x3) ≠ S 3 x1 (86 + x3) → ((-2147483648 ≤ ((y0 - y1) * (y0 - y1)) + 0 ∧ ((y0 - y1) * (y0 - y1)) + 0 ≤ 2147483647)) ∧ (Q (.inl (some (.inl (((y0 - y1) * (y0 - y1)) + 0)))) (mo b r (ms S) V W))))))) : am_W m_X5_badness (am_ev am_prog (d + 3)) Q 14 [some (.inr (.inl r)), some (.inl x1), some (.inl x2), some (.inl x3), o4] [.inl y1, .inl y0] (mo b r (ms S) V W) := by
  obtain ⟨⟨a1244, a1245⟩, H⟩ := H
  refine r_X5_badness_14 ?_
  refine ⟨a1244, a1245, ?_⟩
  obtain ⟨a1246, H⟩ := H
  refine c_part0 (by omega) (am_av ?_)
  refine r_X5_badness_22 ?_
  simp only [mo_ty, true_or, or_true, true_and]
  refine ?_
  obtain ⟨⟨a1247, a1248, a1249⟩, H⟩ := H
  refine c_endsWord (by omega) (by omega) (by omega) (am_av ?_)
  refine r_X5_badness_24 ?_
  refine ⟨fun c => ?_, fun c => ?_⟩
  · replace c := am_b0 c
    replace H := H.1 c
    refine r_X5_badness_27 ?_
    simp only [mo_ty, mo_i, true_or, or_true, true_and]
    refine ?_
    obtain ⟨a1250, H⟩ := H
    refine r_X5_badness_29 ?_
    exact ⟨a1250, H⟩
  · replace c := am_b1 c
    replace H := H.2 c
    refine r_X5_badness_25 ?_
    obtain ⟨a1251, H⟩ := H
    refine r_X5_badness_29 ?_
    exact ⟨a1251, H⟩
theorem w_runsOn_0 {d : Nat} {Q : am_K} {b : am_H} {r : Nat} {S : am_G} {V : Nat → Int → Int} {W : Nat → Int} {x1 : Int} {o2 : Option am_V} {o3 : Option am_V} {o4 : Option am_V} {o5 : Option am_V} {o6 : Option am_V} {o7 : Option am_V} {o8 : Option am_V} {o9 : Option am_V} (H : ((0 ≤ x1 ∧ x1 < 2000000)) ∧ (((-2147483648 ≤ (320230 + 183 * x1) + 33 ∧ (320230 + 183 * x1) + 33 ≤ 2147483647) ∧ (0 ≤ x1 ∧ x1 < 4)) ∧ (((0 ≤ S 5 x1 33 ∧ S 5 x1 33 < 3000000)) ∧ (((-2147483648 ≤ (130 + 645 * (S 5 x1 33)) + 3 ∧ (130 + 645 * (S 5 x1 33)) + 3 ≤ 2147483647) ∧ (0 ≤ S 5 x1 33 ∧ S 5 x1 33 < 100)) ∧ (((S 3 (S 5 x1 33) 3 : Int) ≠ 0 → ((-2147483648 ≤ ((320230 + 183 * x1) + 33) + 4 ∧ ((320230 + 183 * x1) + 33) + 4 ≤ 2147483647) ∧ (0 ≤ x1 ∧ x1 < 4)) ∧ (((S 5 x1 37 : Int) ≠ 1 → ((-2147483648 ≤ ((320230 + 183 * x1) + 33) + 1 ∧ ((320230 + 183 * x1) + 33) + 1 ≤ 2147483647) ∧ (0 ≤ x1 ∧ x1 < 4) ∧ (-2147483648 ≤ (130 + 645 * (S 5 x1 33)) + 4 ∧ (130 + 645 * (S 5 x1 33)) + 4 ≤ 2147483647) ∧ (0 ≤ S 5 x1 33 ∧ S 5 x1 33 < 100)) ∧ ((S 5 x1 34 < S 3 (S 5 x1 33) 4 → am_ev am_prog (d + 3) 193 [.inr (.inl r), .inl (S 5 x1 33), .inl (S 5 x1 34)] (mo b r (ms S) V W) (am_aft (am_hand m_X5_runsOn Q (am_W m_X5_runsOn (am_ev am_prog (d + 3)) Q) 137) (am_W m_X5_runsOn (am_ev am_prog (d + 3)) Q) 137 [some (.inr (.inl r)), some (.inl x1), some (.inl (320230 + 183 * x1)), some (.inl ((320230 + 183 * x1) + 33)), some (.inl (S 5 x1 33)), some (.inl (130 + 645 * (S 5 x1 33))), some (.inl (S 5 x1 34)), o7, o8, o9] [])) ∧ (S 3 (S 5 x1 33) 4 ≤ S 5 x1 34 → am_ev am_prog (d + 3) 320 [.inr (.inl r), .inl x1] (mo b r (ms S) V W) (am_aft (am_hand m_X5_runsOn Q (am_W m_X5_runsOn (am_ev am_prog (d + 3)) Q) 132) (am_W m_X5_runsOn (am_ev am_prog (d + 3)) Q) 132 [some (.inr (.inl r)), some (.inl x1), some (.inl (320230 + 183 * x1)), some (.inl ((320230 + 183 * x1) + 33)), some (.inl (S 5 x1 33)), some (.inl (130 + 645 * (S 5 x1 33))), some (.inl (S 5 x1 34)), o7, o8, o9] [])))) ∧ ((S 5 x1 37 : Int) = 1 → ((-2147483648 ≤ ((320230 + 183 * x1) + 33) + 2 ∧ ((320230 + 183 * x1) + 33) + 2 ≤ 2147483647) ∧ (-2147483648 ≤ (130 + 645 * (S 5 x1 33)) + 4 ∧ (130 + 645 * (S 5 x1 33)) + 4 ≤ 2147483647) ∧ (0 ≤ S 5 x1 33 ∧ S 5 x1 33 < 100) ∧ (0 ≤ x1 ∧ x1 < 4)) ∧ (((-2147483648 ≤ ((320230 + 183 * x1) + 33) + 1 ∧ ((320230 + 183 * x1) + 33) + 1 ≤ 2147483647) ∧ (0 ≤ x1 ∧ x1 < 4) ∧ (-2147483648 ≤ (130 + 645 * (S 5 x1 33)) + 4 ∧ (130 + 645 * (S 5 x1 33)) + 4 ≤ 2147483647) ∧ (0 ≤ S 5 x1 33 ∧ S 5 x1 33 < 100)) ∧ ((S 5 x1 34 < S 3 (S 5 x1 33) 4 → am_ev am_prog (d + 3) 193 [.inr (.inl r), .inl (S 5 x1 33), .inl (S 5 x1 34)] (mo b r (ms (u3 S 5 x1 35 (S 3 (S 5 x1 33) 4))) V W) (am_aft (am_hand m_X5_runsOn Q (am_W m_X5_runsOn (am_ev am_prog (d + 3)) Q) 137) (am_W m_X5_runsOn (am_ev am_prog (d + 3)) Q) 137 [some (.inr (.inl r)), some (.inl x1), some (.inl (320230 + 183 * x1)), some (.inl ((320230 + 183 * x1) + 33)), some (.inl (S 5 x1 33)), some (.inl (130 + 645 * (S 5 x1 33))), some (.inl (S 5 x1 34)), o7, o8, o9] [])) ∧ (S 3 (S 5 x1 33) 4 ≤ S 5 x1 34 → am_ev am_prog (d + 3) 320 [.inr (.inl r), .inl x1] (mo b r (ms (u3 S 5 x1 35 (S 3 (S 5 x1 33) 4))) V W) (am_aft (am_hand m_X5_runsOn Q (am_W m_X5_runsOn (am_ev am_prog (d + 3)) Q) 132) (am_W m_X5_runsOn (am_ev am_prog (d + 3)) Q) 132 [some (.inr (.inl r)), some (.inl x1), some (.inl (320230 + 183 * x1)), some (.inl ((320230 + 183 * x1) + 33)), some (.inl (S 5 x1 33)), some (.inl (130 + 645 * (S 5 x1 33))), some (.inl (S 5 x1 34)), o7, o8, o9] []))))))) ∧ ((S 3 (S 5 x1 33) 3 : Int) = 0 → am_ev am_prog (d + 3) 113 [.inr (.inl r), .inl (S 5 x1 33), .inl (S 0 0 0)] (mo b r (ms S) V W) (am_aft (am_hand m_X5_runsOn Q (am_W m_X5_runsOn (am_ev am_prog (d + 3)) Q) 28) (am_W m_X5_runsOn (am_ev am_prog (d + 3)) Q) 28 [some (.inr (.inl r)), some (.inl x1), some (.inl (320230 + 183 * x1)), some (.inl ((320230 + 183 * x1) + 33)), some (.inl (S 5 x1 33)), some (.inl (130 + 645 * (S 5 x1 33))), o6, o7, o8, o9] []))))))) : am_W m_X5_runsOn (am_ev am_prog (d + 3)) Q 0 [some (.inr (.inl r)), some (.inl x1), o2, o3, o4, o5, o6, o7, o8, o9] [] (mo b r (ms S) V W) := by
  refine r_X5_runsOn_0 ?_
  refine ?_
  obtain ⟨a1252, H⟩ := H
  refine c_machine0 (by omega) (am_av ?_)
  obtain ⟨⟨a1253, a1254⟩, H⟩ := H
  refine r_X5_runsOn_2 ?_
  simp only [mo_ty, mo_f39, mo_t1, mo_n1, mo_a1, ms_r5 (k := (320230 + 183 * x1) + 33) (p := x1) (i := 33) (by omega) (by omega) (by omega), true_or, or_true, true_and]
  refine ⟨a1253, (by omega), ?_⟩
  obtain ⟨a1255, H⟩ := H
  refine c_part0 (by omega) (am_av ?_)
  obtain ⟨⟨a1256, a1257⟩, H⟩ := H
  refine r_X5_runsOn_14 ?_
  simp only [mo_ty, mo_f39, mo_t1, mo_n1, mo_a1, ms_r3 (k := (130 + 645 * (S 5 x1 33)) + 3) (p := S 5 x1 33) (i := 3) (by omega) (by omega) (by omega), true_or, or_true, true_and]
  refine ⟨a1256, (by omega), ⟨fun c => ?_, fun c => ?_⟩⟩
  · replace H := H.1 c
    obtain ⟨⟨a1258, a1259⟩, H⟩ := H
    refine r_X5_runsOn_95 ?_
    simp only [mo_ty, mo_f39, mo_t1, mo_n1, mo_a1, ms_r5 (k := ((320230 + 183 * x1) + 33) + 4) (p := x1) (i := 37) (by omega) (by omega) (by omega), true_or, or_true, true_and]
    refine ⟨a1258, (by omega), ⟨fun c => ?_, fun c => ?_⟩⟩
    · replace H := H.1 c
      obtain ⟨⟨a1260, a1261, a1262, a1263⟩, H⟩ := H
      refine r_X5_runsOn_115 ?_
      simp only [mo_ty, mo_f39, mo_t1, mo_n1, mo_a1, ms_r5 (k := ((320230 + 183 * x1) + 33) + 1) (p := x1) (i := 34) (by omega) (by omega) (by omega), ms_r3 (k := (130 + 645 * (S 5 x1 33)) + 4) (p := S 5 x1 33) (i := 4) (by omega) (by omega) (by omega), true_or, or_true, true_and]
      refine ⟨a1260, (by omega), a1262, (by omega), ⟨fun c => ?_, fun c => ?_⟩⟩
      · replace H := H.1 c
        refine r_X5_runsOn_134 ?_
        simp only [mo_ty, true_or, or_true, true_and]
        exact H
      · replace H := H.2 c
        refine r_X5_runsOn_130 ?_
        simp only [mo_ty, true_or, or_true, true_and]
        exact H
    · replace H := H.2 c
      obtain ⟨⟨a1264, a1265, a1266, a1267⟩, H⟩ := H
      refine r_X5_runsOn_103 ?_
      simp only [mo_ty, mo_f39, mo_t1, mo_n1, mo_a1, ms_r3 (k := (130 + 645 * (S 5 x1 33)) + 4) (p := S 5 x1 33) (i := 4) (by omega) (by omega) (by omega), mo_s1, ms_w5 (k := ((320230 + 183 * x1) + 33) + 2) (p := x1) (i := 35) (by omega) (by omega) (by omega), true_or, or_true, true_and]
      refine ⟨a1264, a1265, (by omega), (by omega), ?_⟩
      obtain ⟨⟨a1268, a1269, a1270, a1271⟩, H⟩ := H
      refine r_X5_runsOn_115 ?_
      simp only [mo_ty, mo_f39, mo_t1, mo_n1, mo_a1, ms_r5 (k := ((320230 + 183 * x1) + 33) + 1) (p := x1) (i := 34) (by omega) (by omega) (by omega), u3_no (by decide : (34 : Int) ≠ 35), ms_r3 (k := (130 + 645 * (S 5 x1 33)) + 4) (p := S 5 x1 33) (i := 4) (by omega) (by omega) (by omega), u3_nc (by decide : (3 : Nat) ≠ 5), true_or, or_true, true_and]
      refine ⟨a1268, (by omega), a1270, (by omega), ⟨fun c => ?_, fun c => ?_⟩⟩
      · replace H := H.1 c
        refine r_X5_runsOn_134 ?_
        simp only [mo_ty, true_or, or_true, true_and]
        exact H
      · replace H := H.2 c
        refine r_X5_runsOn_130 ?_
        simp only [mo_ty, true_or, or_true, true_and]
        exact H
  · replace H := H.2 c
    refine r_X5_runsOn_22 ?_
    simp only [mo_ty, mo_f39, mo_t1, mo_n1, mo_a1, ms_r0 (k := 0) (p := 0) (i := 0) (by omega) (by omega) (by omega), true_or, or_true, true_and]
    exact ⟨(by omega), H⟩
theorem w_runsOn_29 {d : Nat} {Q : am_K} {b : am_H} {r : Nat} {S : am_G} {V : Nat → Int → Int} {W : Nat → Int} {x1 : Int} {x2 : Int} {x3 : Int} {x4 : Int} {p5 : Int} {o6 : Option am_V} {o7 : Option am_V} {o8 : Option am_V} {o9 : Option am_V} (H : ((V 14 0 : Int) ≠ (-1) → ((-2147483648 ≤ (130 + 645 * p5) + 3 ∧ (130 + 645 * p5) + 3 ≤ 2147483647) ∧ (0 ≤ p5 ∧ p5 < 100)) ∧ (((-2147483648 ≤ (130 + 645 * p5) + 4 ∧ (130 + 645 * p5) + 4 ≤ 2147483647) ∧ (0 ≤ p5 ∧ p5 < 100)) ∧ (am_W m_X5_runsOn (am_ev am_prog (d + 3)) Q 60 [some (.inr (.inl r)), some (.inl x1), some (.inl x2), some (.inl x3), some (.inl x4), some (.inl (130 + 645 * p5)), some (.inl 0), some (.inl 0), o8, o9] [] (mo b r (ms (u3 (u3 S 3 p5 3 1) 3 p5 4 (V 15 0))) V W)))) ∧ ((V 14 0 : Int) = (-1) → am_ev am_prog (d + 3) 320 [.inr (.inl r), .inl x1] (mo b r (ms S) V W) (am_aft (am_hand m_X5_runsOn Q (am_W m_X5_runsOn (am_ev am_prog (d + 3)) Q) 37) (am_W m_X5_runsOn (am_ev am_prog (d + 3)) Q) 37 [some (.inr (.inl r)), some (.inl x1), some (.inl x2), some (.inl x3), some (.inl x4), some (.inl (130 + 645 * p5)), o6, o7, o8, o9] []))) : am_W m_X5_runsOn (am_ev am_prog (d + 3)) Q 29 [some (.inr (.inl r)), some (.inl x1), some (.inl x2), some (.inl x3), some (.inl x4), some (.inl (130 + 645 * p5)), o6, o7, o8, o9] [] (mo b r (ms S) V W) := by
  refine r_X5_runsOn_29 ?_
  simp only [mo_ty, mo_f69, mo_t14, mo_n14, mo_a14, true_or, or_true, true_and]
  refine ⟨(by decide), ⟨fun c => ?_, fun c => ?_⟩⟩
  · replace H := H.1 c
    obtain ⟨⟨a1272, a1273⟩, H⟩ := H
    refine r_X5_runsOn_39 ?_
    simp only [mo_ty, mo_f39, mo_t1, mo_n1, mo_s1, ms_w3 (k := (130 + 645 * p5) + 3) (p := p5) (i := 3) (by omega) (by omega) (by omega), true_or, or_true, true_and]
    refine ⟨a1272, (by omega), ?_⟩
    obtain ⟨⟨a1274, a1275⟩, H⟩ := H
    refine r_X5_runsOn_46 ?_
    simp only [mo_ty, mo_f39, mo_f70, mo_t15, mo_n15, mo_a15, mo_t1, mo_n1, mo_s1, ms_w3 (k := (130 + 645 * p5) + 4) (p := p5) (i := 4) (by omega) (by omega) (by omega), true_or, or_true, true_and]
    refine ⟨a1274, (by decide), (by omega), ?_⟩
    refine r_X5_runsOn_56 ?_
    exact H
  · replace H := H.2 c
    refine r_X5_runsOn_35 ?_
    simp only [mo_ty, true_or, or_true, true_and]
    exact H
theorem w_runsOn_38 {d : Nat} {Q : am_K} {b : am_H} {r : Nat} {S : am_G} {V : Nat → Int → Int} {W : Nat → Int} {x1 : Int} {x2 : Int} {x3 : Int} {x4 : Int} {x5 : Int} {o6 : Option am_V} {o7 : Option am_V} {o8 : Option am_V} {o9 : Option am_V} (H : Q (.inl none) (mo b r (ms S) V W)) : am_W m_X5_runsOn (am_ev am_prog (d + 3)) Q 38 [some (.inr (.inl r)), some (.inl x1), some (.inl x2), some (.inl x3), some (.inl x4), some (.inl x5), o6, o7, o8, o9] [] (mo b r (ms S) V W) := by
  refine r_X5_runsOn_38 ?_
  exact H
theorem w_runsOn_60 {d : Nat} {Q : am_K} {b : am_H} {r : Nat} {S : am_G} {V : Nat → Int → Int} {W : Nat → Int} {x1 : Int} {x2 : Int} {p3 : Int} {x4 : Int} {p5 : Int} {x6 : Int} {x7 : Int} {o8 : Option am_V} {o9 : Option am_V} (H : ((-2147483648 ≤ (130 + 645 * p5) + 4 ∧ (130 + 645 * p5) + 4 ≤ 2147483647) ∧ (0 ≤ p5 ∧ p5 < 100)) ∧ ((S 3 p5 4 ≤ x7 → ((-2147483648 ≤ (320230 + 183 * p3 + 33) + 4 ∧ (320230 + 183 * p3 + 33) + 4 ≤ 2147483647) ∧ (0 ≤ p3 ∧ p3 < 4)) ∧ (((S 5 p3 37 : Int) ≠ 1 → ((-2147483648 ≤ (320230 + 183 * p3 + 33) + 1 ∧ (320230 + 183 * p3 + 33) + 1 ≤ 2147483647) ∧ (0 ≤ p3 ∧ p3 < 4) ∧ (-2147483648 ≤ (130 + 645 * p5) + 4 ∧ (130 + 645 * p5) + 4 ≤ 2147483647) ∧ (0 ≤ p5 ∧ p5 < 100)) ∧ ((S 5 p3 34 < S 3 p5 4 → am_ev am_prog (d + 3) 193 [.inr (.inl r), .inl x4, .inl (S 5 p3 34)] (mo b r (ms S) V W) (am_aft (am_hand m_X5_runsOn Q (am_W m_X5_runsOn (am_ev am_prog (d + 3)) Q) 137) (am_W m_X5_runsOn (am_ev am_prog (d + 3)) Q) 137 [some (.inr (.inl r)), some (.inl x1), some (.inl x2), some (.inl (320230 + 183 * p3 + 33)), some (.inl x4), some (.inl (130 + 645 * p5)), some (.inl (S 5 p3 34)), some (.inl x7), o8, o9] [])) ∧ (S 3 p5 4 ≤ S 5 p3 34 → am_ev am_prog (d + 3) 320 [.inr (.inl r), .inl x1] (mo b r (ms S) V W) (am_aft (am_hand m_X5_runsOn Q (am_W m_X5_runsOn (am_ev am_prog (d + 3)) Q) 132) (am_W m_X5_runsOn (am_ev am_prog (d + 3)) Q) 132 [some (.inr (.inl r)), some (.inl x1), some (.inl x2), some (.inl (320230 + 183 * p3 + 33)), some (.inl x4), some (.inl (130 + 645 * p5)), some (.inl (S 5 p3 34)), some (.inl x7), o8, o9] [])))) ∧ ((S 5 p3 37 : Int) = 1 → ((-2147483648 ≤ (320230 + 183 * p3 + 33) + 2 ∧ (320230 + 183 * p3 + 33) + 2 ≤ 2147483647) ∧ (-2147483648 ≤ (130 + 645 * p5) + 4 ∧ (130 + 645 * p5) + 4 ≤ 2147483647) ∧ (0 ≤ p5 ∧ p5 < 100) ∧ (0 ≤ p3 ∧ p3 < 4)) ∧ (((-2147483648 ≤ (320230 + 183 * p3 + 33) + 1 ∧ (320230 + 183 * p3 + 33) + 1 ≤ 2147483647) ∧ (0 ≤ p3 ∧ p3 < 4) ∧ (-2147483648 ≤ (130 + 645 * p5) + 4 ∧ (130 + 645 * p5) + 4 ≤ 2147483647) ∧ (0 ≤ p5 ∧ p5 < 100)) ∧ ((S 5 p3 34 < S 3 p5 4 → am_ev am_prog (d + 3) 193 [.inr (.inl r), .inl x4, .inl (S 5 p3 34)] (mo b r (ms (u3 S 5 p3 35 (S 3 p5 4))) V W) (am_aft (am_hand m_X5_runsOn Q (am_W m_X5_runsOn (am_ev am_prog (d + 3)) Q) 137) (am_W m_X5_runsOn (am_ev am_prog (d + 3)) Q) 137 [some (.inr (.inl r)), some (.inl x1), some (.inl x2), some (.inl (320230 + 183 * p3 + 33)), some (.inl x4), some (.inl (130 + 645 * p5)), some (.inl (S 5 p3 34)), some (.inl x7), o8, o9] [])) ∧ (S 3 p5 4 ≤ S 5 p3 34 → am_ev am_prog (d + 3) 320 [.inr (.inl r), .inl x1] (mo b r (ms (u3 S 5 p3 35 (S 3 p5 4))) V W) (am_aft (am_hand m_X5_runsOn Q (am_W m_X5_runsOn (am_ev am_prog (d + 3)) Q) 132) (am_W m_X5_runsOn (am_ev am_prog (d + 3)) Q) 132 [some (.inr (.inl r)), some (.inl x1), some (.inl x2), some (.inl (320230 + 183 * p3 + 33)), some (.inl x4), some (.inl (130 + 645 * p5)), some (.inl (S 5 p3 34)), some (.inl x7), o8, o9] []))))))) ∧ (x7 < S 3 p5 4 → ((0 ≤ x6 ∧ x6 < 41) ∧ (-2147483648 ≤ (130 + 645 * p5) + 5 ∧ (130 + 645 * p5) + 5 ≤ 2147483647) ∧ (-2147483648 ≤ ((130 + 645 * p5) + 5) + x7 ∧ ((130 + 645 * p5) + 5) + x7 ≤ 2147483647) ∧ (-2147483648 ≤ (V 16 x6) - 1 ∧ (V 16 x6) - 1 ≤ 2147483647) ∧ (0 ≤ p5 ∧ p5 < 100) ∧ (0 ≤ 5 + x7 ∧ 5 + x7 < 645)) ∧ (((-2147483648 ≤ (130 + 645 * p5) + 45 ∧ (130 + 645 * p5) + 45 ≤ 2147483647) ∧ (-2147483648 ≤ ((130 + 645 * p5) + 45) + x7 ∧ ((130 + 645 * p5) + 45) + x7 ≤ 2147483647) ∧ (0 ≤ p5 ∧ p5 < 100) ∧ (0 ≤ 45 + x7 ∧ 45 + x7 < 645)) ∧ (((-2147483648 ≤ x7 + 1 ∧ x7 + 1 ≤ 2147483647)) ∧ (am_W m_X5_runsOn (am_ev am_prog (d + 3)) Q 60 [some (.inr (.inl r)), some (.inl x1), some (.inl x2), some (.inl (320230 + 183 * p3 + 33)), some (.inl x4), some (.inl (130 + 645 * p5)), some (.inl (V 16 x6)), some (.inl (x7 + 1)), o8, o9] [] (mo b r (ms (u3 (u3 S 3 p5 (5 + x7) ((V 16 x6) - 1)) 3 p5 (45 + x7) 0)) V W))))))) : am_W m_X5_runsOn (am_ev am_prog (d + 3)) Q 60 [some (.inr (.inl r)), some (.inl x1), some (.inl x2), some (.inl (320230 + 183 * p3 + 33)), some (.inl x4), some (.inl (130 + 645 * p5)), some (.inl x6), some (.inl x7), o8, o9] [] (mo b r (ms S) V W) := by
  obtain ⟨⟨a1278, a1279⟩, H⟩ := H
  refine r_X5_runsOn_60 ?_
  simp only [mo_ty, mo_f39, mo_t1, mo_n1, mo_a1, ms_r3 (k := (130 + 645 * p5) + 4) (p := p5) (i := 4) (by omega) (by omega) (by omega), true_or, or_true, true_and]
  refine ⟨a1278, (by omega), ⟨fun c => ?_, fun c => ?_⟩⟩
  · replace H := H.1 c
    obtain ⟨⟨a1280, a1281⟩, H⟩ := H
    refine r_X5_runsOn_95 ?_
    simp only [mo_ty, mo_f39, mo_t1, mo_n1, mo_a1, ms_r5 (k := (320230 + 183 * p3 + 33) + 4) (p := p3) (i := 37) (by omega) (by omega) (by omega), true_or, or_true, true_and]
    refine ⟨a1280, (by omega), ⟨fun c => ?_, fun c => ?_⟩⟩
    · replace H := H.1 c
      obtain ⟨⟨a1282, a1283, a1284, a1285⟩, H⟩ := H
      refine r_X5_runsOn_115 ?_
      simp only [mo_ty, mo_f39, mo_t1, mo_n1, mo_a1, ms_r5 (k := (320230 + 183 * p3 + 33) + 1) (p := p3) (i := 34) (by omega) (by omega) (by omega), ms_r3 (k := (130 + 645 * p5) + 4) (p := p5) (i := 4) (by omega) (by omega) (by omega), true_or, or_true, true_and]
      refine ⟨a1282, (by omega), a1284, (by omega), ⟨fun c => ?_, fun c => ?_⟩⟩
      · replace H := H.1 c
        refine r_X5_runsOn_134 ?_
        simp only [mo_ty, true_or, or_true, true_and]
        exact H
      · replace H := H.2 c
        refine r_X5_runsOn_130 ?_
        simp only [mo_ty, true_or, or_true, true_and]
        exact H
    · replace H := H.2 c
      obtain ⟨⟨a1286, a1287, a1288, a1289⟩, H⟩ := H
      refine r_X5_runsOn_103 ?_
      simp only [mo_ty, mo_f39, mo_t1, mo_n1, mo_a1, ms_r3 (k := (130 + 645 * p5) + 4) (p := p5) (i := 4) (by omega) (by omega) (by omega), mo_s1, ms_w5 (k := (320230 + 183 * p3 + 33) + 2) (p := p3) (i := 35) (by omega) (by omega) (by omega), true_or, or_true, true_and]
      refine ⟨a1286, a1287, (by omega), (by omega), ?_⟩
      obtain ⟨⟨a1290, a1291, a1292, a1293⟩, H⟩ := H
      refine r_X5_runsOn_115 ?_
      simp only [mo_ty, mo_f39, mo_t1, mo_n1, mo_a1, ms_r5 (k := (320230 + 183 * p3 + 33) + 1) (p := p3) (i := 34) (by omega) (by omega) (by omega), u3_no (by decide : (34 : Int) ≠ 35), ms_r3 (k := (130 + 645 * p5) + 4) (p := p5) (i := 4) (by omega) (by omega) (by omega), u3_nc (by decide : (3 : Nat) ≠ 5), true_or, or_true, true_and]
      refine ⟨a1290, (by omega), a1292, (by omega), ⟨fun c => ?_, fun c => ?_⟩⟩
      · replace H := H.1 c
        refine r_X5_runsOn_134 ?_
        simp only [mo_ty, true_or, or_true, true_and]
        exact H
      · replace H := H.2 c
        refine r_X5_runsOn_130 ?_
        simp only [mo_ty, true_or, or_true, true_and]
        exact H
  · replace H := H.2 c
    obtain ⟨⟨a1294, a1295, a1296, a1297, a1298, a1299⟩, H⟩ := H
    refine r_X5_runsOn_68 ?_
    simp only [mo_ty, mo_f71, mo_t16, mo_n16, mo_a16, mo_f39, mo_t1, mo_n1, mo_s1, ms_w3 (k := ((130 + 645 * p5) + 5) + x7) (p := p5) (i := 5 + x7) (by omega) (by omega) (by omega), true_or, or_true, true_and]
    refine ⟨a1294, a1295, a1296, a1297, (by omega), ?_⟩
    obtain ⟨⟨a1300, a1301, a1302, a1303⟩, H⟩ := H
    refine r_X5_runsOn_84 ?_
    simp only [mo_ty, mo_f39, mo_t1, mo_n1, mo_s1, ms_w3 (k := ((130 + 645 * p5) + 45) + x7) (p := p5) (i := 45 + x7) (by omega) (by omega) (by omega), true_or, or_true, true_and]
    refine ⟨a1300, a1301, (by omega), ?_⟩
    obtain ⟨a1304, H⟩ := H
    refine r_X5_runsOn_93 ?_
    refine ⟨a1304, ?_⟩
    exact H
theorem w_runsOn_133 {d : Nat} {Q : am_K} {b : am_H} {r : Nat} {S : am_G} {V : Nat → Int → Int} {W : Nat → Int} {x1 : Int} {x2 : Int} {x3 : Int} {x4 : Int} {x5 : Int} {x6 : Int} {o7 : Option am_V} {o8 : Option am_V} {o9 : Option am_V} (H : Q (.inl none) (mo b r (ms S) V W)) : am_W m_X5_runsOn (am_ev am_prog (d + 3)) Q 133 [some (.inr (.inl r)), some (.inl x1), some (.inl x2), some (.inl x3), some (.inl x4), some (.inl x5), some (.inl x6), o7, o8, o9] [] (mo b r (ms S) V W) := by
  refine r_X5_runsOn_133 ?_
  exact H
theorem w_runsOn_138 {d : Nat} {Q : am_K} {b : am_H} {r : Nat} {S : am_G} {V : Nat → Int → Int} {W : Nat → Int} {x1 : Int} {x2 : Int} {x3 : Int} {x4 : Int} {x5 : Int} {x6 : Int} {o7 : Option am_V} {o8 : Option am_V} {o9 : Option am_V} (H : am_W m_X5_runsOn (am_ev am_prog (d + 3)) Q 152 [some (.inr (.inl r)), some (.inl x1), some (.inl x2), some (.inl x3), some (.inl x4), some (.inl x5), some (.inl x6), some (.inl 0), some (.inl (am_b ((S 0 0 4 : Int) = 300))), some (.inl 0)] [] (mo b r (ms S) V W)) : am_W m_X5_runsOn (am_ev am_prog (d + 3)) Q 138 [some (.inr (.inl r)), some (.inl x1), some (.inl x2), some (.inl x3), some (.inl x4), some (.inl x5), some (.inl x6), o7, o8, o9] [] (mo b r (ms S) V W) := by
  have J : ∀ y : Int, y = am_b ((S 0 0 4 : Int) = 300) → am_W m_X5_runsOn (am_ev am_prog (d + 3)) Q 149 [some (.inr (.inl r)), some (.inl x1), some (.inl x2), some (.inl x3), some (.inl x4), some (.inl x5), some (.inl x6), some (.inl 0), o8, o9] [.inl y] (mo b r (ms S) V W) := by
    intro y hy
    subst hy
    refine r_X5_runsOn_149 ?_
    exact H
  refine r_X5_runsOn_138 ?_
  simp only [mo_ty, mo_f39, mo_t1, mo_n1, mo_a1, ms_r0 (k := 4) (p := 0) (i := 4) (by omega) (by omega) (by omega), true_or, or_true, true_and]
  refine ⟨(by omega), ⟨fun c => ?_, fun c => ?_⟩⟩
  · exact r_X5_runsOn_148 (J _ (am_bf (by omega)).symm)
  · exact r_X5_runsOn_146 (J _ (am_bt c).symm)
theorem w_runsOn_152 {d : Nat} {Q : am_K} {b : am_H} {r : Nat} {S : am_G} {V : Nat → Int → Int} {W : Nat → Int} {x1 : Int} {p2 : Int} {p3 : Int} {x4 : Int} {x5 : Int} {x6 : Int} {x7 : Int} {x8 : Int} {x9 : Int} (H : (27 ≤ x9 → ((x7 : Int) = 0 → ((x8 : Int) = 0 → ((-2147483648 ≤ (320230 + 183 * p3 + 33) + 3 ∧ (320230 + 183 * p3 + 33) + 3 ≤ 2147483647) ∧ (0 ≤ p3 ∧ p3 < 4)) ∧ (am_ev am_prog (d + 3) 321 [.inr (.inl r), .inl x1, .inl x4, .inl x6, .inl (S 5 p3 36)] (mo b r (ms S) V W) (am_aft (am_hand m_X5_runsOn Q (am_W m_X5_runsOn (am_ev am_prog (d + 3)) Q) 227) (am_W m_X5_runsOn (am_ev am_prog (d + 3)) Q) 227 [some (.inr (.inl r)), some (.inl x1), some (.inl (320230 + 183 * p2)), some (.inl (320230 + 183 * p3 + 33)), some (.inl x4), some (.inl x5), some (.inl x6), some (.inl x7), some (.inl x8), some (.inl x9)] []))) ∧ ((x8 : Int) ≠ 0 → ((-2147483648 ≤ (320230 + 183 * p2) + 31 ∧ (320230 + 183 * p2) + 31 ≤ 2147483647) ∧ (0 ≤ p2 ∧ p2 < 4) ∧ (-2147483648 ≤ (S 5 p2 31) + 1 ∧ (S 5 p2 31) + 1 ≤ 2147483647)) ∧ (Q (.inl none) (mo b r (ms (u3 S 5 p2 31 ((S 5 p2 31) + 1))) V W)))) ∧ ((x7 : Int) ≠ 0 → am_ev am_prog (d + 3) 320 [.inr (.inl r), .inl x1] (mo b r (ms S) V W) (am_aft (am_hand m_X5_runsOn Q (am_W m_X5_runsOn (am_ev am_prog (d + 3)) Q) 202) (am_W m_X5_runsOn (am_ev am_prog (d + 3)) Q) 202 [some (.inr (.inl r)), some (.inl x1), some (.inl (320230 + 183 * p2)), some (.inl (320230 + 183 * p3 + 33)), some (.inl x4), some (.inl x5), some (.inl x6), some (.inl x7), some (.inl x8), some (.inl x9)] []))) ∧ (x9 < 27 → ((x7 : Int) ≠ 0 → ((x8 : Int) ≠ 0 → ((-2147483648 ≤ x9 + 1 ∧ x9 + 1 ≤ 2147483647)) ∧ (am_W m_X5_runsOn (am_ev am_prog (d + 3)) Q 152 [some (.inr (.inl r)), some (.inl x1), some (.inl (320230 + 183 * p2)), some (.inl (320230 + 183 * p3 + 33)), some (.inl x4), some (.inl x5), some (.inl x6), some (.inl 1), some (.inl 1), some (.inl (x9 + 1))] [] (mo b r (ms S) V W))) ∧ ((x8 : Int) = 0 → ((0 ≤ x9 ∧ x9 < 27)) ∧ ((V 18 x9 ≤ 0 → ((-2147483648 ≤ x9 + 1 ∧ x9 + 1 ≤ 2147483647)) ∧ (am_W m_X5_runsOn (am_ev am_prog (d + 3)) Q 152 [some (.inr (.inl r)), some (.inl x1), some (.inl (320230 + 183 * p2)), some (.inl (320230 + 183 * p3 + 33)), some (.inl x4), some (.inl x5), some (.inl x6), some (.inl 1), some (.inl 0), some (.inl (x9 + 1))] [] (mo b r (ms S) V W))) ∧ (0 < V 18 x9 → ((0 ≤ x9 ∧ x9 < 27)) ∧ (am_ev am_prog (d + 3) 181 [.inr (.inl r), .inl x1, .inl x9, .inl (S 0 0 0)] (mo b r (ms S) V W) (am_aft (am_hand m_X5_runsOn Q (am_W m_X5_runsOn (am_ev am_prog (d + 3)) Q) 190) (am_W m_X5_runsOn (am_ev am_prog (d + 3)) Q) 190 [some (.inr (.inl r)), some (.inl x1), some (.inl (320230 + 183 * p2)), some (.inl (320230 + 183 * p3 + 33)), some (.inl x4), some (.inl x5), some (.inl x6), some (.inl 1), some (.inl x8), some (.inl x9)] [.inl (V 18 x9)])))))) ∧ ((x7 : Int) = 0 → ((0 ≤ x9 ∧ x9 < 27) ∧ (-2147483648 ≤ (320230 + 183 * p2) + x9 ∧ (320230 + 183 * p2) + x9 ≤ 2147483647) ∧ (0 ≤ p2 ∧ p2 < 4) ∧ (0 ≤ x9 ∧ x9 < 183)) ∧ (((x8 : Int) ≠ 0 → ((-2147483648 ≤ x9 + 1 ∧ x9 + 1 ≤ 2147483647)) ∧ (am_W m_X5_runsOn (am_ev am_prog (d + 3)) Q 152 [some (.inr (.inl r)), some (.inl x1), some (.inl (320230 + 183 * p2)), some (.inl (320230 + 183 * p3 + 33)), some (.inl x4), some (.inl x5), some (.inl x6), some (.inl (am_b (S 5 p2 x9 < V 18 x9))), some (.inl 1), some (.inl (x9 + 1))] [] (mo b r (ms S) V W))) ∧ ((x8 : Int) = 0 → ((0 ≤ x9 ∧ x9 < 27)) ∧ ((V 18 x9 ≤ 0 → ((-2147483648 ≤ x9 + 1 ∧ x9 + 1 ≤ 2147483647)) ∧ (am_W m_X5_runsOn (am_ev am_prog (d + 3)) Q 152 [some (.inr (.inl r)), some (.inl x1), some (.inl (320230 + 183 * p2)), some (.inl (320230 + 183 * p3 + 33)), some (.inl x4), some (.inl x5), some (.inl x6), some (.inl (am_b (S 5 p2 x9 < V 18 x9))), some (.inl 0), some (.inl (x9 + 1))] [] (mo b r (ms S) V W))) ∧ (0 < V 18 x9 → ((0 ≤ x9 ∧ x9 < 27)) ∧ (am_ev am_prog (d + 3) 181 [.inr (.inl r), .inl x1, .inl x9, .inl (S 0 0 0)] (mo b r (ms S) V W) (am_aft (am_hand m_X5_runsOn Q (am_W m_X5_runsOn (am_ev am_prog (d + 3)) Q) 190) (am_W m_X5_runsOn (am_ev am_prog (d + 3)) Q) 190 [some (.inr (.inl r)), some (.inl x1), some (.inl (320230 + 183 * p2)), some (.inl (320230 + 183 * p3 + 33)), some (.inl x4), some (.inl x5), some (.inl x6), some (.inl (am_b (S 5 p2 x9 < V 18 x9))), some (.inl x8), some (.inl x9)] [.inl (V 18 x9)]))))))))) : am_W m_X5_runsOn (am_ev am_prog (d + 3)) Q 152 [some (.inr (.inl r)), some (.inl x1), some (.inl (320230 + 183 * p2)), some (.inl (320230 + 183 * p3 + 33)), some (.inl x4), some (.inl x5), some (.inl x6), some (.inl x7), some (.inl x8), some (.inl x9)] [] (mo b r (ms S) V W) := by
  refine r_X5_runsOn_152 ?_
  refine ⟨fun c => ?_, fun c => ?_⟩
  · replace H := H.1 c
    refine r_X5_runsOn_198 ?_
    refine ⟨fun c => ?_, fun c => ?_⟩
    · replace H := H.1 c
      refine r_X5_runsOn_204 ?_
      refine ⟨fun c => ?_, fun c => ?_⟩
      · replace H := H.1 c
        obtain ⟨⟨a1307, a1308⟩, H⟩ := H
        refine r_X5_runsOn_217 ?_
        simp only [mo_ty, mo_f39, mo_t1, mo_n1, mo_a1, ms_r5 (k := (320230 + 183 * p3 + 33) + 3) (p := p3) (i := 36) (by omega) (by omega) (by omega), true_or, or_true, true_and]
        exact ⟨a1307, (by omega), H⟩
      · replace H := H.2 c
        obtain ⟨⟨a1309, a1310, a1311⟩, H⟩ := H
        refine r_X5_runsOn_206 ?_
        simp only [mo_ty, mo_f39, mo_t1, mo_n1, mo_a1, ms_r5 (k := (320230 + 183 * p2) + 31) (p := p2) (i := 31) (by omega) (by omega) (by omega), mo_s1, ms_w5 (k := (320230 + 183 * p2) + 31) (p := p2) (i := 31) (by omega) (by omega) (by omega), true_or, or_true, true_and]
        refine ⟨a1309, (by omega), a1311, (by omega), ?_⟩
        refine r_X5_runsOn_216 ?_
        exact H
    · replace H := H.2 c
      refine r_X5_runsOn_200 ?_
      simp only [mo_ty, true_or, or_true, true_and]
      exact H
  · replace H := H.2 c
    refine r_X5_runsOn_155 ?_
    refine ⟨fun c => ?_, fun c => ?_⟩
    · replace H := H.1 c
      refine r_X5_runsOn_168 ?_
      refine r_X5_runsOn_171 ?_
      refine ⟨fun c => ?_, fun c => ?_⟩
      · replace H := H.1 c
        refine r_X5_runsOn_192 ?_
        obtain ⟨a1312, H⟩ := H
        refine r_X5_runsOn_195 ?_
        refine ⟨a1312, ?_⟩
        exact H
      · replace H := H.2 c
        obtain ⟨a1313, H⟩ := H
        refine r_X5_runsOn_174 ?_
        simp only [mo_ty, mo_f74, mo_t18, mo_n18, mo_a18, true_or, or_true, true_and]
        refine ⟨a1313, ⟨fun c => ?_, fun c => ?_⟩⟩
        · replace H := H.1 c
          refine r_X5_runsOn_194 ?_
          obtain ⟨a1314, H⟩ := H
          refine r_X5_runsOn_195 ?_
          refine ⟨a1314, ?_⟩
          exact H
        · replace H := H.2 c
          obtain ⟨a1315, H⟩ := H
          refine r_X5_runsOn_179 ?_
          simp only [mo_ty, mo_f74, mo_t18, mo_n18, mo_a18, mo_f39, mo_t1, mo_n1, mo_a1, ms_r0 (k := 0) (p := 0) (i := 0) (by omega) (by omega) (by omega), true_or, or_true, true_and]
          exact ⟨a1315, (by omega), H⟩
    · replace H := H.2 c
      obtain ⟨⟨a1316, a1317, a1318, a1319⟩, H⟩ := H
      have J : ∀ y : Int, y = am_b (S 5 p2 x9 < V 18 x9) → am_W m_X5_runsOn (am_ev am_prog (d + 3)) Q 171 [some (.inr (.inl r)), some (.inl x1), some (.inl (320230 + 183 * p2)), some (.inl (320230 + 183 * p3 + 33)), some (.inl x4), some (.inl x5), some (.inl x6), some (.inl x7), some (.inl x8), some (.inl x9)] [.inl y] (mo b r (ms S) V W) := by
        intro y hy
        subst hy
        refine r_X5_runsOn_171 ?_
        refine ⟨fun c => ?_, fun c => ?_⟩
        · replace H := H.1 c
          refine r_X5_runsOn_192 ?_
          obtain ⟨a1320, H⟩ := H
          refine r_X5_runsOn_195 ?_
          refine ⟨a1320, ?_⟩
          exact H
        · replace H := H.2 c
          obtain ⟨a1321, H⟩ := H
          refine r_X5_runsOn_174 ?_
          simp only [mo_ty, mo_f74, mo_t18, mo_n18, mo_a18, true_or, or_true, true_and]
          refine ⟨a1321, ⟨fun c => ?_, fun c => ?_⟩⟩
          · replace H := H.1 c
            refine r_X5_runsOn_194 ?_
            obtain ⟨a1322, H⟩ := H
            refine r_X5_runsOn_195 ?_
            refine ⟨a1322, ?_⟩
            exact H
          · replace H := H.2 c
            obtain ⟨a1323, H⟩ := H
            refine r_X5_runsOn_179 ?_
            simp only [mo_ty, mo_f74, mo_t18, mo_n18, mo_a18, mo_f39, mo_t1, mo_n1, mo_a1, ms_r0 (k := 0) (p := 0) (i := 0) (by omega) (by omega) (by omega), true_or, or_true, true_and]
            exact ⟨a1323, (by omega), H⟩
      refine r_X5_runsOn_157 ?_
      simp only [mo_ty, mo_f74, mo_t18, mo_n18, mo_a18, mo_f39, mo_t1, mo_n1, mo_a1, ms_r5 (k := (320230 + 183 * p2) + x9) (p := p2) (i := x9) (by omega) (by omega) (by omega), true_or, or_true, true_and]
      refine ⟨a1316, a1317, (by omega), ⟨fun c => ?_, fun c => ?_⟩⟩
      · exact r_X5_runsOn_170 (J _ (am_bf (by omega)).symm)
      · exact r_X5_runsOn_168 (J _ (am_bt c).symm)
theorem w_runsOn_191 {d : Nat} {Q : am_K} {b : am_H} {r : Nat} {S : am_G} {V : Nat → Int → Int} {W : Nat → Int} {x1 : Int} {x2 : Int} {x3 : Int} {x4 : Int} {x5 : Int} {x6 : Int} {x7 : Int} {x8 : Int} {x9 : Int} {y1 : Int} {y0 : Int} (H : ((-2147483648 ≤ x9 + 1 ∧ x9 + 1 ≤ 2147483647)) ∧ (am_W m_X5_runsOn (am_ev am_prog (d + 3)) Q 152 [some (.inr (.inl r)), some (.inl x1), some (.inl x2), some (.inl x3), some (.inl x4), some (.inl x5), some (.inl x6), some (.inl x7), some (.inl (am_b (y1 < y0))), some (.inl (x9 + 1))] [] (mo b r (ms S) V W))) : am_W m_X5_runsOn (am_ev am_prog (d + 3)) Q 191 [some (.inr (.inl r)), some (.inl x1), some (.inl x2), some (.inl x3), some (.inl x4), some (.inl x5), some (.inl x6), some (.inl x7), some (.inl x8), some (.inl x9)] [.inl y1, .inl y0] (mo b r (ms S) V W) := by
  have J : ∀ y : Int, y = am_b (y1 < y0) → am_W m_X5_runsOn (am_ev am_prog (d + 3)) Q 195 [some (.inr (.inl r)), some (.inl x1), some (.inl x2), some (.inl x3), some (.inl x4), some (.inl x5), some (.inl x6), some (.inl x7), some (.inl x8), some (.inl x9)] [.inl y] (mo b r (ms S) V W) := by
    intro y hy
    subst hy
    obtain ⟨a1324, H⟩ := H
    refine r_X5_runsOn_195 ?_
    refine ⟨a1324, ?_⟩
    exact H
  refine r_X5_runsOn_191 ?_
  refine ⟨fun c => ?_, fun c => ?_⟩
  · exact r_X5_runsOn_194 (J _ (am_bf (by omega)).symm)
  · exact r_X5_runsOn_192 (J _ (am_bt c).symm)
theorem w_runsOn_203 {d : Nat} {Q : am_K} {b : am_H} {r : Nat} {S : am_G} {V : Nat → Int → Int} {W : Nat → Int} {x1 : Int} {x2 : Int} {x3 : Int} {x4 : Int} {x5 : Int} {x6 : Int} {x7 : Int} {x8 : Int} {x9 : Int} (H : Q (.inl none) (mo b r (ms S) V W)) : am_W m_X5_runsOn (am_ev am_prog (d + 3)) Q 203 [some (.inr (.inl r)), some (.inl x1), some (.inl x2), some (.inl x3), some (.inl x4), some (.inl x5), some (.inl x6), some (.inl x7), some (.inl x8), some (.inl x9)] [] (mo b r (ms S) V W) := by
  refine r_X5_runsOn_203 ?_
  exact H
theorem w_runsOn_228 {d : Nat} {Q : am_K} {b : am_H} {r : Nat} {S : am_G} {V : Nat → Int → Int} {W : Nat → Int} {x1 : Int} {x2 : Int} {p3 : Int} {x4 : Int} {x5 : Int} {x6 : Int} {x7 : Int} {x8 : Int} {x9 : Int} (H : ((-2147483648 ≤ (320230 + 183 * p3 + 33) + 1 ∧ (320230 + 183 * p3 + 33) + 1 ≤ 2147483647) ∧ (0 ≤ p3 ∧ p3 < 4) ∧ (-2147483648 ≤ (S 5 p3 34) + 1 ∧ (S 5 p3 34) + 1 ≤ 2147483647)) ∧ (((-2147483648 ≤ (320230 + 183 * p3 + 33) + 1 ∧ (320230 + 183 * p3 + 33) + 1 ≤ 2147483647) ∧ (0 ≤ p3 ∧ p3 < 4) ∧ (-2147483648 ≤ (320230 + 183 * p3 + 33) + 2 ∧ (320230 + 183 * p3 + 33) + 2 ≤ 2147483647)) ∧ (((S 5 p3 34) + 1 ≠ S 5 p3 35 → am_W m_X5_runsOn (am_ev am_prog (d + 3)) Q 254 [some (.inr (.inl r)), some (.inl x1), some (.inl x2), some (.inl (320230 + 183 * p3 + 33)), some (.inl x4), some (.inl x5), some (.inl x6), some (.inl x7), some (.inl x8), some (.inl x9)] [] (mo b r (ms (u3 S 5 p3 34 ((S 5 p3 34) + 1))) V W)) ∧ ((S 5 p3 34) + 1 = S 5 p3 35 → am_ev am_prog (d + 3) 322 [.inr (.inl r), .inl x1] (mo b r (ms (u3 S 5 p3 34 ((S 5 p3 34) + 1))) V W) (am_aft (am_hand m_X5_runsOn Q (am_W m_X5_runsOn (am_ev am_prog (d + 3)) Q) 253) (am_W m_X5_runsOn (am_ev am_prog (d + 3)) Q) 253 [some (.inr (.inl r)), some (.inl x1), some (.inl x2), some (.inl (320230 + 183 * p3 + 33)), some (.inl x4), some (.inl x5), some (.inl x6), some (.inl x7), some (.inl x8), some (.inl x9)] []))))) : am_W m_X5_runsOn (am_ev am_prog (d + 3)) Q 228 [some (.inr (.inl r)), some (.inl x1), some (.inl x2), some (.inl (320230 + 183 * p3 + 33)), some (.inl x4), some (.inl x5), some (.inl x6), some (.inl x7), some (.inl x8), some (.inl x9)] [] (mo b r (ms S) V W) := by
  obtain ⟨⟨a1325, a1326, a1327⟩, H⟩ := H
  refine r_X5_runsOn_228 ?_
  simp only [mo_ty, mo_f39, mo_t1, mo_n1, mo_a1, ms_r5 (k := (320230 + 183 * p3 + 33) + 1) (p := p3) (i := 34) (by omega) (by omega) (by omega), mo_s1, ms_w5 (k := (320230 + 183 * p3 + 33) + 1) (p := p3) (i := 34) (by omega) (by omega) (by omega), true_or, or_true, true_and]
  refine ⟨a1325, (by omega), a1327, (by omega), ?_⟩
  obtain ⟨⟨a1328, a1329, a1330⟩, H⟩ := H
  refine r_X5_runsOn_238 ?_
  simp only [mo_ty, mo_f39, mo_t1, mo_n1, mo_a1, ms_r5 (k := (320230 + 183 * p3 + 33) + 1) (p := p3) (i := 34) (by omega) (by omega) (by omega), u3_eq, ms_r5 (k := (320230 + 183 * p3 + 33) + 2) (p := p3) (i := 35) (by omega) (by omega) (by omega), u3_no (by decide : (35 : Int) ≠ 34), true_or, or_true, true_and]
  refine ⟨a1328, (by omega), a1330, (by omega), ⟨fun c => ?_, fun c => ?_⟩⟩
  · replace H := H.1 c
    exact H
  · replace H := H.2 c
    refine r_X5_runsOn_251 ?_
    simp only [mo_ty, true_or, or_true, true_and]
    exact H
theorem w_runsOn_254 {d : Nat} {Q : am_K} {b : am_H} {r : Nat} {S : am_G} {V : Nat → Int → Int} {W : Nat → Int} {x1 : Int} {x2 : Int} {x3 : Int} {x4 : Int} {x5 : Int} {x6 : Int} {x7 : Int} {x8 : Int} {x9 : Int} (H : Q (.inl none) (mo b r (ms S) V W)) : am_W m_X5_runsOn (am_ev am_prog (d + 3)) Q 254 [some (.inr (.inl r)), some (.inl x1), some (.inl x2), some (.inl x3), some (.inl x4), some (.inl x5), some (.inl x6), some (.inl x7), some (.inl x8), some (.inl x9)] [] (mo b r (ms S) V W) := by
  refine r_X5_runsOn_254 ?_
  exact H
theorem w_blanks_0 {d : Nat} {Q : am_K} {b : am_H} {r : Nat} {S : am_G} {V : Nat → Int → Int} {W : Nat → Int}  (H : (W 45 ≤ W 46 → Q (.inl none) (mo b r (ms S) V W)) ∧ (W 46 < W 45 → ((0 ≤ W 46 ∧ W 46 < 400)) ∧ (((V 4 (W 46) : Int) ≠ 32 → Q (.inl none) (mo b r (ms S) V W)) ∧ ((V 4 (W 46) : Int) = 32 → ((-2147483648 ≤ (W 46) + 1 ∧ (W 46) + 1 ≤ 2147483647)) ∧ (am_W m_X5_blanks (am_ev am_prog (d + 3)) Q 0 [some (.inr (.inl r))] [] (mo b r (ms S) V (am_up W 46 ((W 46) + 1)))))))) : am_W m_X5_blanks (am_ev am_prog (d + 3)) Q 0 [some (.inr (.inl r))] [] (mo b r (ms S) V W) := by
  refine r_X5_blanks_0 ?_
  simp only [mo_ty, mo_i, true_or, or_true, true_and]
  refine ⟨fun c => ?_, fun c => ?_⟩
  · replace H := H.1 c
    refine r_X5_blanks_19 ?_
    exact H
  · replace H := H.2 c
    obtain ⟨a1331, H⟩ := H
    refine r_X5_blanks_5 ?_
    simp only [mo_ty, mo_f43, mo_i, mo_t4, mo_n4, mo_a4, true_or, or_true, true_and]
    refine ⟨a1331, ⟨fun c => ?_, fun c => ?_⟩⟩
    · replace H := H.1 c
      refine r_X5_blanks_19 ?_
      exact H
    · replace H := H.2 c
      obtain ⟨a1332, H⟩ := H
      refine r_X5_blanks_12 ?_
      simp only [mo_ty, mo_i, mo_si, true_or, or_true, true_and]
      refine ⟨a1332, ?_⟩
      refine r_X5_blanks_18 ?_
      exact H
theorem w_readRule_0 {d : Nat} {Q : am_K} {b : am_H} {r : Nat} {S : am_G} {V : Nat → Int → Int} {W : Nat → Int} {o1 : Option am_V} {o2 : Option am_V} {o3 : Option am_V} {o4 : Option am_V} (H : ((-2147483648 ≤ 5 * (W 57) ∧ 5 * (W 57) ≤ 2147483647) ∧ (-2147483648 ≤ 2 + (5 * (W 57)) ∧ 2 + (5 * (W 57)) ≤ 2147483647)) ∧ (am_W m_X5_readRule (am_ev am_prog (d + 3)) Q 9 [some (.inr (.inl r)), some (.inl (2 + (5 * (W 57)))), some (.inl 0), o3, o4] [] (mo b r (ms S) V W))) : am_W m_X5_readRule (am_ev am_prog (d + 3)) Q 0 [some (.inr (.inl r)), o1, o2, o3, o4] [] (mo b r (ms S) V W) := by
  obtain ⟨⟨a1333, a1334⟩, H⟩ := H
  refine r_X5_readRule_0 ?_
  simp only [mo_ty, mo_i, true_or, or_true, true_and]
  refine ⟨a1333, a1334, ?_⟩
  exact H
theorem w_readRule_9 {d : Nat} {Q : am_K} {b : am_H} {r : Nat} {S : am_G} {V : Nat → Int → Int} {W : Nat → Int} {x1 : Int} {x2 : Int} {o3 : Option am_V} {o4 : Option am_V} (H : (5 ≤ x2 → am_ev am_prog (d + 3) 323 [.inr (.inl r), .inr (.inl (am_cs b 1))] (mo b r (ms S) V W) (am_aft (am_hand m_X5_readRule Q (am_W m_X5_readRule (am_ev am_prog (d + 3)) Q) 23) (am_W m_X5_readRule (am_ev am_prog (d + 3)) Q) 23 [some (.inr (.inl r)), some (.inl x1), some (.inl x2), o3, o4] [])) ∧ (x2 < 5 → ((-2147483648 ≤ x1 + x2 ∧ x1 + x2 ≤ 2147483647) ∧ (0 ≤ x1 + x2 ∧ x1 + x2 < 562)) ∧ (((-2147483648 ≤ x2 + 1 ∧ x2 + 1 ≤ 2147483647)) ∧ (am_W m_X5_readRule (am_ev am_prog (d + 3)) Q 9 [some (.inr (.inl r)), some (.inl x1), some (.inl (x2 + 1)), o3, o4] [] (mo b r (ms S) (am_up V 10 (am_uz (V 10) (x1 + x2) 0)) W))))) : am_W m_X5_readRule (am_ev am_prog (d + 3)) Q 9 [some (.inr (.inl r)), some (.inl x1), some (.inl x2), o3, o4] [] (mo b r (ms S) V W) := by
  refine r_X5_readRule_9 ?_
  refine ⟨fun c => ?_, fun c => ?_⟩
  · replace H := H.1 c
    refine r_X5_readRule_21 ?_
    simp only [mo_cs, mo_ty, true_or, or_true, true_and]
    exact H
  · replace H := H.2 c
    obtain ⟨⟨a1335, a1336⟩, H⟩ := H
    refine r_X5_readRule_12 ?_
    simp only [mo_ty, mo_f56, mo_t10, mo_n10, mo_s10, true_or, or_true, true_and]
    refine ⟨a1335, a1336, ?_⟩
    obtain ⟨a1337, H⟩ := H
    refine r_X5_readRule_19 ?_
    refine ⟨a1337, ?_⟩
    exact H
theorem w_readRule_24 {d : Nat} {Q : am_K} {b : am_H} {r : Nat} {S : am_G} {V : Nat → Int → Int} {W : Nat → Int} {x1 : Int} {x2 : Int} {o3 : Option am_V} {o4 : Option am_V} {y0 : Int} (H : ((y0 : Int) = 0 → am_ev am_prog (d + 3) 323 [.inr (.inl r), .inr (.inl (am_cs b 2))] (mo b r (ms S) V W) (am_aft (am_hand m_X5_readRule Q (am_W m_X5_readRule (am_ev am_prog (d + 3)) Q) 29) (am_W m_X5_readRule (am_ev am_prog (d + 3)) Q) 29 [some (.inr (.inl r)), some (.inl x1), some (.inl x2), o3, o4] [])) ∧ ((y0 : Int) ≠ 0 → ((0 ≤ x1 ∧ x1 < 562)) ∧ (am_ev am_prog (d + 3) 325 [.inr (.inl r), .inl 10, .inl 400] (mo b r (ms S) (am_up V 10 (am_uz (V 10) x1 0)) W) (am_aft (am_hand m_X5_readRule Q (am_W m_X5_readRule (am_ev am_prog (d + 3)) Q) 121) (am_W m_X5_readRule (am_ev am_prog (d + 3)) Q) 121 [some (.inr (.inl r)), some (.inl x1), some (.inl 0), some (.inl 10), some (.inl 400)] [])))) : am_W m_X5_readRule (am_ev am_prog (d + 3)) Q 24 [some (.inr (.inl r)), some (.inl x1), some (.inl x2), o3, o4] [.inl y0] (mo b r (ms S) V W) := by
  refine r_X5_readRule_24 ?_
  refine ⟨fun c => ?_, fun c => ?_⟩
  · replace H := H.1 c
    refine r_X5_readRule_27 ?_
    simp only [mo_cs, mo_ty, true_or, or_true, true_and]
    exact H
  · replace H := H.2 c
    refine r_X5_readRule_25 ?_
    refine r_X5_readRule_64 ?_
    refine ⟨fun c => ?_, fun c => absurd c (by decide)⟩
    obtain ⟨a1338, H⟩ := H
    refine r_X5_readRule_71 ?_
    simp only [mo_ty, mo_f56, mo_t10, mo_n10, mo_s10, true_or, or_true, true_and]
    refine ⟨a1338, ?_⟩
    refine r_X5_readRule_76 ?_
    refine ⟨fun c => ?_, fun c => absurd c (by decide)⟩
    refine r_X5_readRule_83 ?_
    refine ⟨fun c => absurd c (by decide), fun c => ?_⟩
    refine r_X5_readRule_85 ?_
    refine r_X5_readRule_93 ?_
    refine ⟨fun c => absurd c (by decide), fun c => ?_⟩
    refine r_X5_readRule_96 ?_
    refine r_X5_readRule_117 ?_
    simp only [mo_ty, true_or, or_true, true_and]
    exact H
theorem w_readRule_30 {d : Nat} {Q : am_K} {b : am_H} {r : Nat} {S : am_G} {V : Nat → Int → Int} {W : Nat → Int} {x1 : Int} {x2 : Int} {o3 : Option am_V} {o4 : Option am_V} {y0 : Int} (H : ((y0 : Int) = 0 → am_ev am_prog (d + 3) 323 [.inr (.inl r), .inr (.inl (am_cs b 3))] (mo b r (ms S) V W) (am_aft (am_hand m_X5_readRule Q (am_W m_X5_readRule (am_ev am_prog (d + 3)) Q) 35) (am_W m_X5_readRule (am_ev am_prog (d + 3)) Q) 35 [some (.inr (.inl r)), some (.inl x1), some (.inl x2), o3, o4] [])) ∧ ((y0 : Int) ≠ 0 → ((0 ≤ x1 ∧ x1 < 562)) ∧ (am_ev am_prog (d + 3) 325 [.inr (.inl r), .inl 1, .inl 40] (mo b r (ms S) (am_up V 10 (am_uz (V 10) x1 1)) W) (am_aft (am_hand m_X5_readRule Q (am_W m_X5_readRule (am_ev am_prog (d + 3)) Q) 121) (am_W m_X5_readRule (am_ev am_prog (d + 3)) Q) 121 [some (.inr (.inl r)), some (.inl x1), some (.inl 1), some (.inl 1), some (.inl 40)] [])))) : am_W m_X5_readRule (am_ev am_prog (d + 3)) Q 30 [some (.inr (.inl r)), some (.inl x1), some (.inl x2), o3, o4] [.inl y0] (mo b r (ms S) V W) := by
  refine r_X5_readRule_30 ?_
  refine ⟨fun c => ?_, fun c => ?_⟩
  · replace H := H.1 c
    refine r_X5_readRule_33 ?_
    simp only [mo_cs, mo_ty, true_or, or_true, true_and]
    exact H
  · replace H := H.2 c
    refine r_X5_readRule_31 ?_
    refine r_X5_readRule_64 ?_
    refine ⟨fun c => ?_, fun c => absurd c (by decide)⟩
    obtain ⟨a1339, H⟩ := H
    refine r_X5_readRule_71 ?_
    simp only [mo_ty, mo_f56, mo_t10, mo_n10, mo_s10, true_or, or_true, true_and]
    refine ⟨a1339, ?_⟩
    refine r_X5_readRule_76 ?_
    refine ⟨fun c => ?_, fun c => absurd c (by decide)⟩
    refine r_X5_readRule_83 ?_
    refine ⟨fun c => ?_, fun c => absurd c (by decide)⟩
    refine r_X5_readRule_87 ?_
    refine ⟨fun c => absurd c (by decide), fun c => ?_⟩
    refine r_X5_readRule_90 ?_
    refine r_X5_readRule_93 ?_
    refine ⟨fun c => ?_, fun c => absurd c (by decide)⟩
    refine r_X5_readRule_98 ?_
    refine ⟨fun c => absurd c (by decide), fun c => ?_⟩
    refine r_X5_readRule_101 ?_
    refine r_X5_readRule_117 ?_
    simp only [mo_ty, true_or, or_true, true_and]
    exact H
theorem w_readRule_36 {d : Nat} {Q : am_K} {b : am_H} {r : Nat} {S : am_G} {V : Nat → Int → Int} {W : Nat → Int} {x1 : Int} {x2 : Int} {o3 : Option am_V} {o4 : Option am_V} {y0 : Int} (H : ((y0 : Int) = 0 → am_ev am_prog (d + 3) 323 [.inr (.inl r), .inr (.inl (am_cs b 4))] (mo b r (ms S) V W) (am_aft (am_hand m_X5_readRule Q (am_W m_X5_readRule (am_ev am_prog (d + 3)) Q) 41) (am_W m_X5_readRule (am_ev am_prog (d + 3)) Q) 41 [some (.inr (.inl r)), some (.inl x1), some (.inl x2), o3, o4] [])) ∧ ((y0 : Int) ≠ 0 → ((0 ≤ x1 ∧ x1 < 562)) ∧ (am_ev am_prog (d + 3) 325 [.inr (.inl r), .inl 0, .inl 999] (mo b r (ms S) (am_up V 10 (am_uz (V 10) x1 2)) W) (am_aft (am_hand m_X5_readRule Q (am_W m_X5_readRule (am_ev am_prog (d + 3)) Q) 121) (am_W m_X5_readRule (am_ev am_prog (d + 3)) Q) 121 [some (.inr (.inl r)), some (.inl x1), some (.inl 2), some (.inl 0), some (.inl 999)] [])))) : am_W m_X5_readRule (am_ev am_prog (d + 3)) Q 36 [some (.inr (.inl r)), some (.inl x1), some (.inl x2), o3, o4] [.inl y0] (mo b r (ms S) V W) := by
  refine r_X5_readRule_36 ?_
  refine ⟨fun c => ?_, fun c => ?_⟩
  · replace H := H.1 c
    refine r_X5_readRule_39 ?_
    simp only [mo_cs, mo_ty, true_or, or_true, true_and]
    exact H
  · replace H := H.2 c
    refine r_X5_readRule_37 ?_
    refine r_X5_readRule_64 ?_
    refine ⟨fun c => ?_, fun c => absurd c (by decide)⟩
    obtain ⟨a1340, H⟩ := H
    refine r_X5_readRule_71 ?_
    simp only [mo_ty, mo_f56, mo_t10, mo_n10, mo_s10, true_or, or_true, true_and]
    refine ⟨a1340, ?_⟩
    refine r_X5_readRule_76 ?_
    refine ⟨fun c => ?_, fun c => absurd c (by decide)⟩
    refine r_X5_readRule_83 ?_
    refine ⟨fun c => ?_, fun c => absurd c (by decide)⟩
    refine r_X5_readRule_87 ?_
    refine ⟨fun c => ?_, fun c => absurd c (by decide)⟩
    refine r_X5_readRule_92 ?_
    refine r_X5_readRule_93 ?_
    refine ⟨fun c => ?_, fun c => absurd c (by decide)⟩
    refine r_X5_readRule_98 ?_
    refine ⟨fun c => ?_, fun c => absurd c (by decide)⟩
    refine r_X5_readRule_103 ?_
    refine ⟨fun c => ?_, fun c => absurd c (by decide)⟩
    refine r_X5_readRule_109 ?_
    refine r_X5_readRule_117 ?_
    simp only [mo_ty, true_or, or_true, true_and]
    exact H
theorem w_readRule_42 {d : Nat} {Q : am_K} {b : am_H} {r : Nat} {S : am_G} {V : Nat → Int → Int} {W : Nat → Int} {x1 : Int} {x2 : Int} {o3 : Option am_V} {o4 : Option am_V} {y0 : Int} (H : ((y0 : Int) = 0 → am_ev am_prog (d + 3) 323 [.inr (.inl r), .inr (.inl (am_cs b 5))] (mo b r (ms S) V W) (am_aft (am_hand m_X5_readRule Q (am_W m_X5_readRule (am_ev am_prog (d + 3)) Q) 47) (am_W m_X5_readRule (am_ev am_prog (d + 3)) Q) 47 [some (.inr (.inl r)), some (.inl x1), some (.inl x2), o3, o4] [])) ∧ ((y0 : Int) ≠ 0 → ((0 ≤ x1 ∧ x1 < 562)) ∧ (am_ev am_prog (d + 3) 325 [.inr (.inl r), .inl 0, .inl 99] (mo b r (ms S) (am_up V 10 (am_uz (V 10) x1 3)) W) (am_aft (am_hand m_X5_readRule Q (am_W m_X5_readRule (am_ev am_prog (d + 3)) Q) 121) (am_W m_X5_readRule (am_ev am_prog (d + 3)) Q) 121 [some (.inr (.inl r)), some (.inl x1), some (.inl 3), some (.inl 0), some (.inl 99)] [])))) : am_W m_X5_readRule (am_ev am_prog (d + 3)) Q 42 [some (.inr (.inl r)), some (.inl x1), some (.inl x2), o3, o4] [.inl y0] (mo b r (ms S) V W) := by
  refine r_X5_readRule_42 ?_
  refine ⟨fun c => ?_, fun c => ?_⟩
  · replace H := H.1 c
    refine r_X5_readRule_45 ?_
    simp only [mo_cs, mo_ty, true_or, or_true, true_and]
    exact H
  · replace H := H.2 c
    refine r_X5_readRule_43 ?_
    refine r_X5_readRule_64 ?_
    refine ⟨fun c => ?_, fun c => absurd c (by decide)⟩
    obtain ⟨a1341, H⟩ := H
    refine r_X5_readRule_71 ?_
    simp only [mo_ty, mo_f56, mo_t10, mo_n10, mo_s10, true_or, or_true, true_and]
    refine ⟨a1341, ?_⟩
    refine r_X5_readRule_76 ?_
    refine ⟨fun c => ?_, fun c => absurd c (by decide)⟩
    refine r_X5_readRule_83 ?_
    refine ⟨fun c => ?_, fun c => absurd c (by decide)⟩
    refine r_X5_readRule_87 ?_
    refine ⟨fun c => ?_, fun c => absurd c (by decide)⟩
    refine r_X5_readRule_92 ?_
    refine r_X5_readRule_93 ?_
    refine ⟨fun c => ?_, fun c => absurd c (by decide)⟩
    refine r_X5_readRule_98 ?_
    refine ⟨fun c => ?_, fun c => absurd c (by decide)⟩
    refine r_X5_readRule_103 ?_
    refine ⟨fun c => absurd c (by decide), fun c => ?_⟩
    refine r_X5_readRule_106 ?_
    refine ⟨fun c => ?_, fun c => absurd c (by decide)⟩
    refine r_X5_readRule_111 ?_
    refine ⟨fun c => absurd c (by decide), fun c => ?_⟩
    refine r_X5_readRule_114 ?_
    refine r_X5_readRule_117 ?_
    simp only [mo_ty, true_or, or_true, true_and]
    exact H
theorem w_readRule_48 {d : Nat} {Q : am_K} {b : am_H} {r : Nat} {S : am_G} {V : Nat → Int → Int} {W : Nat → Int} {x1 : Int} {x2 : Int} {o3 : Option am_V} {o4 : Option am_V} {y0 : Int} (H : ((y0 : Int) = 0 → am_ev am_prog (d + 3) 323 [.inr (.inl r), .inr (.inl (am_cs b 6))] (mo b r (ms S) V W) (am_aft (am_hand m_X5_readRule Q (am_W m_X5_readRule (am_ev am_prog (d + 3)) Q) 53) (am_W m_X5_readRule (am_ev am_prog (d + 3)) Q) 53 [some (.inr (.inl r)), some (.inl x1), some (.inl x2), o3, o4] [])) ∧ ((y0 : Int) ≠ 0 → ((0 ≤ x1 ∧ x1 < 562)) ∧ (am_ev am_prog (d + 3) 325 [.inr (.inl r), .inl 0, .inl 999] (mo b r (ms S) (am_up V 10 (am_uz (V 10) x1 4)) W) (am_aft (am_hand m_X5_readRule Q (am_W m_X5_readRule (am_ev am_prog (d + 3)) Q) 121) (am_W m_X5_readRule (am_ev am_prog (d + 3)) Q) 121 [some (.inr (.inl r)), some (.inl x1), some (.inl 4), some (.inl 0), some (.inl 999)] [])))) : am_W m_X5_readRule (am_ev am_prog (d + 3)) Q 48 [some (.inr (.inl r)), some (.inl x1), some (.inl x2), o3, o4] [.inl y0] (mo b r (ms S) V W) := by
  refine r_X5_readRule_48 ?_
  refine ⟨fun c => ?_, fun c => ?_⟩
  · replace H := H.1 c
    refine r_X5_readRule_51 ?_
    simp only [mo_cs, mo_ty, true_or, or_true, true_and]
    exact H
  · replace H := H.2 c
    refine r_X5_readRule_49 ?_
    refine r_X5_readRule_64 ?_
    refine ⟨fun c => ?_, fun c => absurd c (by decide)⟩
    obtain ⟨a1342, H⟩ := H
    refine r_X5_readRule_71 ?_
    simp only [mo_ty, mo_f56, mo_t10, mo_n10, mo_s10, true_or, or_true, true_and]
    refine ⟨a1342, ?_⟩
    refine r_X5_readRule_76 ?_
    refine ⟨fun c => ?_, fun c => absurd c (by decide)⟩
    refine r_X5_readRule_83 ?_
    refine ⟨fun c => ?_, fun c => absurd c (by decide)⟩
    refine r_X5_readRule_87 ?_
    refine ⟨fun c => ?_, fun c => absurd c (by decide)⟩
    refine r_X5_readRule_92 ?_
    refine r_X5_readRule_93 ?_
    refine ⟨fun c => ?_, fun c => absurd c (by decide)⟩
    refine r_X5_readRule_98 ?_
    refine ⟨fun c => ?_, fun c => absurd c (by decide)⟩
    refine r_X5_readRule_103 ?_
    refine ⟨fun c => absurd c (by decide), fun c => ?_⟩
    refine r_X5_readRule_106 ?_
    refine ⟨fun c => absurd c (by decide), fun c => ?_⟩
    refine r_X5_readRule_109 ?_
    refine r_X5_readRule_117 ?_
    simp only [mo_ty, true_or, or_true, true_and]
    exact H
theorem w_readRule_54 {d : Nat} {Q : am_K} {b : am_H} {r : Nat} {S : am_G} {V : Nat → Int → Int} {W : Nat → Int} {x1 : Int} {x2 : Int} {o3 : Option am_V} {o4 : Option am_V} {y0 : Int} (H : ((y0 : Int) = 0 → am_ev am_prog (d + 3) 323 [.inr (.inl r), .inr (.inl (am_cs b 7))] (mo b r (ms S) V W) (am_aft (am_hand m_X5_readRule Q (am_W m_X5_readRule (am_ev am_prog (d + 3)) Q) 59) (am_W m_X5_readRule (am_ev am_prog (d + 3)) Q) 59 [some (.inr (.inl r)), some (.inl x1), some (.inl x2), o3, o4] [])) ∧ ((y0 : Int) ≠ 0 → ((0 ≤ x1 ∧ x1 < 562)) ∧ (am_ev am_prog (d + 3) 324 [.inr (.inl r), .inl 1] (mo b r (ms S) (am_up V 10 (am_uz (V 10) x1 5)) W) (am_aft (am_hand m_X5_readRule Q (am_W m_X5_readRule (am_ev am_prog (d + 3)) Q) 81) (am_W m_X5_readRule (am_ev am_prog (d + 3)) Q) 81 [some (.inr (.inl r)), some (.inl x1), some (.inl 5), o3, o4] [])))) : am_W m_X5_readRule (am_ev am_prog (d + 3)) Q 54 [some (.inr (.inl r)), some (.inl x1), some (.inl x2), o3, o4] [.inl y0] (mo b r (ms S) V W) := by
  refine r_X5_readRule_54 ?_
  refine ⟨fun c => ?_, fun c => ?_⟩
  · replace H := H.1 c
    refine r_X5_readRule_57 ?_
    simp only [mo_cs, mo_ty, true_or, or_true, true_and]
    exact H
  · replace H := H.2 c
    refine r_X5_readRule_55 ?_
    refine r_X5_readRule_64 ?_
    refine ⟨fun c => ?_, fun c => absurd c (by decide)⟩
    obtain ⟨a1343, H⟩ := H
    refine r_X5_readRule_71 ?_
    simp only [mo_ty, mo_f56, mo_t10, mo_n10, mo_s10, true_or, or_true, true_and]
    refine ⟨a1343, ?_⟩
    refine r_X5_readRule_76 ?_
    refine ⟨fun c => absurd c (by decide), fun c => ?_⟩
    refine r_X5_readRule_79 ?_
    simp only [mo_ty, true_or, or_true, true_and]
    exact H
theorem w_readRule_60 {d : Nat} {Q : am_K} {b : am_H} {r : Nat} {S : am_G} {V : Nat → Int → Int} {W : Nat → Int} {x1 : Int} {x2 : Int} {o3 : Option am_V} {o4 : Option am_V} {y0 : Int} (H : ((y0 : Int) = 0 → am_ev am_prog (d + 3) 258 [.inr (.inl r)] (mo b r (ms S) V W) (am_aft (am_hand m_X5_readRule Q (am_W m_X5_readRule (am_ev am_prog (d + 3)) Q) 69) (am_W m_X5_readRule (am_ev am_prog (d + 3)) Q) 69 [some (.inr (.inl r)), some (.inl x1), some (.inl (-1)), o3, o4] [])) ∧ ((y0 : Int) ≠ 0 → ((0 ≤ x1 ∧ x1 < 562)) ∧ (am_ev am_prog (d + 3) 325 [.inr (.inl r), .inl 0, .inl 5] (mo b r (ms S) (am_up V 10 (am_uz (V 10) x1 6)) W) (am_aft (am_hand m_X5_readRule Q (am_W m_X5_readRule (am_ev am_prog (d + 3)) Q) 121) (am_W m_X5_readRule (am_ev am_prog (d + 3)) Q) 121 [some (.inr (.inl r)), some (.inl x1), some (.inl 6), some (.inl 0), some (.inl 5)] [])))) : am_W m_X5_readRule (am_ev am_prog (d + 3)) Q 60 [some (.inr (.inl r)), some (.inl x1), some (.inl x2), o3, o4] [.inl y0] (mo b r (ms S) V W) := by
  refine r_X5_readRule_60 ?_
  refine ⟨fun c => ?_, fun c => ?_⟩
  · replace H := H.1 c
    refine r_X5_readRule_63 ?_
    refine r_X5_readRule_64 ?_
    refine ⟨fun c => absurd c (by decide), fun c => ?_⟩
    refine r_X5_readRule_68 ?_
    simp only [mo_ty, true_or, or_true, true_and]
    exact H
  · replace H := H.2 c
    refine r_X5_readRule_61 ?_
    refine r_X5_readRule_64 ?_
    refine ⟨fun c => ?_, fun c => absurd c (by decide)⟩
    obtain ⟨a1344, H⟩ := H
    refine r_X5_readRule_71 ?_
    simp only [mo_ty, mo_f56, mo_t10, mo_n10, mo_s10, true_or, or_true, true_and]
    refine ⟨a1344, ?_⟩
    refine r_X5_readRule_76 ?_
    refine ⟨fun c => ?_, fun c => absurd c (by decide)⟩
    refine r_X5_readRule_83 ?_
    refine ⟨fun c => ?_, fun c => absurd c (by decide)⟩
    refine r_X5_readRule_87 ?_
    refine ⟨fun c => ?_, fun c => absurd c (by decide)⟩
    refine r_X5_readRule_92 ?_
    refine r_X5_readRule_93 ?_
    refine ⟨fun c => ?_, fun c => absurd c (by decide)⟩
    refine r_X5_readRule_98 ?_
    refine ⟨fun c => ?_, fun c => absurd c (by decide)⟩
    refine r_X5_readRule_103 ?_
    refine ⟨fun c => absurd c (by decide), fun c => ?_⟩
    refine r_X5_readRule_106 ?_
    refine ⟨fun c => ?_, fun c => absurd c (by decide)⟩
    refine r_X5_readRule_111 ?_
    refine ⟨fun c => ?_, fun c => absurd c (by decide)⟩
    refine r_X5_readRule_116 ?_
    refine r_X5_readRule_117 ?_
    simp only [mo_ty, true_or, or_true, true_and]
    exact H
theorem w_readRule_70 {d : Nat} {Q : am_K} {b : am_H} {r : Nat} {S : am_G} {V : Nat → Int → Int} {W : Nat → Int} {x1 : Int} {x2 : Int} {o3 : Option am_V} {o4 : Option am_V} {y0 : Int} (H : ((y0 = 0 ∨ y0 = 1)) ∧ (Q (.inl (some (.inl y0))) (mo b r (ms S) V W))) : am_W m_X5_readRule (am_ev am_prog (d + 3)) Q 70 [some (.inr (.inl r)), some (.inl x1), some (.inl x2), o3, o4] [.inl y0] (mo b r (ms S) V W) := by
  obtain ⟨a1345, H⟩ := H
  refine r_X5_readRule_70 ?_
  exact ⟨a1345, H⟩
theorem w_readRule_82 {d : Nat} {Q : am_K} {b : am_H} {r : Nat} {S : am_G} {V : Nat → Int → Int} {W : Nat → Int} {x1 : Int} {x2 : Int} {o3 : Option am_V} {o4 : Option am_V} {y0 : Int} (H : ((y0 = 0 ∨ y0 = 1)) ∧ (Q (.inl (some (.inl y0))) (mo b r (ms S) V W))) : am_W m_X5_readRule (am_ev am_prog (d + 3)) Q 82 [some (.inr (.inl r)), some (.inl x1), some (.inl x2), o3, o4] [.inl y0] (mo b r (ms S) V W) := by
  obtain ⟨a1346, H⟩ := H
  refine r_X5_readRule_82 ?_
  exact ⟨a1346, H⟩
theorem w_readRule_122 {d : Nat} {Q : am_K} {b : am_H} {r : Nat} {S : am_G} {V : Nat → Int → Int} {W : Nat → Int} {x1 : Int} {x2 : Int} {x3 : Int} {x4 : Int} {y0 : Int} (H : ((y0 : Int) ≠ 0 → ((-2147483648 ≤ x1 + 1 ∧ x1 + 1 ≤ 2147483647) ∧ (0 ≤ x1 + 1 ∧ x1 + 1 < 562)) ∧ (((x2 : Int) = 0 → am_ev am_prog (d + 3) 324 [.inr (.inl r), .inl 0] (mo b r (ms S) (am_up V 10 (am_uz (V 10) (x1 + 1) (W 49))) W) (am_aft (am_hand m_X5_readRule Q (am_W m_X5_readRule (am_ev am_prog (d + 3)) Q) 140) (am_W m_X5_readRule (am_ev am_prog (d + 3)) Q) 140 [some (.inr (.inl r)), some (.inl x1), some (.inl x2), some (.inl x3), some (.inl x4)] [])) ∧ ((x2 : Int) ≠ 0 → ((x2 : Int) ≠ 4 → ((x2 : Int) ≠ 6 → ((x2 : Int) = 1 → ((x2 : Int) ≠ 1 → ((x2 : Int) ≠ 1 → am_ev am_prog (d + 3) 325 [.inr (.inl r), .inl 0, .inl 600] (mo b r (ms S) (am_up V 10 (am_uz (V 10) (x1 + 1) (W 49))) W) (am_aft (am_hand m_X5_readRule Q (am_W m_X5_readRule (am_ev am_prog (d + 3)) Q) 178) (am_W m_X5_readRule (am_ev am_prog (d + 3)) Q) 178 [some (.inr (.inl r)), some (.inl x1), some (.inl x2), some (.inl x3), some (.inl x4)] [])) ∧ ((x2 : Int) = 1 → am_ev am_prog (d + 3) 325 [.inr (.inl r), .inl 0, .inl 40] (mo b r (ms S) (am_up V 10 (am_uz (V 10) (x1 + 1) (W 49))) W) (am_aft (am_hand m_X5_readRule Q (am_W m_X5_readRule (am_ev am_prog (d + 3)) Q) 178) (am_W m_X5_readRule (am_ev am_prog (d + 3)) Q) 178 [some (.inr (.inl r)), some (.inl x1), some (.inl x2), some (.inl x3), some (.inl x4)] []))) ∧ ((x2 : Int) = 1 → ((-2147483648 ≤ x1 + 1 ∧ x1 + 1 ≤ 2147483647) ∧ (0 ≤ x1 + 1 ∧ x1 + 1 < 562)) ∧ (((x2 : Int) ≠ 1 → am_ev am_prog (d + 3) 325 [.inr (.inl r), .inl (W 49), .inl 600] (mo b r (ms S) (am_up V 10 (am_uz (V 10) (x1 + 1) (W 49))) W) (am_aft (am_hand m_X5_readRule Q (am_W m_X5_readRule (am_ev am_prog (d + 3)) Q) 178) (am_W m_X5_readRule (am_ev am_prog (d + 3)) Q) 178 [some (.inr (.inl r)), some (.inl x1), some (.inl x2), some (.inl x3), some (.inl x4)] [])) ∧ ((x2 : Int) = 1 → am_ev am_prog (d + 3) 325 [.inr (.inl r), .inl (W 49), .inl 40] (mo b r (ms S) (am_up V 10 (am_uz (V 10) (x1 + 1) (W 49))) W) (am_aft (am_hand m_X5_readRule Q (am_W m_X5_readRule (am_ev am_prog (d + 3)) Q) 178) (am_W m_X5_readRule (am_ev am_prog (d + 3)) Q) 178 [some (.inr (.inl r)), some (.inl x1), some (.inl x2), some (.inl x3), some (.inl x4)] []))))) ∧ ((x2 : Int) ≠ 1 → ((x2 : Int) = 6 → ((x2 : Int) ≠ 1 → ((x2 : Int) ≠ 1 → am_ev am_prog (d + 3) 325 [.inr (.inl r), .inl 0, .inl 600] (mo b r (ms S) (am_up V 10 (am_uz (V 10) (x1 + 1) (W 49))) W) (am_aft (am_hand m_X5_readRule Q (am_W m_X5_readRule (am_ev am_prog (d + 3)) Q) 178) (am_W m_X5_readRule (am_ev am_prog (d + 3)) Q) 178 [some (.inr (.inl r)), some (.inl x1), some (.inl x2), some (.inl x3), some (.inl x4)] [])) ∧ ((x2 : Int) = 1 → am_ev am_prog (d + 3) 325 [.inr (.inl r), .inl 0, .inl 40] (mo b r (ms S) (am_up V 10 (am_uz (V 10) (x1 + 1) (W 49))) W) (am_aft (am_hand m_X5_readRule Q (am_W m_X5_readRule (am_ev am_prog (d + 3)) Q) 178) (am_W m_X5_readRule (am_ev am_prog (d + 3)) Q) 178 [some (.inr (.inl r)), some (.inl x1), some (.inl x2), some (.inl x3), some (.inl x4)] []))) ∧ ((x2 : Int) = 1 → ((-2147483648 ≤ x1 + 1 ∧ x1 + 1 ≤ 2147483647) ∧ (0 ≤ x1 + 1 ∧ x1 + 1 < 562)) ∧ (((x2 : Int) ≠ 1 → am_ev am_prog (d + 3) 325 [.inr (.inl r), .inl (W 49), .inl 600] (mo b r (ms S) (am_up V 10 (am_uz (V 10) (x1 + 1) (W 49))) W) (am_aft (am_hand m_X5_readRule Q (am_W m_X5_readRule (am_ev am_prog (d + 3)) Q) 178) (am_W m_X5_readRule (am_ev am_prog (d + 3)) Q) 178 [some (.inr (.inl r)), some (.inl x1), some (.inl x2), some (.inl x3), some (.inl x4)] [])) ∧ ((x2 : Int) = 1 → am_ev am_prog (d + 3) 325 [.inr (.inl r), .inl (W 49), .inl 40] (mo b r (ms S) (am_up V 10 (am_uz (V 10) (x1 + 1) (W 49))) W) (am_aft (am_hand m_X5_readRule Q (am_W m_X5_readRule (am_ev am_prog (d + 3)) Q) 178) (am_W m_X5_readRule (am_ev am_prog (d + 3)) Q) 178 [some (.inr (.inl r)), some (.inl x1), some (.inl x2), some (.inl x3), some (.inl x4)] []))))) ∧ ((x2 : Int) ≠ 6 → Q (.inl (some (.inl 1))) (mo b r (ms S) (am_up V 10 (am_uz (V 10) (x1 + 1) (W 49))) W)))) ∧ ((x2 : Int) = 6 → am_ev am_prog (d + 3) 323 [.inr (.inl r), .inr (.inl (am_cs b 8))] (mo b r (ms S) (am_up V 10 (am_uz (V 10) (x1 + 1) (W 49))) W) (am_aft (am_hand m_X5_readRule Q (am_W m_X5_readRule (am_ev am_prog (d + 3)) Q) 147) (am_W m_X5_readRule (am_ev am_prog (d + 3)) Q) 147 [some (.inr (.inl r)), some (.inl x1), some (.inl x2), some (.inl x3), some (.inl x4)] []))) ∧ ((x2 : Int) = 4 → am_ev am_prog (d + 3) 324 [.inr (.inl r), .inl 0] (mo b r (ms S) (am_up V 10 (am_uz (V 10) (x1 + 1) (W 49))) W) (am_aft (am_hand m_X5_readRule Q (am_W m_X5_readRule (am_ev am_prog (d + 3)) Q) 140) (am_W m_X5_readRule (am_ev am_prog (d + 3)) Q) 140 [some (.inr (.inl r)), some (.inl x1), some (.inl x2), some (.inl x3), some (.inl x4)] []))))) ∧ ((y0 : Int) = 0 → Q (.inl (some (.inl 0))) (mo b r (ms S) V W))) : am_W m_X5_readRule (am_ev am_prog (d + 3)) Q 122 [some (.inr (.inl r)), some (.inl x1), some (.inl x2), some (.inl x3), some (.inl x4)] [.inl y0] (mo b r (ms S) V W) := by
  refine r_X5_readRule_122 ?_
  refine ⟨fun c => ?_, fun c => ?_⟩
  · replace H := H.1 c
    obtain ⟨⟨a1347, a1348⟩, H⟩ := H
    refine r_X5_readRule_125 ?_
    simp only [mo_ty, mo_f56, mo_i, mo_t10, mo_n10, mo_s10, true_or, or_true, true_and]
    refine ⟨a1347, a1348, ?_⟩
    refine r_X5_readRule_133 ?_
    refine ⟨fun c => ?_, fun c => ?_⟩
    · replace H := H.1 c
      refine r_X5_readRule_138 ?_
      simp only [mo_ty, true_or, or_true, true_and]
      exact H
    · replace H := H.2 c
      refine r_X5_readRule_135 ?_
      refine ⟨fun c => ?_, fun c => ?_⟩
      · replace H := H.1 c
        refine r_X5_readRule_142 ?_
        refine ⟨fun c => ?_, fun c => ?_⟩
        · replace H := H.1 c
          refine r_X5_readRule_152 ?_
          refine ⟨fun c => ?_, fun c => ?_⟩
          · replace H := H.1 c
            refine r_X5_readRule_160 ?_
            refine ⟨fun c => ?_, fun c => ?_⟩
            · replace H := H.1 c
              refine r_X5_readRule_171 ?_
              refine r_X5_readRule_172 ?_
              refine ⟨fun c => ?_, fun c => ?_⟩
              · replace H := H.1 c
                refine r_X5_readRule_177 ?_
                refine r_X5_readRule_178 ?_
                simp only [mo_ty, true_or, or_true, true_and]
                exact H
              · replace H := H.2 c
                refine r_X5_readRule_175 ?_
                refine r_X5_readRule_178 ?_
                simp only [mo_ty, true_or, or_true, true_and]
                exact H
            · replace H := H.2 c
              obtain ⟨⟨a1349, a1350⟩, H⟩ := H
              refine r_X5_readRule_164 ?_
              simp only [mo_ty, mo_f56, mo_t10, mo_n10, mo_a10, am_up_eq, am_uz_eq, true_or, or_true, true_and]
              refine ⟨a1349, a1350, ?_⟩
              refine r_X5_readRule_172 ?_
              refine ⟨fun c => ?_, fun c => ?_⟩
              · replace H := H.1 c
                refine r_X5_readRule_177 ?_
                refine r_X5_readRule_178 ?_
                simp only [mo_ty, true_or, or_true, true_and]
                exact H
              · replace H := H.2 c
                refine r_X5_readRule_175 ?_
                refine r_X5_readRule_178 ?_
                simp only [mo_ty, true_or, or_true, true_and]
                exact H
          · replace H := H.2 c
            refine r_X5_readRule_155 ?_
            refine ⟨fun c => ?_, fun c => ?_⟩
            · replace H := H.1 c
              refine r_X5_readRule_160 ?_
              refine ⟨fun c => ?_, fun c => ?_⟩
              · replace H := H.1 c
                refine r_X5_readRule_171 ?_
                refine r_X5_readRule_172 ?_
                refine ⟨fun c => ?_, fun c => ?_⟩
                · replace H := H.1 c
                  refine r_X5_readRule_177 ?_
                  refine r_X5_readRule_178 ?_
                  simp only [mo_ty, true_or, or_true, true_and]
                  exact H
                · replace H := H.2 c
                  refine r_X5_readRule_175 ?_
                  refine r_X5_readRule_178 ?_
                  simp only [mo_ty, true_or, or_true, true_and]
                  exact H
              · replace H := H.2 c
                obtain ⟨⟨a1351, a1352⟩, H⟩ := H
                refine r_X5_readRule_164 ?_
                simp only [mo_ty, mo_f56, mo_t10, mo_n10, mo_a10, am_up_eq, am_uz_eq, true_or, or_true, true_and]
                refine ⟨a1351, a1352, ?_⟩
                refine r_X5_readRule_172 ?_
                refine ⟨fun c => ?_, fun c => ?_⟩
                · replace H := H.1 c
                  refine r_X5_readRule_177 ?_
                  refine r_X5_readRule_178 ?_
                  simp only [mo_ty, true_or, or_true, true_and]
                  exact H
                · replace H := H.2 c
                  refine r_X5_readRule_175 ?_
                  refine r_X5_readRule_178 ?_
                  simp only [mo_ty, true_or, or_true, true_and]
                  exact H
            · replace H := H.2 c
              refine r_X5_readRule_158 ?_
              exact ⟨(by decide), H⟩
        · replace H := H.2 c
          refine r_X5_readRule_145 ?_
          simp only [mo_cs, mo_ty, true_or, or_true, true_and]
          exact H
      · replace H := H.2 c
        refine r_X5_readRule_138 ?_
        simp only [mo_ty, true_or, or_true, true_and]
        exact H
  · replace H := H.2 c
    refine r_X5_readRule_123 ?_
    exact ⟨(by decide), H⟩
theorem w_readRule_141 {d : Nat} {Q : am_K} {b : am_H} {r : Nat} {S : am_G} {V : Nat → Int → Int} {W : Nat → Int} {x1 : Int} {x2 : Int} {x3 : Int} {x4 : Int} {y0 : Int} (H : ((y0 = 0 ∨ y0 = 1)) ∧ (Q (.inl (some (.inl y0))) (mo b r (ms S) V W))) : am_W m_X5_readRule (am_ev am_prog (d + 3)) Q 141 [some (.inr (.inl r)), some (.inl x1), some (.inl x2), some (.inl x3), some (.inl x4)] [.inl y0] (mo b r (ms S) V W) := by
  obtain ⟨a1353, H⟩ := H
  refine r_X5_readRule_141 ?_
  exact ⟨a1353, H⟩
theorem w_readRule_148 {d : Nat} {Q : am_K} {b : am_H} {r : Nat} {S : am_G} {V : Nat → Int → Int} {W : Nat → Int} {x1 : Int} {x2 : Int} {x3 : Int} {x4 : Int} {y0 : Int} (H : ((y0 : Int) ≠ 0 → ((x2 : Int) = 1 → ((x2 : Int) ≠ 1 → ((x2 : Int) ≠ 1 → am_ev am_prog (d + 3) 325 [.inr (.inl r), .inl 0, .inl 600] (mo b r (ms S) V W) (am_aft (am_hand m_X5_readRule Q (am_W m_X5_readRule (am_ev am_prog (d + 3)) Q) 178) (am_W m_X5_readRule (am_ev am_prog (d + 3)) Q) 178 [some (.inr (.inl r)), some (.inl x1), some (.inl x2), some (.inl x3), some (.inl x4)] [])) ∧ ((x2 : Int) = 1 → am_ev am_prog (d + 3) 325 [.inr (.inl r), .inl 0, .inl 40] (mo b r (ms S) V W) (am_aft (am_hand m_X5_readRule Q (am_W m_X5_readRule (am_ev am_prog (d + 3)) Q) 178) (am_W m_X5_readRule (am_ev am_prog (d + 3)) Q) 178 [some (.inr (.inl r)), some (.inl x1), some (.inl x2), some (.inl x3), some (.inl x4)] []))) ∧ ((x2 : Int) = 1 → ((-2147483648 ≤ x1 + 1 ∧ x1 + 1 ≤ 2147483647) ∧ (0 ≤ x1 + 1 ∧ x1 + 1 < 562)) ∧ (((x2 : Int) ≠ 1 → am_ev am_prog (d + 3) 325 [.inr (.inl r), .inl (V 10 (x1 + 1)), .inl 600] (mo b r (ms S) V W) (am_aft (am_hand m_X5_readRule Q (am_W m_X5_readRule (am_ev am_prog (d + 3)) Q) 178) (am_W m_X5_readRule (am_ev am_prog (d + 3)) Q) 178 [some (.inr (.inl r)), some (.inl x1), some (.inl x2), some (.inl x3), some (.inl x4)] [])) ∧ ((x2 : Int) = 1 → am_ev am_prog (d + 3) 325 [.inr (.inl r), .inl (V 10 (x1 + 1)), .inl 40] (mo b r (ms S) V W) (am_aft (am_hand m_X5_readRule Q (am_W m_X5_readRule (am_ev am_prog (d + 3)) Q) 178) (am_W m_X5_readRule (am_ev am_prog (d + 3)) Q) 178 [some (.inr (.inl r)), some (.inl x1), some (.inl x2), some (.inl x3), some (.inl x4)] []))))) ∧ ((x2 : Int) ≠ 1 → ((x2 : Int) = 6 → ((x2 : Int) ≠ 1 → ((x2 : Int) ≠ 1 → am_ev am_prog (d + 3) 325 [.inr (.inl r), .inl 0, .inl 600] (mo b r (ms S) V W) (am_aft (am_hand m_X5_readRule Q (am_W m_X5_readRule (am_ev am_prog (d + 3)) Q) 178) (am_W m_X5_readRule (am_ev am_prog (d + 3)) Q) 178 [some (.inr (.inl r)), some (.inl x1), some (.inl x2), some (.inl x3), some (.inl x4)] [])) ∧ ((x2 : Int) = 1 → am_ev am_prog (d + 3) 325 [.inr (.inl r), .inl 0, .inl 40] (mo b r (ms S) V W) (am_aft (am_hand m_X5_readRule Q (am_W m_X5_readRule (am_ev am_prog (d + 3)) Q) 178) (am_W m_X5_readRule (am_ev am_prog (d + 3)) Q) 178 [some (.inr (.inl r)), some (.inl x1), some (.inl x2), some (.inl x3), some (.inl x4)] []))) ∧ ((x2 : Int) = 1 → ((-2147483648 ≤ x1 + 1 ∧ x1 + 1 ≤ 2147483647) ∧ (0 ≤ x1 + 1 ∧ x1 + 1 < 562)) ∧ (((x2 : Int) ≠ 1 → am_ev am_prog (d + 3) 325 [.inr (.inl r), .inl (V 10 (x1 + 1)), .inl 600] (mo b r (ms S) V W) (am_aft (am_hand m_X5_readRule Q (am_W m_X5_readRule (am_ev am_prog (d + 3)) Q) 178) (am_W m_X5_readRule (am_ev am_prog (d + 3)) Q) 178 [some (.inr (.inl r)), some (.inl x1), some (.inl x2), some (.inl x3), some (.inl x4)] [])) ∧ ((x2 : Int) = 1 → am_ev am_prog (d + 3) 325 [.inr (.inl r), .inl (V 10 (x1 + 1)), .inl 40] (mo b r (ms S) V W) (am_aft (am_hand m_X5_readRule Q (am_W m_X5_readRule (am_ev am_prog (d + 3)) Q) 178) (am_W m_X5_readRule (am_ev am_prog (d + 3)) Q) 178 [some (.inr (.inl r)), some (.inl x1), some (.inl x2), some (.inl x3), some (.inl x4)] []))))) ∧ ((x2 : Int) ≠ 6 → Q (.inl (some (.inl 1))) (mo b r (ms S) V W)))) ∧ ((y0 : Int) = 0 → am_ev am_prog (d + 3) 258 [.inr (.inl r)] (mo b r (ms S) V W) (am_aft (am_hand m_X5_readRule Q (am_W m_X5_readRule (am_ev am_prog (d + 3)) Q) 150) (am_W m_X5_readRule (am_ev am_prog (d + 3)) Q) 150 [some (.inr (.inl r)), some (.inl x1), some (.inl x2), some (.inl x3), some (.inl x4)] []))) : am_W m_X5_readRule (am_ev am_prog (d + 3)) Q 148 [some (.inr (.inl r)), some (.inl x1), some (.inl x2), some (.inl x3), some (.inl x4)] [.inl y0] (mo b r (ms S) V W) := by
  refine r_X5_readRule_148 ?_
  refine ⟨fun c => ?_, fun c => ?_⟩
  · replace H := H.1 c
    refine r_X5_readRule_152 ?_
    refine ⟨fun c => ?_, fun c => ?_⟩
    · replace H := H.1 c
      refine r_X5_readRule_160 ?_
      refine ⟨fun c => ?_, fun c => ?_⟩
      · replace H := H.1 c
        refine r_X5_readRule_171 ?_
        refine r_X5_readRule_172 ?_
        refine ⟨fun c => ?_, fun c => ?_⟩
        · replace H := H.1 c
          refine r_X5_readRule_177 ?_
          refine r_X5_readRule_178 ?_
          simp only [mo_ty, true_or, or_true, true_and]
          exact H
        · replace H := H.2 c
          refine r_X5_readRule_175 ?_
          refine r_X5_readRule_178 ?_
          simp only [mo_ty, true_or, or_true, true_and]
          exact H
      · replace H := H.2 c
        obtain ⟨⟨a1354, a1355⟩, H⟩ := H
        refine r_X5_readRule_164 ?_
        simp only [mo_ty, mo_f56, mo_t10, mo_n10, mo_a10, true_or, or_true, true_and]
        refine ⟨a1354, a1355, ?_⟩
        refine r_X5_readRule_172 ?_
        refine ⟨fun c => ?_, fun c => ?_⟩
        · replace H := H.1 c
          refine r_X5_readRule_177 ?_
          refine r_X5_readRule_178 ?_
          simp only [mo_ty, true_or, or_true, true_and]
          exact H
        · replace H := H.2 c
          refine r_X5_readRule_175 ?_
          refine r_X5_readRule_178 ?_
          simp only [mo_ty, true_or, or_true, true_and]
          exact H
    · replace H := H.2 c
      refine r_X5_readRule_155 ?_
      refine ⟨fun c => ?_, fun c => ?_⟩
      · replace H := H.1 c
        refine r_X5_readRule_160 ?_
        refine ⟨fun c => ?_, fun c => ?_⟩
        · replace H := H.1 c
          refine r_X5_readRule_171 ?_
          refine r_X5_readRule_172 ?_
          refine ⟨fun c => ?_, fun c => ?_⟩
          · replace H := H.1 c
            refine r_X5_readRule_177 ?_
            refine r_X5_readRule_178 ?_
            simp only [mo_ty, true_or, or_true, true_and]
            exact H
          · replace H := H.2 c
            refine r_X5_readRule_175 ?_
            refine r_X5_readRule_178 ?_
            simp only [mo_ty, true_or, or_true, true_and]
            exact H
        · replace H := H.2 c
          obtain ⟨⟨a1356, a1357⟩, H⟩ := H
          refine r_X5_readRule_164 ?_
          simp only [mo_ty, mo_f56, mo_t10, mo_n10, mo_a10, true_or, or_true, true_and]
          refine ⟨a1356, a1357, ?_⟩
          refine r_X5_readRule_172 ?_
          refine ⟨fun c => ?_, fun c => ?_⟩
          · replace H := H.1 c
            refine r_X5_readRule_177 ?_
            refine r_X5_readRule_178 ?_
            simp only [mo_ty, true_or, or_true, true_and]
            exact H
          · replace H := H.2 c
            refine r_X5_readRule_175 ?_
            refine r_X5_readRule_178 ?_
            simp only [mo_ty, true_or, or_true, true_and]
            exact H
      · replace H := H.2 c
        refine r_X5_readRule_158 ?_
        exact ⟨(by decide), H⟩
  · replace H := H.2 c
    refine r_X5_readRule_149 ?_
    simp only [mo_ty, true_or, or_true, true_and]
    exact H
theorem w_readRule_151 {d : Nat} {Q : am_K} {b : am_H} {r : Nat} {S : am_G} {V : Nat → Int → Int} {W : Nat → Int} {x1 : Int} {x2 : Int} {x3 : Int} {x4 : Int} {y0 : Int} (H : ((y0 = 0 ∨ y0 = 1)) ∧ (Q (.inl (some (.inl y0))) (mo b r (ms S) V W))) : am_W m_X5_readRule (am_ev am_prog (d + 3)) Q 151 [some (.inr (.inl r)), some (.inl x1), some (.inl x2), some (.inl x3), some (.inl x4)] [.inl y0] (mo b r (ms S) V W) := by
  obtain ⟨a1358, H⟩ := H
  refine r_X5_readRule_151 ?_
  exact ⟨a1358, H⟩
theorem w_readRule_179 {d : Nat} {Q : am_K} {b : am_H} {r : Nat} {S : am_G} {V : Nat → Int → Int} {W : Nat → Int} {x1 : Int} {x2 : Int} {x3 : Int} {x4 : Int} {y0 : Int} (H : ((y0 : Int) ≠ 0 → ((-2147483648 ≤ x1 + 2 ∧ x1 + 2 ≤ 2147483647) ∧ (0 ≤ x1 + 2 ∧ x1 + 2 < 562)) ∧ (Q (.inl (some (.inl 1))) (mo b r (ms S) (am_up V 10 (am_uz (V 10) (x1 + 2) (W 49))) W))) ∧ ((y0 : Int) = 0 → Q (.inl (some (.inl 0))) (mo b r (ms S) V W))) : am_W m_X5_readRule (am_ev am_prog (d + 3)) Q 179 [some (.inr (.inl r)), some (.inl x1), some (.inl x2), some (.inl x3), some (.inl x4)] [.inl y0] (mo b r (ms S) V W) := by
  refine r_X5_readRule_179 ?_
  refine ⟨fun c => ?_, fun c => ?_⟩
  · replace H := H.1 c
    obtain ⟨⟨a1359, a1360⟩, H⟩ := H
    refine r_X5_readRule_182 ?_
    simp only [mo_ty, mo_f56, mo_i, mo_t10, mo_n10, mo_s10, true_or, or_true, true_and]
    refine ⟨a1359, a1360, ?_⟩
    refine r_X5_readRule_190 ?_
    exact ⟨(by decide), H⟩
  · replace H := H.2 c
    refine r_X5_readRule_180 ?_
    exact ⟨(by decide), H⟩
theorem w_fails_0 {d : Nat} {Q : am_K} {b : am_H} {r : Nat} {S : am_G} {V : Nat → Int → Int} {W : Nat → Int}  (H : Q (.inl (some (.inl 0))) (mo b r (ms S) V (am_up W 47 (W 46)))) : am_W m_X5_fails (am_ev am_prog (d + 3)) Q 0 [some (.inr (.inl r))] [] (mo b r (ms S) V W) := by
  refine r_X5_fails_0 ?_
  simp only [mo_ty, mo_i, mo_si, true_or, or_true, true_and]
  refine ?_
  refine r_X5_fails_4 ?_
  exact ⟨(by decide), H⟩
theorem w_columns_0 {d : Nat} {Q : am_K} {b : am_H} {r : Nat} {S : am_G} {V : Nat → Int → Int} {W : Nat → Int} {x1 : Int} {x2 : Int} {o3 : Option am_V} (H : (x2 ≠ W 89 → am_W m_X5_columns (am_ev am_prog (d + 3)) Q 24 [some (.inr (.inl r)), some (.inl x1), some (.inl x2), some (.inl 0)] [] (mo b r (ms S) V W)) ∧ (x2 = W 89 → am_W m_X5_columns (am_ev am_prog (d + 3)) Q 6 [some (.inr (.inl r)), some (.inl x1), some (.inl x2), some (.inl 0)] [] (mo b r (ms S) V W))) : am_W m_X5_columns (am_ev am_prog (d + 3)) Q 0 [some (.inr (.inl r)), some (.inl x1), some (.inl x2), o3] [] (mo b r (ms S) V W) := by
  refine r_X5_columns_0 ?_
  simp only [mo_ty, mo_i, true_or, or_true, true_and]
  refine ⟨fun c => ?_, fun c => ?_⟩
  · replace H := H.1 c
    refine r_X5_columns_22 ?_
    exact H
  · replace H := H.2 c
    refine r_X5_columns_4 ?_
    exact H
theorem w_columns_6 {d : Nat} {Q : am_K} {b : am_H} {r : Nat} {S : am_G} {V : Nat → Int → Int} {W : Nat → Int} {x1 : Int} {x2 : Int} {x3 : Int} (H : (3 ≤ x3 → am_ev am_prog (d + 3) 337 [.inr (.inl r), .inl x1, .inl 0, .inl 0] (mo b r (ms S) V W) (am_aft (am_hand m_X5_columns Q (am_W m_X5_columns (am_ev am_prog (d + 3)) Q) 20) (am_W m_X5_columns (am_ev am_prog (d + 3)) Q) 20 [some (.inr (.inl r)), some (.inl x1), some (.inl x2), some (.inl x3)] [])) ∧ (x3 < 3 → ((0 ≤ x3 ∧ x3 < 3)) ∧ (((-2147483648 ≤ x3 + 1 ∧ x3 + 1 ≤ 2147483647)) ∧ (am_W m_X5_columns (am_ev am_prog (d + 3)) Q 6 [some (.inr (.inl r)), some (.inl x1), some (.inl x2), some (.inl (x3 + 1))] [] (mo b r (ms S) (am_up V 32 (am_uz (V 32) x3 0)) W))))) : am_W m_X5_columns (am_ev am_prog (d + 3)) Q 6 [some (.inr (.inl r)), some (.inl x1), some (.inl x2), some (.inl x3)] [] (mo b r (ms S) V W) := by
  refine r_X5_columns_6 ?_
  refine ⟨fun c => ?_, fun c => ?_⟩
  · replace H := H.1 c
    refine r_X5_columns_16 ?_
    simp only [mo_ty, true_or, or_true, true_and]
    exact H
  · replace H := H.2 c
    obtain ⟨a1361, H⟩ := H
    refine r_X5_columns_9 ?_
    simp only [mo_ty, mo_f88, mo_t32, mo_n32, mo_s32, true_or, or_true, true_and]
    refine ⟨a1361, ?_⟩
    obtain ⟨a1362, H⟩ := H
    refine r_X5_columns_14 ?_
    refine ⟨a1362, ?_⟩
    exact H
theorem w_columns_21 {d : Nat} {Q : am_K} {b : am_H} {r : Nat} {S : am_G} {V : Nat → Int → Int} {W : Nat → Int} {x1 : Int} {x2 : Int} {x3 : Int} (H : Q (.inl none) (mo b r (ms S) V W)) : am_W m_X5_columns (am_ev am_prog (d + 3)) Q 21 [some (.inr (.inl r)), some (.inl x1), some (.inl x2), some (.inl x3)] [] (mo b r (ms S) V W) := by
  refine r_X5_columns_21 ?_
  exact H
theorem w_columns_24 {d : Nat} {Q : am_K} {b : am_H} {r : Nat} {S : am_G} {V : Nat → Int → Int} {W : Nat → Int} {x1 : Int} {x2 : Int} {x3 : Int} (H : ((-2147483648 ≤ 185 * x1 ∧ 185 * x1 ≤ 2147483647) ∧ (-2147483648 ≤ 327382 + (185 * x1) ∧ 327382 + (185 * x1) ≤ 2147483647) ∧ (0 ≤ x1 ∧ x1 < 6)) ∧ ((S 8 x1 0 ≤ x3 → Q (.inl none) (mo b r (ms S) V W)) ∧ (x3 < S 8 x1 0 → ((0 ≤ x2 ∧ x2 < 4)) ∧ (((-2147483648 ≤ x2 + 1 ∧ x2 + 1 ≤ 2147483647)) ∧ (am_ev am_prog (d + 3) 281 [.inr (.inl r), .inl x1, .inl (x2 + 1)] (mo b r (ms S) (am_up V 28 (am_uz (V 28) x2 x3)) W) (am_aft (am_hand m_X5_columns Q (am_W m_X5_columns (am_ev am_prog (d + 3)) Q) 44) (am_W m_X5_columns (am_ev am_prog (d + 3)) Q) 44 [some (.inr (.inl r)), some (.inl x1), some (.inl x2), some (.inl x3)] [])))))) : am_W m_X5_columns (am_ev am_prog (d + 3)) Q 24 [some (.inr (.inl r)), some (.inl x1), some (.inl x2), some (.inl x3)] [] (mo b r (ms S) V W) := by
  obtain ⟨⟨a1363, a1364, a1365⟩, H⟩ := H
  refine r_X5_columns_24 ?_
  simp only [mo_ty, mo_f39, mo_t1, mo_n1, mo_a1, ms_r8 (k := 327382 + (185 * x1)) (p := x1) (i := 0) (by omega) (by omega) (by omega), true_or, or_true, true_and]
  refine ⟨a1363, a1364, (by omega), ⟨fun c => ?_, fun c => ?_⟩⟩
  · replace H := H.1 c
    refine r_X5_columns_47 ?_
    exact H
  · replace H := H.2 c
    obtain ⟨a1366, H⟩ := H
    refine r_X5_columns_34 ?_
    simp only [mo_ty, mo_f84, mo_t28, mo_n28, mo_s28, true_or, or_true, true_and]
    refine ⟨a1366, ?_⟩
    obtain ⟨a1367, H⟩ := H
    refine r_X5_columns_39 ?_
    simp only [mo_ty, true_or, or_true, true_and]
    exact ⟨a1367, H⟩
theorem w_columns_45 {d : Nat} {Q : am_K} {b : am_H} {r : Nat} {S : am_G} {V : Nat → Int → Int} {W : Nat → Int} {x1 : Int} {x2 : Int} {x3 : Int} (H : ((-2147483648 ≤ x3 + 1 ∧ x3 + 1 ≤ 2147483647)) ∧ (am_W m_X5_columns (am_ev am_prog (d + 3)) Q 24 [some (.inr (.inl r)), some (.inl x1), some (.inl x2), some (.inl (x3 + 1))] [] (mo b r (ms S) V W))) : am_W m_X5_columns (am_ev am_prog (d + 3)) Q 45 [some (.inr (.inl r)), some (.inl x1), some (.inl x2), some (.inl x3)] [] (mo b r (ms S) V W) := by
  obtain ⟨a1368, H⟩ := H
  refine r_X5_columns_45 ?_
  refine ⟨a1368, ?_⟩
  exact H
theorem w_readWord_0 {d : Nat} {Q : am_K} {b : am_H} {r : Nat} {S : am_G} {V : Nat → Int → Int} {W : Nat → Int} {x1 : Int} {x2 : Int} {x3 : Int} {o4 : Option am_V} {o5 : Option am_V} (H : am_W m_X5_readWord (am_ev am_prog (d + 3)) Q 2 [some (.inr (.inl r)), some (.inl x1), some (.inl x2), some (.inl x3), some (.inl 1), o5] [] (mo b r (ms S) V W)) : am_W m_X5_readWord (am_ev am_prog (d + 3)) Q 0 [some (.inr (.inl r)), some (.inl x1), some (.inl x2), some (.inl x3), o4, o5] [] (mo b r (ms S) V W) := by
  refine r_X5_readWord_0 ?_
  exact H
theorem w_readWord_2 {d : Nat} {Q : am_K} {b : am_H} {r : Nat} {S : am_G} {V : Nat → Int → Int} {W : Nat → Int} {x1 : Int} {x2 : Int} {x3 : Int} {x4 : Int} {o5 : Option am_V} (H : ((x4 : Int) = 0 → Q (.inl (some (.inl 1))) (mo b r (ms S) V W)) ∧ ((x4 : Int) ≠ 0 → ((0 ≤ W 55 ∧ W 55 < 5) ∧ (-2147483648 ≤ x1 + (V 8 (W 55)) ∧ x1 + (V 8 (W 55)) ≤ 2147483647) ∧ (-2147483648 ≤ x3 + (V 8 (W 55)) ∧ x3 + (V 8 (W 55)) ≤ 2147483647)) ∧ (((x3 + (V 8 (W 55)) : Int) ≠ 40 → ((0 ≤ x1 + (V 8 (W 55)) ∧ x1 + (V 8 (W 55)) < 200)) ∧ (((0 ≤ x1 + (V 8 (W 55)) ∧ x1 + (V 8 (W 55)) < 200)) ∧ (am_W m_X5_readWord (am_ev am_prog (d + 3)) Q 37 [some (.inr (.inl r)), some (.inl x1), some (.inl x2), some (.inl x3), some (.inl x4), some (.inl (x1 + (V 8 (W 55))))] [] (mo b r (ms S) (am_up (am_up V 5 (am_uz (V 5) (x1 + (V 8 (W 55))) x2)) 6 (am_uz (V 6) (x1 + (V 8 (W 55))) 0)) W)))) ∧ ((x3 + (V 8 (W 55)) : Int) = 40 → Q (.inl (some (.inl 0))) (mo b r (ms S) V (am_up W 47 (W 46))))))) : am_W m_X5_readWord (am_ev am_prog (d + 3)) Q 2 [some (.inr (.inl r)), some (.inl x1), some (.inl x2), some (.inl x3), some (.inl x4), o5] [] (mo b r (ms S) V W) := by
  refine r_X5_readWord_2 ?_
  refine ⟨fun c => ?_, fun c => ?_⟩
  · replace H := H.1 c
    refine r_X5_readWord_147 ?_
    exact ⟨(by decide), H⟩
  · replace H := H.2 c
    obtain ⟨⟨a1369, a1370, a1371⟩, H⟩ := H
    refine r_X5_readWord_4 ?_
    simp only [mo_ty, mo_f53, mo_i, mo_t8, mo_n8, mo_a8, true_or, or_true, true_and]
    refine ⟨a1369, a1370, a1369, a1371, ⟨fun c => ?_, fun c => ?_⟩⟩
    · replace H := H.1 c
      obtain ⟨a1372, H⟩ := H
      refine r_X5_readWord_27 ?_
      simp only [mo_ty, mo_f50, mo_t5, mo_n5, mo_s5, true_or, or_true, true_and]
      refine ⟨a1372, ?_⟩
      obtain ⟨a1373, H⟩ := H
      refine r_X5_readWord_32 ?_
      simp only [mo_ty, mo_f51, mo_t6, mo_n6, mo_s6, am_up_ne (by decide : (6 : Nat) ≠ 5), true_or, or_true, true_and]
      refine ⟨a1373, ?_⟩
      exact H
    · replace H := H.2 c
      refine r_X5_readWord_21 ?_
      simp only [mo_ty, mo_i, mo_si, true_or, or_true, true_and]
      refine ?_
      refine r_X5_readWord_25 ?_
      exact ⟨(by decide), H⟩
theorem w_readWord_37 {d : Nat} {Q : am_K} {b : am_H} {r : Nat} {S : am_G} {V : Nat → Int → Int} {W : Nat → Int} {x1 : Int} {x2 : Int} {x3 : Int} {x4 : Int} {x5 : Int} (H : (W 45 ≤ W 46 → am_W m_X5_readWord (am_ev am_prog (d + 3)) Q 94 [some (.inr (.inl r)), some (.inl x1), some (.inl x2), some (.inl x3), some (.inl x4), some (.inl x5)] [] (mo b r (ms S) V W)) ∧ (W 46 < W 45 → ((0 ≤ W 46 ∧ W 46 < 400)) ∧ ((¬ (97 ≤ V 4 (W 46) ∧ V 4 (W 46) ≤ 122) → am_W m_X5_readWord (am_ev am_prog (d + 3)) Q 94 [some (.inr (.inl r)), some (.inl x1), some (.inl x2), some (.inl x3), some (.inl x4), some (.inl x5)] [] (mo b r (ms S) V W)) ∧ (97 ≤ V 4 (W 46) ∧ V 4 (W 46) ≤ 122 → ((0 ≤ x5 ∧ x5 < 200)) ∧ (((V 6 x5 : Int) ≠ 12 → ((-2147483648 ≤ 12 * x5 ∧ 12 * x5 ≤ 2147483647) ∧ (0 ≤ x5 ∧ x5 < 200) ∧ (-2147483648 ≤ (12 * x5) + (V 6 x5) ∧ (12 * x5) + (V 6 x5) ≤ 2147483647) ∧ (0 ≤ W 46 ∧ W 46 < 400) ∧ (-2147483648 ≤ (V 4 (W 46)) - 97 ∧ (V 4 (W 46)) - 97 ≤ 2147483647) ∧ (0 ≤ (12 * x5) + (V 6 x5) ∧ (12 * x5) + (V 6 x5) < 2400)) ∧ (((0 ≤ x5 ∧ x5 < 200) ∧ (-2147483648 ≤ (V 6 x5) + 1 ∧ (V 6 x5) + 1 ≤ 2147483647)) ∧ (((-2147483648 ≤ (W 46) + 1 ∧ (W 46) + 1 ≤ 2147483647)) ∧ (am_W m_X5_readWord (am_ev am_prog (d + 3)) Q 37 [some (.inr (.inl r)), some (.inl x1), some (.inl x2), some (.inl x3), some (.inl x4), some (.inl x5)] [] (mo b r (ms S) (am_up (am_up V 7 (am_uz (V 7) ((12 * x5) + (V 6 x5)) ((V 4 (W 46)) - 97))) 6 (am_uz (V 6) x5 ((V 6 x5) + 1))) (am_up W 46 ((W 46) + 1))))))) ∧ ((V 6 x5 : Int) = 12 → Q (.inl (some (.inl 0))) (mo b r (ms S) V (am_up W 47 (W 46))))))))) : am_W m_X5_readWord (am_ev am_prog (d + 3)) Q 37 [some (.inr (.inl r)), some (.inl x1), some (.inl x2), some (.inl x3), some (.inl x4), some (.inl x5)] [] (mo b r (ms S) V W) := by
  refine r_X5_readWord_37 ?_
  simp only [mo_ty, mo_i, true_or, or_true, true_and]
  refine ⟨fun c => ?_, fun c => ?_⟩
  · replace H := H.1 c
    exact H
  · replace H := H.2 c
    obtain ⟨a1374, H⟩ := H
    refine r_X5_readWord_42 ?_
    simp only [mo_ty, mo_f43, mo_i, mo_t4, mo_n4, mo_a4, true_or, or_true, true_and]
    refine ⟨a1374, ?_⟩
    refine c_isLetter (am_av ?_)
    refine r_X5_readWord_48 ?_
    refine ⟨fun c => ?_, fun c => ?_⟩
    · replace c := am_b0 c
      replace H := H.1 c
      exact H
    · replace c := am_b1 c
      replace H := H.2 c
      obtain ⟨a1375, H⟩ := H
      refine r_X5_readWord_49 ?_
      simp only [mo_ty, mo_f51, mo_t6, mo_n6, mo_a6, true_or, or_true, true_and]
      refine ⟨a1375, ⟨fun c => ?_, fun c => ?_⟩⟩
      · replace H := H.1 c
        obtain ⟨⟨a1376, a1377, a1378, a1379, a1380, a1381⟩, H⟩ := H
        refine r_X5_readWord_61 ?_
        simp only [mo_ty, mo_f52, mo_f51, mo_t6, mo_n6, mo_a6, mo_f43, mo_i, mo_t4, mo_n4, mo_a4, mo_t7, mo_n7, mo_s7, true_or, or_true, true_and]
        refine ⟨a1376, a1377, a1378, a1379, a1380, a1381, ?_⟩
        obtain ⟨⟨a1382, a1383⟩, H⟩ := H
        refine r_X5_readWord_79 ?_
        simp only [mo_ty, mo_f51, mo_t6, mo_n6, mo_a6, am_up_ne (by decide : (6 : Nat) ≠ 7), mo_s6, true_or, or_true, true_and]
        refine ⟨a1382, a1383, a1382, ?_⟩
        obtain ⟨a1384, H⟩ := H
        refine r_X5_readWord_87 ?_
        simp only [mo_ty, mo_i, mo_si, true_or, or_true, true_and]
        refine ⟨a1384, ?_⟩
        refine r_X5_readWord_93 ?_
        exact H
      · replace H := H.2 c
        refine r_X5_readWord_55 ?_
        simp only [mo_ty, mo_i, mo_si, true_or, or_true, true_and]
        refine ?_
        refine r_X5_readWord_59 ?_
        exact ⟨(by decide), H⟩
theorem w_readWord_94 {d : Nat} {Q : am_K} {b : am_H} {r : Nat} {S : am_G} {V : Nat → Int → Int} {W : Nat → Int} {x1 : Int} {x2 : Int} {x3 : Int} {x4 : Int} {x5 : Int} (H : ((0 ≤ W 55 ∧ W 55 < 5) ∧ (-2147483648 ≤ (V 8 (W 55)) + 1 ∧ (V 8 (W 55)) + 1 ≤ 2147483647)) ∧ ((W 45 ≤ W 46 → am_W m_X5_readWord (am_ev am_prog (d + 3)) Q 2 [some (.inr (.inl r)), some (.inl x1), some (.inl x2), some (.inl x3), some (.inl 0), some (.inl x5)] [] (mo b r (ms S) (am_up V 8 (am_uz (V 8) (W 55) ((V 8 (W 55)) + 1))) W)) ∧ (W 46 < W 45 → ((0 ≤ W 46 ∧ W 46 < 400)) ∧ (((V 4 (W 46) : Int) = 45 → ((-2147483648 ≤ (W 46) + 1 ∧ (W 46) + 1 ≤ 2147483647)) ∧ ((W 45 ≤ (W 46) + 1 → Q (.inl (some (.inl 0))) (mo b r (ms S) (am_up V 8 (am_uz (V 8) (W 55) ((V 8 (W 55)) + 1))) (am_up (am_up W 46 ((W 46) + 1)) 47 ((W 46) + 1)))) ∧ ((W 46) + 1 < W 45 → ((0 ≤ (W 46) + 1 ∧ (W 46) + 1 < 400)) ∧ ((97 ≤ V 4 ((W 46) + 1) ∧ V 4 ((W 46) + 1) ≤ 122 → am_W m_X5_readWord (am_ev am_prog (d + 3)) Q 2 [some (.inr (.inl r)), some (.inl x1), some (.inl x2), some (.inl x3), some (.inl (am_b ((V 4 (W 46) : Int) = 45))), some (.inl x5)] [] (mo b r (ms S) (am_up V 8 (am_uz (V 8) (W 55) ((V 8 (W 55)) + 1))) (am_up W 46 ((W 46) + 1)))) ∧ (¬ (97 ≤ V 4 ((W 46) + 1) ∧ V 4 ((W 46) + 1) ≤ 122) → Q (.inl (some (.inl 0))) (mo b r (ms S) (am_up V 8 (am_uz (V 8) (W 55) ((V 8 (W 55)) + 1))) (am_up (am_up W 46 ((W 46) + 1)) 47 ((W 46) + 1)))))))) ∧ ((V 4 (W 46) : Int) ≠ 45 → am_W m_X5_readWord (am_ev am_prog (d + 3)) Q 2 [some (.inr (.inl r)), some (.inl x1), some (.inl x2), some (.inl x3), some (.inl (am_b ((V 4 (W 46) : Int) = 45))), some (.inl x5)] [] (mo b r (ms S) (am_up V 8 (am_uz (V 8) (W 55) ((V 8 (W 55)) + 1))) W)))))) : am_W m_X5_readWord (am_ev am_prog (d + 3)) Q 94 [some (.inr (.inl r)), some (.inl x1), some (.inl x2), some (.inl x3), some (.inl x4), some (.inl x5)] [] (mo b r (ms S) V W) := by
  obtain ⟨⟨a1385, a1386⟩, H⟩ := H
  refine r_X5_readWord_94 ?_
  simp only [mo_ty, mo_f53, mo_i, mo_t8, mo_n8, mo_a8, mo_s8, true_or, or_true, true_and]
  refine ⟨a1385, a1386, a1385, ?_⟩
  refine r_X5_readWord_103 ?_
  simp only [mo_ty, mo_i, true_or, or_true, true_and]
  refine ⟨fun c => ?_, fun c => ?_⟩
  · replace H := H.1 c
    refine r_X5_readWord_117 ?_
    refine r_X5_readWord_118 ?_
    refine ⟨fun c => absurd c (by decide), fun c => ?_⟩
    refine r_X5_readWord_121 ?_
    exact H
  · replace H := H.2 c
    obtain ⟨a1387, H⟩ := H
    have J : ∀ y : Int, y = am_b ((V 4 (W 46) : Int) = 45) → am_W m_X5_readWord (am_ev am_prog (d + 3)) Q 118 [some (.inr (.inl r)), some (.inl x1), some (.inl x2), some (.inl x3), some (.inl x4), some (.inl x5)] [.inl y] (mo b r (ms S) (am_up V 8 (am_uz (V 8) (W 55) ((V 8 (W 55)) + 1))) W) := by
      intro y hy
      subst hy
      refine r_X5_readWord_118 ?_
      refine ⟨fun c => ?_, fun c => ?_⟩
      · replace c := am_b1 c
        replace H := H.1 c
        obtain ⟨a1388, H⟩ := H
        refine r_X5_readWord_122 ?_
        simp only [mo_ty, mo_i, mo_si, true_or, or_true, true_and]
        refine ⟨a1388, ?_⟩
        refine r_X5_readWord_128 ?_
        simp only [mo_ty, mo_i, am_up_eq, am_up_ne (by decide : (45 : Nat) ≠ 46), true_or, or_true, true_and]
        refine ⟨fun c => ?_, fun c => ?_⟩
        · replace H := H.1 c
          refine r_X5_readWord_140 ?_
          simp only [mo_ty, mo_i, am_up_eq, mo_si, true_or, or_true, true_and]
          refine ?_
          refine r_X5_readWord_144 ?_
          exact ⟨(by decide), H⟩
        · replace H := H.2 c
          obtain ⟨a1389, H⟩ := H
          refine r_X5_readWord_133 ?_
          simp only [mo_ty, mo_f43, mo_i, am_up_eq, mo_t4, mo_n4, mo_a4, am_up_ne (by decide : (4 : Nat) ≠ 8), true_or, or_true, true_and]
          refine ⟨a1389, ?_⟩
          refine c_isLetter (am_av ?_)
          refine r_X5_readWord_139 ?_
          refine ⟨fun c => ?_, fun c => ?_⟩
          · replace c := am_b1 c
            replace H := H.1 c
            refine r_X5_readWord_146 ?_
            exact H
          · replace c := am_b0 c
            replace H := H.2 c
            refine r_X5_readWord_140 ?_
            simp only [mo_ty, mo_i, am_up_eq, mo_si, true_or, or_true, true_and]
            refine ?_
            refine r_X5_readWord_144 ?_
            exact ⟨(by decide), H⟩
      · replace c := am_b0 c
        replace c : (V 4 (W 46) : Int) ≠ 45 := by omega
        replace H := H.2 c
        refine r_X5_readWord_121 ?_
        exact H
    refine r_X5_readWord_108 ?_
    simp only [mo_ty, mo_f43, mo_i, mo_t4, mo_n4, mo_a4, am_up_ne (by decide : (4 : Nat) ≠ 8), true_or, or_true, true_and]
    refine ⟨a1387, ⟨fun c => ?_, fun c => ?_⟩⟩
    · exact r_X5_readWord_117 (J _ (am_bf (by omega)).symm)
    · exact r_X5_readWord_115 (J _ (am_bt c).symm)
theorem w_wide_0 {d : Nat} {Q : am_K} {b : am_H} {r : Nat} {S : am_G} {V : Nat → Int → Int} {W : Nat → Int} {x1 : Int} {x2 : Int} {x3 : Int} {o4 : Option am_V} {o5 : Option am_V} {o6 : Option am_V} {o7 : Option am_V} {o8 : Option am_V} (H : ((0 ≤ x1 ∧ x1 < 3000000)) ∧ (((0 ≤ x1 ∧ x1 ≤ 2147483647) ∧ (-2147483648 ≤ 70 + (x1 / 5) ∧ 70 + (x1 / 5) ≤ 2147483647) ∧ (0 ≤ (x1 / 5) ∧ (x1 / 5) < 20) ∧ (-2147483648 ≤ 27 * (S 2 0 (x1 / 5)) ∧ 27 * (S 2 0 (x1 / 5)) ≤ 2147483647) ∧ (-2147483648 ≤ 16 + (27 * (S 2 0 (x1 / 5))) ∧ 16 + (27 * (S 2 0 (x1 / 5))) ≤ 2147483647)) ∧ (((0 ≤ x1 ∧ x1 < 100) ∧ (0 ≤ x3 ∧ x3 < 500) ∧ (-2147483648 ≤ S 3 x1 1 - 1 ∧ S 3 x1 1 - 1 ≤ 2147483647)) ∧ ((¬ (x3 = S 3 x1 1 - 1 ∨ S 3 x1 (85 + x3) ≠ S 3 x1 (86 + x3)) → ((-2147483648 ≤ (16 + (27 * (S 2 0 (x1 / 5)))) + 26 ∧ (16 + (27 * (S 2 0 (x1 / 5)))) + 26 ≤ 2147483647) ∧ (0 ≤ S 2 0 (x1 / 5) ∧ S 2 0 (x1 / 5) < 2)) ∧ (am_W m_X5_wide (am_ev am_prog (d + 3)) Q 32 [some (.inr (.inl r)), some (.inl x1), some (.inl x2), some (.inl x3), some (.inl (130 + 645 * x1)), some (.inl (16 + (27 * (S 2 0 (x1 / 5))))), some (.inl (S 1 (S 2 0 (x1 / 5)) 26)), some (.inl x2), o8] [] (mo b r (ms S) V W))) ∧ (x3 = S 3 x1 1 - 1 ∨ S 3 x1 (85 + x3) ≠ S 3 x1 (86 + x3) → am_W m_X5_wide (am_ev am_prog (d + 3)) Q 32 [some (.inr (.inl r)), some (.inl x1), some (.inl x2), some (.inl x3), some (.inl (130 + 645 * x1)), some (.inl (16 + (27 * (S 2 0 (x1 / 5))))), some (.inl 0), some (.inl x2), o8] [] (mo b r (ms S) V W)))))) : am_W m_X5_wide (am_ev am_prog (d + 3)) Q 0 [some (.inr (.inl r)), some (.inl x1), some (.inl x2), some (.inl x3), o4, o5, o6, o7, o8] [] (mo b r (ms S) V W) := by
  refine r_X5_wide_0 ?_
  refine ?_
  obtain ⟨a1390, H⟩ := H
  refine c_part0 (by omega) (am_av ?_)
  obtain ⟨⟨a1391, a1392, a1393, a1394, a1395⟩, H⟩ := H
  refine r_X5_wide_2 ?_
  simp only [mo_ty, mo_f39, am_td (x := x1) (y := 5) (by omega), am_tm (x := x1) (y := 5) (by omega), mo_t1, mo_n1, mo_a1, ms_r2 (k := 70 + (x1 / 5)) (p := 0) (i := (x1 / 5)) (by omega) (by omega) (by omega), true_or, or_true, true_and]
  refine ⟨⟨by decide, am_dk (by omega) (by omega)⟩, a1392, (by omega), a1394, a1395, ?_⟩
  obtain ⟨⟨a1396, a1397, a1398⟩, H⟩ := H
  refine c_endsWord (by omega) (by omega) (by omega) (am_av ?_)
  refine r_X5_wide_20 ?_
  refine ⟨fun c => ?_, fun c => ?_⟩
  · replace c := am_b0 c
    replace H := H.1 c
    obtain ⟨⟨a1399, a1400⟩, H⟩ := H
    refine r_X5_wide_23 ?_
    simp only [mo_ty, mo_f39, mo_t1, mo_n1, mo_a1, ms_r1 (k := (16 + (27 * (S 2 0 (x1 / 5)))) + 26) (p := S 2 0 (x1 / 5)) (i := 26) (by omega) (by omega) (by omega), true_or, or_true, true_and]
    refine ⟨a1399, (by omega), ?_⟩
    refine r_X5_wide_29 ?_
    exact H
  · replace c := am_b1 c
    replace H := H.2 c
    refine r_X5_wide_21 ?_
    refine r_X5_wide_29 ?_
    exact H
theorem w_wide_32 {d : Nat} {Q : am_K} {b : am_H} {r : Nat} {S : am_G} {V : Nat → Int → Int} {W : Nat → Int} {x1 : Int} {x2 : Int} {x3 : Int} {x4 : Int} {x5 : Int} {x6 : Int} {x7 : Int} {o8 : Option am_V} (H : (x3 < x7 → Q (.inl (some (.inl x6))) (mo b r (ms S) V W)) ∧ (x7 ≤ x3 → am_W m_X5_wide (am_ev am_prog (d + 3)) Q 37 [some (.inr (.inl r)), some (.inl x1), some (.inl x2), some (.inl x3), some (.inl x4), some (.inl x5), some (.inl x6), some (.inl x7), some (.inl 0)] [] (mo b r (ms S) V W))) : am_W m_X5_wide (am_ev am_prog (d + 3)) Q 32 [some (.inr (.inl r)), some (.inl x1), some (.inl x2), some (.inl x3), some (.inl x4), some (.inl x5), some (.inl x6), some (.inl x7), o8] [] (mo b r (ms S) V W) := by
  refine r_X5_wide_32 ?_
  refine ⟨fun c => ?_, fun c => ?_⟩
  · replace H := H.1 c
    refine r_X5_wide_71 ?_
    exact H
  · replace H := H.2 c
    refine r_X5_wide_35 ?_
    exact H
theorem w_wide_37 {d : Nat} {Q : am_K} {b : am_H} {r : Nat} {S : am_G} {V : Nat → Int → Int} {W : Nat → Int} {x1 : Int} {x2 : Int} {x3 : Int} {p4 : Int} {p5 : Int} {x6 : Int} {x7 : Int} {x8 : Int} (H : ((-2147483648 ≤ (130 + 645 * p4) + 125 ∧ (130 + 645 * p4) + 125 ≤ 2147483647) ∧ (-2147483648 ≤ ((130 + 645 * p4) + 125) + x7 ∧ ((130 + 645 * p4) + 125) + x7 ≤ 2147483647) ∧ (0 ≤ p4 ∧ p4 < 100) ∧ (0 ≤ 125 + x7 ∧ 125 + x7 < 645)) ∧ ((S 3 p4 (125 + x7) ≤ x8 → ((-2147483648 ≤ x7 + 1 ∧ x7 + 1 ≤ 2147483647)) ∧ (am_W m_X5_wide (am_ev am_prog (d + 3)) Q 32 [some (.inr (.inl r)), some (.inl x1), some (.inl x2), some (.inl x3), some (.inl (130 + 645 * p4)), some (.inl (16 + 27 * p5)), some (.inl x6), some (.inl (x7 + 1)), some (.inl x8)] [] (mo b r (ms S) V W))) ∧ (x8 < S 3 p4 (125 + x7) → ((-2147483648 ≤ (130 + 645 * p4) + 165 ∧ (130 + 645 * p4) + 165 ≤ 2147483647) ∧ (-2147483648 ≤ 12 * x7 ∧ 12 * x7 ≤ 2147483647) ∧ (-2147483648 ≤ ((130 + 645 * p4) + 165) + (12 * x7) ∧ ((130 + 645 * p4) + 165) + (12 * x7) ≤ 2147483647) ∧ (-2147483648 ≤ (((130 + 645 * p4) + 165) + (12 * x7)) + x8 ∧ (((130 + 645 * p4) + 165) + (12 * x7)) + x8 ≤ 2147483647) ∧ (0 ≤ p4 ∧ p4 < 100) ∧ (0 ≤ 165 + 12 * x7 + x8 ∧ 165 + 12 * x7 + x8 < 645) ∧ (-2147483648 ≤ (16 + 27 * p5) + (S 3 p4 (165 + 12 * x7 + x8)) ∧ (16 + 27 * p5) + (S 3 p4 (165 + 12 * x7 + x8)) ≤ 2147483647) ∧ (0 ≤ p5 ∧ p5 < 2) ∧ (0 ≤ (S 3 p4 (165 + 12 * x7 + x8)) ∧ (S 3 p4 (165 + 12 * x7 + x8)) < 27) ∧ (-2147483648 ≤ x6 + (S 1 p5 (S 3 p4 (165 + 12 * x7 + x8))) ∧ x6 + (S 1 p5 (S 3 p4 (165 + 12 * x7 + x8))) ≤ 2147483647) ∧ (-2147483648 ≤ x8 + 1 ∧ x8 + 1 ≤ 2147483647)) ∧ (am_W m_X5_wide (am_ev am_prog (d + 3)) Q 37 [some (.inr (.inl r)), some (.inl x1), some (.inl x2), some (.inl x3), some (.inl (130 + 645 * p4)), some (.inl (16 + 27 * p5)), some (.inl (x6 + (S 1 p5 (S 3 p4 (165 + 12 * x7 + x8))))), some (.inl x7), some (.inl (x8 + 1))] [] (mo b r (ms S) V W))))) : am_W m_X5_wide (am_ev am_prog (d + 3)) Q 37 [some (.inr (.inl r)), some (.inl x1), some (.inl x2), some (.inl x3), some (.inl (130 + 645 * p4)), some (.inl (16 + 27 * p5)), some (.inl x6), some (.inl x7), some (.inl x8)] [] (mo b r (ms S) V W) := by
  obtain ⟨⟨a1406, a1407, a1408, a1409⟩, H⟩ := H
  refine r_X5_wide_37 ?_
  simp only [mo_ty, mo_f39, mo_t1, mo_n1, mo_a1, ms_r3 (k := ((130 + 645 * p4) + 125) + x7) (p := p4) (i := 125 + x7) (by omega) (by omega) (by omega), true_or, or_true, true_and]
  refine ⟨a1406, a1407, (by omega), ⟨fun c => ?_, fun c => ?_⟩⟩
  · replace H := H.1 c
    obtain ⟨a1410, H⟩ := H
    refine r_X5_wide_69 ?_
    refine ⟨a1410, ?_⟩
    exact H
  · replace H := H.2 c
    obtain ⟨⟨a1411, a1412, a1413, a1414, a1415, a1416, a1417, a1418, a1419, a1420, a1421⟩, H⟩ := H
    refine r_X5_wide_47 ?_
    simp only [mo_ty, mo_f39, mo_t1, mo_n1, mo_a1, ms_r3 (k := (((130 + 645 * p4) + 165) + (12 * x7)) + x8) (p := p4) (i := 165 + 12 * x7 + x8) (by omega) (by omega) (by omega), ms_r1 (k := (16 + 27 * p5) + (S 3 p4 (165 + 12 * x7 + x8))) (p := p5) (i := (S 3 p4 (165 + 12 * x7 + x8))) (by omega) (by omega) (by omega), true_or, or_true, true_and]
    refine ⟨a1411, a1412, a1413, a1414, (by omega), a1417, (by omega), a1420, a1421, ?_⟩
    exact H
theorem w_holds_0 {d : Nat} {Q : am_K} {b : am_H} {r : Nat} {S : am_G} {V : Nat → Int → Int} {W : Nat → Int} {p1 : Int} {x2 : Int} {o3 : Option am_V} {o4 : Option am_V} {o5 : Option am_V} {o6 : Option am_V} {o7 : Option am_V} {o8 : Option am_V} (H : ((-2147483648 ≤ (320962 + 562 * p1) + 2 ∧ (320962 + 562 * p1) + 2 ≤ 2147483647) ∧ (-2147483648 ≤ 5 * x2 ∧ 5 * x2 ≤ 2147483647) ∧ (-2147483648 ≤ ((320962 + 562 * p1) + 2) + (5 * x2) ∧ ((320962 + 562 * p1) + 2) + (5 * x2) ≤ 2147483647) ∧ (-2147483648 ≤ (((320962 + 562 * p1) + 2) + (5 * x2)) + 3 ∧ (((320962 + 562 * p1) + 2) + (5 * x2)) + 3 ≤ 2147483647) ∧ (0 ≤ p1 ∧ p1 < 10) ∧ (0 ≤ 5 + 5 * x2 ∧ 5 + 5 * x2 < 562) ∧ (-2147483648 ≤ (((320962 + 562 * p1) + 2) + (5 * x2)) + 4 ∧ (((320962 + 562 * p1) + 2) + (5 * x2)) + 4 ≤ 2147483647) ∧ (0 ≤ 6 + 5 * x2 ∧ 6 + 5 * x2 < 562)) ∧ (((S 6 p1 (6 + 5 * x2) : Int) ≠ 0 → am_W m_X5_holds (am_ev am_prog (d + 3)) Q 35 [some (.inr (.inl r)), some (.inl (320962 + 562 * p1)), some (.inl x2), some (.inl (S 6 p1 (5 + 5 * x2))), some (.inl (S 6 p1 (6 + 5 * x2))), some (.inl 0), o6, o7, o8] [] (mo b r (ms S) V (am_up W 62 0))) ∧ ((S 6 p1 (6 + 5 * x2) : Int) = 0 → Q (.inl (some (.inl 1))) (mo b r (ms S) V W)))) : am_W m_X5_holds (am_ev am_prog (d + 3)) Q 0 [some (.inr (.inl r)), some (.inl (320962 + 562 * p1)), some (.inl x2), o3, o4, o5, o6, o7, o8] [] (mo b r (ms S) V W) := by
  obtain ⟨⟨a1422, a1423, a1424, a1425, a1426, a1427, a1428, a1429⟩, H⟩ := H
  refine r_X5_holds_0 ?_
  simp only [mo_ty, mo_f39, mo_t1, mo_n1, mo_a1, ms_r6 (k := (((320962 + 562 * p1) + 2) + (5 * x2)) + 3) (p := p1) (i := 5 + 5 * x2) (by omega) (by omega) (by omega), ms_r6 (k := (((320962 + 562 * p1) + 2) + (5 * x2)) + 4) (p := p1) (i := 6 + 5 * x2) (by omega) (by omega) (by omega), true_or, or_true, true_and]
  refine ⟨a1422, a1423, a1424, a1425, (by omega), a1422, a1423, a1424, a1428, (by omega), ⟨fun c => ?_, fun c => ?_⟩⟩
  · replace H := H.1 c
    refine r_X5_holds_30 ?_
    simp only [mo_ty, mo_si, true_or, or_true, true_and]
    refine ?_
    refine r_X5_holds_33 ?_
    exact H
  · replace H := H.2 c
    refine r_X5_holds_28 ?_
    exact ⟨(by decide), H⟩
theorem w_holds_35 {d : Nat} {Q : am_K} {b : am_H} {r : Nat} {S : am_G} {V : Nat → Int → Int} {W : Nat → Int} {p1 : Int} {x2 : Int} {x3 : Int} {x4 : Int} {x5 : Int} {o6 : Option am_V} {o7 : Option am_V} {o8 : Option am_V} (H : (x4 ≤ x5 → ((V 13 0 = 0 ∨ V 13 0 = 1)) ∧ (Q (.inl (some (.inl (V 13 0)))) (mo b r (ms S) V W))) ∧ (x5 < x4 → ((-2147483648 ≤ (320962 + 562 * p1) + x3 ∧ (320962 + 562 * p1) + x3 ≤ 2147483647) ∧ (-2147483648 ≤ ((320962 + 562 * p1) + x3) + x5 ∧ ((320962 + 562 * p1) + x3) + x5 ≤ 2147483647) ∧ (0 ≤ p1 ∧ p1 < 10) ∧ (0 ≤ x3 + x5 ∧ x3 + x5 < 562)) ∧ (((S 6 p1 (x3 + x5) : Int) ≠ 1 → ((S 6 p1 (x3 + x5) : Int) = 2 → ((-2147483648 ≤ (320962 + 562 * p1) + x3 ∧ (320962 + 562 * p1) + x3 ≤ 2147483647) ∧ (-2147483648 ≤ ((320962 + 562 * p1) + x3) + x5 ∧ ((320962 + 562 * p1) + x3) + x5 ≤ 2147483647) ∧ (-2147483648 ≤ (((320962 + 562 * p1) + x3) + x5) + 1 ∧ (((320962 + 562 * p1) + x3) + x5) + 1 ≤ 2147483647) ∧ (0 ≤ p1 ∧ p1 < 10) ∧ (0 ≤ 1 + x3 + x5 ∧ 1 + x3 + x5 < 562) ∧ (0 ≤ S 6 p1 (1 + x3 + x5) ∧ S 6 p1 (1 + x3 + x5) < 6) ∧ (-2147483648 ≤ (((320962 + 562 * p1) + x3) + x5) + 2 ∧ (((320962 + 562 * p1) + x3) + x5) + 2 ≤ 2147483647) ∧ (0 ≤ 2 + x3 + x5 ∧ 2 + x3 + x5 < 562)) ∧ (((S 6 p1 (x3 + x5) : Int) ≠ 2 → ((0 ≤ W 62 ∧ W 62 < 100)) ∧ (((-2147483648 ≤ (W 62) + 1 ∧ (W 62) + 1 ≤ 2147483647)) ∧ (((-2147483648 ≤ x5 + 3 ∧ x5 + 3 ≤ 2147483647)) ∧ (am_W m_X5_holds (am_ev am_prog (d + 3)) Q 35 [some (.inr (.inl r)), some (.inl (320962 + 562 * p1)), some (.inl x2), some (.inl x3), some (.inl x4), some (.inl (x5 + 3)), some (.inl (S 6 p1 (x3 + x5))), some (.inl (V 12 (S 6 p1 (1 + x3 + x5)))), some (.inl (S 6 p1 (2 + x3 + x5)))] [] (mo b r (ms S) (am_up V 13 (am_uz (V 13) (W 62) (am_b (S 6 p1 (2 + x3 + x5) < V 12 (S 6 p1 (1 + x3 + x5)))))) (am_up W 62 ((W 62) + 1))))))) ∧ ((S 6 p1 (x3 + x5) : Int) = 2 → ((0 ≤ W 62 ∧ W 62 < 100)) ∧ (((-2147483648 ≤ (W 62) + 1 ∧ (W 62) + 1 ≤ 2147483647)) ∧ (((-2147483648 ≤ x5 + 3 ∧ x5 + 3 ≤ 2147483647)) ∧ (am_W m_X5_holds (am_ev am_prog (d + 3)) Q 35 [some (.inr (.inl r)), some (.inl (320962 + 562 * p1)), some (.inl x2), some (.inl x3), some (.inl x4), some (.inl (x5 + 3)), some (.inl (S 6 p1 (x3 + x5))), some (.inl (V 12 (S 6 p1 (1 + x3 + x5)))), some (.inl (S 6 p1 (2 + x3 + x5)))] [] (mo b r (ms S) (am_up V 13 (am_uz (V 13) (W 62) (am_b (V 12 (S 6 p1 (1 + x3 + x5)) < S 6 p1 (2 + x3 + x5))))) (am_up W 62 ((W 62) + 1))))))))) ∧ ((S 6 p1 (x3 + x5) : Int) ≠ 2 → ((S 6 p1 (x3 + x5) : Int) ≠ 3 → ((S 6 p1 (x3 + x5) : Int) ≠ 4 → ((-2147483648 ≤ (W 62) - 1 ∧ (W 62) - 1 ≤ 2147483647)) ∧ (((-2147483648 ≤ ((W 62) - 1) - 1 ∧ ((W 62) - 1) - 1 ≤ 2147483647)) ∧ (((S 6 p1 (x3 + x5) : Int) ≠ 5 → ((-2147483648 ≤ ((W 62) - 1) - 1 ∧ ((W 62) - 1) - 1 ≤ 2147483647) ∧ (0 ≤ ((W 62) - 1) - 1 ∧ ((W 62) - 1) - 1 < 100)) ∧ (((V 13 (((W 62) - 1) - 1) : Int) ≠ 0 → ((0 ≤ ((W 62) - 1) - 1 ∧ ((W 62) - 1) - 1 < 100)) ∧ (((-2147483648 ≤ x5 + 1 ∧ x5 + 1 ≤ 2147483647)) ∧ (am_W m_X5_holds (am_ev am_prog (d + 3)) Q 35 [some (.inr (.inl r)), some (.inl (320962 + 562 * p1)), some (.inl x2), some (.inl x3), some (.inl x4), some (.inl (x5 + 1)), some (.inl (S 6 p1 (x3 + x5))), o7, o8] [] (mo b r (ms S) (am_up V 13 (am_uz (V 13) (((W 62) - 1) - 1) 1)) (am_up W 62 ((W 62) - 1)))))) ∧ ((V 13 (((W 62) - 1) - 1) : Int) = 0 → ((0 ≤ (W 62) - 1 ∧ (W 62) - 1 < 100)) ∧ (((0 ≤ ((W 62) - 1) - 1 ∧ ((W 62) - 1) - 1 < 100)) ∧ (((-2147483648 ≤ x5 + 1 ∧ x5 + 1 ≤ 2147483647)) ∧ (am_W m_X5_holds (am_ev am_prog (d + 3)) Q 35 [some (.inr (.inl r)), some (.inl (320962 + 562 * p1)), some (.inl x2), some (.inl x3), some (.inl x4), some (.inl (x5 + 1)), some (.inl (S 6 p1 (x3 + x5))), o7, o8] [] (mo b r (ms S) (am_up V 13 (am_uz (V 13) (((W 62) - 1) - 1) (am_b ((V 13 ((W 62) - 1) : Int) ≠ 0)))) (am_up W 62 ((W 62) - 1))))))))) ∧ ((S 6 p1 (x3 + x5) : Int) = 5 → ((-2147483648 ≤ ((W 62) - 1) - 1 ∧ ((W 62) - 1) - 1 ≤ 2147483647) ∧ (0 ≤ ((W 62) - 1) - 1 ∧ ((W 62) - 1) - 1 < 100)) ∧ (((V 13 (((W 62) - 1) - 1) : Int) = 0 → ((0 ≤ ((W 62) - 1) - 1 ∧ ((W 62) - 1) - 1 < 100)) ∧ (((-2147483648 ≤ x5 + 1 ∧ x5 + 1 ≤ 2147483647)) ∧ (am_W m_X5_holds (am_ev am_prog (d + 3)) Q 35 [some (.inr (.inl r)), some (.inl (320962 + 562 * p1)), some (.inl x2), some (.inl x3), some (.inl x4), some (.inl (x5 + 1)), some (.inl (S 6 p1 (x3 + x5))), o7, o8] [] (mo b r (ms S) (am_up V 13 (am_uz (V 13) (((W 62) - 1) - 1) 0)) (am_up W 62 ((W 62) - 1)))))) ∧ ((V 13 (((W 62) - 1) - 1) : Int) ≠ 0 → ((0 ≤ (W 62) - 1 ∧ (W 62) - 1 < 100)) ∧ (((0 ≤ ((W 62) - 1) - 1 ∧ ((W 62) - 1) - 1 < 100)) ∧ (((-2147483648 ≤ x5 + 1 ∧ x5 + 1 ≤ 2147483647)) ∧ (am_W m_X5_holds (am_ev am_prog (d + 3)) Q 35 [some (.inr (.inl r)), some (.inl (320962 + 562 * p1)), some (.inl x2), some (.inl x3), some (.inl x4), some (.inl (x5 + 1)), some (.inl (S 6 p1 (x3 + x5))), o7, o8] [] (mo b r (ms S) (am_up V 13 (am_uz (V 13) (((W 62) - 1) - 1) (am_b ((V 13 ((W 62) - 1) : Int) ≠ 0)))) (am_up W 62 ((W 62) - 1)))))))))))) ∧ ((S 6 p1 (x3 + x5) : Int) = 4 → ((-2147483648 ≤ (W 62) - 1 ∧ (W 62) - 1 ≤ 2147483647) ∧ (0 ≤ (W 62) - 1 ∧ (W 62) - 1 < 100)) ∧ (((0 ≤ (W 62) - 1 ∧ (W 62) - 1 < 100)) ∧ (((-2147483648 ≤ x5 + 1 ∧ x5 + 1 ≤ 2147483647)) ∧ (am_W m_X5_holds (am_ev am_prog (d + 3)) Q 35 [some (.inr (.inl r)), some (.inl (320962 + 562 * p1)), some (.inl x2), some (.inl x3), some (.inl x4), some (.inl (x5 + 1)), some (.inl (S 6 p1 (x3 + x5))), o7, o8] [] (mo b r (ms S) (am_up V 13 (am_uz (V 13) ((W 62) - 1) (am_b ((V 13 ((W 62) - 1) : Int) = 0)))) W)))))) ∧ ((S 6 p1 (x3 + x5) : Int) = 3 → ((-2147483648 ≤ (320962 + 562 * p1) + x3 ∧ (320962 + 562 * p1) + x3 ≤ 2147483647) ∧ (-2147483648 ≤ ((320962 + 562 * p1) + x3) + x5 ∧ ((320962 + 562 * p1) + x3) + x5 ≤ 2147483647) ∧ (-2147483648 ≤ (((320962 + 562 * p1) + x3) + x5) + 1 ∧ (((320962 + 562 * p1) + x3) + x5) + 1 ≤ 2147483647) ∧ (0 ≤ p1 ∧ p1 < 10) ∧ (0 ≤ 1 + x3 + x5 ∧ 1 + x3 + x5 < 562) ∧ (0 ≤ S 6 p1 (1 + x3 + x5) ∧ S 6 p1 (1 + x3 + x5) < 6) ∧ (-2147483648 ≤ (((320962 + 562 * p1) + x3) + x5) + 2 ∧ (((320962 + 562 * p1) + x3) + x5) + 2 ≤ 2147483647) ∧ (0 ≤ 2 + x3 + x5 ∧ 2 + x3 + x5 < 562)) ∧ (((S 6 p1 (x3 + x5) : Int) ≠ 2 → ((0 ≤ W 62 ∧ W 62 < 100)) ∧ (((-2147483648 ≤ (W 62) + 1 ∧ (W 62) + 1 ≤ 2147483647)) ∧ (((-2147483648 ≤ x5 + 3 ∧ x5 + 3 ≤ 2147483647)) ∧ (am_W m_X5_holds (am_ev am_prog (d + 3)) Q 35 [some (.inr (.inl r)), some (.inl (320962 + 562 * p1)), some (.inl x2), some (.inl x3), some (.inl x4), some (.inl (x5 + 3)), some (.inl (S 6 p1 (x3 + x5))), some (.inl (V 12 (S 6 p1 (1 + x3 + x5)))), some (.inl (S 6 p1 (2 + x3 + x5)))] [] (mo b r (ms S) (am_up V 13 (am_uz (V 13) (W 62) (am_b (S 6 p1 (2 + x3 + x5) < V 12 (S 6 p1 (1 + x3 + x5)))))) (am_up W 62 ((W 62) + 1))))))) ∧ ((S 6 p1 (x3 + x5) : Int) = 2 → ((0 ≤ W 62 ∧ W 62 < 100)) ∧ (((-2147483648 ≤ (W 62) + 1 ∧ (W 62) + 1 ≤ 2147483647)) ∧ (((-2147483648 ≤ x5 + 3 ∧ x5 + 3 ≤ 2147483647)) ∧ (am_W m_X5_holds (am_ev am_prog (d + 3)) Q 35 [some (.inr (.inl r)), some (.inl (320962 + 562 * p1)), some (.inl x2), some (.inl x3), some (.inl x4), some (.inl (x5 + 3)), some (.inl (S 6 p1 (x3 + x5))), some (.inl (V 12 (S 6 p1 (1 + x3 + x5)))), some (.inl (S 6 p1 (2 + x3 + x5)))] [] (mo b r (ms S) (am_up V 13 (am_uz (V 13) (W 62) (am_b (V 12 (S 6 p1 (1 + x3 + x5)) < S 6 p1 (2 + x3 + x5))))) (am_up W 62 ((W 62) + 1))))))))))) ∧ ((S 6 p1 (x3 + x5) : Int) = 1 → ((-2147483648 ≤ (320962 + 562 * p1) + x3 ∧ (320962 + 562 * p1) + x3 ≤ 2147483647) ∧ (-2147483648 ≤ ((320962 + 562 * p1) + x3) + x5 ∧ ((320962 + 562 * p1) + x3) + x5 ≤ 2147483647) ∧ (-2147483648 ≤ (((320962 + 562 * p1) + x3) + x5) + 1 ∧ (((320962 + 562 * p1) + x3) + x5) + 1 ≤ 2147483647) ∧ (0 ≤ p1 ∧ p1 < 10) ∧ (0 ≤ 1 + x3 + x5 ∧ 1 + x3 + x5 < 562) ∧ (0 ≤ S 6 p1 (1 + x3 + x5) ∧ S 6 p1 (1 + x3 + x5) < 3) ∧ (0 ≤ W 62 ∧ W 62 < 100) ∧ (V 11 (S 6 p1 (1 + x3 + x5)) = 0 ∨ V 11 (S 6 p1 (1 + x3 + x5)) = 1)) ∧ (((-2147483648 ≤ (W 62) + 1 ∧ (W 62) + 1 ≤ 2147483647)) ∧ (((-2147483648 ≤ x5 + 2 ∧ x5 + 2 ≤ 2147483647)) ∧ (am_W m_X5_holds (am_ev am_prog (d + 3)) Q 35 [some (.inr (.inl r)), some (.inl (320962 + 562 * p1)), some (.inl x2), some (.inl x3), some (.inl x4), some (.inl (x5 + 2)), some (.inl (S 6 p1 (x3 + x5))), o7, o8] [] (mo b r (ms S) (am_up V 13 (am_uz (V 13) (W 62) (V 11 (S 6 p1 (1 + x3 + x5))))) (am_up W 62 ((W 62) + 1)))))))))) : am_W m_X5_holds (am_ev am_prog (d + 3)) Q 35 [some (.inr (.inl r)), some (.inl (320962 + 562 * p1)), some (.inl x2), some (.inl x3), some (.inl x4), some (.inl x5), o6, o7, o8] [] (mo b r (ms S) V W) := by
  refine r_X5_holds_35 ?_
  refine ⟨fun c => ?_, fun c => ?_⟩
  · replace H := H.1 c
    obtain ⟨a1431, H⟩ := H
    refine r_X5_holds_212 ?_
    simp only [mo_ty, mo_f61, mo_t13, mo_n13, mo_a13, true_or, or_true, true_and]
    exact ⟨(by decide), a1431, H⟩
  · replace H := H.2 c
    obtain ⟨⟨a1432, a1433, a1434, a1435⟩, H⟩ := H
    refine r_X5_holds_38 ?_
    simp only [mo_ty, mo_f39, mo_t1, mo_n1, mo_a1, ms_r6 (k := ((320962 + 562 * p1) + x3) + x5) (p := p1) (i := x3 + x5) (by omega) (by omega) (by omega), true_or, or_true, true_and]
    refine ⟨a1432, a1433, (by omega), ⟨fun c => ?_, fun c => ?_⟩⟩
    · replace H := H.1 c
      refine r_X5_holds_76 ?_
      refine ⟨fun c => ?_, fun c => ?_⟩
      · replace H := H.1 c
        obtain ⟨⟨a1436, a1437, a1438, a1439, a1440, a1441, a1442, a1443⟩, H⟩ := H
        refine r_X5_holds_82 ?_
        simp only [mo_ty, mo_f60, mo_f39, mo_t1, mo_n1, mo_a1, ms_r6 (k := (((320962 + 562 * p1) + x3) + x5) + 1) (p := p1) (i := 1 + x3 + x5) (by omega) (by omega) (by omega), mo_t12, mo_n12, mo_a12, ms_r6 (k := (((320962 + 562 * p1) + x3) + x5) + 2) (p := p1) (i := 2 + x3 + x5) (by omega) (by omega) (by omega), mo_f61, mo_i, true_or, or_true, true_and]
        refine ⟨a1436, a1437, a1438, (by omega), a1441, a1436, a1437, a1442, (by omega), ⟨fun c => ?_, fun c => ?_⟩⟩
        · replace H := H.1 c
          have J : ∀ y : Int, y = am_b (S 6 p1 (2 + x3 + x5) < V 12 (S 6 p1 (1 + x3 + x5))) → am_W m_X5_holds (am_ev am_prog (d + 3)) Q 127 [some (.inr (.inl r)), some (.inl (320962 + 562 * p1)), some (.inl x2), some (.inl x3), some (.inl x4), some (.inl x5), some (.inl (S 6 p1 (x3 + x5))), some (.inl (V 12 (S 6 p1 (1 + x3 + x5)))), some (.inl (S 6 p1 (2 + x3 + x5)))] [.inl y, .inl (W 62), .inr (.inl (r + 13))] (mo b r (ms S) V W) := by
            intro y hy
            subst hy
            obtain ⟨a1444, H⟩ := H
            refine r_X5_holds_127 ?_
            simp only [mo_t13, mo_n13, mo_s13, am_nzb, true_or, or_true, true_and]
            refine ⟨a1444, ?_⟩
            obtain ⟨a1445, H⟩ := H
            refine r_X5_holds_128 ?_
            simp only [mo_ty, mo_i, mo_si, true_or, or_true, true_and]
            refine ⟨a1445, ?_⟩
            obtain ⟨a1446, H⟩ := H
            refine r_X5_holds_134 ?_
            refine ⟨a1446, ?_⟩
            refine r_X5_holds_211 ?_
            exact H
          refine r_X5_holds_121 ?_
          refine ⟨fun c => ?_, fun c => ?_⟩
          · exact r_X5_holds_126 (J _ (am_bf (by omega)).symm)
          · exact r_X5_holds_124 (J _ (am_bt c).symm)
        · replace H := H.2 c
          have J : ∀ y : Int, y = am_b (V 12 (S 6 p1 (1 + x3 + x5)) < S 6 p1 (2 + x3 + x5)) → am_W m_X5_holds (am_ev am_prog (d + 3)) Q 127 [some (.inr (.inl r)), some (.inl (320962 + 562 * p1)), some (.inl x2), some (.inl x3), some (.inl x4), some (.inl x5), some (.inl (S 6 p1 (x3 + x5))), some (.inl (V 12 (S 6 p1 (1 + x3 + x5)))), some (.inl (S 6 p1 (2 + x3 + x5)))] [.inl y, .inl (W 62), .inr (.inl (r + 13))] (mo b r (ms S) V W) := by
            intro y hy
            subst hy
            obtain ⟨a1447, H⟩ := H
            refine r_X5_holds_127 ?_
            simp only [mo_t13, mo_n13, mo_s13, am_nzb, true_or, or_true, true_and]
            refine ⟨a1447, ?_⟩
            obtain ⟨a1448, H⟩ := H
            refine r_X5_holds_128 ?_
            simp only [mo_ty, mo_i, mo_si, true_or, or_true, true_and]
            refine ⟨a1448, ?_⟩
            obtain ⟨a1449, H⟩ := H
            refine r_X5_holds_134 ?_
            refine ⟨a1449, ?_⟩
            refine r_X5_holds_211 ?_
            exact H
          refine r_X5_holds_114 ?_
          refine ⟨fun c => ?_, fun c => ?_⟩
          · exact r_X5_holds_119 (J _ (am_bf (by omega)).symm)
          · exact r_X5_holds_117 (J _ (am_bt c).symm)
      · replace H := H.2 c
        refine r_X5_holds_79 ?_
        refine ⟨fun c => ?_, fun c => ?_⟩
        · replace H := H.1 c
          refine r_X5_holds_136 ?_
          refine ⟨fun c => ?_, fun c => ?_⟩
          · replace H := H.1 c
            obtain ⟨a1450, H⟩ := H
            refine r_X5_holds_159 ?_
            simp only [mo_ty, mo_i, mo_si, true_or, or_true, true_and]
            refine ⟨a1450, ?_⟩
            obtain ⟨a1451, H⟩ := H
            refine r_X5_holds_165 ?_
            simp only [mo_ty, mo_f61, mo_i, am_up_eq, true_or, or_true, true_and]
            refine ⟨a1451, ⟨fun c => ?_, fun c => ?_⟩⟩
            · replace H := H.1 c
              obtain ⟨⟨a1452, a1453⟩, H⟩ := H
              refine r_X5_holds_192 ?_
              simp only [mo_ty, mo_f61, mo_i, am_up_eq, mo_t13, mo_n13, mo_a13, true_or, or_true, true_and]
              refine ⟨a1452, a1453, ⟨fun c => ?_, fun c => ?_⟩⟩
              · replace H := H.1 c
                refine r_X5_holds_206 ?_
                obtain ⟨a1454, H⟩ := H
                refine r_X5_holds_209 ?_
                simp only [mo_t13, mo_n13, mo_s13, am_nz1, true_or, or_true, true_and]
                refine ⟨a1454, ?_⟩
                obtain ⟨a1455, H⟩ := H
                refine r_X5_holds_210 ?_
                refine ⟨a1455, ?_⟩
                refine r_X5_holds_211 ?_
                exact H
              · replace H := H.2 c
                obtain ⟨a1456, H⟩ := H
                have J : ∀ y : Int, y = am_b ((V 13 ((W 62) - 1) : Int) ≠ 0) → am_W m_X5_holds (am_ev am_prog (d + 3)) Q 209 [some (.inr (.inl r)), some (.inl (320962 + 562 * p1)), some (.inl x2), some (.inl x3), some (.inl x4), some (.inl x5), some (.inl (S 6 p1 (x3 + x5))), o7, o8] [.inl y, .inl (((W 62) - 1) - 1), .inr (.inl (r + 13))] (mo b r (ms S) V (am_up W 62 ((W 62) - 1))) := by
                  intro y hy
                  subst hy
                  obtain ⟨a1457, H⟩ := H
                  refine r_X5_holds_209 ?_
                  simp only [mo_t13, mo_n13, mo_s13, am_nzb, true_or, or_true, true_and]
                  refine ⟨a1457, ?_⟩
                  obtain ⟨a1458, H⟩ := H
                  refine r_X5_holds_210 ?_
                  refine ⟨a1458, ?_⟩
                  refine r_X5_holds_211 ?_
                  exact H
                refine r_X5_holds_200 ?_
                simp only [mo_ty, mo_f61, mo_i, am_up_eq, mo_t13, mo_n13, mo_a13, true_or, or_true, true_and]
                refine ⟨a1456, ⟨fun c => ?_, fun c => ?_⟩⟩
                · exact r_X5_holds_208 (J _ (am_bf (by omega)).symm)
                · exact r_X5_holds_206 (J _ (am_bt c).symm)
            · replace H := H.2 c
              obtain ⟨⟨a1459, a1460⟩, H⟩ := H
              refine r_X5_holds_174 ?_
              simp only [mo_ty, mo_f61, mo_i, am_up_eq, mo_t13, mo_n13, mo_a13, true_or, or_true, true_and]
              refine ⟨a1459, a1460, ⟨fun c => ?_, fun c => ?_⟩⟩
              · replace H := H.1 c
                refine r_X5_holds_190 ?_
                obtain ⟨a1461, H⟩ := H
                refine r_X5_holds_209 ?_
                simp only [mo_t13, mo_n13, mo_s13, am_nz0, true_or, or_true, true_and]
                refine ⟨a1461, ?_⟩
                obtain ⟨a1462, H⟩ := H
                refine r_X5_holds_210 ?_
                refine ⟨a1462, ?_⟩
                refine r_X5_holds_211 ?_
                exact H
              · replace H := H.2 c
                obtain ⟨a1463, H⟩ := H
                have J : ∀ y : Int, y = am_b ((V 13 ((W 62) - 1) : Int) ≠ 0) → am_W m_X5_holds (am_ev am_prog (d + 3)) Q 209 [some (.inr (.inl r)), some (.inl (320962 + 562 * p1)), some (.inl x2), some (.inl x3), some (.inl x4), some (.inl x5), some (.inl (S 6 p1 (x3 + x5))), o7, o8] [.inl y, .inl (((W 62) - 1) - 1), .inr (.inl (r + 13))] (mo b r (ms S) V (am_up W 62 ((W 62) - 1))) := by
                  intro y hy
                  subst hy
                  obtain ⟨a1464, H⟩ := H
                  refine r_X5_holds_209 ?_
                  simp only [mo_t13, mo_n13, mo_s13, am_nzb, true_or, or_true, true_and]
                  refine ⟨a1464, ?_⟩
                  obtain ⟨a1465, H⟩ := H
                  refine r_X5_holds_210 ?_
                  refine ⟨a1465, ?_⟩
                  refine r_X5_holds_211 ?_
                  exact H
                refine r_X5_holds_182 ?_
                simp only [mo_ty, mo_f61, mo_i, am_up_eq, mo_t13, mo_n13, mo_a13, true_or, or_true, true_and]
                refine ⟨a1463, ⟨fun c => ?_, fun c => ?_⟩⟩
                · exact r_X5_holds_190 (J _ (am_bf (by omega)).symm)
                · exact r_X5_holds_188 (J _ (am_bt c).symm)
          · replace H := H.2 c
            obtain ⟨⟨a1466, a1467⟩, H⟩ := H
            have J : ∀ y : Int, y = am_b ((V 13 ((W 62) - 1) : Int) = 0) → am_W m_X5_holds (am_ev am_prog (d + 3)) Q 156 [some (.inr (.inl r)), some (.inl (320962 + 562 * p1)), some (.inl x2), some (.inl x3), some (.inl x4), some (.inl x5), some (.inl (S 6 p1 (x3 + x5))), o7, o8] [.inl y, .inl ((W 62) - 1), .inr (.inl (r + 13))] (mo b r (ms S) V W) := by
              intro y hy
              subst hy
              obtain ⟨a1468, H⟩ := H
              refine r_X5_holds_156 ?_
              simp only [mo_t13, mo_n13, mo_s13, am_nzb, true_or, or_true, true_and]
              refine ⟨a1468, ?_⟩
              obtain ⟨a1469, H⟩ := H
              refine r_X5_holds_157 ?_
              refine ⟨a1469, ?_⟩
              refine r_X5_holds_211 ?_
              exact H
            refine r_X5_holds_139 ?_
            simp only [mo_ty, mo_f61, mo_i, mo_t13, mo_n13, mo_a13, true_or, or_true, true_and]
            refine ⟨a1466, a1466, a1467, ⟨fun c => ?_, fun c => ?_⟩⟩
            · exact r_X5_holds_155 (J _ (am_bf (by omega)).symm)
            · exact r_X5_holds_153 (J _ (am_bt c).symm)
        · replace H := H.2 c
          obtain ⟨⟨a1470, a1471, a1472, a1473, a1474, a1475, a1476, a1477⟩, H⟩ := H
          refine r_X5_holds_82 ?_
          simp only [mo_ty, mo_f60, mo_f39, mo_t1, mo_n1, mo_a1, ms_r6 (k := (((320962 + 562 * p1) + x3) + x5) + 1) (p := p1) (i := 1 + x3 + x5) (by omega) (by omega) (by omega), mo_t12, mo_n12, mo_a12, ms_r6 (k := (((320962 + 562 * p1) + x3) + x5) + 2) (p := p1) (i := 2 + x3 + x5) (by omega) (by omega) (by omega), mo_f61, mo_i, true_or, or_true, true_and]
          refine ⟨a1470, a1471, a1472, (by omega), a1475, a1470, a1471, a1476, (by omega), ⟨fun c => ?_, fun c => ?_⟩⟩
          · replace H := H.1 c
            have J : ∀ y : Int, y = am_b (S 6 p1 (2 + x3 + x5) < V 12 (S 6 p1 (1 + x3 + x5))) → am_W m_X5_holds (am_ev am_prog (d + 3)) Q 127 [some (.inr (.inl r)), some (.inl (320962 + 562 * p1)), some (.inl x2), some (.inl x3), some (.inl x4), some (.inl x5), some (.inl (S 6 p1 (x3 + x5))), some (.inl (V 12 (S 6 p1 (1 + x3 + x5)))), some (.inl (S 6 p1 (2 + x3 + x5)))] [.inl y, .inl (W 62), .inr (.inl (r + 13))] (mo b r (ms S) V W) := by
              intro y hy
              subst hy
              obtain ⟨a1478, H⟩ := H
              refine r_X5_holds_127 ?_
              simp only [mo_t13, mo_n13, mo_s13, am_nzb, true_or, or_true, true_and]
              refine ⟨a1478, ?_⟩
              obtain ⟨a1479, H⟩ := H
              refine r_X5_holds_128 ?_
              simp only [mo_ty, mo_i, mo_si, true_or, or_true, true_and]
              refine ⟨a1479, ?_⟩
              obtain ⟨a1480, H⟩ := H
              refine r_X5_holds_134 ?_
              refine ⟨a1480, ?_⟩
              refine r_X5_holds_211 ?_
              exact H
            refine r_X5_holds_121 ?_
            refine ⟨fun c => ?_, fun c => ?_⟩
            · exact r_X5_holds_126 (J _ (am_bf (by omega)).symm)
            · exact r_X5_holds_124 (J _ (am_bt c).symm)
          · replace H := H.2 c
            have J : ∀ y : Int, y = am_b (V 12 (S 6 p1 (1 + x3 + x5)) < S 6 p1 (2 + x3 + x5)) → am_W m_X5_holds (am_ev am_prog (d + 3)) Q 127 [some (.inr (.inl r)), some (.inl (320962 + 562 * p1)), some (.inl x2), some (.inl x3), some (.inl x4), some (.inl x5), some (.inl (S 6 p1 (x3 + x5))), some (.inl (V 12 (S 6 p1 (1 + x3 + x5)))), some (.inl (S 6 p1 (2 + x3 + x5)))] [.inl y, .inl (W 62), .inr (.inl (r + 13))] (mo b r (ms S) V W) := by
              intro y hy
              subst hy
              obtain ⟨a1481, H⟩ := H
              refine r_X5_holds_127 ?_
              simp only [mo_t13, mo_n13, mo_s13, am_nzb, true_or, or_true, true_and]
              refine ⟨a1481, ?_⟩
              obtain ⟨a1482, H⟩ := H
              refine r_X5_holds_128 ?_
              simp only [mo_ty, mo_i, mo_si, true_or, or_true, true_and]
              refine ⟨a1482, ?_⟩
              obtain ⟨a1483, H⟩ := H
              refine r_X5_holds_134 ?_
              refine ⟨a1483, ?_⟩
              refine r_X5_holds_211 ?_
              exact H
            refine r_X5_holds_114 ?_
            refine ⟨fun c => ?_, fun c => ?_⟩
            · exact r_X5_holds_119 (J _ (am_bf (by omega)).symm)
            · exact r_X5_holds_117 (J _ (am_bt c).symm)
    · replace H := H.2 c
      obtain ⟨⟨a1484, a1485, a1486, a1487, a1488, a1489, a1490, a1491⟩, H⟩ := H
      refine r_X5_holds_50 ?_
      simp only [mo_ty, mo_f61, mo_i, mo_f59, mo_f39, mo_t1, mo_n1, mo_a1, ms_r6 (k := (((320962 + 562 * p1) + x3) + x5) + 1) (p := p1) (i := 1 + x3 + x5) (by omega) (by omega) (by omega), mo_t11, mo_n11, mo_a11, mo_t13, mo_n13, mo_s13, am_nzv (x := V 11 (S 6 p1 (1 + x3 + x5))) (by omega), true_or, or_true, true_and]
      refine ⟨a1484, a1485, a1486, (by omega), a1489, a1490, ?_⟩
      obtain ⟨a1492, H⟩ := H
      refine r_X5_holds_68 ?_
      simp only [mo_ty, mo_i, mo_si, true_or, or_true, true_and]
      refine ⟨a1492, ?_⟩
      obtain ⟨a1493, H⟩ := H
      refine r_X5_holds_74 ?_
      refine ⟨a1493, ?_⟩
      refine r_X5_holds_211 ?_
      exact H
theorem w_spikes_0 {d : Nat} {Q : am_K} {b : am_H} {r : Nat} {S : am_G} {V : Nat → Int → Int} {W : Nat → Int} {x1 : Int} (H : ((0 ≤ x1 ∧ x1 < 2000000)) ∧ (((-2147483648 ≤ (320230 + 183 * x1) + 32 ∧ (320230 + 183 * x1) + 32 ≤ 2147483647) ∧ (0 ≤ x1 ∧ x1 < 4) ∧ (-2147483648 ≤ (S 5 x1 32) + 1 ∧ (S 5 x1 32) + 1 ≤ 2147483647)) ∧ (am_ev am_prog (d + 3) 322 [.inr (.inl r), .inl x1] (mo b r (ms (u3 S 5 x1 32 ((S 5 x1 32) + 1))) V W) (am_aft (am_hand m_X5_spikes Q (am_W m_X5_spikes (am_ev am_prog (d + 3)) Q) 13) (am_W m_X5_spikes (am_ev am_prog (d + 3)) Q) 13 [some (.inr (.inl r)), some (.inl x1)] [])))) : am_W m_X5_spikes (am_ev am_prog (d + 3)) Q 0 [some (.inr (.inl r)), some (.inl x1)] [] (mo b r (ms S) V W) := by
  refine r_X5_spikes_0 ?_
  simp only [mo_ty, mo_f39, true_or, or_true, true_and]
  refine ?_
  obtain ⟨a1494, H⟩ := H
  refine c_machine0 (by omega) (am_av ?_)
  obtain ⟨⟨a1495, a1496, a1497⟩, H⟩ := H
  refine r_X5_spikes_4 ?_
  simp only [mo_t1, mo_n1, mo_a1, ms_r5 (k := (320230 + 183 * x1) + 32) (p := x1) (i := 32) (by omega) (by omega) (by omega), mo_s1, ms_w5 (k := (320230 + 183 * x1) + 32) (p := x1) (i := 32) (by omega) (by omega) (by omega), true_or, or_true, true_and]
  refine ⟨a1495, (by omega), a1497, (by omega), ?_⟩
  refine r_X5_spikes_11 ?_
  simp only [mo_ty, true_or, or_true, true_and]
  exact H
theorem w_spikes_14 {d : Nat} {Q : am_K} {b : am_H} {r : Nat} {S : am_G} {V : Nat → Int → Int} {W : Nat → Int} {x1 : Int} (H : Q (.inl none) (mo b r (ms S) V W)) : am_W m_X5_spikes (am_ev am_prog (d + 3)) Q 14 [some (.inr (.inl r)), some (.inl x1)] [] (mo b r (ms S) V W) := by
  refine r_X5_spikes_14 ?_
  exact H
theorem w_casts_0 {d : Nat} {Q : am_K} {b : am_H} {r : Nat} {S : am_G} {V : Nat → Int → Int} {W : Nat → Int} {x1 : Int} {x2 : Int} {x3 : Int} {x4 : Int} {o5 : Option am_V} {o6 : Option am_V} {o7 : Option am_V} {o8 : Option am_V} {o9 : Option am_V} (H : ((0 ≤ S 0 0 4 ∧ S 0 0 4 < 2000000)) ∧ (((0 ≤ x2 ∧ x2 < 3000000)) ∧ (((-2147483648 ≤ (64630 + 852 * (S 0 0 4)) + 0 ∧ (64630 + 852 * (S 0 0 4)) + 0 ≤ 2147483647) ∧ (0 ≤ S 0 0 4 ∧ S 0 0 4 < 300)) ∧ (((-2147483648 ≤ (64630 + 852 * (S 0 0 4)) + 1 ∧ (64630 + 852 * (S 0 0 4)) + 1 ≤ 2147483647) ∧ (0 ≤ S 0 0 4 ∧ S 0 0 4 < 300)) ∧ (((-2147483648 ≤ (64630 + 852 * (S 0 0 4)) + 2 ∧ (64630 + 852 * (S 0 0 4)) + 2 ≤ 2147483647) ∧ (0 ≤ S 0 0 4 ∧ S 0 0 4 < 300)) ∧ (am_W m_X5_casts (am_ev am_prog (d + 3)) Q 39 [some (.inr (.inl r)), some (.inl x1), some (.inl x2), some (.inl x3), some (.inl x4), some (.inl (S 0 0 4)), some (.inl (64630 + 852 * (S 0 0 4))), some (.inl (130 + 645 * x2)), some (.inl 0), some (.inl 0)] [] (mo b r (ms (u3 (u3 (u3 S 4 (S 0 0 4) 0 x2) 4 (S 0 0 4) 1 x1) 4 (S 0 0 4) 2 (S 0 0 0))) V W))))))) : am_W m_X5_casts (am_ev am_prog (d + 3)) Q 0 [some (.inr (.inl r)), some (.inl x1), some (.inl x2), some (.inl x3), some (.inl x4), o5, o6, o7, o8, o9] [] (mo b r (ms S) V W) := by
  refine r_X5_casts_0 ?_
  simp only [mo_ty, mo_f39, mo_t1, mo_n1, mo_a1, ms_r0 (k := 4) (p := 0) (i := 4) (by omega) (by omega) (by omega), true_or, or_true, true_and]
  refine ⟨(by omega), ?_⟩
  obtain ⟨a1498, H⟩ := H
  refine c_slug0 (by omega) (am_av ?_)
  refine r_X5_casts_7 ?_
  refine ?_
  obtain ⟨a1499, H⟩ := H
  refine c_part0 (by omega) (am_av ?_)
  obtain ⟨⟨a1500, a1501⟩, H⟩ := H
  refine r_X5_casts_10 ?_
  simp only [mo_ty, mo_f39, mo_t1, mo_n1, mo_s1, ms_w4 (k := (64630 + 852 * (S 0 0 4)) + 0) (p := S 0 0 4) (i := 0) (by omega) (by omega) (by omega), true_or, or_true, true_and]
  refine ⟨a1500, (by omega), ?_⟩
  obtain ⟨⟨a1502, a1503⟩, H⟩ := H
  refine r_X5_casts_18 ?_
  simp only [mo_ty, mo_f39, mo_t1, mo_n1, mo_s1, ms_w4 (k := (64630 + 852 * (S 0 0 4)) + 1) (p := S 0 0 4) (i := 1) (by omega) (by omega) (by omega), true_or, or_true, true_and]
  refine ⟨a1502, (by omega), ?_⟩
  obtain ⟨⟨a1504, a1505⟩, H⟩ := H
  refine r_X5_casts_25 ?_
  simp only [mo_ty, mo_f39, mo_t1, mo_n1, mo_a1, ms_r0 (k := 0) (p := 0) (i := 0) (by omega) (by omega) (by omega), u3_nc (by decide : (0 : Nat) ≠ 4), mo_s1, ms_w4 (k := (64630 + 852 * (S 0 0 4)) + 2) (p := S 0 0 4) (i := 2) (by omega) (by omega) (by omega), true_or, or_true, true_and]
  refine ⟨a1504, (by omega), (by omega), ?_⟩
  refine r_X5_casts_35 ?_
  exact H
theorem w_casts_39 {d : Nat} {Q : am_K} {b : am_H} {r : Nat} {S : am_G} {V : Nat → Int → Int} {W : Nat → Int} {x1 : Int} {x2 : Int} {x3 : Int} {x4 : Int} {x5 : Int} {p6 : Int} {p7 : Int} {x8 : Int} {x9 : Int} (H : (W 73 ≤ x9 → ((-2147483648 ≤ (64630 + 852 * p6) + 3 ∧ (64630 + 852 * p6) + 3 ≤ 2147483647) ∧ (0 ≤ p6 ∧ p6 < 300)) ∧ (((-2147483648 ≤ (64630 + 852 * p6) + 9 ∧ (64630 + 852 * p6) + 9 ≤ 2147483647) ∧ (0 ≤ p6 ∧ p6 < 300)) ∧ (((-2147483648 ≤ (64630 + 852 * p6) + 4 ∧ (64630 + 852 * p6) + 4 ≤ 2147483647) ∧ (0 ≤ p6 ∧ p6 < 300)) ∧ (((-2147483648 ≤ (64630 + 852 * p6) + 7 ∧ (64630 + 852 * p6) + 7 ≤ 2147483647) ∧ (0 ≤ p6 ∧ p6 < 300)) ∧ (((-2147483648 ≤ (64630 + 852 * p6) + 8 ∧ (64630 + 852 * p6) + 8 ≤ 2147483647) ∧ (0 ≤ p6 ∧ p6 < 300)) ∧ (((-2147483648 ≤ (64630 + 852 * p6) + 10 ∧ (64630 + 852 * p6) + 10 ≤ 2147483647) ∧ (0 ≤ p6 ∧ p6 < 300)) ∧ (((-2147483648 ≤ (64630 + 852 * p6) + 10 ∧ (64630 + 852 * p6) + 10 ≤ 2147483647) ∧ (-2147483648 ≤ ((64630 + 852 * p6) + 10) + 1 ∧ ((64630 + 852 * p6) + 10) + 1 ≤ 2147483647) ∧ (0 ≤ p6 ∧ p6 < 300)) ∧ (((-2147483648 ≤ (130 + 645 * p7) + 45 ∧ (130 + 645 * p7) + 45 ≤ 2147483647) ∧ (-2147483648 ≤ ((130 + 645 * p7) + 45) + x3 ∧ ((130 + 645 * p7) + 45) + x3 ≤ 2147483647) ∧ (0 ≤ p7 ∧ p7 < 100) ∧ (0 ≤ 45 + x3 ∧ 45 + x3 < 645) ∧ (-2147483648 ≤ (S 3 p7 (45 + x3)) - 1 ∧ (S 3 p7 (45 + x3)) - 1 ≤ 2147483647)) ∧ (am_ev am_prog (d + 3) 195 [.inr (.inl r), .inl ((S 3 p7 (45 + x3)) - 1)] (mo b r (ms (u3 (u3 (u3 (u3 (u3 (u3 (u3 S 4 p6 3 x8) 4 p6 9 (W 73)) 4 p6 4 0) 4 p6 7 x4) 4 p6 8 x3) 4 p6 10 0) 4 p6 11 0)) V W) (am_aft (am_hand m_X5_casts Q (am_W m_X5_casts (am_ev am_prog (d + 3)) Q) 144) (am_W m_X5_casts (am_ev am_prog (d + 3)) Q) 144 [some (.inr (.inl r)), some (.inl x1), some (.inl x2), some (.inl x3), some (.inl x4), some (.inl x5), some (.inl (64630 + 852 * p6)), some (.inl (130 + 645 * p7)), some (.inl x8), some (.inl x9)] [])))))))))) ∧ (x9 < W 73 → ((-2147483648 ≤ (64630 + 852 * p6) + 12 ∧ (64630 + 852 * p6) + 12 ≤ 2147483647) ∧ (-2147483648 ≤ ((64630 + 852 * p6) + 12) + x9 ∧ ((64630 + 852 * p6) + 12) + x9 ≤ 2147483647) ∧ (0 ≤ x9 ∧ x9 < 430) ∧ (0 ≤ p6 ∧ p6 < 300) ∧ (0 ≤ 12 + x9 ∧ 12 + x9 < 852)) ∧ (((-2147483648 ≤ (64630 + 852 * p6) + 432 ∧ (64630 + 852 * p6) + 432 ≤ 2147483647) ∧ (-2147483648 ≤ ((64630 + 852 * p6) + 432) + x9 ∧ ((64630 + 852 * p6) + 432) + x9 ≤ 2147483647) ∧ (0 ≤ x9 ∧ x9 < 430) ∧ (0 ≤ p6 ∧ p6 < 300) ∧ (0 ≤ 432 + x9 ∧ 432 + x9 < 852)) ∧ (((0 ≤ x9 ∧ x9 < 430)) ∧ (((-2147483648 ≤ x8 + (am_b ((V 17 x9 : Int) ≠ 32)) ∧ x8 + (am_b ((V 17 x9 : Int) ≠ 32)) ≤ 2147483647) ∧ (-2147483648 ≤ x9 + 1 ∧ x9 + 1 ≤ 2147483647)) ∧ (am_W m_X5_casts (am_ev am_prog (d + 3)) Q 39 [some (.inr (.inl r)), some (.inl x1), some (.inl x2), some (.inl x3), some (.inl x4), some (.inl x5), some (.inl (64630 + 852 * p6)), some (.inl (130 + 645 * p7)), some (.inl (x8 + (am_b ((V 17 x9 : Int) ≠ 32)))), some (.inl (x9 + 1))] [] (mo b r (ms (u3 (u3 S 4 p6 (12 + x9) (V 17 x9)) 4 p6 (432 + x9) (V 17 x9))) V W))))))) : am_W m_X5_casts (am_ev am_prog (d + 3)) Q 39 [some (.inr (.inl r)), some (.inl x1), some (.inl x2), some (.inl x3), some (.inl x4), some (.inl x5), some (.inl (64630 + 852 * p6)), some (.inl (130 + 645 * p7)), some (.inl x8), some (.inl x9)] [] (mo b r (ms S) V W) := by
  refine r_X5_casts_39 ?_
  simp only [mo_ty, mo_i, true_or, or_true, true_and]
  refine ⟨fun c => ?_, fun c => ?_⟩
  · replace H := H.1 c
    obtain ⟨⟨a1521, a1522⟩, H⟩ := H
    refine r_X5_casts_81 ?_
    simp only [mo_ty, mo_f39, mo_t1, mo_n1, mo_s1, ms_w4 (k := (64630 + 852 * p6) + 3) (p := p6) (i := 3) (by omega) (by omega) (by omega), true_or, or_true, true_and]
    refine ⟨a1521, (by omega), ?_⟩
    obtain ⟨⟨a1523, a1524⟩, H⟩ := H
    refine r_X5_casts_88 ?_
    simp only [mo_ty, mo_f39, mo_i, mo_t1, mo_n1, mo_s1, ms_w4 (k := (64630 + 852 * p6) + 9) (p := p6) (i := 9) (by omega) (by omega) (by omega), true_or, or_true, true_and]
    refine ⟨a1523, (by omega), ?_⟩
    obtain ⟨⟨a1525, a1526⟩, H⟩ := H
    refine r_X5_casts_96 ?_
    simp only [mo_ty, mo_f39, mo_t1, mo_n1, mo_s1, ms_w4 (k := (64630 + 852 * p6) + 4) (p := p6) (i := 4) (by omega) (by omega) (by omega), true_or, or_true, true_and]
    refine ⟨a1525, (by omega), ?_⟩
    obtain ⟨⟨a1527, a1528⟩, H⟩ := H
    refine r_X5_casts_103 ?_
    simp only [mo_ty, mo_f39, mo_t1, mo_n1, mo_s1, ms_w4 (k := (64630 + 852 * p6) + 7) (p := p6) (i := 7) (by omega) (by omega) (by omega), true_or, or_true, true_and]
    refine ⟨a1527, (by omega), ?_⟩
    obtain ⟨⟨a1529, a1530⟩, H⟩ := H
    refine r_X5_casts_110 ?_
    simp only [mo_ty, mo_f39, mo_t1, mo_n1, mo_s1, ms_w4 (k := (64630 + 852 * p6) + 8) (p := p6) (i := 8) (by omega) (by omega) (by omega), true_or, or_true, true_and]
    refine ⟨a1529, (by omega), ?_⟩
    obtain ⟨⟨a1531, a1532⟩, H⟩ := H
    refine r_X5_casts_117 ?_
    simp only [mo_ty, mo_f39, mo_t1, mo_n1, mo_s1, ms_w4 (k := (64630 + 852 * p6) + 10) (p := p6) (i := 10) (by omega) (by omega) (by omega), true_or, or_true, true_and]
    refine ⟨a1531, (by omega), ?_⟩
    obtain ⟨⟨a1533, a1534, a1535⟩, H⟩ := H
    refine r_X5_casts_124 ?_
    simp only [mo_ty, mo_f39, mo_t1, mo_n1, mo_s1, ms_w4 (k := ((64630 + 852 * p6) + 10) + 1) (p := p6) (i := 11) (by omega) (by omega) (by omega), true_or, or_true, true_and]
    refine ⟨a1533, a1534, (by omega), ?_⟩
    obtain ⟨⟨a1536, a1537, a1538, a1539, a1540⟩, H⟩ := H
    refine r_X5_casts_133 ?_
    simp only [mo_ty, mo_f39, mo_t1, mo_n1, mo_a1, ms_r3 (k := ((130 + 645 * p7) + 45) + x3) (p := p7) (i := 45 + x3) (by omega) (by omega) (by omega), u3_nc (by decide : (3 : Nat) ≠ 4), true_or, or_true, true_and]
    exact ⟨a1536, a1537, (by omega), a1540, H⟩
  · replace H := H.2 c
    obtain ⟨⟨a1541, a1542, a1543, a1544, a1545⟩, H⟩ := H
    refine r_X5_casts_43 ?_
    simp only [mo_ty, mo_f39, mo_f72, mo_t17, mo_n17, mo_a17, mo_t1, mo_n1, mo_s1, ms_w4 (k := ((64630 + 852 * p6) + 12) + x9) (p := p6) (i := 12 + x9) (by omega) (by omega) (by omega), true_or, or_true, true_and]
    refine ⟨a1541, a1542, a1543, (by omega), ?_⟩
    obtain ⟨⟨a1546, a1547, a1548, a1549, a1550⟩, H⟩ := H
    refine r_X5_casts_55 ?_
    simp only [mo_ty, mo_f39, mo_f72, mo_t17, mo_n17, mo_a17, mo_t1, mo_n1, mo_s1, ms_w4 (k := ((64630 + 852 * p6) + 432) + x9) (p := p6) (i := 432 + x9) (by omega) (by omega) (by omega), true_or, or_true, true_and]
    refine ⟨a1546, a1547, a1548, (by omega), ?_⟩
    obtain ⟨a1551, H⟩ := H
    have J : ∀ y : Int, y = am_b ((V 17 x9 : Int) ≠ 32) → am_W m_X5_casts (am_ev am_prog (d + 3)) Q 77 [some (.inr (.inl r)), some (.inl x1), some (.inl x2), some (.inl x3), some (.inl x4), some (.inl x5), some (.inl (64630 + 852 * p6)), some (.inl (130 + 645 * p7)), some (.inl x8), some (.inl x9)] [.inl y, .inl x8] (mo b r (ms (u3 (u3 S 4 p6 (12 + x9) (V 17 x9)) 4 p6 (432 + x9) (V 17 x9))) V W) := by
      intro y hy
      subst hy
      obtain ⟨⟨a1552, a1553⟩, H⟩ := H
      refine r_X5_casts_77 ?_
      refine ⟨a1552, a1553, ?_⟩
      exact H
    refine r_X5_casts_67 ?_
    simp only [mo_ty, mo_f72, mo_t17, mo_n17, mo_a17, true_or, or_true, true_and]
    refine ⟨a1551, ⟨fun c => ?_, fun c => ?_⟩⟩
    · exact r_X5_casts_76 (J _ (am_bt c).symm)
    · exact r_X5_casts_74 (J _ (am_bf (by omega)).symm)
theorem w_casts_145 {d : Nat} {Q : am_K} {b : am_H} {r : Nat} {S : am_G} {V : Nat → Int → Int} {W : Nat → Int} {x1 : Int} {x2 : Int} {x3 : Int} {x4 : Int} {x5 : Int} {x6 : Int} {x7 : Int} {x8 : Int} {x9 : Int} (H : am_ev am_prog (d + 3) 173 [.inr (.inl r), .inl x5, .inl x2, .inl x3] (mo b r (ms S) V W) (am_aft (am_hand m_X5_casts Q (am_W m_X5_casts (am_ev am_prog (d + 3)) Q) 149) (am_W m_X5_casts (am_ev am_prog (d + 3)) Q) 149 [some (.inr (.inl r)), some (.inl x1), some (.inl x2), some (.inl x3), some (.inl x4), some (.inl x5), some (.inl x6), some (.inl x7), some (.inl x8), some (.inl x9)] [])) : am_W m_X5_casts (am_ev am_prog (d + 3)) Q 145 [some (.inr (.inl r)), some (.inl x1), some (.inl x2), some (.inl x3), some (.inl x4), some (.inl x5), some (.inl x6), some (.inl x7), some (.inl x8), some (.inl x9)] [] (mo b r (ms S) V W) := by
  refine r_X5_casts_145 ?_
  simp only [mo_ty, true_or, or_true, true_and]
  exact H
theorem w_casts_150 {d : Nat} {Q : am_K} {b : am_H} {r : Nat} {S : am_G} {V : Nat → Int → Int} {W : Nat → Int} {x1 : Int} {x2 : Int} {x3 : Int} {x4 : Int} {x5 : Int} {x6 : Int} {x7 : Int} {x8 : Int} {x9 : Int} (H : ((-2147483648 ≤ (S 0 0 4) + 1 ∧ (S 0 0 4) + 1 ≤ 2147483647)) ∧ (((0 ≤ x1 ∧ x1 < 2000000)) ∧ (((-2147483648 ≤ (320230 + 183 * x1) + 30 ∧ (320230 + 183 * x1) + 30 ≤ 2147483647) ∧ (0 ≤ x1 ∧ x1 < 4) ∧ (-2147483648 ≤ (S 5 x1 30) + 1 ∧ (S 5 x1 30) + 1 ≤ 2147483647)) ∧ (((-2147483648 ≤ (S 0 0 7) - 1 ∧ (S 0 0 7) - 1 ≤ 2147483647) ∧ (-2147483648 ≤ 5 * ((S 0 0 7) - 1) ∧ 5 * ((S 0 0 7) - 1) ≤ 2147483647) ∧ (-2147483648 ≤ 337180 + (5 * ((S 0 0 7) - 1)) ∧ 337180 + (5 * ((S 0 0 7) - 1)) ≤ 2147483647) ∧ (-2147483648 ≤ (337180 + (5 * ((S 0 0 7) - 1))) + 1 ∧ (337180 + (5 * ((S 0 0 7) - 1))) + 1 ≤ 2147483647) ∧ (-2147483648 ≤ ((337180 + (5 * ((S 0 0 7) - 1))) + 1) + x1 ∧ ((337180 + (5 * ((S 0 0 7) - 1))) + 1) + x1 ≤ 2147483647) ∧ (0 ≤ 1 + 5 * ((S 0 0 7) - 1) + x1 ∧ 1 + 5 * ((S 0 0 7) - 1) + x1 < 40)) ∧ (Q (.inl none) (mo b r (ms (u3 (u3 (u3 S 0 0 4 ((S 0 0 4) + 1)) 5 x1 30 ((S 5 x1 30) + 1)) 10 0 (1 + 5 * ((S 0 0 7) - 1) + x1) x5)) V W)))))) : am_W m_X5_casts (am_ev am_prog (d + 3)) Q 150 [some (.inr (.inl r)), some (.inl x1), some (.inl x2), some (.inl x3), some (.inl x4), some (.inl x5), some (.inl x6), some (.inl x7), some (.inl x8), some (.inl x9)] [] (mo b r (ms S) V W) := by
  obtain ⟨a1554, H⟩ := H
  refine r_X5_casts_150 ?_
  simp only [mo_ty, mo_f39, mo_t1, mo_n1, mo_a1, ms_r0 (k := 4) (p := 0) (i := 4) (by omega) (by omega) (by omega), mo_s1, ms_w0 (k := 4) (p := 0) (i := 4) (by omega) (by omega) (by omega), true_or, or_true, true_and]
  refine ⟨(by omega), a1554, (by omega), ?_⟩
  refine r_X5_casts_158 ?_
  simp only [mo_ty, mo_f39, true_or, or_true, true_and]
  refine ?_
  obtain ⟨a1555, H⟩ := H
  refine c_machine0 (by omega) (am_av ?_)
  obtain ⟨⟨a1556, a1557, a1558⟩, H⟩ := H
  refine r_X5_casts_162 ?_
  simp only [mo_t1, mo_n1, mo_a1, ms_r5 (k := (320230 + 183 * x1) + 30) (p := x1) (i := 30) (by omega) (by omega) (by omega), u3_nc (by decide : (5 : Nat) ≠ 0), mo_s1, ms_w5 (k := (320230 + 183 * x1) + 30) (p := x1) (i := 30) (by omega) (by omega) (by omega), true_or, or_true, true_and]
  refine ⟨a1556, (by omega), a1558, (by omega), ?_⟩
  obtain ⟨⟨a1559, a1560, a1561, a1562, a1563, a1564⟩, H⟩ := H
  refine r_X5_casts_169 ?_
  simp only [mo_ty, mo_f39, mo_t1, mo_n1, mo_a1, ms_r0 (k := 7) (p := 0) (i := 7) (by omega) (by omega) (by omega), u3_nc (by decide : (0 : Nat) ≠ 5), u3_no (by decide : (7 : Int) ≠ 4), mo_s1, ms_w10 (k := ((337180 + (5 * ((S 0 0 7) - 1))) + 1) + x1) (p := 0) (i := 1 + 5 * ((S 0 0 7) - 1) + x1) (by omega) (by omega) (by omega), true_or, or_true, true_and]
  refine ⟨(by omega), a1559, a1560, a1561, a1562, a1563, (by omega), ?_⟩
  refine r_X5_casts_187 ?_
  exact H
theorem w_away_0 {d : Nat} {Q : am_K} {b : am_H} {r : Nat} {S : am_G} {V : Nat → Int → Int} {W : Nat → Int} {x1 : Int} {o2 : Option am_V} {o3 : Option am_V} (H : ((0 ≤ x1 ∧ x1 < 2000000)) ∧ (am_W m_X5_away (am_ev am_prog (d + 3)) Q 5 [some (.inr (.inl r)), some (.inl x1), some (.inl (320230 + 183 * x1)), some (.inl 0)] [] (mo b r (ms S) V W))) : am_W m_X5_away (am_ev am_prog (d + 3)) Q 0 [some (.inr (.inl r)), some (.inl x1), o2, o3] [] (mo b r (ms S) V W) := by
  refine r_X5_away_0 ?_
  refine ?_
  obtain ⟨a1565, H⟩ := H
  refine c_machine0 (by omega) (am_av ?_)
  refine r_X5_away_2 ?_
  exact H
theorem w_away_5 {d : Nat} {Q : am_K} {b : am_H} {r : Nat} {S : am_G} {V : Nat → Int → Int} {W : Nat → Int} {x1 : Int} {p2 : Int} {x3 : Int} (H : (145 ≤ x3 → ((-2147483648 ≤ (320230 + 183 * p2) + 29 ∧ (320230 + 183 * p2) + 29 ≤ 2147483647) ∧ (0 ≤ p2 ∧ p2 < 4) ∧ (-2147483648 ≤ (S 5 p2 29) - 1 ∧ (S 5 p2 29) - 1 ≤ 2147483647)) ∧ (Q (.inl none) (mo b r (ms (u3 S 5 p2 29 ((S 5 p2 29) - 1))) V W))) ∧ (x3 < 145 → ((-2147483648 ≤ (320230 + 183 * p2) + 33 ∧ (320230 + 183 * p2) + 33 ≤ 2147483647) ∧ (-2147483648 ≤ ((320230 + 183 * p2) + 33) + x3 ∧ ((320230 + 183 * p2) + 33) + x3 ≤ 2147483647) ∧ (-2147483648 ≤ (((320230 + 183 * p2) + 33) + x3) + 5 ∧ (((320230 + 183 * p2) + 33) + x3) + 5 ≤ 2147483647) ∧ (0 ≤ p2 ∧ p2 < 4) ∧ (0 ≤ 38 + x3 ∧ 38 + x3 < 183) ∧ (0 ≤ 33 + x3 ∧ 33 + x3 < 183)) ∧ (((-2147483648 ≤ x3 + 1 ∧ x3 + 1 ≤ 2147483647)) ∧ (am_W m_X5_away (am_ev am_prog (d + 3)) Q 5 [some (.inr (.inl r)), some (.inl x1), some (.inl (320230 + 183 * p2)), some (.inl (x3 + 1))] [] (mo b r (ms (u3 S 5 p2 (33 + x3) (S 5 p2 (38 + x3)))) V W))))) : am_W m_X5_away (am_ev am_prog (d + 3)) Q 5 [some (.inr (.inl r)), some (.inl x1), some (.inl (320230 + 183 * p2)), some (.inl x3)] [] (mo b r (ms S) V W) := by
  refine r_X5_away_5 ?_
  refine ⟨fun c => ?_, fun c => ?_⟩
  · replace H := H.1 c
    obtain ⟨⟨a1566, a1567, a1568⟩, H⟩ := H
    refine r_X5_away_28 ?_
    simp only [mo_ty, mo_f39, mo_t1, mo_n1, mo_a1, ms_r5 (k := (320230 + 183 * p2) + 29) (p := p2) (i := 29) (by omega) (by omega) (by omega), mo_s1, ms_w5 (k := (320230 + 183 * p2) + 29) (p := p2) (i := 29) (by omega) (by omega) (by omega), true_or, or_true, true_and]
    refine ⟨a1566, (by omega), a1568, (by omega), ?_⟩
    refine r_X5_away_38 ?_
    exact H
  · replace H := H.2 c
    obtain ⟨⟨a1569, a1570, a1571, a1572, a1573, a1574⟩, H⟩ := H
    refine r_X5_away_8 ?_
    simp only [mo_ty, mo_f39, mo_t1, mo_n1, mo_a1, ms_r5 (k := (((320230 + 183 * p2) + 33) + x3) + 5) (p := p2) (i := 38 + x3) (by omega) (by omega) (by omega), mo_s1, ms_w5 (k := ((320230 + 183 * p2) + 33) + x3) (p := p2) (i := 33 + x3) (by omega) (by omega) (by omega), true_or, or_true, true_and]
    refine ⟨a1569, a1570, a1569, a1570, a1571, (by omega), (by omega), ?_⟩
    obtain ⟨a1575, H⟩ := H
    refine r_X5_away_26 ?_
    refine ⟨a1575, ?_⟩
    exact H
theorem w_takes_0 {d : Nat} {Q : am_K} {b : am_H} {r : Nat} {S : am_G} {V : Nat → Int → Int} {W : Nat → Int} {r1 : Nat} {o2 : Option am_V} {o3 : Option am_V} (H : am_ev am_prog (d + 3) 256 [.inr (.inl r)] (mo b r (ms S) V W) (am_aft (am_hand m_X5_takes Q (am_W m_X5_takes (am_ev am_prog (d + 3)) Q) 1) (am_W m_X5_takes (am_ev am_prog (d + 3)) Q) 1 [some (.inr (.inl r)), some (.inr (.inl r1)), o2, o3] [])) : am_W m_X5_takes (am_ev am_prog (d + 3)) Q 0 [some (.inr (.inl r)), some (.inr (.inl r1)), o2, o3] [] (mo b r (ms S) V W) := by
  refine r_X5_takes_0 ?_
  simp only [mo_ty, true_or, or_true, true_and]
  exact H
theorem w_takes_2 {d : Nat} {Q : am_K} {b : am_H} {r : Nat} {S : am_G} {V : Nat → Int → Int} {W : Nat → Int} {r1 : Nat} {o2 : Option am_V} {o3 : Option am_V} (H : am_ev am_prog (d + 3) 360 [.inr (.inl r)] (mo b r (ms S) V W) (am_aft (am_hand m_X5_takes Q (am_W m_X5_takes (am_ev am_prog (d + 3)) Q) 3) (am_W m_X5_takes (am_ev am_prog (d + 3)) Q) 3 [some (.inr (.inl r)), some (.inr (.inl r1)), o2, o3] [])) : am_W m_X5_takes (am_ev am_prog (d + 3)) Q 2 [some (.inr (.inl r)), some (.inr (.inl r1)), o2, o3] [] (mo b r (ms S) V W) := by
  refine r_X5_takes_2 ?_
  simp only [mo_ty, true_or, or_true, true_and]
  exact H
theorem w_takes_4 {d : Nat} {Q : am_K} {b : am_H} {r : Nat} {S : am_G} {V : Nat → Int → Int} {W : Nat → Int} {r1 : Nat} {o2 : Option am_V} {o3 : Option am_V} {y0 : Int} (H : ((-2147483648 ≤ y0 - (W 46) ∧ y0 - (W 46) ≤ 2147483647) ∧ (am_ty (mo b r (ms S) V W) r1 = 30 ∨ am_ty (mo b r (ms S) V W) r1 = 90)) ∧ (am_ev am_prog (d + 3) 237 [.inr (.inl r1)] (mo b r (ms S) V W) (am_aft (am_hand m_X5_takes Q (am_W m_X5_takes (am_ev am_prog (d + 3)) Q) 8) (am_W m_X5_takes (am_ev am_prog (d + 3)) Q) 8 [some (.inr (.inl r)), some (.inr (.inl r1)), o2, o3] [.inl (y0 - (W 46))]))) : am_W m_X5_takes (am_ev am_prog (d + 3)) Q 4 [some (.inr (.inl r)), some (.inr (.inl r1)), o2, o3] [.inl y0] (mo b r (ms S) V W) := by
  obtain ⟨⟨a1576, a1577⟩, H⟩ := H
  refine r_X5_takes_4 ?_
  simp only [mo_ty, mo_i, true_or, or_true, true_and]
  exact ⟨a1576, a1577, H⟩
theorem w_takes_9 {d : Nat} {Q : am_K} {b : am_H} {r : Nat} {S : am_G} {V : Nat → Int → Int} {W : Nat → Int} {r1 : Nat} {o2 : Option am_V} {o3 : Option am_V} {y1 : Int} {y0 : Int} (H : am_W m_X5_takes (am_ev am_prog (d + 3)) Q 16 [some (.inr (.inl r)), some (.inr (.inl r1)), some (.inl (am_b (y0 = y1))), some (.inl 0)] [] (mo b r (ms S) V W)) : am_W m_X5_takes (am_ev am_prog (d + 3)) Q 9 [some (.inr (.inl r)), some (.inr (.inl r1)), o2, o3] [.inl y1, .inl y0] (mo b r (ms S) V W) := by
  have J : ∀ y : Int, y = am_b (y0 = y1) → am_W m_X5_takes (am_ev am_prog (d + 3)) Q 13 [some (.inr (.inl r)), some (.inr (.inl r1)), o2, o3] [.inl y] (mo b r (ms S) V W) := by
    intro y hy
    subst hy
    refine r_X5_takes_13 ?_
    exact H
  refine r_X5_takes_9 ?_
  refine ⟨fun c => ?_, fun c => ?_⟩
  · exact r_X5_takes_12 (J _ (am_bf (by omega)).symm)
  · exact r_X5_takes_10 (J _ (am_bt c).symm)
theorem w_takes_16 {d : Nat} {Q : am_K} {b : am_H} {r : Nat} {S : am_G} {V : Nat → Int → Int} {W : Nat → Int} {r1 : Nat} {x2 : Int} {x3 : Int} (H : ((am_ty (mo b r (ms S) V W) r1 = 30 ∨ am_ty (mo b r (ms S) V W) r1 = 90)) ∧ (am_ev am_prog (d + 3) 237 [.inr (.inl r1)] (mo b r (ms S) V W) (am_aft (am_hand m_X5_takes Q (am_W m_X5_takes (am_ev am_prog (d + 3)) Q) 18) (am_W m_X5_takes (am_ev am_prog (d + 3)) Q) 18 [some (.inr (.inl r)), some (.inr (.inl r1)), some (.inl x2), some (.inl x3)] [.inl x3]))) : am_W m_X5_takes (am_ev am_prog (d + 3)) Q 16 [some (.inr (.inl r)), some (.inr (.inl r1)), some (.inl x2), some (.inl x3)] [] (mo b r (ms S) V W) := by
  obtain ⟨a1578, H⟩ := H
  refine r_X5_takes_16 ?_
  exact ⟨a1578, H⟩
theorem w_takes_19 {d : Nat} {Q : am_K} {b : am_H} {r : Nat} {S : am_G} {V : Nat → Int → Int} {W : Nat → Int} {r1 : Nat} {x2 : Int} {x3 : Int} {y1 : Int} {y0 : Int} (H : (y1 ≤ y0 → am_W m_X5_takes (am_ev am_prog (d + 3)) Q 39 [some (.inr (.inl r)), some (.inr (.inl r1)), some (.inl x2), some (.inl x3)] [] (mo b r (ms S) V W)) ∧ (y0 < y1 → ((x2 : Int) = 0 → am_W m_X5_takes (am_ev am_prog (d + 3)) Q 39 [some (.inr (.inl r)), some (.inr (.inl r1)), some (.inl x2), some (.inl x3)] [] (mo b r (ms S) V W)) ∧ ((x2 : Int) ≠ 0 → ((-2147483648 ≤ (W 46) + x3 ∧ (W 46) + x3 ≤ 2147483647) ∧ (0 ≤ (W 46) + x3 ∧ (W 46) + x3 < 400) ∧ (am_ty (mo b r (ms S) V W) r1 = 30 ∨ am_ty (mo b r (ms S) V W) r1 = 90)) ∧ (am_ev am_prog (d + 3) 238 [.inr (.inl r1), .inl x3] (mo b r (ms S) V W) (am_aft (am_hand m_X5_takes Q (am_W m_X5_takes (am_ev am_prog (d + 3)) Q) 31) (am_W m_X5_takes (am_ev am_prog (d + 3)) Q) 31 [some (.inr (.inl r)), some (.inr (.inl r1)), some (.inl x2), some (.inl x3)] [.inl (V 4 ((W 46) + x3))]))))) : am_W m_X5_takes (am_ev am_prog (d + 3)) Q 19 [some (.inr (.inl r)), some (.inr (.inl r1)), some (.inl x2), some (.inl x3)] [.inl y1, .inl y0] (mo b r (ms S) V W) := by
  refine r_X5_takes_19 ?_
  refine ⟨fun c => ?_, fun c => ?_⟩
  · replace H := H.1 c
    exact H
  · replace H := H.2 c
    refine r_X5_takes_20 ?_
    refine ⟨fun c => ?_, fun c => ?_⟩
    · replace H := H.1 c
      exact H
    · replace H := H.2 c
      obtain ⟨⟨a1579, a1580, a1581⟩, H⟩ := H
      refine r_X5_takes_22 ?_
      simp only [mo_ty, mo_f43, mo_i, mo_t4, mo_n4, mo_a4, true_or, or_true, true_and]
      exact ⟨a1579, a1580, a1581, H⟩
theorem w_takes_32 {d : Nat} {Q : am_K} {b : am_H} {r : Nat} {S : am_G} {V : Nat → Int → Int} {W : Nat → Int} {r1 : Nat} {x2 : Int} {x3 : Int} {y1 : Int} {y0 : Int} (H : ((-2147483648 ≤ x3 + 1 ∧ x3 + 1 ≤ 2147483647)) ∧ (am_W m_X5_takes (am_ev am_prog (d + 3)) Q 16 [some (.inr (.inl r)), some (.inr (.inl r1)), some (.inl (am_b (y0 = y1))), some (.inl (x3 + 1))] [] (mo b r (ms S) V W))) : am_W m_X5_takes (am_ev am_prog (d + 3)) Q 32 [some (.inr (.inl r)), some (.inr (.inl r1)), some (.inl x2), some (.inl x3)] [.inl y1, .inl y0] (mo b r (ms S) V W) := by
  have J : ∀ y : Int, y = am_b (y0 = y1) → am_W m_X5_takes (am_ev am_prog (d + 3)) Q 36 [some (.inr (.inl r)), some (.inr (.inl r1)), some (.inl x2), some (.inl x3)] [.inl y] (mo b r (ms S) V W) := by
    intro y hy
    subst hy
    obtain ⟨a1582, H⟩ := H
    refine r_X5_takes_36 ?_
    refine ⟨a1582, ?_⟩
    exact H
  refine r_X5_takes_32 ?_
  refine ⟨fun c => ?_, fun c => ?_⟩
  · exact r_X5_takes_35 (J _ (am_bf (by omega)).symm)
  · exact r_X5_takes_33 (J _ (am_bt c).symm)
theorem w_takes_39 {d : Nat} {Q : am_K} {b : am_H} {r : Nat} {S : am_G} {V : Nat → Int → Int} {W : Nat → Int} {r1 : Nat} {x2 : Int} {x3 : Int} (H : ((x2 : Int) = 0 → ((x2 = 0 ∨ x2 = 1)) ∧ (Q (.inl (some (.inl x2))) (mo b r (ms S) V W))) ∧ ((x2 : Int) ≠ 0 → ((am_ty (mo b r (ms S) V W) r1 = 30 ∨ am_ty (mo b r (ms S) V W) r1 = 90)) ∧ (am_ev am_prog (d + 3) 237 [.inr (.inl r1)] (mo b r (ms S) V W) (am_aft (am_hand m_X5_takes Q (am_W m_X5_takes (am_ev am_prog (d + 3)) Q) 45) (am_W m_X5_takes (am_ev am_prog (d + 3)) Q) 45 [some (.inr (.inl r)), some (.inr (.inl r1)), some (.inl x2), some (.inl x3)] [.inl (W 46), .inr (.inl r)])))) : am_W m_X5_takes (am_ev am_prog (d + 3)) Q 39 [some (.inr (.inl r)), some (.inr (.inl r1)), some (.inl x2), some (.inl x3)] [] (mo b r (ms S) V W) := by
  refine r_X5_takes_39 ?_
  refine ⟨fun c => ?_, fun c => ?_⟩
  · replace H := H.1 c
    obtain ⟨a1583, H⟩ := H
    refine r_X5_takes_48 ?_
    exact ⟨a1583, H⟩
  · replace H := H.2 c
    obtain ⟨a1584, H⟩ := H
    refine r_X5_takes_41 ?_
    simp only [mo_ty, mo_i, true_or, or_true, true_and]
    exact ⟨a1584, H⟩
theorem w_takes_46 {d : Nat} {Q : am_K} {b : am_H} {r : Nat} {S : am_G} {V : Nat → Int → Int} {W : Nat → Int} {r1 : Nat} {x2 : Int} {x3 : Int} {y2 : Int} {y1 : Int} (H : ((-2147483648 ≤ y1 + y2 ∧ y1 + y2 ≤ 2147483647)) ∧ (((x2 = 0 ∨ x2 = 1)) ∧ (Q (.inl (some (.inl x2))) (mo b r (ms S) V (am_up W 46 (y1 + y2)))))) : am_W m_X5_takes (am_ev am_prog (d + 3)) Q 46 [some (.inr (.inl r)), some (.inr (.inl r1)), some (.inl x2), some (.inl x3)] [.inl y2, .inl y1, .inr (.inl r)] (mo b r (ms S) V W) := by
  obtain ⟨a1585, H⟩ := H
  refine r_X5_takes_46 ?_
  simp only [mo_ty, mo_si, true_or, or_true, true_and]
  refine ⟨a1585, ?_⟩
  obtain ⟨a1586, H⟩ := H
  refine r_X5_takes_48 ?_
  exact ⟨a1586, H⟩
theorem w_readIf_0 {d : Nat} {Q : am_K} {b : am_H} {r : Nat} {S : am_G} {V : Nat → Int → Int} {W : Nat → Int} {x1 : Int} {o2 : Option am_V} (H : am_ev am_prog (d + 3) 323 [.inr (.inl r), .inr (.inl (am_cs b 18))] (mo b r (ms S) V W) (am_aft (am_hand m_X5_readIf Q (am_W m_X5_readIf (am_ev am_prog (d + 3)) Q) 2) (am_W m_X5_readIf (am_ev am_prog (d + 3)) Q) 2 [some (.inr (.inl r)), some (.inl x1), o2] [])) : am_W m_X5_readIf (am_ev am_prog (d + 3)) Q 0 [some (.inr (.inl r)), some (.inl x1), o2] [] (mo b r (ms S) V W) := by
  refine r_X5_readIf_0 ?_
  simp only [mo_cs, mo_ty, true_or, or_true, true_and]
  exact H
theorem w_readIf_3 {d : Nat} {Q : am_K} {b : am_H} {r : Nat} {S : am_G} {V : Nat → Int → Int} {W : Nat → Int} {x1 : Int} {o2 : Option am_V} {y0 : Int} (H : ((y0 : Int) ≠ 0 → ((-2147483648 ≤ 5 * (W 57) ∧ 5 * (W 57) ≤ 2147483647) ∧ (-2147483648 ≤ 2 + (5 * (W 57)) ∧ 2 + (5 * (W 57)) ≤ 2147483647) ∧ (-2147483648 ≤ (2 + (5 * (W 57))) + 3 ∧ (2 + (5 * (W 57))) + 3 ≤ 2147483647) ∧ (0 ≤ (2 + (5 * (W 57))) + 3 ∧ (2 + (5 * (W 57))) + 3 < 562)) ∧ (am_ev am_prog (d + 3) 361 [.inr (.inl r)] (mo b r (ms S) (am_up V 10 (am_uz (V 10) ((2 + (5 * (W 57))) + 3) (W 58))) W) (am_aft (am_hand m_X5_readIf Q (am_W m_X5_readIf (am_ev am_prog (d + 3)) Q) 29) (am_W m_X5_readIf (am_ev am_prog (d + 3)) Q) 29 [some (.inr (.inl r)), some (.inl x1), some (.inl (2 + (5 * (W 57))))] []))) ∧ ((y0 : Int) = 0 → ((x1 : Int) = 0 → Q (.inl (some (.inl 1))) (mo b r (ms S) V W)) ∧ ((x1 : Int) ≠ 0 → am_ev am_prog (d + 3) 258 [.inr (.inl r)] (mo b r (ms S) V W) (am_aft (am_hand m_X5_readIf Q (am_W m_X5_readIf (am_ev am_prog (d + 3)) Q) 7) (am_W m_X5_readIf (am_ev am_prog (d + 3)) Q) 7 [some (.inr (.inl r)), some (.inl x1), o2] [])))) : am_W m_X5_readIf (am_ev am_prog (d + 3)) Q 3 [some (.inr (.inl r)), some (.inl x1), o2] [.inl y0] (mo b r (ms S) V W) := by
  refine r_X5_readIf_3 ?_
  refine ⟨fun c => ?_, fun c => ?_⟩
  · replace H := H.1 c
    obtain ⟨⟨a1587, a1588, a1589, a1590⟩, H⟩ := H
    refine r_X5_readIf_13 ?_
    simp only [mo_ty, mo_i, mo_f56, mo_t10, mo_n10, mo_s10, true_or, or_true, true_and]
    refine ⟨a1587, a1588, a1589, a1590, ?_⟩
    refine r_X5_readIf_28 ?_
    simp only [mo_ty, true_or, or_true, true_and]
    exact H
  · replace H := H.2 c
    refine r_X5_readIf_4 ?_
    refine ⟨fun c => ?_, fun c => ?_⟩
    · replace H := H.1 c
      refine r_X5_readIf_9 ?_
      refine r_X5_readIf_12 ?_
      exact ⟨(by decide), H⟩
    · replace H := H.2 c
      refine r_X5_readIf_6 ?_
      simp only [mo_ty, true_or, or_true, true_and]
      exact H
theorem w_readIf_8 {d : Nat} {Q : am_K} {b : am_H} {r : Nat} {S : am_G} {V : Nat → Int → Int} {W : Nat → Int} {x1 : Int} {o2 : Option am_V} {y0 : Int} (H : Q (.inl (some (.inl (am_b ((y0 : Int) ≠ 0))))) (mo b r (ms S) V W)) : am_W m_X5_readIf (am_ev am_prog (d + 3)) Q 8 [some (.inr (.inl r)), some (.inl x1), o2] [.inl y0] (mo b r (ms S) V W) := by
  have J : ∀ y : Int, y = am_b ((y0 : Int) ≠ 0) → am_W m_X5_readIf (am_ev am_prog (d + 3)) Q 12 [some (.inr (.inl r)), some (.inl x1), o2] [.inl y] (mo b r (ms S) V W) := by
    intro y hy
    subst hy
    refine r_X5_readIf_12 ?_
    exact ⟨(am_bz _), H⟩
  refine r_X5_readIf_8 ?_
  refine ⟨fun c => ?_, fun c => ?_⟩
  · exact r_X5_readIf_11 (J _ (am_bf (by omega)).symm)
  · exact r_X5_readIf_9 (J _ (am_bt c).symm)
theorem w_readIf_30 {d : Nat} {Q : am_K} {b : am_H} {r : Nat} {S : am_G} {V : Nat → Int → Int} {W : Nat → Int} {x1 : Int} {x2 : Int} {y0 : Int} (H : ((y0 : Int) ≠ 0 → ((-2147483648 ≤ x2 + 4 ∧ x2 + 4 ≤ 2147483647) ∧ (-2147483648 ≤ x2 + 3 ∧ x2 + 3 ≤ 2147483647) ∧ (0 ≤ x2 + 3 ∧ x2 + 3 < 562) ∧ (-2147483648 ≤ (W 58) - (V 10 (x2 + 3)) ∧ (W 58) - (V 10 (x2 + 3)) ≤ 2147483647) ∧ (0 ≤ x2 + 4 ∧ x2 + 4 < 562)) ∧ (Q (.inl (some (.inl 1))) (mo b r (ms S) (am_up V 10 (am_uz (V 10) (x2 + 4) ((W 58) - (V 10 (x2 + 3))))) W))) ∧ ((y0 : Int) = 0 → Q (.inl (some (.inl 0))) (mo b r (ms S) V W))) : am_W m_X5_readIf (am_ev am_prog (d + 3)) Q 30 [some (.inr (.inl r)), some (.inl x1), some (.inl x2)] [.inl y0] (mo b r (ms S) V W) := by
  refine r_X5_readIf_30 ?_
  refine ⟨fun c => ?_, fun c => ?_⟩
  · replace H := H.1 c
    obtain ⟨⟨a1591, a1592, a1593, a1594, a1595⟩, H⟩ := H
    refine r_X5_readIf_33 ?_
    simp only [mo_ty, mo_f56, mo_i, mo_t10, mo_n10, mo_a10, mo_s10, true_or, or_true, true_and]
    refine ⟨a1591, a1592, a1593, a1594, a1595, ?_⟩
    refine r_X5_readIf_48 ?_
    exact ⟨(by decide), H⟩
  · replace H := H.2 c
    refine r_X5_readIf_31 ?_
    exact ⟨(by decide), H⟩
theorem w_readNumber_0 {d : Nat} {Q : am_K} {b : am_H} {r : Nat} {S : am_G} {V : Nat → Int → Int} {W : Nat → Int} {x1 : Int} {x2 : Int} {o3 : Option am_V} {o4 : Option am_V} (H : am_ev am_prog (d + 3) 256 [.inr (.inl r)] (mo b r (ms S) V W) (am_aft (am_hand m_X5_readNumber Q (am_W m_X5_readNumber (am_ev am_prog (d + 3)) Q) 1) (am_W m_X5_readNumber (am_ev am_prog (d + 3)) Q) 1 [some (.inr (.inl r)), some (.inl x1), some (.inl x2), o3, o4] [])) : am_W m_X5_readNumber (am_ev am_prog (d + 3)) Q 0 [some (.inr (.inl r)), some (.inl x1), some (.inl x2), o3, o4] [] (mo b r (ms S) V W) := by
  refine r_X5_readNumber_0 ?_
  simp only [mo_ty, true_or, or_true, true_and]
  exact H
theorem w_readNumber_2 {d : Nat} {Q : am_K} {b : am_H} {r : Nat} {S : am_G} {V : Nat → Int → Int} {W : Nat → Int} {x1 : Int} {x2 : Int} {o3 : Option am_V} {o4 : Option am_V} (H : am_W m_X5_readNumber (am_ev am_prog (d + 3)) Q 8 [some (.inr (.inl r)), some (.inl x1), some (.inl x2), some (.inl (W 46)), o4] [] (mo b r (ms S) V (am_up W 49 0))) : am_W m_X5_readNumber (am_ev am_prog (d + 3)) Q 2 [some (.inr (.inl r)), some (.inl x1), some (.inl x2), o3, o4] [] (mo b r (ms S) V W) := by
  refine r_X5_readNumber_2 ?_
  simp only [mo_ty, mo_i, mo_si, true_or, or_true, true_and]
  refine ?_
  exact H
theorem w_readNumber_8 {d : Nat} {Q : am_K} {b : am_H} {r : Nat} {S : am_G} {V : Nat → Int → Int} {W : Nat → Int} {x1 : Int} {x2 : Int} {x3 : Int} {o4 : Option am_V} (H : (W 45 ≤ W 46 → am_W m_X5_readNumber (am_ev am_prog (d + 3)) Q 54 [some (.inr (.inl r)), some (.inl x1), some (.inl x2), some (.inl x3), o4] [] (mo b r (ms S) V W)) ∧ (W 46 < W 45 → ((0 ≤ W 46 ∧ W 46 < 400)) ∧ ((V 4 (W 46) < 48 → am_W m_X5_readNumber (am_ev am_prog (d + 3)) Q 54 [some (.inr (.inl r)), some (.inl x1), some (.inl x2), some (.inl x3), o4] [] (mo b r (ms S) V W)) ∧ (48 ≤ V 4 (W 46) → ((0 ≤ W 46 ∧ W 46 < 400)) ∧ ((57 < V 4 (W 46) → am_W m_X5_readNumber (am_ev am_prog (d + 3)) Q 54 [some (.inr (.inl r)), some (.inl x1), some (.inl x2), some (.inl x3), o4] [] (mo b r (ms S) V W)) ∧ (V 4 (W 46) ≤ 57 → ((-2147483648 ≤ (W 46) - x3 ∧ (W 46) - x3 ≤ 2147483647)) ∧ ((4 ≤ (W 46) - x3 → ((-2147483648 ≤ (W 46) + 1 ∧ (W 46) + 1 ≤ 2147483647)) ∧ (am_W m_X5_readNumber (am_ev am_prog (d + 3)) Q 8 [some (.inr (.inl r)), some (.inl x1), some (.inl x2), some (.inl x3), o4] [] (mo b r (ms S) V (am_up W 46 ((W 46) + 1))))) ∧ ((W 46) - x3 < 4 → ((-2147483648 ≤ 10 * (W 49) ∧ 10 * (W 49) ≤ 2147483647) ∧ (0 ≤ W 46 ∧ W 46 < 400) ∧ (-2147483648 ≤ (10 * (W 49)) + (V 4 (W 46)) ∧ (10 * (W 49)) + (V 4 (W 46)) ≤ 2147483647) ∧ (-2147483648 ≤ ((10 * (W 49)) + (V 4 (W 46))) - 48 ∧ ((10 * (W 49)) + (V 4 (W 46))) - 48 ≤ 2147483647)) ∧ (((-2147483648 ≤ (W 46) + 1 ∧ (W 46) + 1 ≤ 2147483647)) ∧ (am_W m_X5_readNumber (am_ev am_prog (d + 3)) Q 8 [some (.inr (.inl r)), some (.inl x1), some (.inl x2), some (.inl x3), o4] [] (mo b r (ms S) V (am_up (am_up W 49 (((10 * (W 49)) + (V 4 (W 46))) - 48)) 46 ((W 46) + 1))))))))))))) : am_W m_X5_readNumber (am_ev am_prog (d + 3)) Q 8 [some (.inr (.inl r)), some (.inl x1), some (.inl x2), some (.inl x3), o4] [] (mo b r (ms S) V W) := by
  refine r_X5_readNumber_8 ?_
  simp only [mo_ty, mo_i, true_or, or_true, true_and]
  refine ⟨fun c => ?_, fun c => ?_⟩
  · replace H := H.1 c
    exact H
  · replace H := H.2 c
    obtain ⟨a1596, H⟩ := H
    refine r_X5_readNumber_13 ?_
    simp only [mo_ty, mo_f43, mo_i, mo_t4, mo_n4, mo_a4, true_or, or_true, true_and]
    refine ⟨a1596, ⟨fun c => ?_, fun c => ?_⟩⟩
    · replace H := H.1 c
      exact H
    · replace H := H.2 c
      obtain ⟨a1597, H⟩ := H
      refine r_X5_readNumber_20 ?_
      simp only [mo_ty, mo_f43, mo_i, mo_t4, mo_n4, mo_a4, true_or, or_true, true_and]
      refine ⟨a1597, ⟨fun c => ?_, fun c => ?_⟩⟩
      · replace H := H.1 c
        exact H
      · replace H := H.2 c
        obtain ⟨a1598, H⟩ := H
        refine r_X5_readNumber_27 ?_
        simp only [mo_ty, mo_i, true_or, or_true, true_and]
        refine ⟨a1598, ⟨fun c => ?_, fun c => ?_⟩⟩
        · replace H := H.1 c
          obtain ⟨a1599, H⟩ := H
          refine r_X5_readNumber_47 ?_
          simp only [mo_ty, mo_i, mo_si, true_or, or_true, true_and]
          refine ⟨a1599, ?_⟩
          refine r_X5_readNumber_53 ?_
          exact H
        · replace H := H.2 c
          obtain ⟨⟨a1600, a1601, a1602, a1603⟩, H⟩ := H
          refine r_X5_readNumber_33 ?_
          simp only [mo_ty, mo_i, mo_f43, mo_t4, mo_n4, mo_a4, mo_si, true_or, or_true, true_and]
          refine ⟨a1600, a1601, a1602, a1603, ?_⟩
          obtain ⟨a1604, H⟩ := H
          refine r_X5_readNumber_47 ?_
          simp only [mo_ty, mo_i, am_up_ne (by decide : (46 : Nat) ≠ 49), mo_si, true_or, or_true, true_and]
          refine ⟨a1604, ?_⟩
          refine r_X5_readNumber_53 ?_
          exact H
theorem w_readNumber_54 {d : Nat} {Q : am_K} {b : am_H} {r : Nat} {S : am_G} {V : Nat → Int → Int} {W : Nat → Int} {x1 : Int} {x2 : Int} {x3 : Int} {o4 : Option am_V} (H : (W 46 ≤ x3 → Q (.inl (some (.inl 0))) (mo b r (ms S) V (am_up W 47 x3))) ∧ (x3 < W 46 → ((-2147483648 ≤ (W 46) - x3 ∧ (W 46) - x3 ≤ 2147483647)) ∧ ((4 < (W 46) - x3 → Q (.inl (some (.inl 0))) (mo b r (ms S) V (am_up W 47 x3))) ∧ ((W 46) - x3 ≤ 4 → (x1 ≤ W 49 ∧ W 49 ≤ x2 → Q (.inl (some (.inl (am_b (x1 ≤ W 49 ∧ W 49 ≤ x2))))) (mo b r (ms S) V W)) ∧ (¬ (x1 ≤ W 49 ∧ W 49 ≤ x2) → Q (.inl (some (.inl (am_b (x1 ≤ W 49 ∧ W 49 ≤ x2))))) (mo b r (ms S) V (am_up W 47 x3))))))) : am_W m_X5_readNumber (am_ev am_prog (d + 3)) Q 54 [some (.inr (.inl r)), some (.inl x1), some (.inl x2), some (.inl x3), o4] [] (mo b r (ms S) V W) := by
  refine r_X5_readNumber_54 ?_
  simp only [mo_ty, mo_i, true_or, or_true, true_and]
  refine ⟨fun c => ?_, fun c => ?_⟩
  · replace H := H.1 c
    refine r_X5_readNumber_72 ?_
    refine r_X5_readNumber_73 ?_
    refine ⟨fun c => absurd c (by decide), fun c => ?_⟩
    refine r_X5_readNumber_76 ?_
    simp only [mo_ty, mo_si, true_or, or_true, true_and]
    refine ?_
    refine r_X5_readNumber_79 ?_
    exact ⟨(by decide), H⟩
  · replace H := H.2 c
    obtain ⟨a1605, H⟩ := H
    refine r_X5_readNumber_58 ?_
    simp only [mo_ty, mo_i, true_or, or_true, true_and]
    refine ⟨a1605, ⟨fun c => ?_, fun c => ?_⟩⟩
    · replace H := H.1 c
      refine r_X5_readNumber_72 ?_
      refine r_X5_readNumber_73 ?_
      refine ⟨fun c => absurd c (by decide), fun c => ?_⟩
      refine r_X5_readNumber_76 ?_
      simp only [mo_ty, mo_si, true_or, or_true, true_and]
      refine ?_
      refine r_X5_readNumber_79 ?_
      exact ⟨(by decide), H⟩
    · replace H := H.2 c
      refine r_X5_readNumber_64 ?_
      simp only [mo_ty, mo_i, true_or, or_true, true_and]
      refine ?_
      refine c_isIn (am_av ?_)
      have J : ∀ y : Int, y = am_b (x1 ≤ W 49 ∧ W 49 ≤ x2) → am_W m_X5_readNumber (am_ev am_prog (d + 3)) Q 73 [some (.inr (.inl r)), some (.inl x1), some (.inl x2), some (.inl x3), o4] [.inl y] (mo b r (ms S) V W) := by
        intro y hy
        subst hy
        refine r_X5_readNumber_73 ?_
        refine ⟨fun c => ?_, fun c => ?_⟩
        · replace c := am_b1 c
          replace H := H.1 c
          refine r_X5_readNumber_79 ?_
          exact ⟨(am_bz _), H⟩
        · replace c := am_b0 c
          replace H := H.2 c
          refine r_X5_readNumber_76 ?_
          simp only [mo_ty, mo_si, true_or, or_true, true_and]
          refine ?_
          refine r_X5_readNumber_79 ?_
          exact ⟨(am_bz _), H⟩
      refine r_X5_readNumber_69 ?_
      refine ⟨fun c => ?_, fun c => ?_⟩
      · replace c := am_b0 c
        exact r_X5_readNumber_72 (J _ (am_bf (by omega)).symm)
      · replace c := am_b1 c
        exact r_X5_readNumber_70 (J _ (am_bt c).symm)
theorem w_keeps_0 {d : Nat} {Q : am_K} {b : am_H} {r : Nat} {S : am_G} {V : Nat → Int → Int} {W : Nat → Int} {x1 : Int} {x2 : Int} {x3 : Int} {o4 : Option am_V} {o5 : Option am_V} {o6 : Option am_V} (H : (x2 ≠ W 89 → ((0 ≤ x2 ∧ x2 < 4) ∧ (-2147483648 ≤ 110 + (V 27 x2) ∧ 110 + (V 27 x2) ≤ 2147483647) ∧ (0 ≤ V 27 x2 ∧ V 27 x2 < 20)) ∧ (am_W m_X5_keeps (am_ev am_prog (d + 3)) Q 52 [some (.inr (.inl r)), some (.inl x1), some (.inl x2), some (.inl x3), some (.inl (V 28 x2)), some (.inl (S 2 2 (V 27 x2))), o6] [] (mo b r (ms S) V W))) ∧ (x2 = W 89 → (W 90 < x3 → am_W m_X5_keeps (am_ev am_prog (d + 3)) Q 14 [some (.inr (.inl r)), some (.inl x1), some (.inl x2), some (.inl x3), some (.inl 0), o5, o6] [] (mo b r (ms S) V (am_up W 90 x3))) ∧ (x3 ≤ W 90 → Q (.inl none) (mo b r (ms S) V W)))) : am_W m_X5_keeps (am_ev am_prog (d + 3)) Q 0 [some (.inr (.inl r)), some (.inl x1), some (.inl x2), some (.inl x3), o4, o5, o6] [] (mo b r (ms S) V W) := by
  refine r_X5_keeps_0 ?_
  simp only [mo_ty, mo_i, true_or, or_true, true_and]
  refine ⟨fun c => ?_, fun c => ?_⟩
  · replace H := H.1 c
    obtain ⟨⟨a1606, a1607, a1608⟩, H⟩ := H
    refine r_X5_keeps_37 ?_
    simp only [mo_ty, mo_f84, mo_t28, mo_n28, mo_a28, mo_f39, mo_f83, mo_t27, mo_n27, mo_a27, mo_t1, mo_n1, mo_a1, ms_r2 (k := 110 + (V 27 x2)) (p := 2) (i := V 27 x2) (by omega) (by omega) (by omega), true_or, or_true, true_and]
    refine ⟨a1606, a1606, a1607, (by omega), ?_⟩
    exact H
  · replace H := H.2 c
    refine r_X5_keeps_4 ?_
    simp only [mo_ty, mo_i, true_or, or_true, true_and]
    refine ⟨fun c => ?_, fun c => ?_⟩
    · replace H := H.1 c
      refine r_X5_keeps_9 ?_
      simp only [mo_ty, mo_si, true_or, or_true, true_and]
      refine ?_
      refine r_X5_keeps_12 ?_
      exact H
    · replace H := H.2 c
      refine r_X5_keeps_8 ?_
      exact H
theorem w_keeps_14 {d : Nat} {Q : am_K} {b : am_H} {r : Nat} {S : am_G} {V : Nat → Int → Int} {W : Nat → Int} {x1 : Int} {x2 : Int} {x3 : Int} {x4 : Int} {o5 : Option am_V} {o6 : Option am_V} (H : (W 89 ≤ x4 → Q (.inl none) (mo b r (ms S) V W)) ∧ (x4 < W 89 → ((0 ≤ x4 ∧ x4 < 4)) ∧ (((0 ≤ x4 ∧ x4 < 4)) ∧ (((-2147483648 ≤ x4 + 1 ∧ x4 + 1 ≤ 2147483647)) ∧ (am_W m_X5_keeps (am_ev am_prog (d + 3)) Q 14 [some (.inr (.inl r)), some (.inl x1), some (.inl x2), some (.inl x3), some (.inl (x4 + 1)), o5, o6] [] (mo b r (ms S) (am_up (am_up V 30 (am_uz (V 30) x4 (V 28 x4))) 31 (am_uz (V 31) x4 (V 29 x4))) W)))))) : am_W m_X5_keeps (am_ev am_prog (d + 3)) Q 14 [some (.inr (.inl r)), some (.inl x1), some (.inl x2), some (.inl x3), some (.inl x4), o5, o6] [] (mo b r (ms S) V W) := by
  refine r_X5_keeps_14 ?_
  simp only [mo_ty, mo_i, true_or, or_true, true_and]
  refine ⟨fun c => ?_, fun c => ?_⟩
  · replace H := H.1 c
    refine r_X5_keeps_36 ?_
    exact H
  · replace H := H.2 c
    obtain ⟨a1609, H⟩ := H
    refine r_X5_keeps_18 ?_
    simp only [mo_ty, mo_f86, mo_f84, mo_t28, mo_n28, mo_a28, mo_t30, mo_n30, mo_s30, true_or, or_true, true_and]
    refine ⟨a1609, a1609, ?_⟩
    obtain ⟨a1610, H⟩ := H
    refine r_X5_keeps_26 ?_
    simp only [mo_ty, mo_f87, mo_f85, mo_t29, mo_n29, mo_a29, am_up_ne (by decide : (29 : Nat) ≠ 30), mo_t31, mo_n31, mo_s31, am_up_ne (by decide : (31 : Nat) ≠ 30), true_or, or_true, true_and]
    refine ⟨a1610, a1610, ?_⟩
    obtain ⟨a1611, H⟩ := H
    refine r_X5_keeps_34 ?_
    refine ⟨a1611, ?_⟩
    exact H
theorem w_keeps_52 {d : Nat} {Q : am_K} {b : am_H} {r : Nat} {S : am_G} {V : Nat → Int → Int} {W : Nat → Int} {x1 : Int} {x2 : Int} {x3 : Int} {x4 : Int} {x5 : Int} {o6 : Option am_V} (H : (x5 ≤ 0 → Q (.inl none) (mo b r (ms S) V W)) ∧ (0 < x5 → ((0 ≤ x2 ∧ x2 < 4)) ∧ (am_ev am_prog (d + 3) 376 [.inr (.inl r), .inl (V 27 x2), .inl x5] (mo b r (ms S) V W) (am_aft (am_hand m_X5_keeps Q (am_W m_X5_keeps (am_ev am_prog (d + 3)) Q) 60) (am_W m_X5_keeps (am_ev am_prog (d + 3)) Q) 60 [some (.inr (.inl r)), some (.inl x1), some (.inl x2), some (.inl x3), some (.inl x4), some (.inl x5), o6] [])))) : am_W m_X5_keeps (am_ev am_prog (d + 3)) Q 52 [some (.inr (.inl r)), some (.inl x1), some (.inl x2), some (.inl x3), some (.inl x4), some (.inl x5), o6] [] (mo b r (ms S) V W) := by
  refine r_X5_keeps_52 ?_
  refine ⟨fun c => ?_, fun c => ?_⟩
  · replace H := H.1 c
    refine r_X5_keeps_112 ?_
    exact H
  · replace H := H.2 c
    obtain ⟨a1612, H⟩ := H
    refine r_X5_keeps_54 ?_
    simp only [mo_ty, mo_f83, mo_t27, mo_n27, mo_a27, true_or, or_true, true_and]
    exact ⟨a1612, H⟩
theorem w_keeps_61 {d : Nat} {Q : am_K} {b : am_H} {r : Nat} {S : am_G} {V : Nat → Int → Int} {W : Nat → Int} {x1 : Int} {x2 : Int} {x3 : Int} {x4 : Int} {x5 : Int} {o6 : Option am_V} {y0 : Int} (H : ((0 ≤ x4 ∧ x4 < 3) ∧ (-2147483648 ≤ (V 32 x4) + y0 ∧ (V 32 x4) + y0 ≤ 2147483647) ∧ (-2147483648 ≤ 185 * x1 ∧ 185 * x1 ≤ 2147483647) ∧ (-2147483648 ≤ 327382 + (185 * x1) ∧ 327382 + (185 * x1) ≤ 2147483647) ∧ (-2147483648 ≤ (327382 + (185 * x1)) + 1 ∧ (327382 + (185 * x1)) + 1 ≤ 2147483647) ∧ (0 ≤ x1 ∧ x1 < 6)) ∧ (((V 32 x4) + y0 ≤ S 8 x1 1 → ((0 ≤ x4 ∧ x4 < 3) ∧ (-2147483648 ≤ (V 32 x4) + y0 ∧ (V 32 x4) + y0 ≤ 2147483647)) ∧ (((0 ≤ x2 ∧ x2 < 4)) ∧ (((-2147483648 ≤ x2 + 1 ∧ x2 + 1 ≤ 2147483647) ∧ (-2147483648 ≤ x3 + y0 ∧ x3 + y0 ≤ 2147483647)) ∧ (am_ev am_prog (d + 3) 337 [.inr (.inl r), .inl x1, .inl (x2 + 1), .inl (x3 + y0)] (mo b r (ms S) (am_up (am_up V 32 (am_uz (V 32) x4 ((V 32 x4) + y0))) 29 (am_uz (V 29) x2 x5)) W) (am_aft (am_hand m_X5_keeps Q (am_W m_X5_keeps (am_ev am_prog (d + 3)) Q) 101) (am_W m_X5_keeps (am_ev am_prog (d + 3)) Q) 101 [some (.inr (.inl r)), some (.inl x1), some (.inl x2), some (.inl x3), some (.inl x4), some (.inl x5), some (.inl y0)] []))))) ∧ (S 8 x1 1 < (V 32 x4) + y0 → ((-2147483648 ≤ x5 + (-1) ∧ x5 + (-1) ≤ 2147483647)) ∧ (am_W m_X5_keeps (am_ev am_prog (d + 3)) Q 52 [some (.inr (.inl r)), some (.inl x1), some (.inl x2), some (.inl x3), some (.inl x4), some (.inl (x5 + (-1))), some (.inl y0)] [] (mo b r (ms S) V W))))) : am_W m_X5_keeps (am_ev am_prog (d + 3)) Q 61 [some (.inr (.inl r)), some (.inl x1), some (.inl x2), some (.inl x3), some (.inl x4), some (.inl x5), o6] [.inl y0] (mo b r (ms S) V W) := by
  obtain ⟨⟨a1613, a1614, a1615, a1616, a1617, a1618⟩, H⟩ := H
  refine r_X5_keeps_61 ?_
  simp only [mo_ty, mo_f88, mo_t32, mo_n32, mo_a32, mo_f39, mo_t1, mo_n1, mo_a1, ms_r8 (k := (327382 + (185 * x1)) + 1) (p := x1) (i := 1) (by omega) (by omega) (by omega), true_or, or_true, true_and]
  refine ⟨a1613, a1614, a1615, a1616, a1617, (by omega), ⟨fun c => ?_, fun c => ?_⟩⟩
  · replace H := H.1 c
    obtain ⟨⟨a1619, a1620⟩, H⟩ := H
    refine r_X5_keeps_80 ?_
    simp only [mo_ty, mo_f88, mo_t32, mo_n32, mo_a32, mo_s32, true_or, or_true, true_and]
    refine ⟨a1619, a1620, a1619, ?_⟩
    obtain ⟨a1621, H⟩ := H
    refine r_X5_keeps_88 ?_
    simp only [mo_ty, mo_f85, mo_t29, mo_n29, mo_s29, am_up_ne (by decide : (29 : Nat) ≠ 32), true_or, or_true, true_and]
    refine ⟨a1621, ?_⟩
    obtain ⟨⟨a1622, a1623⟩, H⟩ := H
    refine r_X5_keeps_93 ?_
    simp only [mo_ty, true_or, or_true, true_and]
    exact ⟨a1622, a1623, H⟩
  · replace H := H.2 c
    refine r_X5_keeps_79 ?_
    obtain ⟨a1624, H⟩ := H
    refine r_X5_keeps_110 ?_
    refine ⟨a1624, ?_⟩
    exact H
theorem w_keeps_102 {d : Nat} {Q : am_K} {b : am_H} {r : Nat} {S : am_G} {V : Nat → Int → Int} {W : Nat → Int} {x1 : Int} {x2 : Int} {x3 : Int} {x4 : Int} {x5 : Int} {x6 : Int} (H : ((0 ≤ x4 ∧ x4 < 3) ∧ (-2147483648 ≤ (V 32 x4) - x6 ∧ (V 32 x4) - x6 ≤ 2147483647)) ∧ (((-2147483648 ≤ x5 + (-1) ∧ x5 + (-1) ≤ 2147483647)) ∧ (am_W m_X5_keeps (am_ev am_prog (d + 3)) Q 52 [some (.inr (.inl r)), some (.inl x1), some (.inl x2), some (.inl x3), some (.inl x4), some (.inl (x5 + (-1))), some (.inl x6)] [] (mo b r (ms S) (am_up V 32 (am_uz (V 32) x4 ((V 32 x4) - x6))) W)))) : am_W m_X5_keeps (am_ev am_prog (d + 3)) Q 102 [some (.inr (.inl r)), some (.inl x1), some (.inl x2), some (.inl x3), some (.inl x4), some (.inl x5), some (.inl x6)] [] (mo b r (ms S) V W) := by
  obtain ⟨⟨a1625, a1626⟩, H⟩ := H
  refine r_X5_keeps_102 ?_
  simp only [mo_ty, mo_f88, mo_t32, mo_n32, mo_a32, mo_s32, true_or, or_true, true_and]
  refine ⟨a1625, a1626, a1625, ?_⟩
  obtain ⟨a1627, H⟩ := H
  refine r_X5_keeps_110 ?_
  refine ⟨a1627, ?_⟩
  exact H
theorem w_wordEnd_0 {d : Nat} {Q : am_K} {b : am_H} {r : Nat} {S : am_G} {V : Nat → Int → Int} {W : Nat → Int} {o1 : Option am_V} (H : am_W m_X5_wordEnd (am_ev am_prog (d + 3)) Q 3 [some (.inr (.inl r)), some (.inl (W 46))] [] (mo b r (ms S) V W)) : am_W m_X5_wordEnd (am_ev am_prog (d + 3)) Q 0 [some (.inr (.inl r)), o1] [] (mo b r (ms S) V W) := by
  refine r_X5_wordEnd_0 ?_
  simp only [mo_ty, mo_i, true_or, or_true, true_and]
  refine ?_
  exact H
theorem w_wordEnd_3 {d : Nat} {Q : am_K} {b : am_H} {r : Nat} {S : am_G} {V : Nat → Int → Int} {W : Nat → Int} {x1 : Int} (H : (W 45 ≤ x1 → Q (.inl (some (.inl x1))) (mo b r (ms S) V W)) ∧ (x1 < W 45 → ((0 ≤ x1 ∧ x1 < 400)) ∧ ((¬ (97 ≤ V 4 x1 ∧ V 4 x1 ≤ 122) → Q (.inl (some (.inl x1))) (mo b r (ms S) V W)) ∧ (97 ≤ V 4 x1 ∧ V 4 x1 ≤ 122 → ((-2147483648 ≤ x1 + 1 ∧ x1 + 1 ≤ 2147483647)) ∧ (am_W m_X5_wordEnd (am_ev am_prog (d + 3)) Q 3 [some (.inr (.inl r)), some (.inl (x1 + 1))] [] (mo b r (ms S) V W)))))) : am_W m_X5_wordEnd (am_ev am_prog (d + 3)) Q 3 [some (.inr (.inl r)), some (.inl x1)] [] (mo b r (ms S) V W) := by
  refine r_X5_wordEnd_3 ?_
  simp only [mo_ty, mo_i, true_or, or_true, true_and]
  refine ⟨fun c => ?_, fun c => ?_⟩
  · replace H := H.1 c
    refine r_X5_wordEnd_15 ?_
    exact H
  · replace H := H.2 c
    obtain ⟨a1628, H⟩ := H
    refine r_X5_wordEnd_7 ?_
    simp only [mo_ty, mo_f43, mo_t4, mo_n4, mo_a4, true_or, or_true, true_and]
    refine ⟨a1628, ?_⟩
    refine c_isLetter (am_av ?_)
    refine r_X5_wordEnd_12 ?_
    refine ⟨fun c => ?_, fun c => ?_⟩
    · replace c := am_b0 c
      replace H := H.1 c
      refine r_X5_wordEnd_15 ?_
      exact H
    · replace c := am_b1 c
      replace H := H.2 c
      obtain ⟨a1629, H⟩ := H
      refine r_X5_wordEnd_13 ?_
      refine ⟨a1629, ?_⟩
      exact H
theorem w_readAny_0 {d : Nat} {Q : am_K} {b : am_H} {r : Nat} {S : am_G} {V : Nat → Int → Int} {W : Nat → Int}  (H : am_ev am_prog (d + 3) 387 [.inr (.inl r)] (mo b r (ms S) V W) (am_aft (am_hand m_X5_readAny Q (am_W m_X5_readAny (am_ev am_prog (d + 3)) Q) 1) (am_W m_X5_readAny (am_ev am_prog (d + 3)) Q) 1 [some (.inr (.inl r))] [])) : am_W m_X5_readAny (am_ev am_prog (d + 3)) Q 0 [some (.inr (.inl r))] [] (mo b r (ms S) V W) := by
  refine r_X5_readAny_0 ?_
  simp only [mo_ty, true_or, or_true, true_and]
  exact H
theorem w_readAny_2 {d : Nat} {Q : am_K} {b : am_H} {r : Nat} {S : am_G} {V : Nat → Int → Int} {W : Nat → Int} {y0 : Int} (H : ((y0 : Int) ≠ 0 → am_W m_X5_readAny (am_ev am_prog (d + 3)) Q 5 [some (.inr (.inl r))] [] (mo b r (ms S) V W)) ∧ ((y0 : Int) = 0 → Q (.inl (some (.inl 0))) (mo b r (ms S) V W))) : am_W m_X5_readAny (am_ev am_prog (d + 3)) Q 2 [some (.inr (.inl r))] [.inl y0] (mo b r (ms S) V W) := by
  refine r_X5_readAny_2 ?_
  refine ⟨fun c => ?_, fun c => ?_⟩
  · replace H := H.1 c
    exact H
  · replace H := H.2 c
    refine r_X5_readAny_3 ?_
    exact ⟨(by decide), H⟩
theorem w_readAny_5 {d : Nat} {Q : am_K} {b : am_H} {r : Nat} {S : am_G} {V : Nat → Int → Int} {W : Nat → Int}  (H : am_ev am_prog (d + 3) 323 [.inr (.inl r), .inr (.inl (am_cs b 22))] (mo b r (ms S) V W) (am_aft (am_hand m_X5_readAny Q (am_W m_X5_readAny (am_ev am_prog (d + 3)) Q) 7) (am_W m_X5_readAny (am_ev am_prog (d + 3)) Q) 7 [some (.inr (.inl r))] [])) : am_W m_X5_readAny (am_ev am_prog (d + 3)) Q 5 [some (.inr (.inl r))] [] (mo b r (ms S) V W) := by
  refine r_X5_readAny_5 ?_
  simp only [mo_cs, mo_ty, true_or, or_true, true_and]
  exact H
theorem w_readAny_8 {d : Nat} {Q : am_K} {b : am_H} {r : Nat} {S : am_G} {V : Nat → Int → Int} {W : Nat → Int} {y0 : Int} (H : ((y0 : Int) = 0 → Q (.inl (some (.inl 1))) (mo b r (ms S) V W)) ∧ ((y0 : Int) ≠ 0 → am_ev am_prog (d + 3) 387 [.inr (.inl r)] (mo b r (ms S) V W) (am_aft (am_hand m_X5_readAny Q (am_W m_X5_readAny (am_ev am_prog (d + 3)) Q) 10) (am_W m_X5_readAny (am_ev am_prog (d + 3)) Q) 10 [some (.inr (.inl r))] []))) : am_W m_X5_readAny (am_ev am_prog (d + 3)) Q 8 [some (.inr (.inl r))] [.inl y0] (mo b r (ms S) V W) := by
  refine r_X5_readAny_8 ?_
  refine ⟨fun c => ?_, fun c => ?_⟩
  · replace H := H.1 c
    refine r_X5_readAny_18 ?_
    exact ⟨(by decide), H⟩
  · replace H := H.2 c
    refine r_X5_readAny_9 ?_
    simp only [mo_ty, true_or, or_true, true_and]
    exact H
theorem w_readAny_11 {d : Nat} {Q : am_K} {b : am_H} {r : Nat} {S : am_G} {V : Nat → Int → Int} {W : Nat → Int} {y0 : Int} (H : ((y0 : Int) ≠ 0 → am_ev am_prog (d + 3) 388 [.inr (.inl r), .inl 6] (mo b r (ms S) V W) (am_aft (am_hand m_X5_readAny Q (am_W m_X5_readAny (am_ev am_prog (d + 3)) Q) 16) (am_W m_X5_readAny (am_ev am_prog (d + 3)) Q) 16 [some (.inr (.inl r))] [])) ∧ ((y0 : Int) = 0 → Q (.inl (some (.inl 0))) (mo b r (ms S) V W))) : am_W m_X5_readAny (am_ev am_prog (d + 3)) Q 11 [some (.inr (.inl r))] [.inl y0] (mo b r (ms S) V W) := by
  refine r_X5_readAny_11 ?_
  refine ⟨fun c => ?_, fun c => ?_⟩
  · replace H := H.1 c
    refine r_X5_readAny_14 ?_
    simp only [mo_ty, true_or, or_true, true_and]
    exact H
  · replace H := H.2 c
    refine r_X5_readAny_12 ?_
    exact ⟨(by decide), H⟩
theorem w_readAny_17 {d : Nat} {Q : am_K} {b : am_H} {r : Nat} {S : am_G} {V : Nat → Int → Int} {W : Nat → Int}  (H : am_W m_X5_readAny (am_ev am_prog (d + 3)) Q 5 [some (.inr (.inl r))] [] (mo b r (ms S) V W)) : am_W m_X5_readAny (am_ev am_prog (d + 3)) Q 17 [some (.inr (.inl r))] [] (mo b r (ms S) V W) := by
  refine r_X5_readAny_17 ?_
  exact H
theorem w_linesOf_0 {d : Nat} {Q : am_K} {b : am_H} {r : Nat} {S : am_G} {V : Nat → Int → Int} {W : Nat → Int} {x1 : Int} {x2 : Int} {o3 : Option am_V} {o4 : Option am_V} (H : am_W m_X5_linesOf (am_ev am_prog (d + 3)) Q 4 [some (.inr (.inl r)), some (.inl x1), some (.inl x2), some (.inl 0), some (.inl 0)] [] (mo b r (ms S) V W)) : am_W m_X5_linesOf (am_ev am_prog (d + 3)) Q 0 [some (.inr (.inl r)), some (.inl x1), some (.inl x2), o3, o4] [] (mo b r (ms S) V W) := by
  refine r_X5_linesOf_0 ?_
  exact H
theorem w_linesOf_4 {d : Nat} {Q : am_K} {b : am_H} {r : Nat} {S : am_G} {V : Nat → Int → Int} {W : Nat → Int} {x1 : Int} {x2 : Int} {x3 : Int} {x4 : Int} (H : (x2 ≤ x4 → Q (.inl (some (.inl x3))) (mo b r (ms S) V W)) ∧ (x4 < x2 → ((-2147483648 ≤ 5 * x1 ∧ 5 * x1 ≤ 2147483647) ∧ (-2147483648 ≤ (5 * x1) + x4 ∧ (5 * x1) + x4 ≤ 2147483647)) ∧ (((0 ≤ (5 * x1) + x4 ∧ (5 * x1) + x4 < 3000000)) ∧ (((-2147483648 ≤ (130 + 645 * ((5 * x1) + x4)) + 4 ∧ (130 + 645 * ((5 * x1) + x4)) + 4 ≤ 2147483647) ∧ (0 ≤ (5 * x1) + x4 ∧ (5 * x1) + x4 < 100) ∧ (-2147483648 ≤ x3 + (S 3 ((5 * x1) + x4) 4) ∧ x3 + (S 3 ((5 * x1) + x4) 4) ≤ 2147483647) ∧ (-2147483648 ≤ x4 + 1 ∧ x4 + 1 ≤ 2147483647)) ∧ (am_W m_X5_linesOf (am_ev am_prog (d + 3)) Q 4 [some (.inr (.inl r)), some (.inl x1), some (.inl x2), some (.inl (x3 + (S 3 ((5 * x1) + x4) 4))), some (.inl (x4 + 1))] [] (mo b r (ms S) V W)))))) : am_W m_X5_linesOf (am_ev am_prog (d + 3)) Q 4 [some (.inr (.inl r)), some (.inl x1), some (.inl x2), some (.inl x3), some (.inl x4)] [] (mo b r (ms S) V W) := by
  refine r_X5_linesOf_4 ?_
  refine ⟨fun c => ?_, fun c => ?_⟩
  · replace H := H.1 c
    refine r_X5_linesOf_23 ?_
    exact H
  · replace H := H.2 c
    obtain ⟨⟨a1630, a1631⟩, H⟩ := H
    refine r_X5_linesOf_7 ?_
    simp only [mo_ty, mo_f39, true_or, or_true, true_and]
    refine ⟨a1630, a1631, ?_⟩
    obtain ⟨a1632, H⟩ := H
    refine c_part0 (by omega) (am_av ?_)
    obtain ⟨⟨a1633, a1634, a1635, a1636⟩, H⟩ := H
    refine r_X5_linesOf_16 ?_
    simp only [mo_t1, mo_n1, mo_a1, ms_r3 (k := (130 + 645 * ((5 * x1) + x4)) + 4) (p := (5 * x1) + x4) (i := 4) (by omega) (by omega) (by omega), true_or, or_true, true_and]
    refine ⟨a1633, (by omega), a1635, a1636, ?_⟩
    exact H
theorem w_readAll_0 {d : Nat} {Q : am_K} {b : am_H} {r : Nat} {S : am_G} {V : Nat → Int → Int} {W : Nat → Int}  (H : am_ev am_prog (d + 3) 403 [.inr (.inl r)] (mo b r (ms S) V W) (am_aft (am_hand m_X5_readAll Q (am_W m_X5_readAll (am_ev am_prog (d + 3)) Q) 1) (am_W m_X5_readAll (am_ev am_prog (d + 3)) Q) 1 [some (.inr (.inl r))] [])) : am_W m_X5_readAll (am_ev am_prog (d + 3)) Q 0 [some (.inr (.inl r))] [] (mo b r (ms S) V W) := by
  refine r_X5_readAll_0 ?_
  simp only [mo_ty, true_or, or_true, true_and]
  exact H
theorem w_readAll_2 {d : Nat} {Q : am_K} {b : am_H} {r : Nat} {S : am_G} {V : Nat → Int → Int} {W : Nat → Int} {y0 : Int} (H : ((y0 : Int) ≠ 0 → am_W m_X5_readAll (am_ev am_prog (d + 3)) Q 5 [some (.inr (.inl r))] [] (mo b r (ms S) V W)) ∧ ((y0 : Int) = 0 → Q (.inl (some (.inl 0))) (mo b r (ms S) V W))) : am_W m_X5_readAll (am_ev am_prog (d + 3)) Q 2 [some (.inr (.inl r))] [.inl y0] (mo b r (ms S) V W) := by
  refine r_X5_readAll_2 ?_
  refine ⟨fun c => ?_, fun c => ?_⟩
  · replace H := H.1 c
    exact H
  · replace H := H.2 c
    refine r_X5_readAll_3 ?_
    exact ⟨(by decide), H⟩
theorem w_readAll_5 {d : Nat} {Q : am_K} {b : am_H} {r : Nat} {S : am_G} {V : Nat → Int → Int} {W : Nat → Int}  (H : am_ev am_prog (d + 3) 323 [.inr (.inl r), .inr (.inl (am_cs b 26))] (mo b r (ms S) V W) (am_aft (am_hand m_X5_readAll Q (am_W m_X5_readAll (am_ev am_prog (d + 3)) Q) 7) (am_W m_X5_readAll (am_ev am_prog (d + 3)) Q) 7 [some (.inr (.inl r))] [])) : am_W m_X5_readAll (am_ev am_prog (d + 3)) Q 5 [some (.inr (.inl r))] [] (mo b r (ms S) V W) := by
  refine r_X5_readAll_5 ?_
  simp only [mo_cs, mo_ty, true_or, or_true, true_and]
  exact H
theorem w_readAll_8 {d : Nat} {Q : am_K} {b : am_H} {r : Nat} {S : am_G} {V : Nat → Int → Int} {W : Nat → Int} {y0 : Int} (H : ((y0 : Int) = 0 → Q (.inl (some (.inl 1))) (mo b r (ms S) V W)) ∧ ((y0 : Int) ≠ 0 → am_ev am_prog (d + 3) 403 [.inr (.inl r)] (mo b r (ms S) V W) (am_aft (am_hand m_X5_readAll Q (am_W m_X5_readAll (am_ev am_prog (d + 3)) Q) 10) (am_W m_X5_readAll (am_ev am_prog (d + 3)) Q) 10 [some (.inr (.inl r))] []))) : am_W m_X5_readAll (am_ev am_prog (d + 3)) Q 8 [some (.inr (.inl r))] [.inl y0] (mo b r (ms S) V W) := by
  refine r_X5_readAll_8 ?_
  refine ⟨fun c => ?_, fun c => ?_⟩
  · replace H := H.1 c
    refine r_X5_readAll_18 ?_
    exact ⟨(by decide), H⟩
  · replace H := H.2 c
    refine r_X5_readAll_9 ?_
    simp only [mo_ty, true_or, or_true, true_and]
    exact H
theorem w_readAll_11 {d : Nat} {Q : am_K} {b : am_H} {r : Nat} {S : am_G} {V : Nat → Int → Int} {W : Nat → Int} {y0 : Int} (H : ((y0 : Int) ≠ 0 → am_ev am_prog (d + 3) 388 [.inr (.inl r), .inl 5] (mo b r (ms S) V W) (am_aft (am_hand m_X5_readAll Q (am_W m_X5_readAll (am_ev am_prog (d + 3)) Q) 16) (am_W m_X5_readAll (am_ev am_prog (d + 3)) Q) 16 [some (.inr (.inl r))] [])) ∧ ((y0 : Int) = 0 → Q (.inl (some (.inl 0))) (mo b r (ms S) V W))) : am_W m_X5_readAll (am_ev am_prog (d + 3)) Q 11 [some (.inr (.inl r))] [.inl y0] (mo b r (ms S) V W) := by
  refine r_X5_readAll_11 ?_
  refine ⟨fun c => ?_, fun c => ?_⟩
  · replace H := H.1 c
    refine r_X5_readAll_14 ?_
    simp only [mo_ty, true_or, or_true, true_and]
    exact H
  · replace H := H.2 c
    refine r_X5_readAll_12 ?_
    exact ⟨(by decide), H⟩
theorem w_readAll_17 {d : Nat} {Q : am_K} {b : am_H} {r : Nat} {S : am_G} {V : Nat → Int → Int} {W : Nat → Int}  (H : am_W m_X5_readAll (am_ev am_prog (d + 3)) Q 5 [some (.inr (.inl r))] [] (mo b r (ms S) V W)) : am_W m_X5_readAll (am_ev am_prog (d + 3)) Q 17 [some (.inr (.inl r))] [] (mo b r (ms S) V W) := by
  refine r_X5_readAll_17 ?_
  exact H
theorem w_act_0 {d : Nat} {Q : am_K} {b : am_H} {r : Nat} {S : am_G} {V : Nat → Int → Int} {W : Nat → Int} {x1 : Int} (H : ((0 ≤ W 58 ∧ W 58 < 562)) ∧ (((-2147483648 ≤ (W 58) + 1 ∧ (W 58) + 1 ≤ 2147483647)) ∧ (Q (.inl none) (mo b r (ms S) (am_up V 10 (am_uz (V 10) (W 58) x1)) (am_up W 58 ((W 58) + 1)))))) : am_W m_X5_act (am_ev am_prog (d + 3)) Q 0 [some (.inr (.inl r)), some (.inl x1)] [] (mo b r (ms S) V W) := by
  obtain ⟨a1637, H⟩ := H
  refine r_X5_act_0 ?_
  simp only [mo_ty, mo_f56, mo_i, mo_t10, mo_n10, mo_s10, true_or, or_true, true_and]
  refine ⟨a1637, ?_⟩
  obtain ⟨a1638, H⟩ := H
  refine r_X5_act_6 ?_
  simp only [mo_ty, mo_i, mo_si, true_or, or_true, true_and]
  refine ⟨a1638, ?_⟩
  refine r_X5_act_12 ?_
  exact H
theorem w_readAtom_0 {d : Nat} {Q : am_K} {b : am_H} {r : Nat} {S : am_G} {V : Nat → Int → Int} {W : Nat → Int} {o1 : Option am_V} {o2 : Option am_V} {o3 : Option am_V} {o4 : Option am_V} {o5 : Option am_V} {o6 : Option am_V} (H : am_ev am_prog (d + 3) 256 [.inr (.inl r)] (mo b r (ms S) V W) (am_aft (am_hand m_X5_readAtom Q (am_W m_X5_readAtom (am_ev am_prog (d + 3)) Q) 1) (am_W m_X5_readAtom (am_ev am_prog (d + 3)) Q) 1 [some (.inr (.inl r)), o1, o2, o3, o4, o5, o6] [])) : am_W m_X5_readAtom (am_ev am_prog (d + 3)) Q 0 [some (.inr (.inl r)), o1, o2, o3, o4, o5, o6] [] (mo b r (ms S) V W) := by
  refine r_X5_readAtom_0 ?_
  simp only [mo_ty, true_or, or_true, true_and]
  exact H
theorem w_readAtom_2 {d : Nat} {Q : am_K} {b : am_H} {r : Nat} {S : am_G} {V : Nat → Int → Int} {W : Nat → Int} {o1 : Option am_V} {o2 : Option am_V} {o3 : Option am_V} {o4 : Option am_V} {o5 : Option am_V} {o6 : Option am_V} (H : am_ev am_prog (d + 3) 323 [.inr (.inl r), .inr (.inl (am_cs b 37))] (mo b r (ms S) V W) (am_aft (am_hand m_X5_readAtom Q (am_W m_X5_readAtom (am_ev am_prog (d + 3)) Q) 7) (am_W m_X5_readAtom (am_ev am_prog (d + 3)) Q) 7 [some (.inr (.inl r)), some (.inl (W 46)), o2, o3, o4, o5, o6] [])) : am_W m_X5_readAtom (am_ev am_prog (d + 3)) Q 2 [some (.inr (.inl r)), o1, o2, o3, o4, o5, o6] [] (mo b r (ms S) V W) := by
  refine r_X5_readAtom_2 ?_
  simp only [mo_ty, mo_i, mo_cs, true_or, or_true, true_and]
  exact H
theorem w_readAtom_8 {d : Nat} {Q : am_K} {b : am_H} {r : Nat} {S : am_G} {V : Nat → Int → Int} {W : Nat → Int} {x1 : Int} {o2 : Option am_V} {o3 : Option am_V} {o4 : Option am_V} {o5 : Option am_V} {o6 : Option am_V} {y0 : Int} (H : ((y0 : Int) ≠ 0 → ((y0 : Int) ≠ 0 → ((W 48 : Int) ≠ 5 → ((-2147483648 ≤ (W 48) + 1 ∧ (W 48) + 1 ≤ 2147483647)) ∧ (((y0 : Int) = 0 → am_ev am_prog (d + 3) 361 [.inr (.inl r)] (mo b r (ms S) V (am_up W 48 ((W 48) + 1))) (am_aft (am_hand m_X5_readAtom Q (am_W m_X5_readAtom (am_ev am_prog (d + 3)) Q) 61) (am_W m_X5_readAtom (am_ev am_prog (d + 3)) Q) 61 [some (.inr (.inl r)), some (.inl x1), some (.inl y0), some (.inl 0), o4, o5, o6] [])) ∧ ((y0 : Int) ≠ 0 → am_ev am_prog (d + 3) 403 [.inr (.inl r)] (mo b r (ms S) V (am_up W 48 ((W 48) + 1))) (am_aft (am_hand m_X5_readAtom Q (am_W m_X5_readAtom (am_ev am_prog (d + 3)) Q) 57) (am_W m_X5_readAtom (am_ev am_prog (d + 3)) Q) 57 [some (.inr (.inl r)), some (.inl x1), some (.inl y0), some (.inl 0), o4, o5, o6] [])))) ∧ ((W 48 : Int) = 5 → Q (.inl (some (.inl 0))) (mo b r (ms S) V (am_up W 47 x1)))) ∧ ((y0 : Int) = 0 → am_ev am_prog (d + 3) 421 [.inr (.inl r)] (mo b r (ms S) V W) (am_aft (am_hand m_X5_readAtom Q (am_W m_X5_readAtom (am_ev am_prog (d + 3)) Q) 103) (am_W m_X5_readAtom (am_ev am_prog (d + 3)) Q) 103 [some (.inr (.inl r)), some (.inl x1), some (.inl y0), some (.inl 0), o4, o5, o6] []))) ∧ ((y0 : Int) = 0 → (W 45 ≤ W 46 → ((y0 : Int) ≠ 0 → ((W 48 : Int) ≠ 5 → ((-2147483648 ≤ (W 48) + 1 ∧ (W 48) + 1 ≤ 2147483647)) ∧ (((y0 : Int) = 0 → am_ev am_prog (d + 3) 361 [.inr (.inl r)] (mo b r (ms S) V (am_up W 48 ((W 48) + 1))) (am_aft (am_hand m_X5_readAtom Q (am_W m_X5_readAtom (am_ev am_prog (d + 3)) Q) 61) (am_W m_X5_readAtom (am_ev am_prog (d + 3)) Q) 61 [some (.inr (.inl r)), some (.inl x1), some (.inl y0), some (.inl 0), o4, o5, o6] [])) ∧ ((y0 : Int) ≠ 0 → am_ev am_prog (d + 3) 403 [.inr (.inl r)] (mo b r (ms S) V (am_up W 48 ((W 48) + 1))) (am_aft (am_hand m_X5_readAtom Q (am_W m_X5_readAtom (am_ev am_prog (d + 3)) Q) 57) (am_W m_X5_readAtom (am_ev am_prog (d + 3)) Q) 57 [some (.inr (.inl r)), some (.inl x1), some (.inl y0), some (.inl 0), o4, o5, o6] [])))) ∧ ((W 48 : Int) = 5 → Q (.inl (some (.inl 0))) (mo b r (ms S) V (am_up W 47 x1)))) ∧ ((y0 : Int) = 0 → am_ev am_prog (d + 3) 421 [.inr (.inl r)] (mo b r (ms S) V W) (am_aft (am_hand m_X5_readAtom Q (am_W m_X5_readAtom (am_ev am_prog (d + 3)) Q) 103) (am_W m_X5_readAtom (am_ev am_prog (d + 3)) Q) 103 [some (.inr (.inl r)), some (.inl x1), some (.inl y0), some (.inl 0), o4, o5, o6] []))) ∧ (W 46 < W 45 → ((0 ≤ W 46 ∧ W 46 < 400)) ∧ (((y0 : Int) ≠ 0 → ((W 48 : Int) ≠ 5 → ((-2147483648 ≤ (W 48) + 1 ∧ (W 48) + 1 ≤ 2147483647)) ∧ (((V 4 (W 46) : Int) ≠ 40 → ((y0 : Int) = 0 → am_ev am_prog (d + 3) 361 [.inr (.inl r)] (mo b r (ms S) V (am_up W 48 ((W 48) + 1))) (am_aft (am_hand m_X5_readAtom Q (am_W m_X5_readAtom (am_ev am_prog (d + 3)) Q) 61) (am_W m_X5_readAtom (am_ev am_prog (d + 3)) Q) 61 [some (.inr (.inl r)), some (.inl x1), some (.inl y0), some (.inl (am_b ((V 4 (W 46) : Int) = 40))), o4, o5, o6] [])) ∧ ((y0 : Int) ≠ 0 → am_ev am_prog (d + 3) 403 [.inr (.inl r)] (mo b r (ms S) V (am_up W 48 ((W 48) + 1))) (am_aft (am_hand m_X5_readAtom Q (am_W m_X5_readAtom (am_ev am_prog (d + 3)) Q) 57) (am_W m_X5_readAtom (am_ev am_prog (d + 3)) Q) 57 [some (.inr (.inl r)), some (.inl x1), some (.inl y0), some (.inl (am_b ((V 4 (W 46) : Int) = 40))), o4, o5, o6] []))) ∧ ((V 4 (W 46) : Int) = 40 → ((-2147483648 ≤ (W 46) + 1 ∧ (W 46) + 1 ≤ 2147483647)) ∧ (((y0 : Int) = 0 → am_ev am_prog (d + 3) 361 [.inr (.inl r)] (mo b r (ms S) V (am_up (am_up W 48 ((W 48) + 1)) 46 ((W 46) + 1))) (am_aft (am_hand m_X5_readAtom Q (am_W m_X5_readAtom (am_ev am_prog (d + 3)) Q) 61) (am_W m_X5_readAtom (am_ev am_prog (d + 3)) Q) 61 [some (.inr (.inl r)), some (.inl x1), some (.inl y0), some (.inl (am_b ((V 4 (W 46) : Int) = 40))), o4, o5, o6] [])) ∧ ((y0 : Int) ≠ 0 → am_ev am_prog (d + 3) 403 [.inr (.inl r)] (mo b r (ms S) V (am_up (am_up W 48 ((W 48) + 1)) 46 ((W 46) + 1))) (am_aft (am_hand m_X5_readAtom Q (am_W m_X5_readAtom (am_ev am_prog (d + 3)) Q) 57) (am_W m_X5_readAtom (am_ev am_prog (d + 3)) Q) 57 [some (.inr (.inl r)), some (.inl x1), some (.inl y0), some (.inl (am_b ((V 4 (W 46) : Int) = 40))), o4, o5, o6] [])))))) ∧ ((W 48 : Int) = 5 → Q (.inl (some (.inl 0))) (mo b r (ms S) V (am_up W 47 x1)))) ∧ ((y0 : Int) = 0 → ((V 4 (W 46) : Int) ≠ 40 → am_ev am_prog (d + 3) 421 [.inr (.inl r)] (mo b r (ms S) V W) (am_aft (am_hand m_X5_readAtom Q (am_W m_X5_readAtom (am_ev am_prog (d + 3)) Q) 103) (am_W m_X5_readAtom (am_ev am_prog (d + 3)) Q) 103 [some (.inr (.inl r)), some (.inl x1), some (.inl y0), some (.inl (am_b ((V 4 (W 46) : Int) = 40))), o4, o5, o6] [])) ∧ ((V 4 (W 46) : Int) = 40 → ((W 48 : Int) ≠ 5 → ((-2147483648 ≤ (W 48) + 1 ∧ (W 48) + 1 ≤ 2147483647)) ∧ (((V 4 (W 46) : Int) ≠ 40 → ((y0 : Int) = 0 → am_ev am_prog (d + 3) 361 [.inr (.inl r)] (mo b r (ms S) V (am_up W 48 ((W 48) + 1))) (am_aft (am_hand m_X5_readAtom Q (am_W m_X5_readAtom (am_ev am_prog (d + 3)) Q) 61) (am_W m_X5_readAtom (am_ev am_prog (d + 3)) Q) 61 [some (.inr (.inl r)), some (.inl x1), some (.inl y0), some (.inl (am_b ((V 4 (W 46) : Int) = 40))), o4, o5, o6] [])) ∧ ((y0 : Int) ≠ 0 → am_ev am_prog (d + 3) 403 [.inr (.inl r)] (mo b r (ms S) V (am_up W 48 ((W 48) + 1))) (am_aft (am_hand m_X5_readAtom Q (am_W m_X5_readAtom (am_ev am_prog (d + 3)) Q) 57) (am_W m_X5_readAtom (am_ev am_prog (d + 3)) Q) 57 [some (.inr (.inl r)), some (.inl x1), some (.inl y0), some (.inl (am_b ((V 4 (W 46) : Int) = 40))), o4, o5, o6] []))) ∧ ((V 4 (W 46) : Int) = 40 → ((-2147483648 ≤ (W 46) + 1 ∧ (W 46) + 1 ≤ 2147483647)) ∧ (((y0 : Int) = 0 → am_ev am_prog (d + 3) 361 [.inr (.inl r)] (mo b r (ms S) V (am_up (am_up W 48 ((W 48) + 1)) 46 ((W 46) + 1))) (am_aft (am_hand m_X5_readAtom Q (am_W m_X5_readAtom (am_ev am_prog (d + 3)) Q) 61) (am_W m_X5_readAtom (am_ev am_prog (d + 3)) Q) 61 [some (.inr (.inl r)), some (.inl x1), some (.inl y0), some (.inl (am_b ((V 4 (W 46) : Int) = 40))), o4, o5, o6] [])) ∧ ((y0 : Int) ≠ 0 → am_ev am_prog (d + 3) 403 [.inr (.inl r)] (mo b r (ms S) V (am_up (am_up W 48 ((W 48) + 1)) 46 ((W 46) + 1))) (am_aft (am_hand m_X5_readAtom Q (am_W m_X5_readAtom (am_ev am_prog (d + 3)) Q) 57) (am_W m_X5_readAtom (am_ev am_prog (d + 3)) Q) 57 [some (.inr (.inl r)), some (.inl x1), some (.inl y0), some (.inl (am_b ((V 4 (W 46) : Int) = 40))), o4, o5, o6] [])))))) ∧ ((W 48 : Int) = 5 → Q (.inl (some (.inl 0))) (mo b r (ms S) V (am_up W 47 x1))))))))) : am_W m_X5_readAtom (am_ev am_prog (d + 3)) Q 8 [some (.inr (.inl r)), some (.inl x1), o2, o3, o4, o5, o6] [.inl y0] (mo b r (ms S) V W) := by
  refine r_X5_readAtom_8 ?_
  refine ⟨fun c => ?_, fun c => ?_⟩
  · replace H := H.1 c
    refine r_X5_readAtom_25 ?_
    refine r_X5_readAtom_26 ?_
    refine ⟨fun c => ?_, fun c => ?_⟩
    · replace H := H.1 c
      refine r_X5_readAtom_31 ?_
      simp only [mo_ty, mo_i, true_or, or_true, true_and]
      refine ⟨fun c => ?_, fun c => ?_⟩
      · replace H := H.1 c
        obtain ⟨a1639, H⟩ := H
        refine r_X5_readAtom_40 ?_
        simp only [mo_ty, mo_i, mo_si, true_or, or_true, true_and]
        refine ⟨a1639, ?_⟩
        refine r_X5_readAtom_46 ?_
        refine ⟨fun c => ?_, fun c => absurd c (by decide)⟩
        refine r_X5_readAtom_54 ?_
        refine ⟨fun c => ?_, fun c => ?_⟩
        · replace H := H.1 c
          refine r_X5_readAtom_60 ?_
          simp only [mo_ty, true_or, or_true, true_and]
          exact H
        · replace H := H.2 c
          refine r_X5_readAtom_56 ?_
          simp only [mo_ty, true_or, or_true, true_and]
          exact H
      · replace H := H.2 c
        refine r_X5_readAtom_35 ?_
        simp only [mo_ty, mo_si, true_or, or_true, true_and]
        refine ?_
        refine r_X5_readAtom_38 ?_
        exact ⟨(by decide), H⟩
    · replace H := H.2 c
      refine r_X5_readAtom_29 ?_
      refine ⟨fun c => ?_, fun c => absurd c (by decide)⟩
      refine r_X5_readAtom_102 ?_
      simp only [mo_ty, true_or, or_true, true_and]
      exact H
  · replace H := H.2 c
    refine r_X5_readAtom_11 ?_
    simp only [mo_ty, mo_i, true_or, or_true, true_and]
    refine ⟨fun c => ?_, fun c => ?_⟩
    · replace H := H.1 c
      refine r_X5_readAtom_25 ?_
      refine r_X5_readAtom_26 ?_
      refine ⟨fun c => ?_, fun c => ?_⟩
      · replace H := H.1 c
        refine r_X5_readAtom_31 ?_
        simp only [mo_ty, mo_i, true_or, or_true, true_and]
        refine ⟨fun c => ?_, fun c => ?_⟩
        · replace H := H.1 c
          obtain ⟨a1640, H⟩ := H
          refine r_X5_readAtom_40 ?_
          simp only [mo_ty, mo_i, mo_si, true_or, or_true, true_and]
          refine ⟨a1640, ?_⟩
          refine r_X5_readAtom_46 ?_
          refine ⟨fun c => ?_, fun c => absurd c (by decide)⟩
          refine r_X5_readAtom_54 ?_
          refine ⟨fun c => ?_, fun c => ?_⟩
          · replace H := H.1 c
            refine r_X5_readAtom_60 ?_
            simp only [mo_ty, true_or, or_true, true_and]
            exact H
          · replace H := H.2 c
            refine r_X5_readAtom_56 ?_
            simp only [mo_ty, true_or, or_true, true_and]
            exact H
        · replace H := H.2 c
          refine r_X5_readAtom_35 ?_
          simp only [mo_ty, mo_si, true_or, or_true, true_and]
          refine ?_
          refine r_X5_readAtom_38 ?_
          exact ⟨(by decide), H⟩
      · replace H := H.2 c
        refine r_X5_readAtom_29 ?_
        refine ⟨fun c => ?_, fun c => absurd c (by decide)⟩
        refine r_X5_readAtom_102 ?_
        simp only [mo_ty, true_or, or_true, true_and]
        exact H
    · replace H := H.2 c
      obtain ⟨a1641, H⟩ := H
      have J : ∀ y : Int, y = am_b ((V 4 (W 46) : Int) = 40) → am_W m_X5_readAtom (am_ev am_prog (d + 3)) Q 26 [some (.inr (.inl r)), some (.inl x1), some (.inl y0), o3, o4, o5, o6] [.inl y] (mo b r (ms S) V W) := by
        intro y hy
        subst hy
        refine r_X5_readAtom_26 ?_
        refine ⟨fun c => ?_, fun c => ?_⟩
        · replace H := H.1 c
          refine r_X5_readAtom_31 ?_
          simp only [mo_ty, mo_i, true_or, or_true, true_and]
          refine ⟨fun c => ?_, fun c => ?_⟩
          · replace H := H.1 c
            obtain ⟨a1642, H⟩ := H
            refine r_X5_readAtom_40 ?_
            simp only [mo_ty, mo_i, mo_si, true_or, or_true, true_and]
            refine ⟨a1642, ?_⟩
            refine r_X5_readAtom_46 ?_
            refine ⟨fun c => ?_, fun c => ?_⟩
            · replace c := am_b0 c
              replace c : (V 4 (W 46) : Int) ≠ 40 := by omega
              replace H := H.1 c
              refine r_X5_readAtom_54 ?_
              refine ⟨fun c => ?_, fun c => ?_⟩
              · replace H := H.1 c
                refine r_X5_readAtom_60 ?_
                simp only [mo_ty, true_or, or_true, true_and]
                exact H
              · replace H := H.2 c
                refine r_X5_readAtom_56 ?_
                simp only [mo_ty, true_or, or_true, true_and]
                exact H
            · replace c := am_b1 c
              replace H := H.2 c
              obtain ⟨a1643, H⟩ := H
              refine r_X5_readAtom_48 ?_
              simp only [mo_ty, mo_i, am_up_ne (by decide : (46 : Nat) ≠ 48), mo_si, true_or, or_true, true_and]
              refine ⟨a1643, ?_⟩
              refine r_X5_readAtom_54 ?_
              refine ⟨fun c => ?_, fun c => ?_⟩
              · replace H := H.1 c
                refine r_X5_readAtom_60 ?_
                simp only [mo_ty, true_or, or_true, true_and]
                exact H
              · replace H := H.2 c
                refine r_X5_readAtom_56 ?_
                simp only [mo_ty, true_or, or_true, true_and]
                exact H
          · replace H := H.2 c
            refine r_X5_readAtom_35 ?_
            simp only [mo_ty, mo_si, true_or, or_true, true_and]
            refine ?_
            refine r_X5_readAtom_38 ?_
            exact ⟨(by decide), H⟩
        · replace H := H.2 c
          refine r_X5_readAtom_29 ?_
          refine ⟨fun c => ?_, fun c => ?_⟩
          · replace c := am_b0 c
            replace c : (V 4 (W 46) : Int) ≠ 40 := by omega
            replace H := H.1 c
            refine r_X5_readAtom_102 ?_
            simp only [mo_ty, true_or, or_true, true_and]
            exact H
          · replace c := am_b1 c
            replace H := H.2 c
            refine r_X5_readAtom_31 ?_
            simp only [mo_ty, mo_i, true_or, or_true, true_and]
            refine ⟨fun c => ?_, fun c => ?_⟩
            · replace H := H.1 c
              obtain ⟨a1644, H⟩ := H
              refine r_X5_readAtom_40 ?_
              simp only [mo_ty, mo_i, mo_si, true_or, or_true, true_and]
              refine ⟨a1644, ?_⟩
              refine r_X5_readAtom_46 ?_
              refine ⟨fun c => ?_, fun c => ?_⟩
              · replace c := am_b0 c
                replace c : (V 4 (W 46) : Int) ≠ 40 := by omega
                replace H := H.1 c
                refine r_X5_readAtom_54 ?_
                refine ⟨fun c => ?_, fun c => ?_⟩
                · replace H := H.1 c
                  refine r_X5_readAtom_60 ?_
                  simp only [mo_ty, true_or, or_true, true_and]
                  exact H
                · replace H := H.2 c
                  refine r_X5_readAtom_56 ?_
                  simp only [mo_ty, true_or, or_true, true_and]
                  exact H
              · replace c := am_b1 c
                replace H := H.2 c
                obtain ⟨a1645, H⟩ := H
                refine r_X5_readAtom_48 ?_
                simp only [mo_ty, mo_i, am_up_ne (by decide : (46 : Nat) ≠ 48), mo_si, true_or, or_true, true_and]
                refine ⟨a1645, ?_⟩
                refine r_X5_readAtom_54 ?_
                refine ⟨fun c => ?_, fun c => ?_⟩
                · replace H := H.1 c
                  refine r_X5_readAtom_60 ?_
                  simp only [mo_ty, true_or, or_true, true_and]
                  exact H
                · replace H := H.2 c
                  refine r_X5_readAtom_56 ?_
                  simp only [mo_ty, true_or, or_true, true_and]
                  exact H
            · replace H := H.2 c
              refine r_X5_readAtom_35 ?_
              simp only [mo_ty, mo_si, true_or, or_true, true_and]
              refine ?_
              refine r_X5_readAtom_38 ?_
              exact ⟨(by decide), H⟩
      refine r_X5_readAtom_16 ?_
      simp only [mo_ty, mo_f43, mo_i, mo_t4, mo_n4, mo_a4, true_or, or_true, true_and]
      refine ⟨a1641, ⟨fun c => ?_, fun c => ?_⟩⟩
      · exact r_X5_readAtom_25 (J _ (am_bf (by omega)).symm)
      · exact r_X5_readAtom_23 (J _ (am_bt c).symm)
theorem w_readAtom_58 {d : Nat} {Q : am_K} {b : am_H} {r : Nat} {S : am_G} {V : Nat → Int → Int} {W : Nat → Int} {x1 : Int} {x2 : Int} {x3 : Int} {o4 : Option am_V} {o5 : Option am_V} {o6 : Option am_V} {y0 : Int} (H : ((y0 : Int) ≠ 0 → ((x2 : Int) = 0 → am_ev am_prog (d + 3) 256 [.inr (.inl r)] (mo b r (ms S) V W) (am_aft (am_hand m_X5_readAtom Q (am_W m_X5_readAtom (am_ev am_prog (d + 3)) Q) 72) (am_W m_X5_readAtom (am_ev am_prog (d + 3)) Q) 72 [some (.inr (.inl r)), some (.inl x1), some (.inl x2), some (.inl x3), o4, o5, o6] [])) ∧ ((x2 : Int) ≠ 0 → am_ev am_prog (d + 3) 388 [.inr (.inl r), .inl 4] (mo b r (ms S) V W) (am_aft (am_hand m_X5_readAtom Q (am_W m_X5_readAtom (am_ev am_prog (d + 3)) Q) 69) (am_W m_X5_readAtom (am_ev am_prog (d + 3)) Q) 69 [some (.inr (.inl r)), some (.inl x1), some (.inl x2), some (.inl x3), o4, o5, o6] []))) ∧ ((y0 : Int) = 0 → Q (.inl (some (.inl 0))) (mo b r (ms S) V W))) : am_W m_X5_readAtom (am_ev am_prog (d + 3)) Q 58 [some (.inr (.inl r)), some (.inl x1), some (.inl x2), some (.inl x3), o4, o5, o6] [.inl y0] (mo b r (ms S) V W) := by
  refine r_X5_readAtom_58 ?_
  refine ⟨fun c => ?_, fun c => ?_⟩
  · replace H := H.1 c
    refine r_X5_readAtom_65 ?_
    refine ⟨fun c => ?_, fun c => ?_⟩
    · replace H := H.1 c
      refine r_X5_readAtom_71 ?_
      simp only [mo_ty, true_or, or_true, true_and]
      exact H
    · replace H := H.2 c
      refine r_X5_readAtom_67 ?_
      simp only [mo_ty, true_or, or_true, true_and]
      exact H
  · replace H := H.2 c
    refine r_X5_readAtom_59 ?_
    refine r_X5_readAtom_63 ?_
    exact ⟨(by decide), H⟩
theorem w_readAtom_62 {d : Nat} {Q : am_K} {b : am_H} {r : Nat} {S : am_G} {V : Nat → Int → Int} {W : Nat → Int} {x1 : Int} {x2 : Int} {x3 : Int} {o4 : Option am_V} {o5 : Option am_V} {o6 : Option am_V} {y0 : Int} (H : ((y0 : Int) ≠ 0 → ((x2 : Int) = 0 → am_ev am_prog (d + 3) 256 [.inr (.inl r)] (mo b r (ms S) V W) (am_aft (am_hand m_X5_readAtom Q (am_W m_X5_readAtom (am_ev am_prog (d + 3)) Q) 72) (am_W m_X5_readAtom (am_ev am_prog (d + 3)) Q) 72 [some (.inr (.inl r)), some (.inl x1), some (.inl x2), some (.inl x3), o4, o5, o6] [])) ∧ ((x2 : Int) ≠ 0 → am_ev am_prog (d + 3) 388 [.inr (.inl r), .inl 4] (mo b r (ms S) V W) (am_aft (am_hand m_X5_readAtom Q (am_W m_X5_readAtom (am_ev am_prog (d + 3)) Q) 69) (am_W m_X5_readAtom (am_ev am_prog (d + 3)) Q) 69 [some (.inr (.inl r)), some (.inl x1), some (.inl x2), some (.inl x3), o4, o5, o6] []))) ∧ ((y0 : Int) = 0 → Q (.inl (some (.inl 0))) (mo b r (ms S) V W))) : am_W m_X5_readAtom (am_ev am_prog (d + 3)) Q 62 [some (.inr (.inl r)), some (.inl x1), some (.inl x2), some (.inl x3), o4, o5, o6] [.inl y0] (mo b r (ms S) V W) := by
  refine r_X5_readAtom_62 ?_
  refine ⟨fun c => ?_, fun c => ?_⟩
  · replace H := H.1 c
    refine r_X5_readAtom_65 ?_
    refine ⟨fun c => ?_, fun c => ?_⟩
    · replace H := H.1 c
      refine r_X5_readAtom_71 ?_
      simp only [mo_ty, true_or, or_true, true_and]
      exact H
    · replace H := H.2 c
      refine r_X5_readAtom_67 ?_
      simp only [mo_ty, true_or, or_true, true_and]
      exact H
  · replace H := H.2 c
    refine r_X5_readAtom_63 ?_
    exact ⟨(by decide), H⟩
theorem w_readAtom_70 {d : Nat} {Q : am_K} {b : am_H} {r : Nat} {S : am_G} {V : Nat → Int → Int} {W : Nat → Int} {x1 : Int} {x2 : Int} {x3 : Int} {o4 : Option am_V} {o5 : Option am_V} {o6 : Option am_V} (H : ((-2147483648 ≤ (W 48) - 1 ∧ (W 48) - 1 ≤ 2147483647)) ∧ (Q (.inl (some (.inl 1))) (mo b r (ms S) V (am_up W 48 ((W 48) - 1))))) : am_W m_X5_readAtom (am_ev am_prog (d + 3)) Q 70 [some (.inr (.inl r)), some (.inl x1), some (.inl x2), some (.inl x3), o4, o5, o6] [] (mo b r (ms S) V W) := by
  refine r_X5_readAtom_70 ?_
  obtain ⟨a1646, H⟩ := H
  refine r_X5_readAtom_94 ?_
  simp only [mo_ty, mo_i, mo_si, true_or, or_true, true_and]
  refine ⟨a1646, ?_⟩
  refine r_X5_readAtom_100 ?_
  exact ⟨(by decide), H⟩
theorem w_readAtom_73 {d : Nat} {Q : am_K} {b : am_H} {r : Nat} {S : am_G} {V : Nat → Int → Int} {W : Nat → Int} {x1 : Int} {x2 : Int} {x3 : Int} {o4 : Option am_V} {o5 : Option am_V} {o6 : Option am_V} (H : (W 45 ≤ W 46 → am_ev am_prog (d + 3) 258 [.inr (.inl r)] (mo b r (ms S) V W) (am_aft (am_hand m_X5_readAtom Q (am_W m_X5_readAtom (am_ev am_prog (d + 3)) Q) 86) (am_W m_X5_readAtom (am_ev am_prog (d + 3)) Q) 86 [some (.inr (.inl r)), some (.inl x1), some (.inl x2), some (.inl x3), o4, o5, o6] [])) ∧ (W 46 < W 45 → ((0 ≤ W 46 ∧ W 46 < 400)) ∧ (((V 4 (W 46) : Int) = 41 → ((-2147483648 ≤ (W 46) + 1 ∧ (W 46) + 1 ≤ 2147483647)) ∧ (((-2147483648 ≤ (W 48) - 1 ∧ (W 48) - 1 ≤ 2147483647)) ∧ (Q (.inl (some (.inl 1))) (mo b r (ms S) V (am_up (am_up W 46 ((W 46) + 1)) 48 ((W 48) - 1)))))) ∧ ((V 4 (W 46) : Int) ≠ 41 → am_ev am_prog (d + 3) 258 [.inr (.inl r)] (mo b r (ms S) V W) (am_aft (am_hand m_X5_readAtom Q (am_W m_X5_readAtom (am_ev am_prog (d + 3)) Q) 86) (am_W m_X5_readAtom (am_ev am_prog (d + 3)) Q) 86 [some (.inr (.inl r)), some (.inl x1), some (.inl x2), some (.inl x3), o4, o5, o6] []))))) : am_W m_X5_readAtom (am_ev am_prog (d + 3)) Q 73 [some (.inr (.inl r)), some (.inl x1), some (.inl x2), some (.inl x3), o4, o5, o6] [] (mo b r (ms S) V W) := by
  refine r_X5_readAtom_73 ?_
  simp only [mo_ty, mo_i, true_or, or_true, true_and]
  refine ⟨fun c => ?_, fun c => ?_⟩
  · replace H := H.1 c
    refine r_X5_readAtom_85 ?_
    simp only [mo_ty, true_or, or_true, true_and]
    exact H
  · replace H := H.2 c
    obtain ⟨a1647, H⟩ := H
    refine r_X5_readAtom_78 ?_
    simp only [mo_ty, mo_f43, mo_i, mo_t4, mo_n4, mo_a4, true_or, or_true, true_and]
    refine ⟨a1647, ⟨fun c => ?_, fun c => ?_⟩⟩
    · replace H := H.1 c
      obtain ⟨a1648, H⟩ := H
      refine r_X5_readAtom_88 ?_
      simp only [mo_ty, mo_i, mo_si, true_or, or_true, true_and]
      refine ⟨a1648, ?_⟩
      obtain ⟨a1649, H⟩ := H
      refine r_X5_readAtom_94 ?_
      simp only [mo_ty, mo_i, am_up_ne (by decide : (48 : Nat) ≠ 46), mo_si, true_or, or_true, true_and]
      refine ⟨a1649, ?_⟩
      refine r_X5_readAtom_100 ?_
      exact ⟨(by decide), H⟩
    · replace H := H.2 c
      refine r_X5_readAtom_85 ?_
      simp only [mo_ty, true_or, or_true, true_and]
      exact H
theorem w_readAtom_87 {d : Nat} {Q : am_K} {b : am_H} {r : Nat} {S : am_G} {V : Nat → Int → Int} {W : Nat → Int} {x1 : Int} {x2 : Int} {x3 : Int} {o4 : Option am_V} {o5 : Option am_V} {o6 : Option am_V} {y0 : Int} (H : ((y0 = 0 ∨ y0 = 1)) ∧ (Q (.inl (some (.inl y0))) (mo b r (ms S) V W))) : am_W m_X5_readAtom (am_ev am_prog (d + 3)) Q 87 [some (.inr (.inl r)), some (.inl x1), some (.inl x2), some (.inl x3), o4, o5, o6] [.inl y0] (mo b r (ms S) V W) := by
  obtain ⟨a1650, H⟩ := H
  refine r_X5_readAtom_87 ?_
  exact ⟨a1650, H⟩
theorem w_readAtom_104 {d : Nat} {Q : am_K} {b : am_H} {r : Nat} {S : am_G} {V : Nat → Int → Int} {W : Nat → Int} {x1 : Int} {x2 : Int} {x3 : Int} {o4 : Option am_V} {o5 : Option am_V} {o6 : Option am_V} {y0 : Int} (H : ((y0 : Int) = (-1) → am_ev am_prog (d + 3) 422 [.inr (.inl r)] (mo b r (ms S) V W) (am_aft (am_hand m_X5_readAtom Q (am_W m_X5_readAtom (am_ev am_prog (d + 3)) Q) 117) (am_W m_X5_readAtom (am_ev am_prog (d + 3)) Q) 117 [some (.inr (.inl r)), some (.inl x1), some (.inl x2), some (.inl x3), some (.inl y0), o5, o6] [])) ∧ ((y0 : Int) ≠ (-1) → am_ev am_prog (d + 3) 388 [.inr (.inl r), .inl 1] (mo b r (ms S) V W) (am_aft (am_hand m_X5_readAtom Q (am_W m_X5_readAtom (am_ev am_prog (d + 3)) Q) 110) (am_W m_X5_readAtom (am_ev am_prog (d + 3)) Q) 110 [some (.inr (.inl r)), some (.inl x1), some (.inl x2), some (.inl x3), some (.inl y0), o5, o6] []))) : am_W m_X5_readAtom (am_ev am_prog (d + 3)) Q 104 [some (.inr (.inl r)), some (.inl x1), some (.inl x2), some (.inl x3), o4, o5, o6] [.inl y0] (mo b r (ms S) V W) := by
  refine r_X5_readAtom_104 ?_
  refine ⟨fun c => ?_, fun c => ?_⟩
  · replace H := H.1 c
    refine r_X5_readAtom_116 ?_
    simp only [mo_ty, true_or, or_true, true_and]
    exact H
  · replace H := H.2 c
    refine r_X5_readAtom_108 ?_
    simp only [mo_ty, true_or, or_true, true_and]
    exact H
theorem w_readAtom_111 {d : Nat} {Q : am_K} {b : am_H} {r : Nat} {S : am_G} {V : Nat → Int → Int} {W : Nat → Int} {x1 : Int} {x2 : Int} {x3 : Int} {x4 : Int} {o5 : Option am_V} {o6 : Option am_V} (H : am_ev am_prog (d + 3) 388 [.inr (.inl r), .inl x4] (mo b r (ms S) V W) (am_aft (am_hand m_X5_readAtom Q (am_W m_X5_readAtom (am_ev am_prog (d + 3)) Q) 113) (am_W m_X5_readAtom (am_ev am_prog (d + 3)) Q) 113 [some (.inr (.inl r)), some (.inl x1), some (.inl x2), some (.inl x3), some (.inl x4), o5, o6] [])) : am_W m_X5_readAtom (am_ev am_prog (d + 3)) Q 111 [some (.inr (.inl r)), some (.inl x1), some (.inl x2), some (.inl x3), some (.inl x4), o5, o6] [] (mo b r (ms S) V W) := by
  refine r_X5_readAtom_111 ?_
  simp only [mo_ty, true_or, or_true, true_and]
  exact H
theorem w_readAtom_114 {d : Nat} {Q : am_K} {b : am_H} {r : Nat} {S : am_G} {V : Nat → Int → Int} {W : Nat → Int} {x1 : Int} {x2 : Int} {x3 : Int} {x4 : Int} {o5 : Option am_V} {o6 : Option am_V} (H : Q (.inl (some (.inl 1))) (mo b r (ms S) V W)) : am_W m_X5_readAtom (am_ev am_prog (d + 3)) Q 114 [some (.inr (.inl r)), some (.inl x1), some (.inl x2), some (.inl x3), some (.inl x4), o5, o6] [] (mo b r (ms S) V W) := by
  refine r_X5_readAtom_114 ?_
  exact ⟨(by decide), H⟩
theorem w_readAtom_118 {d : Nat} {Q : am_K} {b : am_H} {r : Nat} {S : am_G} {V : Nat → Int → Int} {W : Nat → Int} {x1 : Int} {x2 : Int} {x3 : Int} {x4 : Int} {o5 : Option am_V} {o6 : Option am_V} {y0 : Int} (H : ((y0 : Int) ≠ (-1) → am_ev am_prog (d + 3) 256 [.inr (.inl r)] (mo b r (ms S) V W) (am_aft (am_hand m_X5_readAtom Q (am_W m_X5_readAtom (am_ev am_prog (d + 3)) Q) 126) (am_W m_X5_readAtom (am_ev am_prog (d + 3)) Q) 126 [some (.inr (.inl r)), some (.inl x1), some (.inl x2), some (.inl x3), some (.inl x4), some (.inl y0), o6] [])) ∧ ((y0 : Int) = (-1) → am_ev am_prog (d + 3) 258 [.inr (.inl r)] (mo b r (ms S) V W) (am_aft (am_hand m_X5_readAtom Q (am_W m_X5_readAtom (am_ev am_prog (d + 3)) Q) 123) (am_W m_X5_readAtom (am_ev am_prog (d + 3)) Q) 123 [some (.inr (.inl r)), some (.inl x1), some (.inl x2), some (.inl x3), some (.inl x4), some (.inl y0), o6] []))) : am_W m_X5_readAtom (am_ev am_prog (d + 3)) Q 118 [some (.inr (.inl r)), some (.inl x1), some (.inl x2), some (.inl x3), some (.inl x4), o5, o6] [.inl y0] (mo b r (ms S) V W) := by
  refine r_X5_readAtom_118 ?_
  refine ⟨fun c => ?_, fun c => ?_⟩
  · replace H := H.1 c
    refine r_X5_readAtom_125 ?_
    simp only [mo_ty, true_or, or_true, true_and]
    exact H
  · replace H := H.2 c
    refine r_X5_readAtom_122 ?_
    simp only [mo_ty, true_or, or_true, true_and]
    exact H
theorem w_readAtom_124 {d : Nat} {Q : am_K} {b : am_H} {r : Nat} {S : am_G} {V : Nat → Int → Int} {W : Nat → Int} {x1 : Int} {x2 : Int} {x3 : Int} {x4 : Int} {x5 : Int} {o6 : Option am_V} {y0 : Int} (H : ((y0 = 0 ∨ y0 = 1)) ∧ (Q (.inl (some (.inl y0))) (mo b r (ms S) V W))) : am_W m_X5_readAtom (am_ev am_prog (d + 3)) Q 124 [some (.inr (.inl r)), some (.inl x1), some (.inl x2), some (.inl x3), some (.inl x4), some (.inl x5), o6] [.inl y0] (mo b r (ms S) V W) := by
  obtain ⟨a1651, H⟩ := H
  refine r_X5_readAtom_124 ?_
  exact ⟨a1651, H⟩
theorem w_readAtom_127 {d : Nat} {Q : am_K} {b : am_H} {r : Nat} {S : am_G} {V : Nat → Int → Int} {W : Nat → Int} {x1 : Int} {x2 : Int} {x3 : Int} {x4 : Int} {x5 : Int} {o6 : Option am_V} (H : (W 45 ≤ W 46 → am_ev am_prog (d + 3) 258 [.inr (.inl r)] (mo b r (ms S) V W) (am_aft (am_hand m_X5_readAtom Q (am_W m_X5_readAtom (am_ev am_prog (d + 3)) Q) 147) (am_W m_X5_readAtom (am_ev am_prog (d + 3)) Q) 147 [some (.inr (.inl r)), some (.inl x1), some (.inl x2), some (.inl x3), some (.inl x4), some (.inl x5), o6] [])) ∧ (W 46 < W 45 → ((0 ≤ W 46 ∧ W 46 < 400)) ∧ (((V 4 (W 46) : Int) = 60 → ((0 ≤ W 46 ∧ W 46 < 400)) ∧ (((V 4 (W 46) : Int) ≠ 60 → ((-2147483648 ≤ (W 46) + 1 ∧ (W 46) + 1 ≤ 2147483647)) ∧ (am_ev am_prog (d + 3) 325 [.inr (.inl r), .inl 0, .inl 9999] (mo b r (ms S) V (am_up W 46 ((W 46) + 1))) (am_aft (am_hand m_X5_readAtom Q (am_W m_X5_readAtom (am_ev am_prog (d + 3)) Q) 169) (am_W m_X5_readAtom (am_ev am_prog (d + 3)) Q) 169 [some (.inr (.inl r)), some (.inl x1), some (.inl x2), some (.inl x3), some (.inl x4), some (.inl x5), some (.inl 3)] []))) ∧ ((V 4 (W 46) : Int) = 60 → ((-2147483648 ≤ (W 46) + 1 ∧ (W 46) + 1 ≤ 2147483647)) ∧ (am_ev am_prog (d + 3) 325 [.inr (.inl r), .inl 0, .inl 9999] (mo b r (ms S) V (am_up W 46 ((W 46) + 1))) (am_aft (am_hand m_X5_readAtom Q (am_W m_X5_readAtom (am_ev am_prog (d + 3)) Q) 169) (am_W m_X5_readAtom (am_ev am_prog (d + 3)) Q) 169 [some (.inr (.inl r)), some (.inl x1), some (.inl x2), some (.inl x3), some (.inl x4), some (.inl x5), some (.inl 2)] []))))) ∧ ((V 4 (W 46) : Int) ≠ 60 → ((0 ≤ W 46 ∧ W 46 < 400)) ∧ (((V 4 (W 46) : Int) = 62 → ((0 ≤ W 46 ∧ W 46 < 400)) ∧ (((V 4 (W 46) : Int) ≠ 60 → ((-2147483648 ≤ (W 46) + 1 ∧ (W 46) + 1 ≤ 2147483647)) ∧ (am_ev am_prog (d + 3) 325 [.inr (.inl r), .inl 0, .inl 9999] (mo b r (ms S) V (am_up W 46 ((W 46) + 1))) (am_aft (am_hand m_X5_readAtom Q (am_W m_X5_readAtom (am_ev am_prog (d + 3)) Q) 169) (am_W m_X5_readAtom (am_ev am_prog (d + 3)) Q) 169 [some (.inr (.inl r)), some (.inl x1), some (.inl x2), some (.inl x3), some (.inl x4), some (.inl x5), some (.inl 3)] []))) ∧ ((V 4 (W 46) : Int) = 60 → ((-2147483648 ≤ (W 46) + 1 ∧ (W 46) + 1 ≤ 2147483647)) ∧ (am_ev am_prog (d + 3) 325 [.inr (.inl r), .inl 0, .inl 9999] (mo b r (ms S) V (am_up W 46 ((W 46) + 1))) (am_aft (am_hand m_X5_readAtom Q (am_W m_X5_readAtom (am_ev am_prog (d + 3)) Q) 169) (am_W m_X5_readAtom (am_ev am_prog (d + 3)) Q) 169 [some (.inr (.inl r)), some (.inl x1), some (.inl x2), some (.inl x3), some (.inl x4), some (.inl x5), some (.inl 2)] []))))) ∧ ((V 4 (W 46) : Int) ≠ 62 → am_ev am_prog (d + 3) 258 [.inr (.inl r)] (mo b r (ms S) V W) (am_aft (am_hand m_X5_readAtom Q (am_W m_X5_readAtom (am_ev am_prog (d + 3)) Q) 147) (am_W m_X5_readAtom (am_ev am_prog (d + 3)) Q) 147 [some (.inr (.inl r)), some (.inl x1), some (.inl x2), some (.inl x3), some (.inl x4), some (.inl x5), o6] []))))))) : am_W m_X5_readAtom (am_ev am_prog (d + 3)) Q 127 [some (.inr (.inl r)), some (.inl x1), some (.inl x2), some (.inl x3), some (.inl x4), some (.inl x5), o6] [] (mo b r (ms S) V W) := by
  refine r_X5_readAtom_127 ?_
  simp only [mo_ty, mo_i, true_or, or_true, true_and]
  refine ⟨fun c => ?_, fun c => ?_⟩
  · replace H := H.1 c
    refine r_X5_readAtom_146 ?_
    simp only [mo_ty, true_or, or_true, true_and]
    exact H
  · replace H := H.2 c
    obtain ⟨a1652, H⟩ := H
    refine r_X5_readAtom_132 ?_
    simp only [mo_ty, mo_f43, mo_i, mo_t4, mo_n4, mo_a4, true_or, or_true, true_and]
    refine ⟨a1652, ⟨fun c => ?_, fun c => ?_⟩⟩
    · replace H := H.1 c
      obtain ⟨a1653, H⟩ := H
      refine r_X5_readAtom_149 ?_
      simp only [mo_ty, mo_f43, mo_i, mo_t4, mo_n4, mo_a4, true_or, or_true, true_and]
      refine ⟨a1653, ⟨fun c => ?_, fun c => ?_⟩⟩
      · replace H := H.1 c
        refine r_X5_readAtom_158 ?_
        obtain ⟨a1654, H⟩ := H
        refine r_X5_readAtom_159 ?_
        simp only [mo_ty, mo_i, mo_si, true_or, or_true, true_and]
        refine ⟨a1654, ?_⟩
        refine r_X5_readAtom_166 ?_
        simp only [mo_ty, true_or, or_true, true_and]
        exact H
      · replace H := H.2 c
        refine r_X5_readAtom_156 ?_
        obtain ⟨a1655, H⟩ := H
        refine r_X5_readAtom_159 ?_
        simp only [mo_ty, mo_i, mo_si, true_or, or_true, true_and]
        refine ⟨a1655, ?_⟩
        refine r_X5_readAtom_166 ?_
        simp only [mo_ty, true_or, or_true, true_and]
        exact H
    · replace H := H.2 c
      obtain ⟨a1656, H⟩ := H
      refine r_X5_readAtom_139 ?_
      simp only [mo_ty, mo_f43, mo_i, mo_t4, mo_n4, mo_a4, true_or, or_true, true_and]
      refine ⟨a1656, ⟨fun c => ?_, fun c => ?_⟩⟩
      · replace H := H.1 c
        obtain ⟨a1657, H⟩ := H
        refine r_X5_readAtom_149 ?_
        simp only [mo_ty, mo_f43, mo_i, mo_t4, mo_n4, mo_a4, true_or, or_true, true_and]
        refine ⟨a1657, ⟨fun c => ?_, fun c => ?_⟩⟩
        · replace H := H.1 c
          refine r_X5_readAtom_158 ?_
          obtain ⟨a1658, H⟩ := H
          refine r_X5_readAtom_159 ?_
          simp only [mo_ty, mo_i, mo_si, true_or, or_true, true_and]
          refine ⟨a1658, ?_⟩
          refine r_X5_readAtom_166 ?_
          simp only [mo_ty, true_or, or_true, true_and]
          exact H
        · replace H := H.2 c
          refine r_X5_readAtom_156 ?_
          obtain ⟨a1659, H⟩ := H
          refine r_X5_readAtom_159 ?_
          simp only [mo_ty, mo_i, mo_si, true_or, or_true, true_and]
          refine ⟨a1659, ?_⟩
          refine r_X5_readAtom_166 ?_
          simp only [mo_ty, true_or, or_true, true_and]
          exact H
      · replace H := H.2 c
        refine r_X5_readAtom_146 ?_
        simp only [mo_ty, true_or, or_true, true_and]
        exact H
theorem w_readAtom_148 {d : Nat} {Q : am_K} {b : am_H} {r : Nat} {S : am_G} {V : Nat → Int → Int} {W : Nat → Int} {x1 : Int} {x2 : Int} {x3 : Int} {x4 : Int} {x5 : Int} {o6 : Option am_V} {y0 : Int} (H : ((y0 = 0 ∨ y0 = 1)) ∧ (Q (.inl (some (.inl y0))) (mo b r (ms S) V W))) : am_W m_X5_readAtom (am_ev am_prog (d + 3)) Q 148 [some (.inr (.inl r)), some (.inl x1), some (.inl x2), some (.inl x3), some (.inl x4), some (.inl x5), o6] [.inl y0] (mo b r (ms S) V W) := by
  obtain ⟨a1660, H⟩ := H
  refine r_X5_readAtom_148 ?_
  exact ⟨a1660, H⟩
theorem w_readAtom_170 {d : Nat} {Q : am_K} {b : am_H} {r : Nat} {S : am_G} {V : Nat → Int → Int} {W : Nat → Int} {x1 : Int} {x2 : Int} {x3 : Int} {x4 : Int} {x5 : Int} {x6 : Int} {y0 : Int} (H : ((y0 : Int) ≠ 0 → am_ev am_prog (d + 3) 388 [.inr (.inl r), .inl x6] (mo b r (ms S) V W) (am_aft (am_hand m_X5_readAtom Q (am_W m_X5_readAtom (am_ev am_prog (d + 3)) Q) 175) (am_W m_X5_readAtom (am_ev am_prog (d + 3)) Q) 175 [some (.inr (.inl r)), some (.inl x1), some (.inl x2), some (.inl x3), some (.inl x4), some (.inl x5), some (.inl x6)] [])) ∧ ((y0 : Int) = 0 → Q (.inl (some (.inl 0))) (mo b r (ms S) V W))) : am_W m_X5_readAtom (am_ev am_prog (d + 3)) Q 170 [some (.inr (.inl r)), some (.inl x1), some (.inl x2), some (.inl x3), some (.inl x4), some (.inl x5), some (.inl x6)] [.inl y0] (mo b r (ms S) V W) := by
  refine r_X5_readAtom_170 ?_
  refine ⟨fun c => ?_, fun c => ?_⟩
  · replace H := H.1 c
    refine r_X5_readAtom_173 ?_
    simp only [mo_ty, true_or, or_true, true_and]
    exact H
  · replace H := H.2 c
    refine r_X5_readAtom_171 ?_
    exact ⟨(by decide), H⟩
theorem w_readAtom_176 {d : Nat} {Q : am_K} {b : am_H} {r : Nat} {S : am_G} {V : Nat → Int → Int} {W : Nat → Int} {x1 : Int} {x2 : Int} {x3 : Int} {x4 : Int} {x5 : Int} {x6 : Int} (H : am_ev am_prog (d + 3) 388 [.inr (.inl r), .inl x5] (mo b r (ms S) V W) (am_aft (am_hand m_X5_readAtom Q (am_W m_X5_readAtom (am_ev am_prog (d + 3)) Q) 178) (am_W m_X5_readAtom (am_ev am_prog (d + 3)) Q) 178 [some (.inr (.inl r)), some (.inl x1), some (.inl x2), some (.inl x3), some (.inl x4), some (.inl x5), some (.inl x6)] [])) : am_W m_X5_readAtom (am_ev am_prog (d + 3)) Q 176 [some (.inr (.inl r)), some (.inl x1), some (.inl x2), some (.inl x3), some (.inl x4), some (.inl x5), some (.inl x6)] [] (mo b r (ms S) V W) := by
  refine r_X5_readAtom_176 ?_
  simp only [mo_ty, true_or, or_true, true_and]
  exact H
theorem w_readAtom_179 {d : Nat} {Q : am_K} {b : am_H} {r : Nat} {S : am_G} {V : Nat → Int → Int} {W : Nat → Int} {x1 : Int} {x2 : Int} {x3 : Int} {x4 : Int} {x5 : Int} {x6 : Int} (H : am_ev am_prog (d + 3) 388 [.inr (.inl r), .inl (W 49)] (mo b r (ms S) V W) (am_aft (am_hand m_X5_readAtom Q (am_W m_X5_readAtom (am_ev am_prog (d + 3)) Q) 182) (am_W m_X5_readAtom (am_ev am_prog (d + 3)) Q) 182 [some (.inr (.inl r)), some (.inl x1), some (.inl x2), some (.inl x3), some (.inl x4), some (.inl x5), some (.inl x6)] [])) : am_W m_X5_readAtom (am_ev am_prog (d + 3)) Q 179 [some (.inr (.inl r)), some (.inl x1), some (.inl x2), some (.inl x3), some (.inl x4), some (.inl x5), some (.inl x6)] [] (mo b r (ms S) V W) := by
  refine r_X5_readAtom_179 ?_
  simp only [mo_ty, mo_i, true_or, or_true, true_and]
  exact H
theorem w_readAtom_183 {d : Nat} {Q : am_K} {b : am_H} {r : Nat} {S : am_G} {V : Nat → Int → Int} {W : Nat → Int} {x1 : Int} {x2 : Int} {x3 : Int} {x4 : Int} {x5 : Int} {x6 : Int} (H : Q (.inl (some (.inl 1))) (mo b r (ms S) V W)) : am_W m_X5_readAtom (am_ev am_prog (d + 3)) Q 183 [some (.inr (.inl r)), some (.inl x1), some (.inl x2), some (.inl x3), some (.inl x4), some (.inl x5), some (.inl x6)] [] (mo b r (ms S) V W) := by
  refine r_X5_readAtom_183 ?_
  exact ⟨(by decide), H⟩
theorem w_tagHere_0 {d : Nat} {Q : am_K} {b : am_H} {r : Nat} {S : am_G} {V : Nat → Int → Int} {W : Nat → Int}  (H : am_ev am_prog (d + 3) 323 [.inr (.inl r), .inr (.inl (am_cs b 38))] (mo b r (ms S) V W) (am_aft (am_hand m_X5_tagHere Q (am_W m_X5_tagHere (am_ev am_prog (d + 3)) Q) 2) (am_W m_X5_tagHere (am_ev am_prog (d + 3)) Q) 2 [some (.inr (.inl r))] [])) : am_W m_X5_tagHere (am_ev am_prog (d + 3)) Q 0 [some (.inr (.inl r))] [] (mo b r (ms S) V W) := by
  refine r_X5_tagHere_0 ?_
  simp only [mo_cs, mo_ty, true_or, or_true, true_and]
  exact H
theorem w_tagHere_3 {d : Nat} {Q : am_K} {b : am_H} {r : Nat} {S : am_G} {V : Nat → Int → Int} {W : Nat → Int} {y0 : Int} (H : ((y0 : Int) = 0 → am_ev am_prog (d + 3) 323 [.inr (.inl r), .inr (.inl (am_cs b 39))] (mo b r (ms S) V W) (am_aft (am_hand m_X5_tagHere Q (am_W m_X5_tagHere (am_ev am_prog (d + 3)) Q) 8) (am_W m_X5_tagHere (am_ev am_prog (d + 3)) Q) 8 [some (.inr (.inl r))] [])) ∧ ((y0 : Int) ≠ 0 → Q (.inl (some (.inl 0))) (mo b r (ms S) V W))) : am_W m_X5_tagHere (am_ev am_prog (d + 3)) Q 3 [some (.inr (.inl r))] [.inl y0] (mo b r (ms S) V W) := by
  refine r_X5_tagHere_3 ?_
  refine ⟨fun c => ?_, fun c => ?_⟩
  · replace H := H.1 c
    refine r_X5_tagHere_6 ?_
    simp only [mo_cs, mo_ty, true_or, or_true, true_and]
    exact H
  · replace H := H.2 c
    refine r_X5_tagHere_4 ?_
    refine r_X5_tagHere_19 ?_
    exact H
theorem w_tagHere_9 {d : Nat} {Q : am_K} {b : am_H} {r : Nat} {S : am_G} {V : Nat → Int → Int} {W : Nat → Int} {y0 : Int} (H : ((y0 : Int) = 0 → am_ev am_prog (d + 3) 323 [.inr (.inl r), .inr (.inl (am_cs b 40))] (mo b r (ms S) V W) (am_aft (am_hand m_X5_tagHere Q (am_W m_X5_tagHere (am_ev am_prog (d + 3)) Q) 14) (am_W m_X5_tagHere (am_ev am_prog (d + 3)) Q) 14 [some (.inr (.inl r))] [])) ∧ ((y0 : Int) ≠ 0 → Q (.inl (some (.inl 1))) (mo b r (ms S) V W))) : am_W m_X5_tagHere (am_ev am_prog (d + 3)) Q 9 [some (.inr (.inl r))] [.inl y0] (mo b r (ms S) V W) := by
  refine r_X5_tagHere_9 ?_
  refine ⟨fun c => ?_, fun c => ?_⟩
  · replace H := H.1 c
    refine r_X5_tagHere_12 ?_
    simp only [mo_cs, mo_ty, true_or, or_true, true_and]
    exact H
  · replace H := H.2 c
    refine r_X5_tagHere_10 ?_
    refine r_X5_tagHere_19 ?_
    exact H
theorem w_tagHere_15 {d : Nat} {Q : am_K} {b : am_H} {r : Nat} {S : am_G} {V : Nat → Int → Int} {W : Nat → Int} {y0 : Int} (H : ((y0 : Int) = 0 → Q (.inl (some (.inl (-1)))) (mo b r (ms S) V W)) ∧ ((y0 : Int) ≠ 0 → Q (.inl (some (.inl 2))) (mo b r (ms S) V W))) : am_W m_X5_tagHere (am_ev am_prog (d + 3)) Q 15 [some (.inr (.inl r))] [.inl y0] (mo b r (ms S) V W) := by
  refine r_X5_tagHere_15 ?_
  refine ⟨fun c => ?_, fun c => ?_⟩
  · replace H := H.1 c
    refine r_X5_tagHere_18 ?_
    refine r_X5_tagHere_19 ?_
    exact H
  · replace H := H.2 c
    refine r_X5_tagHere_16 ?_
    refine r_X5_tagHere_19 ?_
    exact H
theorem w_factHere_0 {d : Nat} {Q : am_K} {b : am_H} {r : Nat} {S : am_G} {V : Nat → Int → Int} {W : Nat → Int}  (H : am_ev am_prog (d + 3) 323 [.inr (.inl r), .inr (.inl (am_cs b 41))] (mo b r (ms S) V W) (am_aft (am_hand m_X5_factHere Q (am_W m_X5_factHere (am_ev am_prog (d + 3)) Q) 2) (am_W m_X5_factHere (am_ev am_prog (d + 3)) Q) 2 [some (.inr (.inl r))] [])) : am_W m_X5_factHere (am_ev am_prog (d + 3)) Q 0 [some (.inr (.inl r))] [] (mo b r (ms S) V W) := by
  refine r_X5_factHere_0 ?_
  simp only [mo_cs, mo_ty, true_or, or_true, true_and]
  exact H
theorem w_factHere_3 {d : Nat} {Q : am_K} {b : am_H} {r : Nat} {S : am_G} {V : Nat → Int → Int} {W : Nat → Int} {y0 : Int} (H : ((y0 : Int) = 0 → am_ev am_prog (d + 3) 323 [.inr (.inl r), .inr (.inl (am_cs b 42))] (mo b r (ms S) V W) (am_aft (am_hand m_X5_factHere Q (am_W m_X5_factHere (am_ev am_prog (d + 3)) Q) 8) (am_W m_X5_factHere (am_ev am_prog (d + 3)) Q) 8 [some (.inr (.inl r))] [])) ∧ ((y0 : Int) ≠ 0 → Q (.inl (some (.inl 0))) (mo b r (ms S) V W))) : am_W m_X5_factHere (am_ev am_prog (d + 3)) Q 3 [some (.inr (.inl r))] [.inl y0] (mo b r (ms S) V W) := by
  refine r_X5_factHere_3 ?_
  refine ⟨fun c => ?_, fun c => ?_⟩
  · replace H := H.1 c
    refine r_X5_factHere_6 ?_
    simp only [mo_cs, mo_ty, true_or, or_true, true_and]
    exact H
  · replace H := H.2 c
    refine r_X5_factHere_4 ?_
    refine r_X5_factHere_37 ?_
    exact H
theorem w_factHere_9 {d : Nat} {Q : am_K} {b : am_H} {r : Nat} {S : am_G} {V : Nat → Int → Int} {W : Nat → Int} {y0 : Int} (H : ((y0 : Int) = 0 → am_ev am_prog (d + 3) 323 [.inr (.inl r), .inr (.inl (am_cs b 43))] (mo b r (ms S) V W) (am_aft (am_hand m_X5_factHere Q (am_W m_X5_factHere (am_ev am_prog (d + 3)) Q) 14) (am_W m_X5_factHere (am_ev am_prog (d + 3)) Q) 14 [some (.inr (.inl r))] [])) ∧ ((y0 : Int) ≠ 0 → Q (.inl (some (.inl 1))) (mo b r (ms S) V W))) : am_W m_X5_factHere (am_ev am_prog (d + 3)) Q 9 [some (.inr (.inl r))] [.inl y0] (mo b r (ms S) V W) := by
  refine r_X5_factHere_9 ?_
  refine ⟨fun c => ?_, fun c => ?_⟩
  · replace H := H.1 c
    refine r_X5_factHere_12 ?_
    simp only [mo_cs, mo_ty, true_or, or_true, true_and]
    exact H
  · replace H := H.2 c
    refine r_X5_factHere_10 ?_
    refine r_X5_factHere_37 ?_
    exact H
theorem w_factHere_15 {d : Nat} {Q : am_K} {b : am_H} {r : Nat} {S : am_G} {V : Nat → Int → Int} {W : Nat → Int} {y0 : Int} (H : ((y0 : Int) = 0 → am_ev am_prog (d + 3) 323 [.inr (.inl r), .inr (.inl (am_cs b 44))] (mo b r (ms S) V W) (am_aft (am_hand m_X5_factHere Q (am_W m_X5_factHere (am_ev am_prog (d + 3)) Q) 20) (am_W m_X5_factHere (am_ev am_prog (d + 3)) Q) 20 [some (.inr (.inl r))] [])) ∧ ((y0 : Int) ≠ 0 → Q (.inl (some (.inl 2))) (mo b r (ms S) V W))) : am_W m_X5_factHere (am_ev am_prog (d + 3)) Q 15 [some (.inr (.inl r))] [.inl y0] (mo b r (ms S) V W) := by
  refine r_X5_factHere_15 ?_
  refine ⟨fun c => ?_, fun c => ?_⟩
  · replace H := H.1 c
    refine r_X5_factHere_18 ?_
    simp only [mo_cs, mo_ty, true_or, or_true, true_and]
    exact H
  · replace H := H.2 c
    refine r_X5_factHere_16 ?_
    refine r_X5_factHere_37 ?_
    exact H
theorem w_factHere_21 {d : Nat} {Q : am_K} {b : am_H} {r : Nat} {S : am_G} {V : Nat → Int → Int} {W : Nat → Int} {y0 : Int} (H : ((y0 : Int) = 0 → am_ev am_prog (d + 3) 323 [.inr (.inl r), .inr (.inl (am_cs b 45))] (mo b r (ms S) V W) (am_aft (am_hand m_X5_factHere Q (am_W m_X5_factHere (am_ev am_prog (d + 3)) Q) 26) (am_W m_X5_factHere (am_ev am_prog (d + 3)) Q) 26 [some (.inr (.inl r))] [])) ∧ ((y0 : Int) ≠ 0 → Q (.inl (some (.inl 3))) (mo b r (ms S) V W))) : am_W m_X5_factHere (am_ev am_prog (d + 3)) Q 21 [some (.inr (.inl r))] [.inl y0] (mo b r (ms S) V W) := by
  refine r_X5_factHere_21 ?_
  refine ⟨fun c => ?_, fun c => ?_⟩
  · replace H := H.1 c
    refine r_X5_factHere_24 ?_
    simp only [mo_cs, mo_ty, true_or, or_true, true_and]
    exact H
  · replace H := H.2 c
    refine r_X5_factHere_22 ?_
    refine r_X5_factHere_37 ?_
    exact H
theorem w_factHere_27 {d : Nat} {Q : am_K} {b : am_H} {r : Nat} {S : am_G} {V : Nat → Int → Int} {W : Nat → Int} {y0 : Int} (H : ((y0 : Int) = 0 → am_ev am_prog (d + 3) 323 [.inr (.inl r), .inr (.inl (am_cs b 46))] (mo b r (ms S) V W) (am_aft (am_hand m_X5_factHere Q (am_W m_X5_factHere (am_ev am_prog (d + 3)) Q) 32) (am_W m_X5_factHere (am_ev am_prog (d + 3)) Q) 32 [some (.inr (.inl r))] [])) ∧ ((y0 : Int) ≠ 0 → Q (.inl (some (.inl 4))) (mo b r (ms S) V W))) : am_W m_X5_factHere (am_ev am_prog (d + 3)) Q 27 [some (.inr (.inl r))] [.inl y0] (mo b r (ms S) V W) := by
  refine r_X5_factHere_27 ?_
  refine ⟨fun c => ?_, fun c => ?_⟩
  · replace H := H.1 c
    refine r_X5_factHere_30 ?_
    simp only [mo_cs, mo_ty, true_or, or_true, true_and]
    exact H
  · replace H := H.2 c
    refine r_X5_factHere_28 ?_
    refine r_X5_factHere_37 ?_
    exact H
theorem w_factHere_33 {d : Nat} {Q : am_K} {b : am_H} {r : Nat} {S : am_G} {V : Nat → Int → Int} {W : Nat → Int} {y0 : Int} (H : ((y0 : Int) = 0 → Q (.inl (some (.inl (-1)))) (mo b r (ms S) V W)) ∧ ((y0 : Int) ≠ 0 → Q (.inl (some (.inl 5))) (mo b r (ms S) V W))) : am_W m_X5_factHere (am_ev am_prog (d + 3)) Q 33 [some (.inr (.inl r))] [.inl y0] (mo b r (ms S) V W) := by
  refine r_X5_factHere_33 ?_
  refine ⟨fun c => ?_, fun c => ?_⟩
  · replace H := H.1 c
    refine r_X5_factHere_36 ?_
    refine r_X5_factHere_37 ?_
    exact H
  · replace H := H.2 c
    refine r_X5_factHere_34 ?_
    refine r_X5_factHere_37 ?_
    exact H
