set_option maxRecDepth 100000
theorem v_L_law_0 {d : Nat} {Q : am_K} {h : am_H} {r0 : Nat} {o1 : Option am_V} {o2 : Option am_V} {o3 : Option am_V} {o4 : Option am_V} {o5 : Option am_V} {o6 : Option am_V} (H : am_ev am_prog (d + 12) 1 [.inr (.inl (am_sz h + 1))] (am_new h 1 6) (am_aft (am_hand m_L_law Q (am_W m_L_law (am_ev am_prog (d + 12)) Q) 2) (am_W m_L_law (am_ev am_prog (d + 12)) Q) 2 [some (.inr (.inl r0)), o1, o2, o3, o4, o5, o6] [.inr (.inl (am_sz h + 1))])) : am_W m_L_law (am_ev am_prog (d + 12)) Q 0 [some (.inr (.inl r0)), o1, o2, o3, o4, o5, o6] [] h := by
  refine r_L_law_0 ?_
  refine r_L_law_1 ?_
  simp only [x_tyn0 (h := h) (q := am_sz h + 1) rfl, true_or, or_true, Nat.reduceEqDiff, true_and]
  exact H
theorem v_L_law_3 {d : Nat} {Q : am_K} {h : am_H} {r0 : Nat} {o1 : Option am_V} {o2 : Option am_V} {o3 : Option am_V} {o4 : Option am_V} {o5 : Option am_V} {o6 : Option am_V} {q0 : Nat} (H : am_ev am_prog (d + 12) 2 [.inr (.inl (am_sz h + 1))] (am_new h 5 58) (am_aft (am_hand m_L_law Q (am_W m_L_law (am_ev am_prog (d + 12)) Q) 6) (am_W m_L_law (am_ev am_prog (d + 12)) Q) 6 [some (.inr (.inl r0)), some (.inr (.inl q0)), o2, o3, o4, o5, o6] [.inr (.inl (am_sz h + 1))])) : am_W m_L_law (am_ev am_prog (d + 12)) Q 3 [some (.inr (.inl r0)), o1, o2, o3, o4, o5, o6] [.inr (.inl q0)] h := by
  refine r_L_law_3 ?_
  refine r_L_law_5 ?_
  simp only [x_tyn0 (h := h) (q := am_sz h + 1) rfl, true_or, or_true, Nat.reduceEqDiff, true_and]
  exact H
theorem v_L_law_7 {d : Nat} {Q : am_K} {h : am_H} {r0 : Nat} {r1 : Nat} {o2 : Option am_V} {o3 : Option am_V} {o4 : Option am_V} {o5 : Option am_V} {o6 : Option am_V} {q0 : Nat} (H : am_W m_L_law (am_ev am_prog (d + 12)) Q 13 [some (.inr (.inl r0)), some (.inr (.inl r1)), some (.inr (.inl q0)), some (.inr (.inl (am_sz h + 1))), some (.inl 0), o5, o6] [] (am_new h 104 1)) : am_W m_L_law (am_ev am_prog (d + 12)) Q 7 [some (.inr (.inl r0)), some (.inr (.inl r1)), o2, o3, o4, o5, o6] [.inr (.inl q0)] h := by
  refine r_L_law_7 ?_
  simp only [Int.reduceToNat, true_and]
  refine ⟨(by decide), ?_⟩
  refine r_L_law_10 ?_
  exact H
theorem v_L_law_13 {d : Nat} {Q : am_K} {h : am_H} {r0 : Nat} {r1 : Nat} {r2 : Nat} {r3 : Nat} {x4 : Int} {o5 : Option am_V} {o6 : Option am_V} (H : ((am_ty h r0 = 101 ∨ am_ty h r0 = 121) ∧ (-2147483648 ≤ (am_ln h r0) - 6 ∧ (am_ln h r0) - 6 ≤ 2147483647)) ∧ (((am_ln h r0) - 6 < (x4 : Int) → Q (.inl (some (.inl 1))) h) ∧ ((x4 : Int) ≤ (am_ln h r0) - 6 → (((0 : Int) ≤ x4 ∧ x4 < am_ln h r0)) ∧ (((am_andz (am_ai h r0 x4) 63 : Int) = 0 → ((-2147483648 ≤ x4 + 1 ∧ x4 + 1 ≤ 2147483647) ∧ ((0 : Int) ≤ x4 + 1 ∧ x4 + 1 < am_ln h r0) ∧ (-2147483648 ≤ x4 + 2 ∧ x4 + 2 ≤ 2147483647) ∧ ((0 : Int) ≤ x4 + 2 ∧ x4 + 2 < am_ln h r0) ∧ (-2147483648 ≤ x4 + 3 ∧ x4 + 3 ≤ 2147483647) ∧ ((0 : Int) ≤ x4 + 3 ∧ x4 + 3 < am_ln h r0) ∧ (-2147483648 ≤ x4 + 4 ∧ x4 + 4 ≤ 2147483647) ∧ ((0 : Int) ≤ x4 + 4 ∧ x4 + 4 < am_ln h r0) ∧ (-2147483648 ≤ x4 + 5 ∧ x4 + 5 ≤ 2147483647) ∧ ((0 : Int) ≤ x4 + 5 ∧ x4 + 5 < am_ln h r0)) ∧ ((am_ty h r1 = 1) ∧ (am_ev am_prog (d + 12) 80 [.inr (.inl r1), .inl (am_ai h r0 (x4 + 1)), .inl (am_ai h r0 (x4 + 2)), .inl (am_ai h r0 (x4 + 3)), .inl (am_ai h r0 (x4 + 4)), .inl (am_ai h r0 (x4 + 5))] h (am_aft (am_hand m_L_law Q (am_W m_L_law (am_ev am_prog (d + 12)) Q) 51) (am_W m_L_law (am_ev am_prog (d + 12)) Q) 51 [some (.inr (.inl r0)), some (.inr (.inl r1)), some (.inr (.inl r2)), some (.inr (.inl r3)), some (.inl x4), o5, o6] [])))) ∧ ((am_andz (am_ai h r0 x4) 63 : Int) = 1 → ((-2147483648 ≤ x4 + 1 ∧ x4 + 1 ≤ 2147483647) ∧ ((0 : Int) ≤ x4 + 1 ∧ x4 + 1 < am_ln h r0)) ∧ ((am_ty h r1 = 1) ∧ (am_ev am_prog (d + 12) 16 [.inr (.inl r1), .inl (am_ai h r0 (x4 + 1))] h (am_aft (am_hand m_L_law Q (am_W m_L_law (am_ev am_prog (d + 12)) Q) 88) (am_W m_L_law (am_ev am_prog (d + 12)) Q) 88 [some (.inr (.inl r0)), some (.inr (.inl r1)), some (.inr (.inl r2)), some (.inr (.inl r3)), some (.inl x4), o5, o6] [])))) ∧ ((am_andz (am_ai h r0 x4) 63 : Int) = 2 → ((-2147483648 ≤ x4 + 1 ∧ x4 + 1 ≤ 2147483647) ∧ ((0 : Int) ≤ x4 + 1 ∧ x4 + 1 < am_ln h r0) ∧ (-2147483648 ≤ x4 + 2 ∧ x4 + 2 ≤ 2147483647) ∧ ((0 : Int) ≤ x4 + 2 ∧ x4 + 2 < am_ln h r0) ∧ (-2147483648 ≤ x4 + 3 ∧ x4 + 3 ≤ 2147483647) ∧ ((0 : Int) ≤ x4 + 3 ∧ x4 + 3 < am_ln h r0)) ∧ (am_ev am_prog (d + 12) 51 [.inr (.inl r1), .inl (am_ai h r0 (x4 + 1)), .inl (am_ai h r0 (x4 + 2)), .inl (am_ai h r0 (x4 + 3))] h (am_aft (am_hand m_L_law Q (am_W m_L_law (am_ev am_prog (d + 12)) Q) 115) (am_W m_L_law (am_ev am_prog (d + 12)) Q) 115 [some (.inr (.inl r0)), some (.inr (.inl r1)), some (.inr (.inl r2)), some (.inr (.inl r3)), some (.inl x4), o5, o6] []))) ∧ ((am_andz (am_ai h r0 x4) 63 : Int) = 3 → ((-2147483648 ≤ x4 + 1 ∧ x4 + 1 ≤ 2147483647) ∧ ((0 : Int) ≤ x4 + 1 ∧ x4 + 1 < am_ln h r0) ∧ (-2147483648 ≤ x4 + 2 ∧ x4 + 2 ≤ 2147483647) ∧ ((0 : Int) ≤ x4 + 2 ∧ x4 + 2 < am_ln h r0)) ∧ (am_ev am_prog (d + 12) 25 [.inr (.inl r1), .inl (am_ai h r0 (x4 + 1)), .inl (am_ai h r0 (x4 + 2)), .inr (.inl r3)] h (am_aft (am_hand m_L_law Q (am_W m_L_law (am_ev am_prog (d + 12)) Q) 153) (am_W m_L_law (am_ev am_prog (d + 12)) Q) 153 [some (.inr (.inl r0)), some (.inr (.inl r1)), some (.inr (.inl r2)), some (.inr (.inl r3)), some (.inl x4), o5, o6] []))) ∧ ((am_andz (am_ai h r0 x4) 63 : Int) = 4 → ((-2147483648 ≤ x4 + 1 ∧ x4 + 1 ≤ 2147483647) ∧ ((0 : Int) ≤ x4 + 1 ∧ x4 + 1 < am_ln h r0)) ∧ (am_ev am_prog (d + 12) 19 [.inr (.inl r1), .inl (am_ai h r0 (x4 + 1)), .inr (.inl r3)] h (am_aft (am_hand m_L_law Q (am_W m_L_law (am_ev am_prog (d + 12)) Q) 193) (am_W m_L_law (am_ev am_prog (d + 12)) Q) 193 [some (.inr (.inl r0)), some (.inr (.inl r1)), some (.inr (.inl r2)), some (.inr (.inl r3)), some (.inl x4), o5, o6] []))) ∧ ((am_andz (am_ai h r0 x4) 63 : Int) = 5 → (am_ty h r1 = 1) ∧ (am_ev am_prog (d + 12) 7 [.inr (.inl r1)] h (am_aft (am_hand m_L_law Q (am_W m_L_law (am_ev am_prog (d + 12)) Q) 222) (am_W m_L_law (am_ev am_prog (d + 12)) Q) 222 [some (.inr (.inl r0)), some (.inr (.inl r1)), some (.inr (.inl r2)), some (.inr (.inl r3)), some (.inl x4), o5, o6] []))) ∧ ((am_andz (am_ai h r0 x4) 63 : Int) = 6 → ((-2147483648 ≤ x4 + 1 ∧ x4 + 1 ≤ 2147483647) ∧ ((0 : Int) ≤ x4 + 1 ∧ x4 + 1 < am_ln h r0) ∧ (-2147483648 ≤ x4 + 2 ∧ x4 + 2 ≤ 2147483647) ∧ ((0 : Int) ≤ x4 + 2 ∧ x4 + 2 < am_ln h r0)) ∧ (am_ev am_prog (d + 12) 35 [.inr (.inl r1), .inl (am_ai h r0 (x4 + 1)), .inl (am_ai h r0 (x4 + 2)), .inr (.inl r3)] h (am_aft (am_hand m_L_law Q (am_W m_L_law (am_ev am_prog (d + 12)) Q) 240) (am_W m_L_law (am_ev am_prog (d + 12)) Q) 240 [some (.inr (.inl r0)), some (.inr (.inl r1)), some (.inr (.inl r2)), some (.inr (.inl r3)), some (.inl x4), o5, o6] []))) ∧ ((am_andz (am_ai h r0 x4) 63 : Int) = 7 → ((-2147483648 ≤ x4 + 1 ∧ x4 + 1 ≤ 2147483647) ∧ ((0 : Int) ≤ x4 + 1 ∧ x4 + 1 < am_ln h r0) ∧ (-2147483648 ≤ x4 + 2 ∧ x4 + 2 ≤ 2147483647) ∧ ((0 : Int) ≤ x4 + 2 ∧ x4 + 2 < am_ln h r0) ∧ (-2147483648 ≤ x4 + 3 ∧ x4 + 3 ≤ 2147483647) ∧ ((0 : Int) ≤ x4 + 3 ∧ x4 + 3 < am_ln h r0)) ∧ (am_ev am_prog (d + 12) 54 [.inr (.inl r1), .inl (am_ai h r0 (x4 + 1)), .inl (am_ai h r0 (x4 + 2)), .inl (am_ai h r0 (x4 + 3)), .inr (.inl r3)] h (am_aft (am_hand m_L_law Q (am_W m_L_law (am_ev am_prog (d + 12)) Q) 290) (am_W m_L_law (am_ev am_prog (d + 12)) Q) 290 [some (.inr (.inl r0)), some (.inr (.inl r1)), some (.inr (.inl r2)), some (.inr (.inl r3)), some (.inl x4), o5, o6] []))) ∧ ((am_andz (am_ai h r0 x4) 63 : Int) = 8 → ((-2147483648 ≤ x4 + 1 ∧ x4 + 1 ≤ 2147483647) ∧ ((0 : Int) ≤ x4 + 1 ∧ x4 + 1 < am_ln h r0) ∧ (-2147483648 ≤ x4 + 2 ∧ x4 + 2 ≤ 2147483647) ∧ ((0 : Int) ≤ x4 + 2 ∧ x4 + 2 < am_ln h r0)) ∧ (am_ev am_prog (d + 12) 32 [.inr (.inl r1), .inl (am_ai h r0 (x4 + 1)), .inl (am_ai h r0 (x4 + 2)), .inr (.inl r3)] h (am_aft (am_hand m_L_law Q (am_W m_L_law (am_ev am_prog (d + 12)) Q) 340) (am_W m_L_law (am_ev am_prog (d + 12)) Q) 340 [some (.inr (.inl r0)), some (.inr (.inl r1)), some (.inr (.inl r2)), some (.inr (.inl r3)), some (.inl x4), o5, o6] []))) ∧ ((am_andz (am_ai h r0 x4) 63 : Int) = 9 → ((-2147483648 ≤ x4 + 1 ∧ x4 + 1 ≤ 2147483647) ∧ ((0 : Int) ≤ x4 + 1 ∧ x4 + 1 < am_ln h r0) ∧ (-2147483648 ≤ x4 + 2 ∧ x4 + 2 ≤ 2147483647) ∧ ((0 : Int) ≤ x4 + 2 ∧ x4 + 2 < am_ln h r0)) ∧ (am_ev am_prog (d + 12) 38 [.inr (.inl r1), .inl (am_ai h r0 (x4 + 1)), .inl (am_ai h r0 (x4 + 2)), .inr (.inl r3)] h (am_aft (am_hand m_L_law Q (am_W m_L_law (am_ev am_prog (d + 12)) Q) 385) (am_W m_L_law (am_ev am_prog (d + 12)) Q) 385 [some (.inr (.inl r0)), some (.inr (.inl r1)), some (.inr (.inl r2)), some (.inr (.inl r3)), some (.inl x4), o5, o6] []))) ∧ ((am_andz (am_ai h r0 x4) 63 : Int) = 10 → ((-2147483648 ≤ x4 + 1 ∧ x4 + 1 ≤ 2147483647) ∧ ((0 : Int) ≤ x4 + 1 ∧ x4 + 1 < am_ln h r0) ∧ (-2147483648 ≤ x4 + 2 ∧ x4 + 2 ≤ 2147483647) ∧ ((0 : Int) ≤ x4 + 2 ∧ x4 + 2 < am_ln h r0)) ∧ (((am_ai h r0 (x4 + 2) : Int) = 0 → am_ev am_prog (d + 12) 42 [.inr (.inl r1), .inl (am_ai h r0 (x4 + 1)), .inl 0, .inr (.inl r3)] h (am_aft (am_hand m_L_law Q (am_W m_L_law (am_ev am_prog (d + 12)) Q) 434) (am_W m_L_law (am_ev am_prog (d + 12)) Q) 434 [some (.inr (.inl r0)), some (.inr (.inl r1)), some (.inr (.inl r2)), some (.inr (.inl r3)), some (.inl x4), o5, o6] [])) ∧ ((am_ai h r0 (x4 + 2) : Int) ≠ 0 → am_ev am_prog (d + 12) 42 [.inr (.inl r1), .inl (am_ai h r0 (x4 + 1)), .inl 1, .inr (.inl r3)] h (am_aft (am_hand m_L_law Q (am_W m_L_law (am_ev am_prog (d + 12)) Q) 434) (am_W m_L_law (am_ev am_prog (d + 12)) Q) 434 [some (.inr (.inl r0)), some (.inr (.inl r1)), some (.inr (.inl r2)), some (.inr (.inl r3)), some (.inl x4), o5, o6] [])))) ∧ ((am_andz (am_ai h r0 x4) 63 : Int) = 11 → ((-2147483648 ≤ x4 + 1 ∧ x4 + 1 ≤ 2147483647) ∧ ((0 : Int) ≤ x4 + 1 ∧ x4 + 1 < am_ln h r0) ∧ (-2147483648 ≤ x4 + 2 ∧ x4 + 2 ≤ 2147483647) ∧ ((0 : Int) ≤ x4 + 2 ∧ x4 + 2 < am_ln h r0)) ∧ (am_ev am_prog (d + 12) 34 [.inr (.inl r1), .inl (am_ai h r0 (x4 + 1)), .inl (am_ai h r0 (x4 + 2)), .inr (.inl r3)] h (am_aft (am_hand m_L_law Q (am_W m_L_law (am_ev am_prog (d + 12)) Q) 483) (am_W m_L_law (am_ev am_prog (d + 12)) Q) 483 [some (.inr (.inl r0)), some (.inr (.inl r1)), some (.inr (.inl r2)), some (.inr (.inl r3)), some (.inl x4), o5, o6] []))) ∧ ((am_andz (am_ai h r0 x4) 63 : Int) = 12 → ((-2147483648 ≤ x4 + 1 ∧ x4 + 1 ≤ 2147483647) ∧ ((0 : Int) ≤ x4 + 1 ∧ x4 + 1 < am_ln h r0) ∧ (-2147483648 ≤ x4 + 2 ∧ x4 + 2 ≤ 2147483647) ∧ ((0 : Int) ≤ x4 + 2 ∧ x4 + 2 < am_ln h r0) ∧ (-2147483648 ≤ x4 + 3 ∧ x4 + 3 ≤ 2147483647) ∧ ((0 : Int) ≤ x4 + 3 ∧ x4 + 3 < am_ln h r0)) ∧ (am_ev am_prog (d + 12) 52 [.inr (.inl r1), .inl (am_ai h r0 (x4 + 1)), .inl (am_ai h r0 (x4 + 2)), .inl (am_ai h r0 (x4 + 3)), .inr (.inl r3)] h (am_aft (am_hand m_L_law Q (am_W m_L_law (am_ev am_prog (d + 12)) Q) 533) (am_W m_L_law (am_ev am_prog (d + 12)) Q) 533 [some (.inr (.inl r0)), some (.inr (.inl r1)), some (.inr (.inl r2)), some (.inr (.inl r3)), some (.inl x4), o5, o6] []))) ∧ ((am_andz (am_ai h r0 x4) 63 : Int) = 13 → ((-2147483648 ≤ x4 + 1 ∧ x4 + 1 ≤ 2147483647) ∧ ((0 : Int) ≤ x4 + 1 ∧ x4 + 1 < am_ln h r0) ∧ (-2147483648 ≤ x4 + 2 ∧ x4 + 2 ≤ 2147483647) ∧ ((0 : Int) ≤ x4 + 2 ∧ x4 + 2 < am_ln h r0)) ∧ (((am_ai h r0 (x4 + 2) : Int) = 0 → am_ev am_prog (d + 12) 43 [.inr (.inl r1), .inl (am_ai h r0 (x4 + 1)), .inl 0, .inr (.inl r3)] h (am_aft (am_hand m_L_law Q (am_W m_L_law (am_ev am_prog (d + 12)) Q) 587) (am_W m_L_law (am_ev am_prog (d + 12)) Q) 587 [some (.inr (.inl r0)), some (.inr (.inl r1)), some (.inr (.inl r2)), some (.inr (.inl r3)), some (.inl x4), o5, o6] [])) ∧ ((am_ai h r0 (x4 + 2) : Int) ≠ 0 → am_ev am_prog (d + 12) 43 [.inr (.inl r1), .inl (am_ai h r0 (x4 + 1)), .inl 1, .inr (.inl r3)] h (am_aft (am_hand m_L_law Q (am_W m_L_law (am_ev am_prog (d + 12)) Q) 587) (am_W m_L_law (am_ev am_prog (d + 12)) Q) 587 [some (.inr (.inl r0)), some (.inr (.inl r1)), some (.inr (.inl r2)), some (.inr (.inl r3)), some (.inl x4), o5, o6] [])))) ∧ ((am_andz (am_ai h r0 x4) 63 : Int) = 14 → ((-2147483648 ≤ x4 + 1 ∧ x4 + 1 ≤ 2147483647) ∧ ((0 : Int) ≤ x4 + 1 ∧ x4 + 1 < am_ln h r0) ∧ (-2147483648 ≤ x4 + 2 ∧ x4 + 2 ≤ 2147483647) ∧ ((0 : Int) ≤ x4 + 2 ∧ x4 + 2 < am_ln h r0)) ∧ (am_ev am_prog (d + 12) 37 [.inr (.inl r1), .inl (am_ai h r0 (x4 + 1)), .inl (am_ai h r0 (x4 + 2)), .inr (.inl r3)] h (am_aft (am_hand m_L_law Q (am_W m_L_law (am_ev am_prog (d + 12)) Q) 639) (am_W m_L_law (am_ev am_prog (d + 12)) Q) 639 [some (.inr (.inl r0)), some (.inr (.inl r1)), some (.inr (.inl r2)), some (.inr (.inl r3)), some (.inl x4), o5, o6] []))) ∧ ((am_andz (am_ai h r0 x4) 63 : Int) = 15 → ((-2147483648 ≤ x4 + 1 ∧ x4 + 1 ≤ 2147483647) ∧ ((0 : Int) ≤ x4 + 1 ∧ x4 + 1 < am_ln h r0)) ∧ (am_ev am_prog (d + 12) 18 [.inr (.inl r1), .inl (am_ai h r0 (x4 + 1)), .inr (.inl r3)] h (am_aft (am_hand m_L_law Q (am_W m_L_law (am_ev am_prog (d + 12)) Q) 679) (am_W m_L_law (am_ev am_prog (d + 12)) Q) 679 [some (.inr (.inl r0)), some (.inr (.inl r1)), some (.inr (.inl r2)), some (.inr (.inl r3)), some (.inl x4), o5, o6] []))) ∧ ((am_andz (am_ai h r0 x4) 63 : Int) = 16 → ((-2147483648 ≤ x4 + 1 ∧ x4 + 1 ≤ 2147483647) ∧ ((0 : Int) ≤ x4 + 1 ∧ x4 + 1 < am_ln h r0) ∧ (-2147483648 ≤ x4 + 2 ∧ x4 + 2 ≤ 2147483647) ∧ ((0 : Int) ≤ x4 + 2 ∧ x4 + 2 < am_ln h r0)) ∧ (am_ev am_prog (d + 12) 31 [.inr (.inl r1), .inl (am_ai h r0 (x4 + 1)), .inl (am_ai h r0 (x4 + 2)), .inr (.inl r3)] h (am_aft (am_hand m_L_law Q (am_W m_L_law (am_ev am_prog (d + 12)) Q) 719) (am_W m_L_law (am_ev am_prog (d + 12)) Q) 719 [some (.inr (.inl r0)), some (.inr (.inl r1)), some (.inr (.inl r2)), some (.inr (.inl r3)), some (.inl x4), o5, o6] []))) ∧ ((am_andz (am_ai h r0 x4) 63 : Int) = 17 → ((-2147483648 ≤ x4 + 1 ∧ x4 + 1 ≤ 2147483647) ∧ ((0 : Int) ≤ x4 + 1 ∧ x4 + 1 < am_ln h r0) ∧ (-2147483648 ≤ x4 + 2 ∧ x4 + 2 ≤ 2147483647) ∧ ((0 : Int) ≤ x4 + 2 ∧ x4 + 2 < am_ln h r0)) ∧ (am_ev am_prog (d + 12) 36 [.inr (.inl r1), .inl (am_ai h r0 (x4 + 1)), .inl (am_ai h r0 (x4 + 2)), .inr (.inl r3)] h (am_aft (am_hand m_L_law Q (am_W m_L_law (am_ev am_prog (d + 12)) Q) 764) (am_W m_L_law (am_ev am_prog (d + 12)) Q) 764 [some (.inr (.inl r0)), some (.inr (.inl r1)), some (.inr (.inl r2)), some (.inr (.inl r3)), some (.inl x4), o5, o6] []))) ∧ ((am_andz (am_ai h r0 x4) 63 : Int) = 18 → ((-2147483648 ≤ x4 + 1 ∧ x4 + 1 ≤ 2147483647) ∧ ((0 : Int) ≤ x4 + 1 ∧ x4 + 1 < am_ln h r0) ∧ (-2147483648 ≤ x4 + 2 ∧ x4 + 2 ≤ 2147483647) ∧ ((0 : Int) ≤ x4 + 2 ∧ x4 + 2 < am_ln h r0)) ∧ (am_ev am_prog (d + 12) 27 [.inr (.inl r1), .inl (am_ai h r0 (x4 + 1)), .inl (am_ai h r0 (x4 + 2)), .inr (.inl r3)] h (am_aft (am_hand m_L_law Q (am_W m_L_law (am_ev am_prog (d + 12)) Q) 809) (am_W m_L_law (am_ev am_prog (d + 12)) Q) 809 [some (.inr (.inl r0)), some (.inr (.inl r1)), some (.inr (.inl r2)), some (.inr (.inl r3)), some (.inl x4), o5, o6] []))) ∧ ((am_andz (am_ai h r0 x4) 63 : Int) = 19 → ((-2147483648 ≤ x4 + 1 ∧ x4 + 1 ≤ 2147483647) ∧ ((0 : Int) ≤ x4 + 1 ∧ x4 + 1 < am_ln h r0) ∧ (-2147483648 ≤ x4 + 2 ∧ x4 + 2 ≤ 2147483647) ∧ ((0 : Int) ≤ x4 + 2 ∧ x4 + 2 < am_ln h r0)) ∧ (am_ev am_prog (d + 12) 33 [.inr (.inl r1), .inl (am_ai h r0 (x4 + 1)), .inl (am_ai h r0 (x4 + 2)), .inr (.inl r3)] h (am_aft (am_hand m_L_law Q (am_W m_L_law (am_ev am_prog (d + 12)) Q) 854) (am_W m_L_law (am_ev am_prog (d + 12)) Q) 854 [some (.inr (.inl r0)), some (.inr (.inl r1)), some (.inr (.inl r2)), some (.inr (.inl r3)), some (.inl x4), o5, o6] []))) ∧ ((am_andz (am_ai h r0 x4) 63 : Int) = 20 → ((-2147483648 ≤ x4 + 1 ∧ x4 + 1 ≤ 2147483647) ∧ ((0 : Int) ≤ x4 + 1 ∧ x4 + 1 < am_ln h r0)) ∧ (am_ev am_prog (d + 12) 22 [.inr (.inl r1), .inl (am_ai h r0 (x4 + 1)), .inr (.inl r3)] h (am_aft (am_hand m_L_law Q (am_W m_L_law (am_ev am_prog (d + 12)) Q) 894) (am_W m_L_law (am_ev am_prog (d + 12)) Q) 894 [some (.inr (.inl r0)), some (.inr (.inl r1)), some (.inr (.inl r2)), some (.inr (.inl r3)), some (.inl x4), o5, o6] []))) ∧ ((am_andz (am_ai h r0 x4) 63 : Int) = 21 → ((-2147483648 ≤ x4 + 1 ∧ x4 + 1 ≤ 2147483647) ∧ ((0 : Int) ≤ x4 + 1 ∧ x4 + 1 < am_ln h r0)) ∧ (am_ev am_prog (d + 12) 17 [.inr (.inl r1), .inl (am_ai h r0 (x4 + 1)), .inr (.inl r3)] h (am_aft (am_hand m_L_law Q (am_W m_L_law (am_ev am_prog (d + 12)) Q) 929) (am_W m_L_law (am_ev am_prog (d + 12)) Q) 929 [some (.inr (.inl r0)), some (.inr (.inl r1)), some (.inr (.inl r2)), some (.inr (.inl r3)), some (.inl x4), o5, o6] []))) ∧ ((am_andz (am_ai h r0 x4) 63 : Int) = 22 → ((-2147483648 ≤ x4 + 1 ∧ x4 + 1 ≤ 2147483647) ∧ ((0 : Int) ≤ x4 + 1 ∧ x4 + 1 < am_ln h r0) ∧ (-2147483648 ≤ x4 + 2 ∧ x4 + 2 ≤ 2147483647) ∧ ((0 : Int) ≤ x4 + 2 ∧ x4 + 2 < am_ln h r0)) ∧ (am_ev am_prog (d + 12) 30 [.inr (.inl r1), .inl (am_ai h r0 (x4 + 1)), .inl (am_ai h r0 (x4 + 2)), .inr (.inl r3)] h (am_aft (am_hand m_L_law Q (am_W m_L_law (am_ev am_prog (d + 12)) Q) 972) (am_W m_L_law (am_ev am_prog (d + 12)) Q) 972 [some (.inr (.inl r0)), some (.inr (.inl r1)), some (.inr (.inl r2)), some (.inr (.inl r3)), some (.inl x4), o5, o6] []))) ∧ ((am_andz (am_ai h r0 x4) 63 : Int) = 23 → ((-2147483648 ≤ x4 + 1 ∧ x4 + 1 ≤ 2147483647) ∧ ((0 : Int) ≤ x4 + 1 ∧ x4 + 1 < am_ln h r0) ∧ (-2147483648 ≤ x4 + 2 ∧ x4 + 2 ≤ 2147483647) ∧ ((0 : Int) ≤ x4 + 2 ∧ x4 + 2 < am_ln h r0) ∧ (-2147483648 ≤ x4 + 3 ∧ x4 + 3 ≤ 2147483647) ∧ ((0 : Int) ≤ x4 + 3 ∧ x4 + 3 < am_ln h r0)) ∧ (am_ev am_prog (d + 12) 62 [.inr (.inl r1), .inl (am_ai h r0 (x4 + 1)), .inl (am_ai h r0 (x4 + 2)), .inl (am_ai h r0 (x4 + 3)), .inr (.inl r3)] h (am_aft (am_hand m_L_law Q (am_W m_L_law (am_ev am_prog (d + 12)) Q) 1025) (am_W m_L_law (am_ev am_prog (d + 12)) Q) 1025 [some (.inr (.inl r0)), some (.inr (.inl r1)), some (.inr (.inl r2)), some (.inr (.inl r3)), some (.inl x4), o5, o6] []))) ∧ ((am_andz (am_ai h r0 x4) 63 : Int) = 24 → ((-2147483648 ≤ x4 + 1 ∧ x4 + 1 ≤ 2147483647) ∧ ((0 : Int) ≤ x4 + 1 ∧ x4 + 1 < am_ln h r0) ∧ (-2147483648 ≤ x4 + 2 ∧ x4 + 2 ≤ 2147483647) ∧ ((0 : Int) ≤ x4 + 2 ∧ x4 + 2 < am_ln h r0) ∧ (-2147483648 ≤ x4 + 3 ∧ x4 + 3 ≤ 2147483647) ∧ ((0 : Int) ≤ x4 + 3 ∧ x4 + 3 < am_ln h r0)) ∧ (am_ev am_prog (d + 12) 57 [.inr (.inl r1), .inl (am_ai h r0 (x4 + 1)), .inl (am_ai h r0 (x4 + 2)), .inl (am_ai h r0 (x4 + 3)), .inr (.inl r3)] h (am_aft (am_hand m_L_law Q (am_W m_L_law (am_ev am_prog (d + 12)) Q) 1080) (am_W m_L_law (am_ev am_prog (d + 12)) Q) 1080 [some (.inr (.inl r0)), some (.inr (.inl r1)), some (.inr (.inl r2)), some (.inr (.inl r3)), some (.inl x4), o5, o6] []))) ∧ ((am_andz (am_ai h r0 x4) 63 : Int) = 25 → ((-2147483648 ≤ x4 + 1 ∧ x4 + 1 ≤ 2147483647) ∧ ((0 : Int) ≤ x4 + 1 ∧ x4 + 1 < am_ln h r0) ∧ (-2147483648 ≤ x4 + 2 ∧ x4 + 2 ≤ 2147483647) ∧ ((0 : Int) ≤ x4 + 2 ∧ x4 + 2 < am_ln h r0) ∧ (-2147483648 ≤ x4 + 3 ∧ x4 + 3 ≤ 2147483647) ∧ ((0 : Int) ≤ x4 + 3 ∧ x4 + 3 < am_ln h r0)) ∧ (am_ev am_prog (d + 12) 59 [.inr (.inl r1), .inl (am_ai h r0 (x4 + 1)), .inl (am_ai h r0 (x4 + 2)), .inl (am_ai h r0 (x4 + 3)), .inr (.inl r3)] h (am_aft (am_hand m_L_law Q (am_W m_L_law (am_ev am_prog (d + 12)) Q) 1135) (am_W m_L_law (am_ev am_prog (d + 12)) Q) 1135 [some (.inr (.inl r0)), some (.inr (.inl r1)), some (.inr (.inl r2)), some (.inr (.inl r3)), some (.inl x4), o5, o6] []))) ∧ ((am_andz (am_ai h r0 x4) 63 : Int) = 26 → ((-2147483648 ≤ x4 + 1 ∧ x4 + 1 ≤ 2147483647) ∧ ((0 : Int) ≤ x4 + 1 ∧ x4 + 1 < am_ln h r0) ∧ (-2147483648 ≤ x4 + 2 ∧ x4 + 2 ≤ 2147483647) ∧ ((0 : Int) ≤ x4 + 2 ∧ x4 + 2 < am_ln h r0)) ∧ (am_ev am_prog (d + 12) 26 [.inr (.inl r1), .inl (am_ai h r0 (x4 + 1)), .inl (am_ai h r0 (x4 + 2)), .inr (.inl r3)] h (am_aft (am_hand m_L_law Q (am_W m_L_law (am_ev am_prog (d + 12)) Q) 1188) (am_W m_L_law (am_ev am_prog (d + 12)) Q) 1188 [some (.inr (.inl r0)), some (.inr (.inl r1)), some (.inr (.inl r2)), some (.inr (.inl r3)), some (.inl x4), o5, o6] []))) ∧ ((am_andz (am_ai h r0 x4) 63 : Int) = 27 → ((-2147483648 ≤ x4 + 1 ∧ x4 + 1 ≤ 2147483647) ∧ ((0 : Int) ≤ x4 + 1 ∧ x4 + 1 < am_ln h r0)) ∧ (am_ev am_prog (d + 12) 20 [.inr (.inl r1), .inl (am_ai h r0 (x4 + 1)), .inr (.inl r3)] h (am_aft (am_hand m_L_law Q (am_W m_L_law (am_ev am_prog (d + 12)) Q) 1231) (am_W m_L_law (am_ev am_prog (d + 12)) Q) 1231 [some (.inr (.inl r0)), some (.inr (.inl r1)), some (.inr (.inl r2)), some (.inr (.inl r3)), some (.inl x4), o5, o6] []))) ∧ ((am_andz (am_ai h r0 x4) 63 : Int) = 28 → ((-2147483648 ≤ x4 + 1 ∧ x4 + 1 ≤ 2147483647) ∧ ((0 : Int) ≤ x4 + 1 ∧ x4 + 1 < am_ln h r0) ∧ (-2147483648 ≤ x4 + 2 ∧ x4 + 2 ≤ 2147483647) ∧ ((0 : Int) ≤ x4 + 2 ∧ x4 + 2 < am_ln h r0) ∧ (-2147483648 ≤ x4 + 3 ∧ x4 + 3 ≤ 2147483647) ∧ ((0 : Int) ≤ x4 + 3 ∧ x4 + 3 < am_ln h r0)) ∧ (am_ev am_prog (d + 12) 61 [.inr (.inl r1), .inl (am_ai h r0 (x4 + 1)), .inl (am_ai h r0 (x4 + 2)), .inl (am_ai h r0 (x4 + 3)), .inr (.inl r3)] h (am_aft (am_hand m_L_law Q (am_W m_L_law (am_ev am_prog (d + 12)) Q) 1276) (am_W m_L_law (am_ev am_prog (d + 12)) Q) 1276 [some (.inr (.inl r0)), some (.inr (.inl r1)), some (.inr (.inl r2)), some (.inr (.inl r3)), some (.inl x4), o5, o6] []))) ∧ ((am_andz (am_ai h r0 x4) 63 : Int) = 29 → ((-2147483648 ≤ x4 + 1 ∧ x4 + 1 ≤ 2147483647) ∧ ((0 : Int) ≤ x4 + 1 ∧ x4 + 1 < am_ln h r0) ∧ (-2147483648 ≤ x4 + 2 ∧ x4 + 2 ≤ 2147483647) ∧ ((0 : Int) ≤ x4 + 2 ∧ x4 + 2 < am_ln h r0) ∧ (-2147483648 ≤ x4 + 3 ∧ x4 + 3 ≤ 2147483647) ∧ ((0 : Int) ≤ x4 + 3 ∧ x4 + 3 < am_ln h r0)) ∧ (am_ev am_prog (d + 12) 55 [.inr (.inl r1), .inl (am_ai h r0 (x4 + 1)), .inl (am_ai h r0 (x4 + 2)), .inl (am_ai h r0 (x4 + 3)), .inr (.inl r3)] h (am_aft (am_hand m_L_law Q (am_W m_L_law (am_ev am_prog (d + 12)) Q) 1331) (am_W m_L_law (am_ev am_prog (d + 12)) Q) 1331 [some (.inr (.inl r0)), some (.inr (.inl r1)), some (.inr (.inl r2)), some (.inr (.inl r3)), some (.inl x4), o5, o6] []))) ∧ ((am_andz (am_ai h r0 x4) 63 : Int) = 30 → ((-2147483648 ≤ x4 + 1 ∧ x4 + 1 ≤ 2147483647) ∧ ((0 : Int) ≤ x4 + 1 ∧ x4 + 1 < am_ln h r0) ∧ (-2147483648 ≤ x4 + 2 ∧ x4 + 2 ≤ 2147483647) ∧ ((0 : Int) ≤ x4 + 2 ∧ x4 + 2 < am_ln h r0) ∧ (-2147483648 ≤ x4 + 3 ∧ x4 + 3 ≤ 2147483647) ∧ ((0 : Int) ≤ x4 + 3 ∧ x4 + 3 < am_ln h r0)) ∧ (am_ev am_prog (d + 12) 50 [.inr (.inl r1), .inl (am_ai h r0 (x4 + 1)), .inl (am_ai h r0 (x4 + 2)), .inl (am_ai h r0 (x4 + 3))] h (am_aft (am_hand m_L_law Q (am_W m_L_law (am_ev am_prog (d + 12)) Q) 1385) (am_W m_L_law (am_ev am_prog (d + 12)) Q) 1385 [some (.inr (.inl r0)), some (.inr (.inl r1)), some (.inr (.inl r2)), some (.inr (.inl r3)), some (.inl x4), o5, o6] []))) ∧ ((am_andz (am_ai h r0 x4) 63 : Int) = 31 → ((-2147483648 ≤ x4 + 1 ∧ x4 + 1 ≤ 2147483647) ∧ ((0 : Int) ≤ x4 + 1 ∧ x4 + 1 < am_ln h r0) ∧ (-2147483648 ≤ x4 + 2 ∧ x4 + 2 ≤ 2147483647) ∧ ((0 : Int) ≤ x4 + 2 ∧ x4 + 2 < am_ln h r0)) ∧ (am_ev am_prog (d + 12) 24 [.inr (.inl r1), .inl (am_ai h r0 (x4 + 1)), .inl (am_ai h r0 (x4 + 2)), .inr (.inl r3)] h (am_aft (am_hand m_L_law Q (am_W m_L_law (am_ev am_prog (d + 12)) Q) 1423) (am_W m_L_law (am_ev am_prog (d + 12)) Q) 1423 [some (.inr (.inl r0)), some (.inr (.inl r1)), some (.inr (.inl r2)), some (.inr (.inl r3)), some (.inl x4), o5, o6] []))) ∧ ((am_andz (am_ai h r0 x4) 63 : Int) = 32 → ((-2147483648 ≤ x4 + 1 ∧ x4 + 1 ≤ 2147483647) ∧ ((0 : Int) ≤ x4 + 1 ∧ x4 + 1 < am_ln h r0) ∧ (-2147483648 ≤ x4 + 2 ∧ x4 + 2 ≤ 2147483647) ∧ ((0 : Int) ≤ x4 + 2 ∧ x4 + 2 < am_ln h r0) ∧ (-2147483648 ≤ x4 + 3 ∧ x4 + 3 ≤ 2147483647) ∧ ((0 : Int) ≤ x4 + 3 ∧ x4 + 3 < am_ln h r0) ∧ (-2147483648 ≤ x4 + 4 ∧ x4 + 4 ≤ 2147483647) ∧ ((0 : Int) ≤ x4 + 4 ∧ x4 + 4 < am_ln h r0)) ∧ (((am_ai h r0 (x4 + 4) : Int) = 0 → am_ev am_prog (d + 12) 63 [.inr (.inl r1), .inl (am_ai h r0 (x4 + 1)), .inl (am_ai h r0 (x4 + 2)), .inl (am_ai h r0 (x4 + 3)), .inl 0, .inr (.inl r3)] h (am_aft (am_hand m_L_law Q (am_W m_L_law (am_ev am_prog (d + 12)) Q) 1482) (am_W m_L_law (am_ev am_prog (d + 12)) Q) 1482 [some (.inr (.inl r0)), some (.inr (.inl r1)), some (.inr (.inl r2)), some (.inr (.inl r3)), some (.inl x4), o5, o6] [])) ∧ ((am_ai h r0 (x4 + 4) : Int) ≠ 0 → am_ev am_prog (d + 12) 63 [.inr (.inl r1), .inl (am_ai h r0 (x4 + 1)), .inl (am_ai h r0 (x4 + 2)), .inl (am_ai h r0 (x4 + 3)), .inl 1, .inr (.inl r3)] h (am_aft (am_hand m_L_law Q (am_W m_L_law (am_ev am_prog (d + 12)) Q) 1482) (am_W m_L_law (am_ev am_prog (d + 12)) Q) 1482 [some (.inr (.inl r0)), some (.inr (.inl r1)), some (.inr (.inl r2)), some (.inr (.inl r3)), some (.inl x4), o5, o6] [])))) ∧ ((am_andz (am_ai h r0 x4) 63 : Int) = 33 → ((-2147483648 ≤ x4 + 1 ∧ x4 + 1 ≤ 2147483647) ∧ ((0 : Int) ≤ x4 + 1 ∧ x4 + 1 < am_ln h r0) ∧ (-2147483648 ≤ x4 + 2 ∧ x4 + 2 ≤ 2147483647) ∧ ((0 : Int) ≤ x4 + 2 ∧ x4 + 2 < am_ln h r0)) ∧ (am_ev am_prog (d + 12) 39 [.inr (.inl r1), .inl (am_ai h r0 (x4 + 1)), .inl (am_ai h r0 (x4 + 2)), .inr (.inl r3)] h (am_aft (am_hand m_L_law Q (am_W m_L_law (am_ev am_prog (d + 12)) Q) 1541) (am_W m_L_law (am_ev am_prog (d + 12)) Q) 1541 [some (.inr (.inl r0)), some (.inr (.inl r1)), some (.inr (.inl r2)), some (.inr (.inl r3)), some (.inl x4), o5, o6] []))) ∧ ((am_andz (am_ai h r0 x4) 63 : Int) = 34 → ((-2147483648 ≤ x4 + 1 ∧ x4 + 1 ≤ 2147483647) ∧ ((0 : Int) ≤ x4 + 1 ∧ x4 + 1 < am_ln h r0) ∧ (-2147483648 ≤ x4 + 2 ∧ x4 + 2 ≤ 2147483647) ∧ ((0 : Int) ≤ x4 + 2 ∧ x4 + 2 < am_ln h r0)) ∧ (am_ev am_prog (d + 12) 28 [.inr (.inl r1), .inl (am_ai h r0 (x4 + 1)), .inl (am_ai h r0 (x4 + 2)), .inr (.inl r3)] h (am_aft (am_hand m_L_law Q (am_W m_L_law (am_ev am_prog (d + 12)) Q) 1586) (am_W m_L_law (am_ev am_prog (d + 12)) Q) 1586 [some (.inr (.inl r0)), some (.inr (.inl r1)), some (.inr (.inl r2)), some (.inr (.inl r3)), some (.inl x4), o5, o6] []))) ∧ ((am_andz (am_ai h r0 x4) 63 : Int) = 35 → ((-2147483648 ≤ x4 + 1 ∧ x4 + 1 ≤ 2147483647) ∧ ((0 : Int) ≤ x4 + 1 ∧ x4 + 1 < am_ln h r0) ∧ (-2147483648 ≤ x4 + 2 ∧ x4 + 2 ≤ 2147483647) ∧ ((0 : Int) ≤ x4 + 2 ∧ x4 + 2 < am_ln h r0) ∧ (-2147483648 ≤ x4 + 3 ∧ x4 + 3 ≤ 2147483647) ∧ ((0 : Int) ≤ x4 + 3 ∧ x4 + 3 < am_ln h r0)) ∧ (am_ev am_prog (d + 12) 58 [.inr (.inl r1), .inl (am_ai h r0 (x4 + 1)), .inl (am_ai h r0 (x4 + 2)), .inl (am_ai h r0 (x4 + 3)), .inr (.inl r3)] h (am_aft (am_hand m_L_law Q (am_W m_L_law (am_ev am_prog (d + 12)) Q) 1636) (am_W m_L_law (am_ev am_prog (d + 12)) Q) 1636 [some (.inr (.inl r0)), some (.inr (.inl r1)), some (.inr (.inl r2)), some (.inr (.inl r3)), some (.inl x4), o5, o6] []))) ∧ ((am_andz (am_ai h r0 x4) 63 : Int) = 36 → am_ev am_prog (d + 12) 8 [.inr (.inl r1), .inr (.inl r3)] h (am_aft (am_hand m_L_law Q (am_W m_L_law (am_ev am_prog (d + 12)) Q) 1676) (am_W m_L_law (am_ev am_prog (d + 12)) Q) 1676 [some (.inr (.inl r0)), some (.inr (.inl r1)), some (.inr (.inl r2)), some (.inr (.inl r3)), some (.inl x4), o5, o6] [])) ∧ ((am_andz (am_ai h r0 x4) 63 : Int) = 37 → ((-2147483648 ≤ x4 + 1 ∧ x4 + 1 ≤ 2147483647) ∧ ((0 : Int) ≤ x4 + 1 ∧ x4 + 1 < am_ln h r0) ∧ (-2147483648 ≤ x4 + 2 ∧ x4 + 2 ≤ 2147483647) ∧ ((0 : Int) ≤ x4 + 2 ∧ x4 + 2 < am_ln h r0) ∧ (-2147483648 ≤ x4 + 3 ∧ x4 + 3 ≤ 2147483647) ∧ ((0 : Int) ≤ x4 + 3 ∧ x4 + 3 < am_ln h r0)) ∧ (am_ev am_prog (d + 12) 56 [.inr (.inl r1), .inl (am_ai h r0 (x4 + 1)), .inl (am_ai h r0 (x4 + 2)), .inl (am_ai h r0 (x4 + 3)), .inr (.inl r3)] h (am_aft (am_hand m_L_law Q (am_W m_L_law (am_ev am_prog (d + 12)) Q) 1716) (am_W m_L_law (am_ev am_prog (d + 12)) Q) 1716 [some (.inr (.inl r0)), some (.inr (.inl r1)), some (.inr (.inl r2)), some (.inr (.inl r3)), some (.inl x4), o5, o6] []))) ∧ ((am_andz (am_ai h r0 x4) 63 : Int) = 38 → (am_ty h r1 = 1) ∧ (am_ev am_prog (d + 12) 6 [.inr (.inl r1)] h (am_aft (am_hand m_L_law Q (am_W m_L_law (am_ev am_prog (d + 12)) Q) 1755) (am_W m_L_law (am_ev am_prog (d + 12)) Q) 1755 [some (.inr (.inl r0)), some (.inr (.inl r1)), some (.inr (.inl r2)), some (.inr (.inl r3)), some (.inl x4), o5, o6] []))) ∧ ((am_andz (am_ai h r0 x4) 63 : Int) = 39 → ((-2147483648 ≤ x4 + 1 ∧ x4 + 1 ≤ 2147483647) ∧ ((0 : Int) ≤ x4 + 1 ∧ x4 + 1 < am_ln h r0)) ∧ (am_ev am_prog (d + 12) 21 [.inr (.inl r1), .inl (am_ai h r0 (x4 + 1)), .inr (.inl r3)] h (am_aft (am_hand m_L_law Q (am_W m_L_law (am_ev am_prog (d + 12)) Q) 1768) (am_W m_L_law (am_ev am_prog (d + 12)) Q) 1768 [some (.inr (.inl r0)), some (.inr (.inl r1)), some (.inr (.inl r2)), some (.inr (.inl r3)), some (.inl x4), o5, o6] []))) ∧ ((am_andz (am_ai h r0 x4) 63 : Int) = 40 → ((-2147483648 ≤ x4 + 1 ∧ x4 + 1 ≤ 2147483647) ∧ ((0 : Int) ≤ x4 + 1 ∧ x4 + 1 < am_ln h r0) ∧ (-2147483648 ≤ x4 + 2 ∧ x4 + 2 ≤ 2147483647) ∧ ((0 : Int) ≤ x4 + 2 ∧ x4 + 2 < am_ln h r0) ∧ (-2147483648 ≤ x4 + 3 ∧ x4 + 3 ≤ 2147483647) ∧ ((0 : Int) ≤ x4 + 3 ∧ x4 + 3 < am_ln h r0)) ∧ (am_ev am_prog (d + 12) 53 [.inr (.inl r1), .inl (am_ai h r0 (x4 + 1)), .inl (am_ai h r0 (x4 + 2)), .inl (am_ai h r0 (x4 + 3)), .inr (.inl r3)] h (am_aft (am_hand m_L_law Q (am_W m_L_law (am_ev am_prog (d + 12)) Q) 1813) (am_W m_L_law (am_ev am_prog (d + 12)) Q) 1813 [some (.inr (.inl r0)), some (.inr (.inl r1)), some (.inr (.inl r2)), some (.inr (.inl r3)), some (.inl x4), o5, o6] []))) ∧ ((am_andz (am_ai h r0 x4) 63 : Int) = 41 → ((-2147483648 ≤ x4 + 1 ∧ x4 + 1 ≤ 2147483647) ∧ ((0 : Int) ≤ x4 + 1 ∧ x4 + 1 < am_ln h r0) ∧ (-2147483648 ≤ x4 + 2 ∧ x4 + 2 ≤ 2147483647) ∧ ((0 : Int) ≤ x4 + 2 ∧ x4 + 2 < am_ln h r0)) ∧ (am_ev am_prog (d + 12) 29 [.inr (.inl r1), .inl (am_ai h r0 (x4 + 1)), .inl (am_ai h r0 (x4 + 2)), .inr (.inl r3)] h (am_aft (am_hand m_L_law Q (am_W m_L_law (am_ev am_prog (d + 12)) Q) 1863) (am_W m_L_law (am_ev am_prog (d + 12)) Q) 1863 [some (.inr (.inl r0)), some (.inr (.inl r1)), some (.inr (.inl r2)), some (.inr (.inl r3)), some (.inl x4), o5, o6] []))) ∧ ((am_andz (am_ai h r0 x4) 63 : Int) = 42 → ((-2147483648 ≤ x4 + 1 ∧ x4 + 1 ≤ 2147483647) ∧ ((0 : Int) ≤ x4 + 1 ∧ x4 + 1 < am_ln h r0) ∧ (-2147483648 ≤ x4 + 2 ∧ x4 + 2 ≤ 2147483647) ∧ ((0 : Int) ≤ x4 + 2 ∧ x4 + 2 < am_ln h r0) ∧ (-2147483648 ≤ x4 + 3 ∧ x4 + 3 ≤ 2147483647) ∧ ((0 : Int) ≤ x4 + 3 ∧ x4 + 3 < am_ln h r0)) ∧ (am_ev am_prog (d + 12) 60 [.inr (.inl r1), .inl (am_ai h r0 (x4 + 1)), .inl (am_ai h r0 (x4 + 2)), .inl (am_ai h r0 (x4 + 3)), .inr (.inl r3)] h (am_aft (am_hand m_L_law Q (am_W m_L_law (am_ev am_prog (d + 12)) Q) 1913) (am_W m_L_law (am_ev am_prog (d + 12)) Q) 1913 [some (.inr (.inl r0)), some (.inr (.inl r1)), some (.inr (.inl r2)), some (.inr (.inl r3)), some (.inl x4), o5, o6] []))) ∧ ((am_andz (am_ai h r0 x4) 63 : Int) = 43 → (am_ty h r1 = 1) ∧ (am_ev am_prog (d + 12) 3 [.inr (.inl r1)] h (am_aft (am_hand m_L_law Q (am_W m_L_law (am_ev am_prog (d + 12)) Q) 1952) (am_W m_L_law (am_ev am_prog (d + 12)) Q) 1952 [some (.inr (.inl r0)), some (.inr (.inl r1)), some (.inr (.inl r2)), some (.inr (.inl r3)), some (.inl x4), o5, o6] []))) ∧ ((am_andz (am_ai h r0 x4) 63 : Int) = 44 → (am_ty h r1 = 1) ∧ (am_ev am_prog (d + 12) 4 [.inr (.inl r1)] h (am_aft (am_hand m_L_law Q (am_W m_L_law (am_ev am_prog (d + 12)) Q) 1959) (am_W m_L_law (am_ev am_prog (d + 12)) Q) 1959 [some (.inr (.inl r0)), some (.inr (.inl r1)), some (.inr (.inl r2)), some (.inr (.inl r3)), some (.inl x4), o5, o6] []))) ∧ ((am_andz (am_ai h r0 x4) 63 : Int) = 45 → (am_ty h r1 = 1) ∧ (am_ev am_prog (d + 12) 5 [.inr (.inl r1)] h (am_aft (am_hand m_L_law Q (am_W m_L_law (am_ev am_prog (d + 12)) Q) 1964) (am_W m_L_law (am_ev am_prog (d + 12)) Q) 1964 [some (.inr (.inl r0)), some (.inr (.inl r1)), some (.inr (.inl r2)), some (.inr (.inl r3)), some (.inl x4), o5, o6] []))) ∧ ((am_andz (am_ai h r0 x4) 63 : Int) = 46 → ((-2147483648 ≤ x4 + 1 ∧ x4 + 1 ≤ 2147483647) ∧ ((0 : Int) ≤ x4 + 1 ∧ x4 + 1 < am_ln h r0)) ∧ ((am_ty h r1 = 1) ∧ (am_ev am_prog (d + 12) 15 [.inr (.inl r1), .inl (am_ai h r0 (x4 + 1))] h (am_aft (am_hand m_L_law Q (am_W m_L_law (am_ev am_prog (d + 12)) Q) 1976) (am_W m_L_law (am_ev am_prog (d + 12)) Q) 1976 [some (.inr (.inl r0)), some (.inr (.inl r1)), some (.inr (.inl r2)), some (.inr (.inl r3)), some (.inl x4), o5, o6] [])))) ∧ ((am_andz (am_ai h r0 x4) 63 : Int) < 0 ∨ 46 < am_andz (am_ai h r0 x4) 63 → ((-2147483648 ≤ x4 + 6 ∧ x4 + 6 ≤ 2147483647)) ∧ (am_W m_L_law (am_ev am_prog (d + 12)) Q 13 [some (.inr (.inl r0)), some (.inr (.inl r1)), some (.inr (.inl r2)), some (.inr (.inl r3)), some (.inl (x4 + 6)), o5, o6] [] h)))))) : am_W m_L_law (am_ev am_prog (d + 12)) Q 13 [some (.inr (.inl r0)), some (.inr (.inl r1)), some (.inr (.inl r2)), some (.inr (.inl r3)), some (.inl x4), o5, o6] [] h := by
  obtain ⟨⟨a1, a2⟩, H⟩ := H
  refine r_L_law_13 ?_
  refine ⟨a1, a2, ⟨fun c => ?_, fun c => ?_⟩⟩
  · replace H := H.1 c
    refine r_L_law_1989 ?_
    refine ⟨(by decide), ?_⟩
    exact H
  · replace H := H.2 c
    obtain ⟨a3, H⟩ := H
    refine r_L_law_19 ?_
    refine ⟨a1, a3, ?_⟩
    simp only [am_tswG, Int.reduceAdd, and_true]
    refine ⟨⟨fun c => ?_, fun c => ?_, fun c => ?_, fun c => ?_, fun c => ?_, fun c => ?_, fun c => ?_, fun c => ?_, fun c => ?_, fun c => ?_, fun c => ?_, fun c => ?_, fun c => ?_, fun c => ?_, fun c => ?_, fun c => ?_, fun c => ?_, fun c => ?_, fun c => ?_, fun c => ?_, fun c => ?_, fun c => ?_, fun c => ?_, fun c => ?_, fun c => ?_, fun c => ?_, fun c => ?_, fun c => ?_, fun c => ?_, fun c => ?_, fun c => ?_, fun c => ?_, fun c => ?_, fun c => ?_, fun c => ?_, fun c => ?_, fun c => ?_, fun c => ?_, fun c => ?_, fun c => ?_, fun c => ?_, fun c => ?_, fun c => ?_, fun c => ?_, fun c => ?_, fun c => ?_, fun c => ?_⟩, fun c => ?_⟩
    · replace H := H.1 c
      obtain ⟨⟨a4, a5, a6, a7, a8, a9, a10, a11, a12, a13⟩, H⟩ := H
      obtain ⟨a14, H⟩ := H
      refine r_L_law_25 ?_
      refine ⟨a4, a1, a5, a6, a1, a7, a8, a1, a9, a10, a1, a11, a12, a1, a13, a14, ?_⟩
      exact H
    · replace H := H.2.1 c
      obtain ⟨⟨a15, a16⟩, H⟩ := H
      obtain ⟨a17, H⟩ := H
      refine r_L_law_82 ?_
      refine ⟨a15, a1, a16, a17, ?_⟩
      exact H
    · replace H := H.2.2.1 c
      obtain ⟨⟨a18, a19, a20, a21, a22, a23⟩, H⟩ := H
      refine r_L_law_99 ?_
      refine ⟨a18, a1, a19, a20, a1, a21, a22, a1, a23, ?_⟩
      exact H
    · replace H := H.2.2.2.1 c
      obtain ⟨⟨a24, a25, a26, a27⟩, H⟩ := H
      refine r_L_law_141 ?_
      refine ⟨a24, a1, a25, a26, a1, a27, ?_⟩
      exact H
    · replace H := H.2.2.2.2.1 c
      obtain ⟨⟨a28, a29⟩, H⟩ := H
      refine r_L_law_186 ?_
      refine ⟨a28, a1, a29, ?_⟩
      exact H
    · replace H := H.2.2.2.2.2.1 c
      obtain ⟨a30, H⟩ := H
      refine r_L_law_221 ?_
      refine ⟨a30, ?_⟩
      exact H
    · replace H := H.2.2.2.2.2.2.1 c
      obtain ⟨⟨a31, a32, a33, a34⟩, H⟩ := H
      refine r_L_law_228 ?_
      refine ⟨a31, a1, a32, a33, a1, a34, ?_⟩
      exact H
    · replace H := H.2.2.2.2.2.2.2.1 c
      obtain ⟨⟨a35, a36, a37, a38, a39, a40⟩, H⟩ := H
      refine r_L_law_273 ?_
      refine ⟨a35, a1, a36, a37, a1, a38, a39, a1, a40, ?_⟩
      exact H
    · replace H := H.2.2.2.2.2.2.2.2.1 c
      obtain ⟨⟨a41, a42, a43, a44⟩, H⟩ := H
      refine r_L_law_328 ?_
      refine ⟨a41, a1, a42, a43, a1, a44, ?_⟩
      exact H
    · replace H := H.2.2.2.2.2.2.2.2.2.1 c
      obtain ⟨⟨a45, a46, a47, a48⟩, H⟩ := H
      refine r_L_law_373 ?_
      refine ⟨a45, a1, a46, a47, a1, a48, ?_⟩
      exact H
    · replace H := H.2.2.2.2.2.2.2.2.2.2.1 c
      obtain ⟨⟨a49, a50, a51, a52⟩, H⟩ := H
      refine r_L_law_418 ?_
      refine ⟨a49, a1, a50, a51, a1, a52, ⟨fun c => ?_, fun c => ?_⟩⟩
      · replace H := H.1 c
        refine r_L_law_432 ?_
        refine r_L_law_433 ?_
        exact H
      · replace H := H.2 c
        refine r_L_law_430 ?_
        refine r_L_law_433 ?_
        exact H
    · replace H := H.2.2.2.2.2.2.2.2.2.2.2.1 c
      obtain ⟨⟨a53, a54, a55, a56⟩, H⟩ := H
      refine r_L_law_471 ?_
      refine ⟨a53, a1, a54, a55, a1, a56, ?_⟩
      exact H
    · replace H := H.2.2.2.2.2.2.2.2.2.2.2.2.1 c
      obtain ⟨⟨a57, a58, a59, a60, a61, a62⟩, H⟩ := H
      refine r_L_law_516 ?_
      refine ⟨a57, a1, a58, a59, a1, a60, a61, a1, a62, ?_⟩
      exact H
    · replace H := H.2.2.2.2.2.2.2.2.2.2.2.2.2.1 c
      obtain ⟨⟨a63, a64, a65, a66⟩, H⟩ := H
      refine r_L_law_571 ?_
      refine ⟨a63, a1, a64, a65, a1, a66, ⟨fun c => ?_, fun c => ?_⟩⟩
      · replace H := H.1 c
        refine r_L_law_585 ?_
        refine r_L_law_586 ?_
        exact H
      · replace H := H.2 c
        refine r_L_law_583 ?_
        refine r_L_law_586 ?_
        exact H
    · replace H := H.2.2.2.2.2.2.2.2.2.2.2.2.2.2.1 c
      obtain ⟨⟨a67, a68, a69, a70⟩, H⟩ := H
      refine r_L_law_627 ?_
      refine ⟨a67, a1, a68, a69, a1, a70, ?_⟩
      exact H
    · replace H := H.2.2.2.2.2.2.2.2.2.2.2.2.2.2.2.1 c
      obtain ⟨⟨a71, a72⟩, H⟩ := H
      refine r_L_law_672 ?_
      refine ⟨a71, a1, a72, ?_⟩
      exact H
    · replace H := H.2.2.2.2.2.2.2.2.2.2.2.2.2.2.2.2.1 c
      obtain ⟨⟨a73, a74, a75, a76⟩, H⟩ := H
      refine r_L_law_707 ?_
      refine ⟨a73, a1, a74, a75, a1, a76, ?_⟩
      exact H
    · replace H := H.2.2.2.2.2.2.2.2.2.2.2.2.2.2.2.2.2.1 c
      obtain ⟨⟨a77, a78, a79, a80⟩, H⟩ := H
      refine r_L_law_752 ?_
      refine ⟨a77, a1, a78, a79, a1, a80, ?_⟩
      exact H
    · replace H := H.2.2.2.2.2.2.2.2.2.2.2.2.2.2.2.2.2.2.1 c
      obtain ⟨⟨a81, a82, a83, a84⟩, H⟩ := H
      refine r_L_law_797 ?_
      refine ⟨a81, a1, a82, a83, a1, a84, ?_⟩
      exact H
    · replace H := H.2.2.2.2.2.2.2.2.2.2.2.2.2.2.2.2.2.2.2.1 c
      obtain ⟨⟨a85, a86, a87, a88⟩, H⟩ := H
      refine r_L_law_842 ?_
      refine ⟨a85, a1, a86, a87, a1, a88, ?_⟩
      exact H
    · replace H := H.2.2.2.2.2.2.2.2.2.2.2.2.2.2.2.2.2.2.2.2.1 c
      obtain ⟨⟨a89, a90⟩, H⟩ := H
      refine r_L_law_887 ?_
      refine ⟨a89, a1, a90, ?_⟩
      exact H
    · replace H := H.2.2.2.2.2.2.2.2.2.2.2.2.2.2.2.2.2.2.2.2.2.1 c
      obtain ⟨⟨a91, a92⟩, H⟩ := H
      refine r_L_law_922 ?_
      refine ⟨a91, a1, a92, ?_⟩
      exact H
    · replace H := H.2.2.2.2.2.2.2.2.2.2.2.2.2.2.2.2.2.2.2.2.2.2.1 c
      obtain ⟨⟨a93, a94, a95, a96⟩, H⟩ := H
      refine r_L_law_960 ?_
      refine ⟨a93, a1, a94, a95, a1, a96, ?_⟩
      exact H
    · replace H := H.2.2.2.2.2.2.2.2.2.2.2.2.2.2.2.2.2.2.2.2.2.2.2.1 c
      obtain ⟨⟨a97, a98, a99, a100, a101, a102⟩, H⟩ := H
      refine r_L_law_1008 ?_
      refine ⟨a97, a1, a98, a99, a1, a100, a101, a1, a102, ?_⟩
      exact H
    · replace H := H.2.2.2.2.2.2.2.2.2.2.2.2.2.2.2.2.2.2.2.2.2.2.2.2.1 c
      obtain ⟨⟨a103, a104, a105, a106, a107, a108⟩, H⟩ := H
      refine r_L_law_1063 ?_
      refine ⟨a103, a1, a104, a105, a1, a106, a107, a1, a108, ?_⟩
      exact H
    · replace H := H.2.2.2.2.2.2.2.2.2.2.2.2.2.2.2.2.2.2.2.2.2.2.2.2.2.1 c
      obtain ⟨⟨a109, a110, a111, a112, a113, a114⟩, H⟩ := H
      refine r_L_law_1118 ?_
      refine ⟨a109, a1, a110, a111, a1, a112, a113, a1, a114, ?_⟩
      exact H
    · replace H := H.2.2.2.2.2.2.2.2.2.2.2.2.2.2.2.2.2.2.2.2.2.2.2.2.2.2.1 c
      obtain ⟨⟨a115, a116, a117, a118⟩, H⟩ := H
      refine r_L_law_1176 ?_
      refine ⟨a115, a1, a116, a117, a1, a118, ?_⟩
      exact H
    · replace H := H.2.2.2.2.2.2.2.2.2.2.2.2.2.2.2.2.2.2.2.2.2.2.2.2.2.2.2.1 c
      obtain ⟨⟨a119, a120⟩, H⟩ := H
      refine r_L_law_1224 ?_
      refine ⟨a119, a1, a120, ?_⟩
      exact H
    · replace H := H.2.2.2.2.2.2.2.2.2.2.2.2.2.2.2.2.2.2.2.2.2.2.2.2.2.2.2.2.1 c
      obtain ⟨⟨a121, a122, a123, a124, a125, a126⟩, H⟩ := H
      refine r_L_law_1259 ?_
      refine ⟨a121, a1, a122, a123, a1, a124, a125, a1, a126, ?_⟩
      exact H
    · replace H := H.2.2.2.2.2.2.2.2.2.2.2.2.2.2.2.2.2.2.2.2.2.2.2.2.2.2.2.2.2.1 c
      obtain ⟨⟨a127, a128, a129, a130, a131, a132⟩, H⟩ := H
      refine r_L_law_1314 ?_
      refine ⟨a127, a1, a128, a129, a1, a130, a131, a1, a132, ?_⟩
      exact H
    · replace H := H.2.2.2.2.2.2.2.2.2.2.2.2.2.2.2.2.2.2.2.2.2.2.2.2.2.2.2.2.2.2.1 c
      obtain ⟨⟨a133, a134, a135, a136, a137, a138⟩, H⟩ := H
      refine r_L_law_1369 ?_
      refine ⟨a133, a1, a134, a135, a1, a136, a137, a1, a138, ?_⟩
      exact H
    · replace H := H.2.2.2.2.2.2.2.2.2.2.2.2.2.2.2.2.2.2.2.2.2.2.2.2.2.2.2.2.2.2.2.1 c
      obtain ⟨⟨a139, a140, a141, a142⟩, H⟩ := H
      refine r_L_law_1411 ?_
      refine ⟨a139, a1, a140, a141, a1, a142, ?_⟩
      exact H
    · replace H := H.2.2.2.2.2.2.2.2.2.2.2.2.2.2.2.2.2.2.2.2.2.2.2.2.2.2.2.2.2.2.2.2.1 c
      obtain ⟨⟨a143, a144, a145, a146, a147, a148, a149, a150⟩, H⟩ := H
      refine r_L_law_1456 ?_
      refine ⟨a143, a1, a144, a145, a1, a146, a147, a1, a148, a149, a1, a150, ⟨fun c => ?_, fun c => ?_⟩⟩
      · replace H := H.1 c
        refine r_L_law_1480 ?_
        refine r_L_law_1481 ?_
        exact H
      · replace H := H.2 c
        refine r_L_law_1478 ?_
        refine r_L_law_1481 ?_
        exact H
    · replace H := H.2.2.2.2.2.2.2.2.2.2.2.2.2.2.2.2.2.2.2.2.2.2.2.2.2.2.2.2.2.2.2.2.2.1 c
      obtain ⟨⟨a151, a152, a153, a154⟩, H⟩ := H
      refine r_L_law_1529 ?_
      refine ⟨a151, a1, a152, a153, a1, a154, ?_⟩
      exact H
    · replace H := H.2.2.2.2.2.2.2.2.2.2.2.2.2.2.2.2.2.2.2.2.2.2.2.2.2.2.2.2.2.2.2.2.2.2.1 c
      obtain ⟨⟨a155, a156, a157, a158⟩, H⟩ := H
      refine r_L_law_1574 ?_
      refine ⟨a155, a1, a156, a157, a1, a158, ?_⟩
      exact H
    · replace H := H.2.2.2.2.2.2.2.2.2.2.2.2.2.2.2.2.2.2.2.2.2.2.2.2.2.2.2.2.2.2.2.2.2.2.2.1 c
      obtain ⟨⟨a159, a160, a161, a162, a163, a164⟩, H⟩ := H
      refine r_L_law_1619 ?_
      refine ⟨a159, a1, a160, a161, a1, a162, a163, a1, a164, ?_⟩
      exact H
    · replace H := H.2.2.2.2.2.2.2.2.2.2.2.2.2.2.2.2.2.2.2.2.2.2.2.2.2.2.2.2.2.2.2.2.2.2.2.2.1 c
      refine r_L_law_1674 ?_
      exact H
    · replace H := H.2.2.2.2.2.2.2.2.2.2.2.2.2.2.2.2.2.2.2.2.2.2.2.2.2.2.2.2.2.2.2.2.2.2.2.2.2.1 c
      obtain ⟨⟨a165, a166, a167, a168, a169, a170⟩, H⟩ := H
      refine r_L_law_1699 ?_
      refine ⟨a165, a1, a166, a167, a1, a168, a169, a1, a170, ?_⟩
      exact H
    · replace H := H.2.2.2.2.2.2.2.2.2.2.2.2.2.2.2.2.2.2.2.2.2.2.2.2.2.2.2.2.2.2.2.2.2.2.2.2.2.2.1 c
      obtain ⟨a171, H⟩ := H
      refine r_L_law_1754 ?_
      refine ⟨a171, ?_⟩
      exact H
    · replace H := H.2.2.2.2.2.2.2.2.2.2.2.2.2.2.2.2.2.2.2.2.2.2.2.2.2.2.2.2.2.2.2.2.2.2.2.2.2.2.2.1 c
      obtain ⟨⟨a172, a173⟩, H⟩ := H
      refine r_L_law_1761 ?_
      refine ⟨a172, a1, a173, ?_⟩
      exact H
    · replace H := H.2.2.2.2.2.2.2.2.2.2.2.2.2.2.2.2.2.2.2.2.2.2.2.2.2.2.2.2.2.2.2.2.2.2.2.2.2.2.2.2.1 c
      obtain ⟨⟨a174, a175, a176, a177, a178, a179⟩, H⟩ := H
      refine r_L_law_1796 ?_
      refine ⟨a174, a1, a175, a176, a1, a177, a178, a1, a179, ?_⟩
      exact H
    · replace H := H.2.2.2.2.2.2.2.2.2.2.2.2.2.2.2.2.2.2.2.2.2.2.2.2.2.2.2.2.2.2.2.2.2.2.2.2.2.2.2.2.2.1 c
      obtain ⟨⟨a180, a181, a182, a183⟩, H⟩ := H
      refine r_L_law_1851 ?_
      refine ⟨a180, a1, a181, a182, a1, a183, ?_⟩
      exact H
    · replace H := H.2.2.2.2.2.2.2.2.2.2.2.2.2.2.2.2.2.2.2.2.2.2.2.2.2.2.2.2.2.2.2.2.2.2.2.2.2.2.2.2.2.2.1 c
      obtain ⟨⟨a184, a185, a186, a187, a188, a189⟩, H⟩ := H
      refine r_L_law_1896 ?_
      refine ⟨a184, a1, a185, a186, a1, a187, a188, a1, a189, ?_⟩
      exact H
    · replace H := H.2.2.2.2.2.2.2.2.2.2.2.2.2.2.2.2.2.2.2.2.2.2.2.2.2.2.2.2.2.2.2.2.2.2.2.2.2.2.2.2.2.2.2.1 c
      obtain ⟨a190, H⟩ := H
      refine r_L_law_1951 ?_
      refine ⟨a190, ?_⟩
      exact H
    · replace H := H.2.2.2.2.2.2.2.2.2.2.2.2.2.2.2.2.2.2.2.2.2.2.2.2.2.2.2.2.2.2.2.2.2.2.2.2.2.2.2.2.2.2.2.2.1 c
      obtain ⟨a191, H⟩ := H
      refine r_L_law_1958 ?_
      refine ⟨a191, ?_⟩
      exact H
    · replace H := H.2.2.2.2.2.2.2.2.2.2.2.2.2.2.2.2.2.2.2.2.2.2.2.2.2.2.2.2.2.2.2.2.2.2.2.2.2.2.2.2.2.2.2.2.2.1 c
      obtain ⟨a192, H⟩ := H
      refine r_L_law_1963 ?_
      refine ⟨a192, ?_⟩
      exact H
    · replace H := H.2.2.2.2.2.2.2.2.2.2.2.2.2.2.2.2.2.2.2.2.2.2.2.2.2.2.2.2.2.2.2.2.2.2.2.2.2.2.2.2.2.2.2.2.2.2.1 c
      obtain ⟨⟨a193, a194⟩, H⟩ := H
      obtain ⟨a195, H⟩ := H
      refine r_L_law_1970 ?_
      refine ⟨a193, a1, a194, a195, ?_⟩
      exact H
    · replace H := H.2.2.2.2.2.2.2.2.2.2.2.2.2.2.2.2.2.2.2.2.2.2.2.2.2.2.2.2.2.2.2.2.2.2.2.2.2.2.2.2.2.2.2.2.2.2.2 c
      obtain ⟨a196, H⟩ := H
      refine r_L_law_1987 ?_
      refine ⟨a196, ?_⟩
      exact H
theorem v_L_law_52 {d : Nat} {Q : am_K} {h : am_H} {r0 : Nat} {r1 : Nat} {r2 : Nat} {r3 : Nat} {x4 : Int} {o5 : Option am_V} {o6 : Option am_V} {y0 : Int} (H : ((-2147483648 ≤ x4 + 1 ∧ x4 + 1 ≤ 2147483647) ∧ (am_ty h r0 = 101 ∨ am_ty h r0 = 121) ∧ ((0 : Int) ≤ x4 + 1 ∧ x4 + 1 < am_ln h r0) ∧ (-2147483648 ≤ x4 + 2 ∧ x4 + 2 ≤ 2147483647) ∧ ((0 : Int) ≤ x4 + 2 ∧ x4 + 2 < am_ln h r0) ∧ (-2147483648 ≤ x4 + 3 ∧ x4 + 3 ≤ 2147483647) ∧ ((0 : Int) ≤ x4 + 3 ∧ x4 + 3 < am_ln h r0) ∧ (-2147483648 ≤ x4 + 4 ∧ x4 + 4 ≤ 2147483647) ∧ ((0 : Int) ≤ x4 + 4 ∧ x4 + 4 < am_ln h r0) ∧ (-2147483648 ≤ x4 + 5 ∧ x4 + 5 ≤ 2147483647) ∧ ((0 : Int) ≤ x4 + 5 ∧ x4 + 5 < am_ln h r0)) ∧ ((am_ty h r2 = 5) ∧ (am_ev am_prog (d + 12) 97 [.inr (.inl r2), .inl (am_ai h r0 (x4 + 1)), .inl (am_ai h r0 (x4 + 2)), .inl (am_ai h r0 (x4 + 3)), .inl (am_ai h r0 (x4 + 4)), .inl (am_ai h r0 (x4 + 5))] h (am_aft (am_hand m_L_law Q (am_W m_L_law (am_ev am_prog (d + 12)) Q) 78) (am_W m_L_law (am_ev am_prog (d + 12)) Q) 78 [some (.inr (.inl r0)), some (.inr (.inl r1)), some (.inr (.inl r2)), some (.inr (.inl r3)), some (.inl x4), o5, o6] [.inl y0])))) : am_W m_L_law (am_ev am_prog (d + 12)) Q 52 [some (.inr (.inl r0)), some (.inr (.inl r1)), some (.inr (.inl r2)), some (.inr (.inl r3)), some (.inl x4), o5, o6] [.inl y0] h := by
  obtain ⟨⟨a197, a198, a199, a200, a201, a202, a203, a204, a205, a206, a207⟩, H⟩ := H
  obtain ⟨a208, H⟩ := H
  refine r_L_law_52 ?_
  refine ⟨a197, a198, a199, a200, a198, a201, a202, a198, a203, a204, a198, a205, a206, a198, a207, a208, ?_⟩
  exact H
theorem v_L_law_79 {d : Nat} {Q : am_K} {h : am_H} {r0 : Nat} {r1 : Nat} {r2 : Nat} {r3 : Nat} {x4 : Int} {o5 : Option am_V} {o6 : Option am_V} {y1 : Int} {y0 : Int} (H : ((y0 : Int) = y1 → ((-2147483648 ≤ x4 + 6 ∧ x4 + 6 ≤ 2147483647)) ∧ (am_W m_L_law (am_ev am_prog (d + 12)) Q 13 [some (.inr (.inl r0)), some (.inr (.inl r1)), some (.inr (.inl r2)), some (.inr (.inl r3)), some (.inl (x4 + 6)), o5, o6] [] h)) ∧ ((y0 : Int) ≠ y1 → Q (.inl (some (.inl 0))) h)) : am_W m_L_law (am_ev am_prog (d + 12)) Q 79 [some (.inr (.inl r0)), some (.inr (.inl r1)), some (.inr (.inl r2)), some (.inr (.inl r3)), some (.inl x4), o5, o6] [.inl y1, .inl y0] h := by
  refine r_L_law_79 ?_
  refine ⟨fun c => ?_, fun c => ?_⟩
  · replace H := H.1 c
    obtain ⟨a209, H⟩ := H
    refine r_L_law_1987 ?_
    refine ⟨a209, ?_⟩
    exact H
  · replace H := H.2 c
    refine r_L_law_80 ?_
    refine ⟨(by decide), ?_⟩
    exact H
theorem v_L_law_89 {d : Nat} {Q : am_K} {h : am_H} {r0 : Nat} {r1 : Nat} {r2 : Nat} {r3 : Nat} {x4 : Int} {o5 : Option am_V} {o6 : Option am_V} {y0 : Int} (H : ((-2147483648 ≤ x4 + 1 ∧ x4 + 1 ≤ 2147483647) ∧ (am_ty h r0 = 101 ∨ am_ty h r0 = 121) ∧ ((0 : Int) ≤ x4 + 1 ∧ x4 + 1 < am_ln h r0)) ∧ ((am_ty h r2 = 5) ∧ (am_ev am_prog (d + 12) 41 [.inr (.inl r2), .inl (am_ai h r0 (x4 + 1))] h (am_aft (am_hand m_L_law Q (am_W m_L_law (am_ev am_prog (d + 12)) Q) 95) (am_W m_L_law (am_ev am_prog (d + 12)) Q) 95 [some (.inr (.inl r0)), some (.inr (.inl r1)), some (.inr (.inl r2)), some (.inr (.inl r3)), some (.inl x4), o5, o6] [.inl y0])))) : am_W m_L_law (am_ev am_prog (d + 12)) Q 89 [some (.inr (.inl r0)), some (.inr (.inl r1)), some (.inr (.inl r2)), some (.inr (.inl r3)), some (.inl x4), o5, o6] [.inl y0] h := by
  obtain ⟨⟨a210, a211, a212⟩, H⟩ := H
  obtain ⟨a213, H⟩ := H
  refine r_L_law_89 ?_
  refine ⟨a210, a211, a212, a213, ?_⟩
  exact H
theorem v_L_law_96 {d : Nat} {Q : am_K} {h : am_H} {r0 : Nat} {r1 : Nat} {r2 : Nat} {r3 : Nat} {x4 : Int} {o5 : Option am_V} {o6 : Option am_V} {y1 : Int} {y0 : Int} (H : ((y0 : Int) = y1 → ((-2147483648 ≤ x4 + 6 ∧ x4 + 6 ≤ 2147483647)) ∧ (am_W m_L_law (am_ev am_prog (d + 12)) Q 13 [some (.inr (.inl r0)), some (.inr (.inl r1)), some (.inr (.inl r2)), some (.inr (.inl r3)), some (.inl (x4 + 6)), o5, o6] [] h)) ∧ ((y0 : Int) ≠ y1 → Q (.inl (some (.inl 0))) h)) : am_W m_L_law (am_ev am_prog (d + 12)) Q 96 [some (.inr (.inl r0)), some (.inr (.inl r1)), some (.inr (.inl r2)), some (.inr (.inl r3)), some (.inl x4), o5, o6] [.inl y1, .inl y0] h := by
  refine r_L_law_96 ?_
  refine ⟨fun c => ?_, fun c => ?_⟩
  · replace H := H.1 c
    obtain ⟨a214, H⟩ := H
    refine r_L_law_1987 ?_
    refine ⟨a214, ?_⟩
    exact H
  · replace H := H.2 c
    refine r_L_law_97 ?_
    refine ⟨(by decide), ?_⟩
    exact H
theorem v_L_law_116 {d : Nat} {Q : am_K} {h : am_H} {r0 : Nat} {r1 : Nat} {r2 : Nat} {r3 : Nat} {x4 : Int} {o5 : Option am_V} {o6 : Option am_V} {y0 : Int} (H : ((-2147483648 ≤ x4 + 1 ∧ x4 + 1 ≤ 2147483647) ∧ (am_ty h r0 = 101 ∨ am_ty h r0 = 121) ∧ ((0 : Int) ≤ x4 + 1 ∧ x4 + 1 < am_ln h r0) ∧ (-2147483648 ≤ x4 + 2 ∧ x4 + 2 ≤ 2147483647) ∧ ((0 : Int) ≤ x4 + 2 ∧ x4 + 2 < am_ln h r0) ∧ (-2147483648 ≤ x4 + 3 ∧ x4 + 3 ≤ 2147483647) ∧ ((0 : Int) ≤ x4 + 3 ∧ x4 + 3 < am_ln h r0)) ∧ ((am_ty h r2 = 5) ∧ (am_ev am_prog (d + 12) 84 [.inr (.inl r2), .inl (am_ai h r0 (x4 + 1)), .inl (am_ai h r0 (x4 + 2)), .inl (am_ai h r0 (x4 + 3))] h (am_aft (am_hand m_L_law Q (am_W m_L_law (am_ev am_prog (d + 12)) Q) 133) (am_W m_L_law (am_ev am_prog (d + 12)) Q) 133 [some (.inr (.inl r0)), some (.inr (.inl r1)), some (.inr (.inl r2)), some (.inr (.inl r3)), some (.inl x4), some (.inl y0), o6] [])))) : am_W m_L_law (am_ev am_prog (d + 12)) Q 116 [some (.inr (.inl r0)), some (.inr (.inl r1)), some (.inr (.inl r2)), some (.inr (.inl r3)), some (.inl x4), o5, o6] [.inl y0] h := by
  obtain ⟨⟨a215, a216, a217, a218, a219, a220, a221⟩, H⟩ := H
  obtain ⟨a222, H⟩ := H
  refine r_L_law_116 ?_
  refine ⟨a215, a216, a217, a218, a216, a219, a220, a216, a221, a222, ?_⟩
  exact H
theorem v_L_law_134 {d : Nat} {Q : am_K} {h : am_H} {r0 : Nat} {r1 : Nat} {r2 : Nat} {r3 : Nat} {x4 : Int} {x5 : Int} {o6 : Option am_V} (H : (am_ty h r2 = 5) ∧ (((am_fi h 38 r2 : Int) = x5 → ((-2147483648 ≤ x4 + 6 ∧ x4 + 6 ≤ 2147483647)) ∧ (am_W m_L_law (am_ev am_prog (d + 12)) Q 13 [some (.inr (.inl r0)), some (.inr (.inl r1)), some (.inr (.inl r2)), some (.inr (.inl r3)), some (.inl (x4 + 6)), some (.inl x5), o6] [] h)) ∧ ((am_fi h 38 r2 : Int) ≠ x5 → Q (.inl (some (.inl 0))) h))) : am_W m_L_law (am_ev am_prog (d + 12)) Q 134 [some (.inr (.inl r0)), some (.inr (.inl r1)), some (.inr (.inl r2)), some (.inr (.inl r3)), some (.inl x4), some (.inl x5), o6] [] h := by
  obtain ⟨a223, H⟩ := H
  refine r_L_law_134 ?_
  refine ⟨a223, ?_⟩
  refine am_en p_X5_thrown rfl rfl ?_
  refine r_X5_thrown_0 ?_
  refine ⟨a223, ?_⟩
  refine am_av ?_
  refine r_L_law_136 ?_
  refine ⟨fun c => ?_, fun c => ?_⟩
  · replace H := H.1 c
    refine r_L_law_140 ?_
    obtain ⟨a224, H⟩ := H
    refine r_L_law_1987 ?_
    refine ⟨a224, ?_⟩
    exact H
  · replace H := H.2 c
    refine r_L_law_138 ?_
    refine ⟨(by decide), ?_⟩
    exact H
theorem v_L_law_154 {d : Nat} {Q : am_K} {h : am_H} {r0 : Nat} {r1 : Nat} {r2 : Nat} {r3 : Nat} {x4 : Int} {o5 : Option am_V} {o6 : Option am_V} {y0 : Int} (H : ((-2147483648 ≤ x4 + 1 ∧ x4 + 1 ≤ 2147483647) ∧ (am_ty h r0 = 101 ∨ am_ty h r0 = 121) ∧ ((0 : Int) ≤ x4 + 1 ∧ x4 + 1 < am_ln h r0) ∧ (-2147483648 ≤ x4 + 2 ∧ x4 + 2 ≤ 2147483647) ∧ ((0 : Int) ≤ x4 + 2 ∧ x4 + 2 < am_ln h r0)) ∧ ((am_ty h r2 = 5) ∧ (am_ev am_prog (d + 12) 65 [.inr (.inl r2), .inl (am_ai h r0 (x4 + 1)), .inl (am_ai h r0 (x4 + 2))] h (am_aft (am_hand m_L_law Q (am_W m_L_law (am_ev am_prog (d + 12)) Q) 166) (am_W m_L_law (am_ev am_prog (d + 12)) Q) 166 [some (.inr (.inl r0)), some (.inr (.inl r1)), some (.inr (.inl r2)), some (.inr (.inl r3)), some (.inl x4), some (.inl y0), o6] [])))) : am_W m_L_law (am_ev am_prog (d + 12)) Q 154 [some (.inr (.inl r0)), some (.inr (.inl r1)), some (.inr (.inl r2)), some (.inr (.inl r3)), some (.inl x4), o5, o6] [.inl y0] h := by
  obtain ⟨⟨a225, a226, a227, a228, a229⟩, H⟩ := H
  obtain ⟨a230, H⟩ := H
  refine r_L_law_154 ?_
  refine ⟨a225, a226, a227, a228, a226, a229, a230, ?_⟩
  exact H
theorem v_L_law_167 {d : Nat} {Q : am_K} {h : am_H} {r0 : Nat} {r1 : Nat} {r2 : Nat} {r3 : Nat} {x4 : Int} {x5 : Int} {o6 : Option am_V} {y0 : Int} (H : (am_ty h r2 = 5) ∧ (((am_fi h 38 r2 : Int) = x5 → ((x5 : Int) ≠ 0 → ((-2147483648 ≤ x4 + 6 ∧ x4 + 6 ≤ 2147483647)) ∧ (am_W m_L_law (am_ev am_prog (d + 12)) Q 13 [some (.inr (.inl r0)), some (.inr (.inl r1)), some (.inr (.inl r2)), some (.inr (.inl r3)), some (.inl (x4 + 6)), some (.inl x5), some (.inl y0)] [] h)) ∧ ((x5 : Int) = 0 → (am_ty h r3 = 104 ∧ ((0 : Int) ≤ 0 ∧ 0 < am_ln h r3)) ∧ (((am_ai h r3 0) < y0 → Q (.inl (some (.inl 0))) h) ∧ ((am_ai h r3 0) = y0 → ((-2147483648 ≤ x4 + 6 ∧ x4 + 6 ≤ 2147483647)) ∧ (am_W m_L_law (am_ev am_prog (d + 12)) Q 13 [some (.inr (.inl r0)), some (.inr (.inl r1)), some (.inr (.inl r2)), some (.inr (.inl r3)), some (.inl (x4 + 6)), some (.inl x5), some (.inl y0)] [] h)) ∧ (y0 < (am_ai h r3 0) → Q (.inl (some (.inl 0))) h)))) ∧ ((am_fi h 38 r2 : Int) ≠ x5 → Q (.inl (some (.inl 0))) h))) : am_W m_L_law (am_ev am_prog (d + 12)) Q 167 [some (.inr (.inl r0)), some (.inr (.inl r1)), some (.inr (.inl r2)), some (.inr (.inl r3)), some (.inl x4), some (.inl x5), o6] [.inl y0] h := by
  obtain ⟨a231, H⟩ := H
  refine r_L_law_167 ?_
  refine ⟨a231, ?_⟩
  refine am_en p_X5_thrown rfl rfl ?_
  refine r_X5_thrown_0 ?_
  refine ⟨a231, ?_⟩
  refine am_av ?_
  refine r_L_law_170 ?_
  refine ⟨fun c => ?_, fun c => ?_⟩
  · replace H := H.1 c
    refine r_L_law_174 ?_
    refine ⟨fun c => ?_, fun c => ?_⟩
    · replace H := H.1 c
      refine r_L_law_185 ?_
      obtain ⟨a232, H⟩ := H
      refine r_L_law_1987 ?_
      refine ⟨a232, ?_⟩
      exact H
    · replace H := H.2 c
      obtain ⟨⟨a233, a234⟩, H⟩ := H
      refine r_L_law_176 ?_
      refine ⟨a233, a234, ⟨fun c => ?_, fun c => ?_, fun c => ?_⟩⟩
      · replace H := H.1 c
        refine r_L_law_182 ?_
        refine ⟨fun c => absurd c (by decide), fun c => ?_⟩
        refine r_L_law_183 ?_
        refine ⟨(by decide), ?_⟩
        exact H
      · replace H := H.2.1 c
        refine r_L_law_182 ?_
        refine ⟨fun c => ?_, fun c => absurd c (by decide)⟩
        refine r_L_law_185 ?_
        obtain ⟨a235, H⟩ := H
        refine r_L_law_1987 ?_
        refine ⟨a235, ?_⟩
        exact H
      · replace H := H.2.2 c
        refine r_L_law_182 ?_
        refine ⟨fun c => absurd c (by decide), fun c => ?_⟩
        refine r_L_law_183 ?_
        refine ⟨(by decide), ?_⟩
        exact H
  · replace H := H.2 c
    refine r_L_law_172 ?_
    refine ⟨(by decide), ?_⟩
    exact H
theorem v_L_law_194 {d : Nat} {Q : am_K} {h : am_H} {r0 : Nat} {r1 : Nat} {r2 : Nat} {r3 : Nat} {x4 : Int} {o5 : Option am_V} {o6 : Option am_V} {y0 : Int} (H : ((-2147483648 ≤ x4 + 1 ∧ x4 + 1 ≤ 2147483647) ∧ (am_ty h r0 = 101 ∨ am_ty h r0 = 121) ∧ ((0 : Int) ≤ x4 + 1 ∧ x4 + 1 < am_ln h r0)) ∧ ((am_ty h r2 = 5) ∧ (am_ev am_prog (d + 12) 46 [.inr (.inl r2), .inl (am_ai h r0 (x4 + 1))] h (am_aft (am_hand m_L_law Q (am_W m_L_law (am_ev am_prog (d + 12)) Q) 201) (am_W m_L_law (am_ev am_prog (d + 12)) Q) 201 [some (.inr (.inl r0)), some (.inr (.inl r1)), some (.inr (.inl r2)), some (.inr (.inl r3)), some (.inl x4), some (.inl y0), o6] [])))) : am_W m_L_law (am_ev am_prog (d + 12)) Q 194 [some (.inr (.inl r0)), some (.inr (.inl r1)), some (.inr (.inl r2)), some (.inr (.inl r3)), some (.inl x4), o5, o6] [.inl y0] h := by
  obtain ⟨⟨a236, a237, a238⟩, H⟩ := H
  obtain ⟨a239, H⟩ := H
  refine r_L_law_194 ?_
  refine ⟨a236, a237, a238, a239, ?_⟩
  exact H
theorem v_L_law_202 {d : Nat} {Q : am_K} {h : am_H} {r0 : Nat} {r1 : Nat} {r2 : Nat} {r3 : Nat} {x4 : Int} {x5 : Int} {o6 : Option am_V} {y0 : Int} (H : (am_ty h r2 = 5) ∧ (((am_fi h 38 r2 : Int) = x5 → ((x5 : Int) ≠ 0 → ((-2147483648 ≤ x4 + 6 ∧ x4 + 6 ≤ 2147483647)) ∧ (am_W m_L_law (am_ev am_prog (d + 12)) Q 13 [some (.inr (.inl r0)), some (.inr (.inl r1)), some (.inr (.inl r2)), some (.inr (.inl r3)), some (.inl (x4 + 6)), some (.inl x5), some (.inl y0)] [] h)) ∧ ((x5 : Int) = 0 → (am_ty h r3 = 104 ∧ ((0 : Int) ≤ 0 ∧ 0 < am_ln h r3)) ∧ (((am_ai h r3 0) < y0 → Q (.inl (some (.inl 0))) h) ∧ ((am_ai h r3 0) = y0 → ((-2147483648 ≤ x4 + 6 ∧ x4 + 6 ≤ 2147483647)) ∧ (am_W m_L_law (am_ev am_prog (d + 12)) Q 13 [some (.inr (.inl r0)), some (.inr (.inl r1)), some (.inr (.inl r2)), some (.inr (.inl r3)), some (.inl (x4 + 6)), some (.inl x5), some (.inl y0)] [] h)) ∧ (y0 < (am_ai h r3 0) → Q (.inl (some (.inl 0))) h)))) ∧ ((am_fi h 38 r2 : Int) ≠ x5 → Q (.inl (some (.inl 0))) h))) : am_W m_L_law (am_ev am_prog (d + 12)) Q 202 [some (.inr (.inl r0)), some (.inr (.inl r1)), some (.inr (.inl r2)), some (.inr (.inl r3)), some (.inl x4), some (.inl x5), o6] [.inl y0] h := by
  obtain ⟨a240, H⟩ := H
  refine r_L_law_202 ?_
  refine ⟨a240, ?_⟩
  refine am_en p_X5_thrown rfl rfl ?_
  refine r_X5_thrown_0 ?_
  refine ⟨a240, ?_⟩
  refine am_av ?_
  refine r_L_law_205 ?_
  refine ⟨fun c => ?_, fun c => ?_⟩
  · replace H := H.1 c
    refine r_L_law_209 ?_
    refine ⟨fun c => ?_, fun c => ?_⟩
    · replace H := H.1 c
      refine r_L_law_220 ?_
      obtain ⟨a241, H⟩ := H
      refine r_L_law_1987 ?_
      refine ⟨a241, ?_⟩
      exact H
    · replace H := H.2 c
      obtain ⟨⟨a242, a243⟩, H⟩ := H
      refine r_L_law_211 ?_
      refine ⟨a242, a243, ⟨fun c => ?_, fun c => ?_, fun c => ?_⟩⟩
      · replace H := H.1 c
        refine r_L_law_217 ?_
        refine ⟨fun c => absurd c (by decide), fun c => ?_⟩
        refine r_L_law_218 ?_
        refine ⟨(by decide), ?_⟩
        exact H
      · replace H := H.2.1 c
        refine r_L_law_217 ?_
        refine ⟨fun c => ?_, fun c => absurd c (by decide)⟩
        refine r_L_law_220 ?_
        obtain ⟨a244, H⟩ := H
        refine r_L_law_1987 ?_
        refine ⟨a244, ?_⟩
        exact H
      · replace H := H.2.2 c
        refine r_L_law_217 ?_
        refine ⟨fun c => absurd c (by decide), fun c => ?_⟩
        refine r_L_law_218 ?_
        refine ⟨(by decide), ?_⟩
        exact H
  · replace H := H.2 c
    refine r_L_law_207 ?_
    refine ⟨(by decide), ?_⟩
    exact H
theorem v_L_law_223 {d : Nat} {Q : am_K} {h : am_H} {r0 : Nat} {r1 : Nat} {r2 : Nat} {r3 : Nat} {x4 : Int} {o5 : Option am_V} {o6 : Option am_V} {y0 : Int} (H : (am_ty h r2 = 5) ∧ (am_ev am_prog (d + 12) 13 [.inr (.inl r2)] h (am_aft (am_hand m_L_law Q (am_W m_L_law (am_ev am_prog (d + 12)) Q) 224) (am_W m_L_law (am_ev am_prog (d + 12)) Q) 224 [some (.inr (.inl r0)), some (.inr (.inl r1)), some (.inr (.inl r2)), some (.inr (.inl r3)), some (.inl x4), o5, o6] [.inl y0]))) : am_W m_L_law (am_ev am_prog (d + 12)) Q 223 [some (.inr (.inl r0)), some (.inr (.inl r1)), some (.inr (.inl r2)), some (.inr (.inl r3)), some (.inl x4), o5, o6] [.inl y0] h := by
  obtain ⟨a245, H⟩ := H
  refine r_L_law_223 ?_
  refine ⟨a245, ?_⟩
  exact H
theorem v_L_law_225 {d : Nat} {Q : am_K} {h : am_H} {r0 : Nat} {r1 : Nat} {r2 : Nat} {r3 : Nat} {x4 : Int} {o5 : Option am_V} {o6 : Option am_V} {y1 : Int} {y0 : Int} (H : ((y0 : Int) = y1 → ((-2147483648 ≤ x4 + 6 ∧ x4 + 6 ≤ 2147483647)) ∧ (am_W m_L_law (am_ev am_prog (d + 12)) Q 13 [some (.inr (.inl r0)), some (.inr (.inl r1)), some (.inr (.inl r2)), some (.inr (.inl r3)), some (.inl (x4 + 6)), o5, o6] [] h)) ∧ ((y0 : Int) ≠ y1 → Q (.inl (some (.inl 0))) h)) : am_W m_L_law (am_ev am_prog (d + 12)) Q 225 [some (.inr (.inl r0)), some (.inr (.inl r1)), some (.inr (.inl r2)), some (.inr (.inl r3)), some (.inl x4), o5, o6] [.inl y1, .inl y0] h := by
  refine r_L_law_225 ?_
  refine ⟨fun c => ?_, fun c => ?_⟩
  · replace H := H.1 c
    obtain ⟨a246, H⟩ := H
    refine r_L_law_1987 ?_
    refine ⟨a246, ?_⟩
    exact H
  · replace H := H.2 c
    refine r_L_law_226 ?_
    refine ⟨(by decide), ?_⟩
    exact H
theorem v_L_law_241 {d : Nat} {Q : am_K} {h : am_H} {r0 : Nat} {r1 : Nat} {r2 : Nat} {r3 : Nat} {x4 : Int} {o5 : Option am_V} {o6 : Option am_V} {y0 : Int} (H : ((-2147483648 ≤ x4 + 1 ∧ x4 + 1 ≤ 2147483647) ∧ (am_ty h r0 = 101 ∨ am_ty h r0 = 121) ∧ ((0 : Int) ≤ x4 + 1 ∧ x4 + 1 < am_ln h r0) ∧ (-2147483648 ≤ x4 + 2 ∧ x4 + 2 ≤ 2147483647) ∧ ((0 : Int) ≤ x4 + 2 ∧ x4 + 2 < am_ln h r0)) ∧ ((am_ty h r2 = 5) ∧ (am_ev am_prog (d + 12) 75 [.inr (.inl r2), .inl (am_ai h r0 (x4 + 1)), .inl (am_ai h r0 (x4 + 2))] h (am_aft (am_hand m_L_law Q (am_W m_L_law (am_ev am_prog (d + 12)) Q) 253) (am_W m_L_law (am_ev am_prog (d + 12)) Q) 253 [some (.inr (.inl r0)), some (.inr (.inl r1)), some (.inr (.inl r2)), some (.inr (.inl r3)), some (.inl x4), some (.inl y0), o6] [])))) : am_W m_L_law (am_ev am_prog (d + 12)) Q 241 [some (.inr (.inl r0)), some (.inr (.inl r1)), some (.inr (.inl r2)), some (.inr (.inl r3)), some (.inl x4), o5, o6] [.inl y0] h := by
  obtain ⟨⟨a247, a248, a249, a250, a251⟩, H⟩ := H
  obtain ⟨a252, H⟩ := H
  refine r_L_law_241 ?_
  refine ⟨a247, a248, a249, a250, a248, a251, a252, ?_⟩
  exact H
theorem v_L_law_254 {d : Nat} {Q : am_K} {h : am_H} {r0 : Nat} {r1 : Nat} {r2 : Nat} {r3 : Nat} {x4 : Int} {x5 : Int} {o6 : Option am_V} {y0 : Int} (H : (am_ty h r2 = 5) ∧ (((am_fi h 38 r2 : Int) = x5 → ((x5 : Int) ≠ 0 → ((-2147483648 ≤ x4 + 6 ∧ x4 + 6 ≤ 2147483647)) ∧ (am_W m_L_law (am_ev am_prog (d + 12)) Q 13 [some (.inr (.inl r0)), some (.inr (.inl r1)), some (.inr (.inl r2)), some (.inr (.inl r3)), some (.inl (x4 + 6)), some (.inl x5), some (.inl y0)] [] h)) ∧ ((x5 : Int) = 0 → (am_ty h r3 = 104 ∧ ((0 : Int) ≤ 0 ∧ 0 < am_ln h r3)) ∧ (((am_ai h r3 0) < y0 → Q (.inl (some (.inl 0))) h) ∧ ((am_ai h r3 0) = y0 → ((-2147483648 ≤ x4 + 6 ∧ x4 + 6 ≤ 2147483647)) ∧ (am_W m_L_law (am_ev am_prog (d + 12)) Q 13 [some (.inr (.inl r0)), some (.inr (.inl r1)), some (.inr (.inl r2)), some (.inr (.inl r3)), some (.inl (x4 + 6)), some (.inl x5), some (.inl y0)] [] h)) ∧ (y0 < (am_ai h r3 0) → Q (.inl (some (.inl 0))) h)))) ∧ ((am_fi h 38 r2 : Int) ≠ x5 → Q (.inl (some (.inl 0))) h))) : am_W m_L_law (am_ev am_prog (d + 12)) Q 254 [some (.inr (.inl r0)), some (.inr (.inl r1)), some (.inr (.inl r2)), some (.inr (.inl r3)), some (.inl x4), some (.inl x5), o6] [.inl y0] h := by
  obtain ⟨a253, H⟩ := H
  refine r_L_law_254 ?_
  refine ⟨a253, ?_⟩
  refine am_en p_X5_thrown rfl rfl ?_
  refine r_X5_thrown_0 ?_
  refine ⟨a253, ?_⟩
  refine am_av ?_
  refine r_L_law_257 ?_
  refine ⟨fun c => ?_, fun c => ?_⟩
  · replace H := H.1 c
    refine r_L_law_261 ?_
    refine ⟨fun c => ?_, fun c => ?_⟩
    · replace H := H.1 c
      refine r_L_law_272 ?_
      obtain ⟨a254, H⟩ := H
      refine r_L_law_1987 ?_
      refine ⟨a254, ?_⟩
      exact H
    · replace H := H.2 c
      obtain ⟨⟨a255, a256⟩, H⟩ := H
      refine r_L_law_263 ?_
      refine ⟨a255, a256, ⟨fun c => ?_, fun c => ?_, fun c => ?_⟩⟩
      · replace H := H.1 c
        refine r_L_law_269 ?_
        refine ⟨fun c => absurd c (by decide), fun c => ?_⟩
        refine r_L_law_270 ?_
        refine ⟨(by decide), ?_⟩
        exact H
      · replace H := H.2.1 c
        refine r_L_law_269 ?_
        refine ⟨fun c => ?_, fun c => absurd c (by decide)⟩
        refine r_L_law_272 ?_
        obtain ⟨a257, H⟩ := H
        refine r_L_law_1987 ?_
        refine ⟨a257, ?_⟩
        exact H
      · replace H := H.2.2 c
        refine r_L_law_269 ?_
        refine ⟨fun c => absurd c (by decide), fun c => ?_⟩
        refine r_L_law_270 ?_
        refine ⟨(by decide), ?_⟩
        exact H
  · replace H := H.2 c
    refine r_L_law_259 ?_
    refine ⟨(by decide), ?_⟩
    exact H
theorem v_L_law_291 {d : Nat} {Q : am_K} {h : am_H} {r0 : Nat} {r1 : Nat} {r2 : Nat} {r3 : Nat} {x4 : Int} {o5 : Option am_V} {o6 : Option am_V} {y0 : Int} (H : ((-2147483648 ≤ x4 + 1 ∧ x4 + 1 ≤ 2147483647) ∧ (am_ty h r0 = 101 ∨ am_ty h r0 = 121) ∧ ((0 : Int) ≤ x4 + 1 ∧ x4 + 1 < am_ln h r0) ∧ (-2147483648 ≤ x4 + 2 ∧ x4 + 2 ≤ 2147483647) ∧ ((0 : Int) ≤ x4 + 2 ∧ x4 + 2 < am_ln h r0) ∧ (-2147483648 ≤ x4 + 3 ∧ x4 + 3 ≤ 2147483647) ∧ ((0 : Int) ≤ x4 + 3 ∧ x4 + 3 < am_ln h r0)) ∧ ((am_ty h r2 = 5) ∧ (am_ev am_prog (d + 12) 87 [.inr (.inl r2), .inl (am_ai h r0 (x4 + 1)), .inl (am_ai h r0 (x4 + 2)), .inl (am_ai h r0 (x4 + 3))] h (am_aft (am_hand m_L_law Q (am_W m_L_law (am_ev am_prog (d + 12)) Q) 308) (am_W m_L_law (am_ev am_prog (d + 12)) Q) 308 [some (.inr (.inl r0)), some (.inr (.inl r1)), some (.inr (.inl r2)), some (.inr (.inl r3)), some (.inl x4), some (.inl y0), o6] [])))) : am_W m_L_law (am_ev am_prog (d + 12)) Q 291 [some (.inr (.inl r0)), some (.inr (.inl r1)), some (.inr (.inl r2)), some (.inr (.inl r3)), some (.inl x4), o5, o6] [.inl y0] h := by
  obtain ⟨⟨a258, a259, a260, a261, a262, a263, a264⟩, H⟩ := H
  obtain ⟨a265, H⟩ := H
  refine r_L_law_291 ?_
  refine ⟨a258, a259, a260, a261, a259, a262, a263, a259, a264, a265, ?_⟩
  exact H
theorem v_L_law_309 {d : Nat} {Q : am_K} {h : am_H} {r0 : Nat} {r1 : Nat} {r2 : Nat} {r3 : Nat} {x4 : Int} {x5 : Int} {o6 : Option am_V} {y0 : Int} (H : (am_ty h r2 = 5) ∧ (((am_fi h 38 r2 : Int) = x5 → ((x5 : Int) ≠ 0 → ((-2147483648 ≤ x4 + 6 ∧ x4 + 6 ≤ 2147483647)) ∧ (am_W m_L_law (am_ev am_prog (d + 12)) Q 13 [some (.inr (.inl r0)), some (.inr (.inl r1)), some (.inr (.inl r2)), some (.inr (.inl r3)), some (.inl (x4 + 6)), some (.inl x5), some (.inl y0)] [] h)) ∧ ((x5 : Int) = 0 → (am_ty h r3 = 104 ∧ ((0 : Int) ≤ 0 ∧ 0 < am_ln h r3)) ∧ (((am_ai h r3 0) < y0 → Q (.inl (some (.inl 0))) h) ∧ ((am_ai h r3 0) = y0 → ((-2147483648 ≤ x4 + 6 ∧ x4 + 6 ≤ 2147483647)) ∧ (am_W m_L_law (am_ev am_prog (d + 12)) Q 13 [some (.inr (.inl r0)), some (.inr (.inl r1)), some (.inr (.inl r2)), some (.inr (.inl r3)), some (.inl (x4 + 6)), some (.inl x5), some (.inl y0)] [] h)) ∧ (y0 < (am_ai h r3 0) → Q (.inl (some (.inl 0))) h)))) ∧ ((am_fi h 38 r2 : Int) ≠ x5 → Q (.inl (some (.inl 0))) h))) : am_W m_L_law (am_ev am_prog (d + 12)) Q 309 [some (.inr (.inl r0)), some (.inr (.inl r1)), some (.inr (.inl r2)), some (.inr (.inl r3)), some (.inl x4), some (.inl x5), o6] [.inl y0] h := by
  obtain ⟨a266, H⟩ := H
  refine r_L_law_309 ?_
  refine ⟨a266, ?_⟩
  refine am_en p_X5_thrown rfl rfl ?_
  refine r_X5_thrown_0 ?_
  refine ⟨a266, ?_⟩
  refine am_av ?_
  refine r_L_law_312 ?_
  refine ⟨fun c => ?_, fun c => ?_⟩
  · replace H := H.1 c
    refine r_L_law_316 ?_
    refine ⟨fun c => ?_, fun c => ?_⟩
    · replace H := H.1 c
      refine r_L_law_327 ?_
      obtain ⟨a267, H⟩ := H
      refine r_L_law_1987 ?_
      refine ⟨a267, ?_⟩
      exact H
    · replace H := H.2 c
      obtain ⟨⟨a268, a269⟩, H⟩ := H
      refine r_L_law_318 ?_
      refine ⟨a268, a269, ⟨fun c => ?_, fun c => ?_, fun c => ?_⟩⟩
      · replace H := H.1 c
        refine r_L_law_324 ?_
        refine ⟨fun c => absurd c (by decide), fun c => ?_⟩
        refine r_L_law_325 ?_
        refine ⟨(by decide), ?_⟩
        exact H
      · replace H := H.2.1 c
        refine r_L_law_324 ?_
        refine ⟨fun c => ?_, fun c => absurd c (by decide)⟩
        refine r_L_law_327 ?_
        obtain ⟨a270, H⟩ := H
        refine r_L_law_1987 ?_
        refine ⟨a270, ?_⟩
        exact H
      · replace H := H.2.2 c
        refine r_L_law_324 ?_
        refine ⟨fun c => absurd c (by decide), fun c => ?_⟩
        refine r_L_law_325 ?_
        refine ⟨(by decide), ?_⟩
        exact H
  · replace H := H.2 c
    refine r_L_law_314 ?_
    refine ⟨(by decide), ?_⟩
    exact H
theorem v_L_law_341 {d : Nat} {Q : am_K} {h : am_H} {r0 : Nat} {r1 : Nat} {r2 : Nat} {r3 : Nat} {x4 : Int} {o5 : Option am_V} {o6 : Option am_V} {y0 : Int} (H : ((-2147483648 ≤ x4 + 1 ∧ x4 + 1 ≤ 2147483647) ∧ (am_ty h r0 = 101 ∨ am_ty h r0 = 121) ∧ ((0 : Int) ≤ x4 + 1 ∧ x4 + 1 < am_ln h r0) ∧ (-2147483648 ≤ x4 + 2 ∧ x4 + 2 ≤ 2147483647) ∧ ((0 : Int) ≤ x4 + 2 ∧ x4 + 2 < am_ln h r0)) ∧ ((am_ty h r2 = 5) ∧ (am_ev am_prog (d + 12) 72 [.inr (.inl r2), .inl (am_ai h r0 (x4 + 1)), .inl (am_ai h r0 (x4 + 2))] h (am_aft (am_hand m_L_law Q (am_W m_L_law (am_ev am_prog (d + 12)) Q) 353) (am_W m_L_law (am_ev am_prog (d + 12)) Q) 353 [some (.inr (.inl r0)), some (.inr (.inl r1)), some (.inr (.inl r2)), some (.inr (.inl r3)), some (.inl x4), some (.inl y0), o6] [])))) : am_W m_L_law (am_ev am_prog (d + 12)) Q 341 [some (.inr (.inl r0)), some (.inr (.inl r1)), some (.inr (.inl r2)), some (.inr (.inl r3)), some (.inl x4), o5, o6] [.inl y0] h := by
  obtain ⟨⟨a271, a272, a273, a274, a275⟩, H⟩ := H
  obtain ⟨a276, H⟩ := H
  refine r_L_law_341 ?_
  refine ⟨a271, a272, a273, a274, a272, a275, a276, ?_⟩
  exact H
theorem v_L_law_354 {d : Nat} {Q : am_K} {h : am_H} {r0 : Nat} {r1 : Nat} {r2 : Nat} {r3 : Nat} {x4 : Int} {x5 : Int} {o6 : Option am_V} {y0 : Int} (H : (am_ty h r2 = 5) ∧ (((am_fi h 38 r2 : Int) = x5 → ((x5 : Int) ≠ 0 → ((-2147483648 ≤ x4 + 6 ∧ x4 + 6 ≤ 2147483647)) ∧ (am_W m_L_law (am_ev am_prog (d + 12)) Q 13 [some (.inr (.inl r0)), some (.inr (.inl r1)), some (.inr (.inl r2)), some (.inr (.inl r3)), some (.inl (x4 + 6)), some (.inl x5), some (.inl y0)] [] h)) ∧ ((x5 : Int) = 0 → (am_ty h r3 = 104 ∧ ((0 : Int) ≤ 0 ∧ 0 < am_ln h r3)) ∧ (((am_ai h r3 0) < y0 → Q (.inl (some (.inl 0))) h) ∧ ((am_ai h r3 0) = y0 → ((-2147483648 ≤ x4 + 6 ∧ x4 + 6 ≤ 2147483647)) ∧ (am_W m_L_law (am_ev am_prog (d + 12)) Q 13 [some (.inr (.inl r0)), some (.inr (.inl r1)), some (.inr (.inl r2)), some (.inr (.inl r3)), some (.inl (x4 + 6)), some (.inl x5), some (.inl y0)] [] h)) ∧ (y0 < (am_ai h r3 0) → Q (.inl (some (.inl 0))) h)))) ∧ ((am_fi h 38 r2 : Int) ≠ x5 → Q (.inl (some (.inl 0))) h))) : am_W m_L_law (am_ev am_prog (d + 12)) Q 354 [some (.inr (.inl r0)), some (.inr (.inl r1)), some (.inr (.inl r2)), some (.inr (.inl r3)), some (.inl x4), some (.inl x5), o6] [.inl y0] h := by
  obtain ⟨a277, H⟩ := H
  refine r_L_law_354 ?_
  refine ⟨a277, ?_⟩
  refine am_en p_X5_thrown rfl rfl ?_
  refine r_X5_thrown_0 ?_
  refine ⟨a277, ?_⟩
  refine am_av ?_
  refine r_L_law_357 ?_
  refine ⟨fun c => ?_, fun c => ?_⟩
  · replace H := H.1 c
    refine r_L_law_361 ?_
    refine ⟨fun c => ?_, fun c => ?_⟩
    · replace H := H.1 c
      refine r_L_law_372 ?_
      obtain ⟨a278, H⟩ := H
      refine r_L_law_1987 ?_
      refine ⟨a278, ?_⟩
      exact H
    · replace H := H.2 c
      obtain ⟨⟨a279, a280⟩, H⟩ := H
      refine r_L_law_363 ?_
      refine ⟨a279, a280, ⟨fun c => ?_, fun c => ?_, fun c => ?_⟩⟩
      · replace H := H.1 c
        refine r_L_law_369 ?_
        refine ⟨fun c => absurd c (by decide), fun c => ?_⟩
        refine r_L_law_370 ?_
        refine ⟨(by decide), ?_⟩
        exact H
      · replace H := H.2.1 c
        refine r_L_law_369 ?_
        refine ⟨fun c => ?_, fun c => absurd c (by decide)⟩
        refine r_L_law_372 ?_
        obtain ⟨a281, H⟩ := H
        refine r_L_law_1987 ?_
        refine ⟨a281, ?_⟩
        exact H
      · replace H := H.2.2 c
        refine r_L_law_369 ?_
        refine ⟨fun c => absurd c (by decide), fun c => ?_⟩
        refine r_L_law_370 ?_
        refine ⟨(by decide), ?_⟩
        exact H
  · replace H := H.2 c
    refine r_L_law_359 ?_
    refine ⟨(by decide), ?_⟩
    exact H
theorem v_L_law_386 {d : Nat} {Q : am_K} {h : am_H} {r0 : Nat} {r1 : Nat} {r2 : Nat} {r3 : Nat} {x4 : Int} {o5 : Option am_V} {o6 : Option am_V} {y0 : Int} (H : ((-2147483648 ≤ x4 + 1 ∧ x4 + 1 ≤ 2147483647) ∧ (am_ty h r0 = 101 ∨ am_ty h r0 = 121) ∧ ((0 : Int) ≤ x4 + 1 ∧ x4 + 1 < am_ln h r0) ∧ (-2147483648 ≤ x4 + 2 ∧ x4 + 2 ≤ 2147483647) ∧ ((0 : Int) ≤ x4 + 2 ∧ x4 + 2 < am_ln h r0)) ∧ ((am_ty h r2 = 5) ∧ (am_ev am_prog (d + 12) 78 [.inr (.inl r2), .inl (am_ai h r0 (x4 + 1)), .inl (am_ai h r0 (x4 + 2))] h (am_aft (am_hand m_L_law Q (am_W m_L_law (am_ev am_prog (d + 12)) Q) 398) (am_W m_L_law (am_ev am_prog (d + 12)) Q) 398 [some (.inr (.inl r0)), some (.inr (.inl r1)), some (.inr (.inl r2)), some (.inr (.inl r3)), some (.inl x4), some (.inl y0), o6] [])))) : am_W m_L_law (am_ev am_prog (d + 12)) Q 386 [some (.inr (.inl r0)), some (.inr (.inl r1)), some (.inr (.inl r2)), some (.inr (.inl r3)), some (.inl x4), o5, o6] [.inl y0] h := by
  obtain ⟨⟨a282, a283, a284, a285, a286⟩, H⟩ := H
  obtain ⟨a287, H⟩ := H
  refine r_L_law_386 ?_
  refine ⟨a282, a283, a284, a285, a283, a286, a287, ?_⟩
  exact H
theorem v_L_law_399 {d : Nat} {Q : am_K} {h : am_H} {r0 : Nat} {r1 : Nat} {r2 : Nat} {r3 : Nat} {x4 : Int} {x5 : Int} {o6 : Option am_V} {y0 : Int} (H : (am_ty h r2 = 5) ∧ (((am_fi h 38 r2 : Int) = x5 → ((x5 : Int) ≠ 0 → ((-2147483648 ≤ x4 + 6 ∧ x4 + 6 ≤ 2147483647)) ∧ (am_W m_L_law (am_ev am_prog (d + 12)) Q 13 [some (.inr (.inl r0)), some (.inr (.inl r1)), some (.inr (.inl r2)), some (.inr (.inl r3)), some (.inl (x4 + 6)), some (.inl x5), some (.inl y0)] [] h)) ∧ ((x5 : Int) = 0 → (am_ty h r3 = 104 ∧ ((0 : Int) ≤ 0 ∧ 0 < am_ln h r3)) ∧ (((am_ai h r3 0) < y0 → Q (.inl (some (.inl 0))) h) ∧ ((am_ai h r3 0) = y0 → ((-2147483648 ≤ x4 + 6 ∧ x4 + 6 ≤ 2147483647)) ∧ (am_W m_L_law (am_ev am_prog (d + 12)) Q 13 [some (.inr (.inl r0)), some (.inr (.inl r1)), some (.inr (.inl r2)), some (.inr (.inl r3)), some (.inl (x4 + 6)), some (.inl x5), some (.inl y0)] [] h)) ∧ (y0 < (am_ai h r3 0) → Q (.inl (some (.inl 0))) h)))) ∧ ((am_fi h 38 r2 : Int) ≠ x5 → Q (.inl (some (.inl 0))) h))) : am_W m_L_law (am_ev am_prog (d + 12)) Q 399 [some (.inr (.inl r0)), some (.inr (.inl r1)), some (.inr (.inl r2)), some (.inr (.inl r3)), some (.inl x4), some (.inl x5), o6] [.inl y0] h := by
  obtain ⟨a288, H⟩ := H
  refine r_L_law_399 ?_
  refine ⟨a288, ?_⟩
  refine am_en p_X5_thrown rfl rfl ?_
  refine r_X5_thrown_0 ?_
  refine ⟨a288, ?_⟩
  refine am_av ?_
  refine r_L_law_402 ?_
  refine ⟨fun c => ?_, fun c => ?_⟩
  · replace H := H.1 c
    refine r_L_law_406 ?_
    refine ⟨fun c => ?_, fun c => ?_⟩
    · replace H := H.1 c
      refine r_L_law_417 ?_
      obtain ⟨a289, H⟩ := H
      refine r_L_law_1987 ?_
      refine ⟨a289, ?_⟩
      exact H
    · replace H := H.2 c
      obtain ⟨⟨a290, a291⟩, H⟩ := H
      refine r_L_law_408 ?_
      refine ⟨a290, a291, ⟨fun c => ?_, fun c => ?_, fun c => ?_⟩⟩
      · replace H := H.1 c
        refine r_L_law_414 ?_
        refine ⟨fun c => absurd c (by decide), fun c => ?_⟩
        refine r_L_law_415 ?_
        refine ⟨(by decide), ?_⟩
        exact H
      · replace H := H.2.1 c
        refine r_L_law_414 ?_
        refine ⟨fun c => ?_, fun c => absurd c (by decide)⟩
        refine r_L_law_417 ?_
        obtain ⟨a292, H⟩ := H
        refine r_L_law_1987 ?_
        refine ⟨a292, ?_⟩
        exact H
      · replace H := H.2.2 c
        refine r_L_law_414 ?_
        refine ⟨fun c => absurd c (by decide), fun c => ?_⟩
        refine r_L_law_415 ?_
        refine ⟨(by decide), ?_⟩
        exact H
  · replace H := H.2 c
    refine r_L_law_404 ?_
    refine ⟨(by decide), ?_⟩
    exact H
theorem v_L_law_435 {d : Nat} {Q : am_K} {h : am_H} {r0 : Nat} {r1 : Nat} {r2 : Nat} {r3 : Nat} {x4 : Int} {o5 : Option am_V} {o6 : Option am_V} {y0 : Int} (H : ((-2147483648 ≤ x4 + 1 ∧ x4 + 1 ≤ 2147483647) ∧ (am_ty h r0 = 101 ∨ am_ty h r0 = 121) ∧ ((0 : Int) ≤ x4 + 1 ∧ x4 + 1 < am_ln h r0) ∧ (-2147483648 ≤ x4 + 2 ∧ x4 + 2 ≤ 2147483647) ∧ ((0 : Int) ≤ x4 + 2 ∧ x4 + 2 < am_ln h r0)) ∧ (((am_ai h r0 (x4 + 2) : Int) = 0 → (am_ty h r2 = 5) ∧ (am_ev am_prog (d + 12) 81 [.inr (.inl r2), .inl (am_ai h r0 (x4 + 1)), .inl 0] h (am_aft (am_hand m_L_law Q (am_W m_L_law (am_ev am_prog (d + 12)) Q) 451) (am_W m_L_law (am_ev am_prog (d + 12)) Q) 451 [some (.inr (.inl r0)), some (.inr (.inl r1)), some (.inr (.inl r2)), some (.inr (.inl r3)), some (.inl x4), some (.inl y0), o6] []))) ∧ ((am_ai h r0 (x4 + 2) : Int) ≠ 0 → (am_ty h r2 = 5) ∧ (am_ev am_prog (d + 12) 81 [.inr (.inl r2), .inl (am_ai h r0 (x4 + 1)), .inl 1] h (am_aft (am_hand m_L_law Q (am_W m_L_law (am_ev am_prog (d + 12)) Q) 451) (am_W m_L_law (am_ev am_prog (d + 12)) Q) 451 [some (.inr (.inl r0)), some (.inr (.inl r1)), some (.inr (.inl r2)), some (.inr (.inl r3)), some (.inl x4), some (.inl y0), o6] []))))) : am_W m_L_law (am_ev am_prog (d + 12)) Q 435 [some (.inr (.inl r0)), some (.inr (.inl r1)), some (.inr (.inl r2)), some (.inr (.inl r3)), some (.inl x4), o5, o6] [.inl y0] h := by
  obtain ⟨⟨a293, a294, a295, a296, a297⟩, H⟩ := H
  refine r_L_law_435 ?_
  refine ⟨a293, a294, a295, a296, a294, a297, ⟨fun c => ?_, fun c => ?_⟩⟩
  · replace H := H.1 c
    refine r_L_law_450 ?_
    obtain ⟨a298, H⟩ := H
    refine r_L_law_451 ?_
    refine ⟨a298, ?_⟩
    exact H
  · replace H := H.2 c
    refine r_L_law_448 ?_
    obtain ⟨a299, H⟩ := H
    refine r_L_law_451 ?_
    refine ⟨a299, ?_⟩
    exact H
theorem v_L_law_452 {d : Nat} {Q : am_K} {h : am_H} {r0 : Nat} {r1 : Nat} {r2 : Nat} {r3 : Nat} {x4 : Int} {x5 : Int} {o6 : Option am_V} {y0 : Int} (H : (am_ty h r2 = 5) ∧ (((am_fi h 38 r2 : Int) = x5 → ((x5 : Int) ≠ 0 → ((-2147483648 ≤ x4 + 6 ∧ x4 + 6 ≤ 2147483647)) ∧ (am_W m_L_law (am_ev am_prog (d + 12)) Q 13 [some (.inr (.inl r0)), some (.inr (.inl r1)), some (.inr (.inl r2)), some (.inr (.inl r3)), some (.inl (x4 + 6)), some (.inl x5), some (.inl y0)] [] h)) ∧ ((x5 : Int) = 0 → (am_ty h r3 = 104 ∧ ((0 : Int) ≤ 0 ∧ 0 < am_ln h r3)) ∧ (((am_ai h r3 0) < y0 → Q (.inl (some (.inl 0))) h) ∧ ((am_ai h r3 0) = y0 → ((-2147483648 ≤ x4 + 6 ∧ x4 + 6 ≤ 2147483647)) ∧ (am_W m_L_law (am_ev am_prog (d + 12)) Q 13 [some (.inr (.inl r0)), some (.inr (.inl r1)), some (.inr (.inl r2)), some (.inr (.inl r3)), some (.inl (x4 + 6)), some (.inl x5), some (.inl y0)] [] h)) ∧ (y0 < (am_ai h r3 0) → Q (.inl (some (.inl 0))) h)))) ∧ ((am_fi h 38 r2 : Int) ≠ x5 → Q (.inl (some (.inl 0))) h))) : am_W m_L_law (am_ev am_prog (d + 12)) Q 452 [some (.inr (.inl r0)), some (.inr (.inl r1)), some (.inr (.inl r2)), some (.inr (.inl r3)), some (.inl x4), some (.inl x5), o6] [.inl y0] h := by
  obtain ⟨a300, H⟩ := H
  refine r_L_law_452 ?_
  refine ⟨a300, ?_⟩
  refine am_en p_X5_thrown rfl rfl ?_
  refine r_X5_thrown_0 ?_
  refine ⟨a300, ?_⟩
  refine am_av ?_
  refine r_L_law_455 ?_
  refine ⟨fun c => ?_, fun c => ?_⟩
  · replace H := H.1 c
    refine r_L_law_459 ?_
    refine ⟨fun c => ?_, fun c => ?_⟩
    · replace H := H.1 c
      refine r_L_law_470 ?_
      obtain ⟨a301, H⟩ := H
      refine r_L_law_1987 ?_
      refine ⟨a301, ?_⟩
      exact H
    · replace H := H.2 c
      obtain ⟨⟨a302, a303⟩, H⟩ := H
      refine r_L_law_461 ?_
      refine ⟨a302, a303, ⟨fun c => ?_, fun c => ?_, fun c => ?_⟩⟩
      · replace H := H.1 c
        refine r_L_law_467 ?_
        refine ⟨fun c => absurd c (by decide), fun c => ?_⟩
        refine r_L_law_468 ?_
        refine ⟨(by decide), ?_⟩
        exact H
      · replace H := H.2.1 c
        refine r_L_law_467 ?_
        refine ⟨fun c => ?_, fun c => absurd c (by decide)⟩
        refine r_L_law_470 ?_
        obtain ⟨a304, H⟩ := H
        refine r_L_law_1987 ?_
        refine ⟨a304, ?_⟩
        exact H
      · replace H := H.2.2 c
        refine r_L_law_467 ?_
        refine ⟨fun c => absurd c (by decide), fun c => ?_⟩
        refine r_L_law_468 ?_
        refine ⟨(by decide), ?_⟩
        exact H
  · replace H := H.2 c
    refine r_L_law_457 ?_
    refine ⟨(by decide), ?_⟩
    exact H
theorem v_L_law_484 {d : Nat} {Q : am_K} {h : am_H} {r0 : Nat} {r1 : Nat} {r2 : Nat} {r3 : Nat} {x4 : Int} {o5 : Option am_V} {o6 : Option am_V} {y0 : Int} (H : ((-2147483648 ≤ x4 + 1 ∧ x4 + 1 ≤ 2147483647) ∧ (am_ty h r0 = 101 ∨ am_ty h r0 = 121) ∧ ((0 : Int) ≤ x4 + 1 ∧ x4 + 1 < am_ln h r0) ∧ (-2147483648 ≤ x4 + 2 ∧ x4 + 2 ≤ 2147483647) ∧ ((0 : Int) ≤ x4 + 2 ∧ x4 + 2 < am_ln h r0)) ∧ ((am_ty h r2 = 5) ∧ (am_ev am_prog (d + 12) 74 [.inr (.inl r2), .inl (am_ai h r0 (x4 + 1)), .inl (am_ai h r0 (x4 + 2))] h (am_aft (am_hand m_L_law Q (am_W m_L_law (am_ev am_prog (d + 12)) Q) 496) (am_W m_L_law (am_ev am_prog (d + 12)) Q) 496 [some (.inr (.inl r0)), some (.inr (.inl r1)), some (.inr (.inl r2)), some (.inr (.inl r3)), some (.inl x4), some (.inl y0), o6] [])))) : am_W m_L_law (am_ev am_prog (d + 12)) Q 484 [some (.inr (.inl r0)), some (.inr (.inl r1)), some (.inr (.inl r2)), some (.inr (.inl r3)), some (.inl x4), o5, o6] [.inl y0] h := by
  obtain ⟨⟨a305, a306, a307, a308, a309⟩, H⟩ := H
  obtain ⟨a310, H⟩ := H
  refine r_L_law_484 ?_
  refine ⟨a305, a306, a307, a308, a306, a309, a310, ?_⟩
  exact H
theorem v_L_law_497 {d : Nat} {Q : am_K} {h : am_H} {r0 : Nat} {r1 : Nat} {r2 : Nat} {r3 : Nat} {x4 : Int} {x5 : Int} {o6 : Option am_V} {y0 : Int} (H : (am_ty h r2 = 5) ∧ (((am_fi h 38 r2 : Int) = x5 → ((x5 : Int) ≠ 0 → ((-2147483648 ≤ x4 + 6 ∧ x4 + 6 ≤ 2147483647)) ∧ (am_W m_L_law (am_ev am_prog (d + 12)) Q 13 [some (.inr (.inl r0)), some (.inr (.inl r1)), some (.inr (.inl r2)), some (.inr (.inl r3)), some (.inl (x4 + 6)), some (.inl x5), some (.inl y0)] [] h)) ∧ ((x5 : Int) = 0 → (am_ty h r3 = 104 ∧ ((0 : Int) ≤ 0 ∧ 0 < am_ln h r3)) ∧ (((am_ai h r3 0) < y0 → Q (.inl (some (.inl 0))) h) ∧ ((am_ai h r3 0) = y0 → ((-2147483648 ≤ x4 + 6 ∧ x4 + 6 ≤ 2147483647)) ∧ (am_W m_L_law (am_ev am_prog (d + 12)) Q 13 [some (.inr (.inl r0)), some (.inr (.inl r1)), some (.inr (.inl r2)), some (.inr (.inl r3)), some (.inl (x4 + 6)), some (.inl x5), some (.inl y0)] [] h)) ∧ (y0 < (am_ai h r3 0) → Q (.inl (some (.inl 0))) h)))) ∧ ((am_fi h 38 r2 : Int) ≠ x5 → Q (.inl (some (.inl 0))) h))) : am_W m_L_law (am_ev am_prog (d + 12)) Q 497 [some (.inr (.inl r0)), some (.inr (.inl r1)), some (.inr (.inl r2)), some (.inr (.inl r3)), some (.inl x4), some (.inl x5), o6] [.inl y0] h := by
  obtain ⟨a311, H⟩ := H
  refine r_L_law_497 ?_
  refine ⟨a311, ?_⟩
  refine am_en p_X5_thrown rfl rfl ?_
  refine r_X5_thrown_0 ?_
  refine ⟨a311, ?_⟩
  refine am_av ?_
  refine r_L_law_500 ?_
  refine ⟨fun c => ?_, fun c => ?_⟩
  · replace H := H.1 c
    refine r_L_law_504 ?_
    refine ⟨fun c => ?_, fun c => ?_⟩
    · replace H := H.1 c
      refine r_L_law_515 ?_
      obtain ⟨a312, H⟩ := H
      refine r_L_law_1987 ?_
      refine ⟨a312, ?_⟩
      exact H
    · replace H := H.2 c
      obtain ⟨⟨a313, a314⟩, H⟩ := H
      refine r_L_law_506 ?_
      refine ⟨a313, a314, ⟨fun c => ?_, fun c => ?_, fun c => ?_⟩⟩
      · replace H := H.1 c
        refine r_L_law_512 ?_
        refine ⟨fun c => absurd c (by decide), fun c => ?_⟩
        refine r_L_law_513 ?_
        refine ⟨(by decide), ?_⟩
        exact H
      · replace H := H.2.1 c
        refine r_L_law_512 ?_
        refine ⟨fun c => ?_, fun c => absurd c (by decide)⟩
        refine r_L_law_515 ?_
        obtain ⟨a315, H⟩ := H
        refine r_L_law_1987 ?_
        refine ⟨a315, ?_⟩
        exact H
      · replace H := H.2.2 c
        refine r_L_law_512 ?_
        refine ⟨fun c => absurd c (by decide), fun c => ?_⟩
        refine r_L_law_513 ?_
        refine ⟨(by decide), ?_⟩
        exact H
  · replace H := H.2 c
    refine r_L_law_502 ?_
    refine ⟨(by decide), ?_⟩
    exact H
theorem v_L_law_534 {d : Nat} {Q : am_K} {h : am_H} {r0 : Nat} {r1 : Nat} {r2 : Nat} {r3 : Nat} {x4 : Int} {o5 : Option am_V} {o6 : Option am_V} {y0 : Int} (H : ((-2147483648 ≤ x4 + 1 ∧ x4 + 1 ≤ 2147483647) ∧ (am_ty h r0 = 101 ∨ am_ty h r0 = 121) ∧ ((0 : Int) ≤ x4 + 1 ∧ x4 + 1 < am_ln h r0) ∧ (-2147483648 ≤ x4 + 2 ∧ x4 + 2 ≤ 2147483647) ∧ ((0 : Int) ≤ x4 + 2 ∧ x4 + 2 < am_ln h r0) ∧ (-2147483648 ≤ x4 + 3 ∧ x4 + 3 ≤ 2147483647) ∧ ((0 : Int) ≤ x4 + 3 ∧ x4 + 3 < am_ln h r0)) ∧ ((am_ty h r2 = 5) ∧ (am_ev am_prog (d + 12) 85 [.inr (.inl r2), .inl (am_ai h r0 (x4 + 1)), .inl (am_ai h r0 (x4 + 2)), .inl (am_ai h r0 (x4 + 3))] h (am_aft (am_hand m_L_law Q (am_W m_L_law (am_ev am_prog (d + 12)) Q) 551) (am_W m_L_law (am_ev am_prog (d + 12)) Q) 551 [some (.inr (.inl r0)), some (.inr (.inl r1)), some (.inr (.inl r2)), some (.inr (.inl r3)), some (.inl x4), some (.inl y0), o6] [])))) : am_W m_L_law (am_ev am_prog (d + 12)) Q 534 [some (.inr (.inl r0)), some (.inr (.inl r1)), some (.inr (.inl r2)), some (.inr (.inl r3)), some (.inl x4), o5, o6] [.inl y0] h := by
  obtain ⟨⟨a316, a317, a318, a319, a320, a321, a322⟩, H⟩ := H
  obtain ⟨a323, H⟩ := H
  refine r_L_law_534 ?_
  refine ⟨a316, a317, a318, a319, a317, a320, a321, a317, a322, a323, ?_⟩
  exact H
theorem v_L_law_552 {d : Nat} {Q : am_K} {h : am_H} {r0 : Nat} {r1 : Nat} {r2 : Nat} {r3 : Nat} {x4 : Int} {x5 : Int} {o6 : Option am_V} {y0 : Int} (H : (am_ty h r2 = 5) ∧ (((am_fi h 38 r2 : Int) = x5 → ((x5 : Int) ≠ 0 → ((-2147483648 ≤ x4 + 6 ∧ x4 + 6 ≤ 2147483647)) ∧ (am_W m_L_law (am_ev am_prog (d + 12)) Q 13 [some (.inr (.inl r0)), some (.inr (.inl r1)), some (.inr (.inl r2)), some (.inr (.inl r3)), some (.inl (x4 + 6)), some (.inl x5), some (.inl y0)] [] h)) ∧ ((x5 : Int) = 0 → (am_ty h r3 = 104 ∧ ((0 : Int) ≤ 0 ∧ 0 < am_ln h r3)) ∧ (((am_ai h r3 0) < y0 → Q (.inl (some (.inl 0))) h) ∧ ((am_ai h r3 0) = y0 → ((-2147483648 ≤ x4 + 6 ∧ x4 + 6 ≤ 2147483647)) ∧ (am_W m_L_law (am_ev am_prog (d + 12)) Q 13 [some (.inr (.inl r0)), some (.inr (.inl r1)), some (.inr (.inl r2)), some (.inr (.inl r3)), some (.inl (x4 + 6)), some (.inl x5), some (.inl y0)] [] h)) ∧ (y0 < (am_ai h r3 0) → Q (.inl (some (.inl 0))) h)))) ∧ ((am_fi h 38 r2 : Int) ≠ x5 → Q (.inl (some (.inl 0))) h))) : am_W m_L_law (am_ev am_prog (d + 12)) Q 552 [some (.inr (.inl r0)), some (.inr (.inl r1)), some (.inr (.inl r2)), some (.inr (.inl r3)), some (.inl x4), some (.inl x5), o6] [.inl y0] h := by
  obtain ⟨a324, H⟩ := H
  refine r_L_law_552 ?_
  refine ⟨a324, ?_⟩
  refine am_en p_X5_thrown rfl rfl ?_
  refine r_X5_thrown_0 ?_
  refine ⟨a324, ?_⟩
  refine am_av ?_
  refine r_L_law_555 ?_
  refine ⟨fun c => ?_, fun c => ?_⟩
  · replace H := H.1 c
    refine r_L_law_559 ?_
    refine ⟨fun c => ?_, fun c => ?_⟩
    · replace H := H.1 c
      refine r_L_law_570 ?_
      obtain ⟨a325, H⟩ := H
      refine r_L_law_1987 ?_
      refine ⟨a325, ?_⟩
      exact H
    · replace H := H.2 c
      obtain ⟨⟨a326, a327⟩, H⟩ := H
      refine r_L_law_561 ?_
      refine ⟨a326, a327, ⟨fun c => ?_, fun c => ?_, fun c => ?_⟩⟩
      · replace H := H.1 c
        refine r_L_law_567 ?_
        refine ⟨fun c => absurd c (by decide), fun c => ?_⟩
        refine r_L_law_568 ?_
        refine ⟨(by decide), ?_⟩
        exact H
      · replace H := H.2.1 c
        refine r_L_law_567 ?_
        refine ⟨fun c => ?_, fun c => absurd c (by decide)⟩
        refine r_L_law_570 ?_
        obtain ⟨a328, H⟩ := H
        refine r_L_law_1987 ?_
        refine ⟨a328, ?_⟩
        exact H
      · replace H := H.2.2 c
        refine r_L_law_567 ?_
        refine ⟨fun c => absurd c (by decide), fun c => ?_⟩
        refine r_L_law_568 ?_
        refine ⟨(by decide), ?_⟩
        exact H
  · replace H := H.2 c
    refine r_L_law_557 ?_
    refine ⟨(by decide), ?_⟩
    exact H
theorem v_L_law_588 {d : Nat} {Q : am_K} {h : am_H} {r0 : Nat} {r1 : Nat} {r2 : Nat} {r3 : Nat} {x4 : Int} {o5 : Option am_V} {o6 : Option am_V} {y0 : Int} (H : ((-2147483648 ≤ x4 + 1 ∧ x4 + 1 ≤ 2147483647) ∧ (am_ty h r0 = 101 ∨ am_ty h r0 = 121) ∧ ((0 : Int) ≤ x4 + 1 ∧ x4 + 1 < am_ln h r0) ∧ (-2147483648 ≤ x4 + 2 ∧ x4 + 2 ≤ 2147483647) ∧ ((0 : Int) ≤ x4 + 2 ∧ x4 + 2 < am_ln h r0)) ∧ (((am_ai h r0 (x4 + 2) : Int) = 0 → (am_ty h r2 = 5) ∧ (am_ev am_prog (d + 12) 82 [.inr (.inl r2), .inl (am_ai h r0 (x4 + 1)), .inl 0] h (am_aft (am_hand m_L_law Q (am_W m_L_law (am_ev am_prog (d + 12)) Q) 604) (am_W m_L_law (am_ev am_prog (d + 12)) Q) 604 [some (.inr (.inl r0)), some (.inr (.inl r1)), some (.inr (.inl r2)), some (.inr (.inl r3)), some (.inl x4), some (.inl y0), o6] []))) ∧ ((am_ai h r0 (x4 + 2) : Int) ≠ 0 → (am_ty h r2 = 5) ∧ (am_ev am_prog (d + 12) 82 [.inr (.inl r2), .inl (am_ai h r0 (x4 + 1)), .inl 1] h (am_aft (am_hand m_L_law Q (am_W m_L_law (am_ev am_prog (d + 12)) Q) 604) (am_W m_L_law (am_ev am_prog (d + 12)) Q) 604 [some (.inr (.inl r0)), some (.inr (.inl r1)), some (.inr (.inl r2)), some (.inr (.inl r3)), some (.inl x4), some (.inl y0), o6] []))))) : am_W m_L_law (am_ev am_prog (d + 12)) Q 588 [some (.inr (.inl r0)), some (.inr (.inl r1)), some (.inr (.inl r2)), some (.inr (.inl r3)), some (.inl x4), o5, o6] [.inl y0] h := by
  obtain ⟨⟨a329, a330, a331, a332, a333⟩, H⟩ := H
  refine r_L_law_588 ?_
  refine ⟨a329, a330, a331, a332, a330, a333, ⟨fun c => ?_, fun c => ?_⟩⟩
  · replace H := H.1 c
    refine r_L_law_603 ?_
    obtain ⟨a334, H⟩ := H
    refine r_L_law_604 ?_
    refine ⟨a334, ?_⟩
    exact H
  · replace H := H.2 c
    refine r_L_law_601 ?_
    obtain ⟨a335, H⟩ := H
    refine r_L_law_604 ?_
    refine ⟨a335, ?_⟩
    exact H
theorem v_L_law_605 {d : Nat} {Q : am_K} {h : am_H} {r0 : Nat} {r1 : Nat} {r2 : Nat} {r3 : Nat} {x4 : Int} {x5 : Int} {o6 : Option am_V} {y0 : Int} (H : (am_ty h r2 = 5) ∧ (((am_fi h 38 r2 : Int) = x5 → ((x5 : Int) ≠ 0 → ((-2147483648 ≤ x4 + 6 ∧ x4 + 6 ≤ 2147483647)) ∧ (am_W m_L_law (am_ev am_prog (d + 12)) Q 13 [some (.inr (.inl r0)), some (.inr (.inl r1)), some (.inr (.inl r2)), some (.inr (.inl r3)), some (.inl (x4 + 6)), some (.inl x5), some (.inl y0)] [] h)) ∧ ((x5 : Int) = 0 → (am_ty h r3 = 104 ∧ ((0 : Int) ≤ 0 ∧ 0 < am_ln h r3)) ∧ (((y0 : Int) = 0 → ((am_ai h r3 0) < 0 → Q (.inl (some (.inl 0))) h) ∧ ((am_ai h r3 0) = 0 → ((-2147483648 ≤ x4 + 6 ∧ x4 + 6 ≤ 2147483647)) ∧ (am_W m_L_law (am_ev am_prog (d + 12)) Q 13 [some (.inr (.inl r0)), some (.inr (.inl r1)), some (.inr (.inl r2)), some (.inr (.inl r3)), some (.inl (x4 + 6)), some (.inl x5), some (.inl y0)] [] h)) ∧ (0 < (am_ai h r3 0) → Q (.inl (some (.inl 0))) h)) ∧ ((y0 : Int) ≠ 0 → ((am_ai h r3 0) < 1 → Q (.inl (some (.inl 0))) h) ∧ ((am_ai h r3 0) = 1 → ((-2147483648 ≤ x4 + 6 ∧ x4 + 6 ≤ 2147483647)) ∧ (am_W m_L_law (am_ev am_prog (d + 12)) Q 13 [some (.inr (.inl r0)), some (.inr (.inl r1)), some (.inr (.inl r2)), some (.inr (.inl r3)), some (.inl (x4 + 6)), some (.inl x5), some (.inl y0)] [] h)) ∧ (1 < (am_ai h r3 0) → Q (.inl (some (.inl 0))) h))))) ∧ ((am_fi h 38 r2 : Int) ≠ x5 → Q (.inl (some (.inl 0))) h))) : am_W m_L_law (am_ev am_prog (d + 12)) Q 605 [some (.inr (.inl r0)), some (.inr (.inl r1)), some (.inr (.inl r2)), some (.inr (.inl r3)), some (.inl x4), some (.inl x5), o6] [.inl y0] h := by
  obtain ⟨a336, H⟩ := H
  refine r_L_law_605 ?_
  refine ⟨a336, ?_⟩
  refine am_en p_X5_thrown rfl rfl ?_
  refine r_X5_thrown_0 ?_
  refine ⟨a336, ?_⟩
  refine am_av ?_
  refine r_L_law_608 ?_
  refine ⟨fun c => ?_, fun c => ?_⟩
  · replace H := H.1 c
    refine r_L_law_612 ?_
    refine ⟨fun c => ?_, fun c => ?_⟩
    · replace H := H.1 c
      refine r_L_law_626 ?_
      obtain ⟨a337, H⟩ := H
      refine r_L_law_1987 ?_
      refine ⟨a337, ?_⟩
      exact H
    · replace H := H.2 c
      obtain ⟨⟨a338, a339⟩, H⟩ := H
      refine r_L_law_614 ?_
      refine ⟨a338, a339, ⟨fun c => ?_, fun c => ?_⟩⟩
      · replace H := H.1 c
        refine r_L_law_621 ?_
        refine r_L_law_622 ?_
        refine ⟨fun c => ?_, fun c => ?_, fun c => ?_⟩
        · replace H := H.1 c
          refine r_L_law_623 ?_
          refine ⟨fun c => absurd c (by decide), fun c => ?_⟩
          refine r_L_law_624 ?_
          refine ⟨(by decide), ?_⟩
          exact H
        · replace H := H.2.1 c
          refine r_L_law_623 ?_
          refine ⟨fun c => ?_, fun c => absurd c (by decide)⟩
          refine r_L_law_626 ?_
          obtain ⟨a340, H⟩ := H
          refine r_L_law_1987 ?_
          refine ⟨a340, ?_⟩
          exact H
        · replace H := H.2.2 c
          refine r_L_law_623 ?_
          refine ⟨fun c => absurd c (by decide), fun c => ?_⟩
          refine r_L_law_624 ?_
          refine ⟨(by decide), ?_⟩
          exact H
      · replace H := H.2 c
        refine r_L_law_619 ?_
        refine r_L_law_622 ?_
        refine ⟨fun c => ?_, fun c => ?_, fun c => ?_⟩
        · replace H := H.1 c
          refine r_L_law_623 ?_
          refine ⟨fun c => absurd c (by decide), fun c => ?_⟩
          refine r_L_law_624 ?_
          refine ⟨(by decide), ?_⟩
          exact H
        · replace H := H.2.1 c
          refine r_L_law_623 ?_
          refine ⟨fun c => ?_, fun c => absurd c (by decide)⟩
          refine r_L_law_626 ?_
          obtain ⟨a341, H⟩ := H
          refine r_L_law_1987 ?_
          refine ⟨a341, ?_⟩
          exact H
        · replace H := H.2.2 c
          refine r_L_law_623 ?_
          refine ⟨fun c => absurd c (by decide), fun c => ?_⟩
          refine r_L_law_624 ?_
          refine ⟨(by decide), ?_⟩
          exact H
  · replace H := H.2 c
    refine r_L_law_610 ?_
    refine ⟨(by decide), ?_⟩
    exact H
theorem v_L_law_640 {d : Nat} {Q : am_K} {h : am_H} {r0 : Nat} {r1 : Nat} {r2 : Nat} {r3 : Nat} {x4 : Int} {o5 : Option am_V} {o6 : Option am_V} {y0 : Int} (H : ((-2147483648 ≤ x4 + 1 ∧ x4 + 1 ≤ 2147483647) ∧ (am_ty h r0 = 101 ∨ am_ty h r0 = 121) ∧ ((0 : Int) ≤ x4 + 1 ∧ x4 + 1 < am_ln h r0) ∧ (-2147483648 ≤ x4 + 2 ∧ x4 + 2 ≤ 2147483647) ∧ ((0 : Int) ≤ x4 + 2 ∧ x4 + 2 < am_ln h r0)) ∧ ((am_ty h r2 = 5) ∧ (am_ev am_prog (d + 12) 77 [.inr (.inl r2), .inl (am_ai h r0 (x4 + 1)), .inl (am_ai h r0 (x4 + 2))] h (am_aft (am_hand m_L_law Q (am_W m_L_law (am_ev am_prog (d + 12)) Q) 652) (am_W m_L_law (am_ev am_prog (d + 12)) Q) 652 [some (.inr (.inl r0)), some (.inr (.inl r1)), some (.inr (.inl r2)), some (.inr (.inl r3)), some (.inl x4), some (.inl y0), o6] [])))) : am_W m_L_law (am_ev am_prog (d + 12)) Q 640 [some (.inr (.inl r0)), some (.inr (.inl r1)), some (.inr (.inl r2)), some (.inr (.inl r3)), some (.inl x4), o5, o6] [.inl y0] h := by
  obtain ⟨⟨a342, a343, a344, a345, a346⟩, H⟩ := H
  obtain ⟨a347, H⟩ := H
  refine r_L_law_640 ?_
  refine ⟨a342, a343, a344, a345, a343, a346, a347, ?_⟩
  exact H
theorem v_L_law_653 {d : Nat} {Q : am_K} {h : am_H} {r0 : Nat} {r1 : Nat} {r2 : Nat} {r3 : Nat} {x4 : Int} {x5 : Int} {o6 : Option am_V} {y0 : Int} (H : (am_ty h r2 = 5) ∧ (((am_fi h 38 r2 : Int) = x5 → ((x5 : Int) ≠ 0 → ((-2147483648 ≤ x4 + 6 ∧ x4 + 6 ≤ 2147483647)) ∧ (am_W m_L_law (am_ev am_prog (d + 12)) Q 13 [some (.inr (.inl r0)), some (.inr (.inl r1)), some (.inr (.inl r2)), some (.inr (.inl r3)), some (.inl (x4 + 6)), some (.inl x5), some (.inl y0)] [] h)) ∧ ((x5 : Int) = 0 → (am_ty h r3 = 104 ∧ ((0 : Int) ≤ 0 ∧ 0 < am_ln h r3)) ∧ (((am_ai h r3 0) < y0 → Q (.inl (some (.inl 0))) h) ∧ ((am_ai h r3 0) = y0 → ((-2147483648 ≤ x4 + 6 ∧ x4 + 6 ≤ 2147483647)) ∧ (am_W m_L_law (am_ev am_prog (d + 12)) Q 13 [some (.inr (.inl r0)), some (.inr (.inl r1)), some (.inr (.inl r2)), some (.inr (.inl r3)), some (.inl (x4 + 6)), some (.inl x5), some (.inl y0)] [] h)) ∧ (y0 < (am_ai h r3 0) → Q (.inl (some (.inl 0))) h)))) ∧ ((am_fi h 38 r2 : Int) ≠ x5 → Q (.inl (some (.inl 0))) h))) : am_W m_L_law (am_ev am_prog (d + 12)) Q 653 [some (.inr (.inl r0)), some (.inr (.inl r1)), some (.inr (.inl r2)), some (.inr (.inl r3)), some (.inl x4), some (.inl x5), o6] [.inl y0] h := by
  obtain ⟨a348, H⟩ := H
  refine r_L_law_653 ?_
  refine ⟨a348, ?_⟩
  refine am_en p_X5_thrown rfl rfl ?_
  refine r_X5_thrown_0 ?_
  refine ⟨a348, ?_⟩
  refine am_av ?_
  refine r_L_law_656 ?_
  refine ⟨fun c => ?_, fun c => ?_⟩
  · replace H := H.1 c
    refine r_L_law_660 ?_
    refine ⟨fun c => ?_, fun c => ?_⟩
    · replace H := H.1 c
      refine r_L_law_671 ?_
      obtain ⟨a349, H⟩ := H
      refine r_L_law_1987 ?_
      refine ⟨a349, ?_⟩
      exact H
    · replace H := H.2 c
      obtain ⟨⟨a350, a351⟩, H⟩ := H
      refine r_L_law_662 ?_
      refine ⟨a350, a351, ⟨fun c => ?_, fun c => ?_, fun c => ?_⟩⟩
      · replace H := H.1 c
        refine r_L_law_668 ?_
        refine ⟨fun c => absurd c (by decide), fun c => ?_⟩
        refine r_L_law_669 ?_
        refine ⟨(by decide), ?_⟩
        exact H
      · replace H := H.2.1 c
        refine r_L_law_668 ?_
        refine ⟨fun c => ?_, fun c => absurd c (by decide)⟩
        refine r_L_law_671 ?_
        obtain ⟨a352, H⟩ := H
        refine r_L_law_1987 ?_
        refine ⟨a352, ?_⟩
        exact H
      · replace H := H.2.2 c
        refine r_L_law_668 ?_
        refine ⟨fun c => absurd c (by decide), fun c => ?_⟩
        refine r_L_law_669 ?_
        refine ⟨(by decide), ?_⟩
        exact H
  · replace H := H.2 c
    refine r_L_law_658 ?_
    refine ⟨(by decide), ?_⟩
    exact H
theorem v_L_law_680 {d : Nat} {Q : am_K} {h : am_H} {r0 : Nat} {r1 : Nat} {r2 : Nat} {r3 : Nat} {x4 : Int} {o5 : Option am_V} {o6 : Option am_V} {y0 : Int} (H : ((-2147483648 ≤ x4 + 1 ∧ x4 + 1 ≤ 2147483647) ∧ (am_ty h r0 = 101 ∨ am_ty h r0 = 121) ∧ ((0 : Int) ≤ x4 + 1 ∧ x4 + 1 < am_ln h r0)) ∧ ((am_ty h r2 = 5) ∧ (am_ev am_prog (d + 12) 45 [.inr (.inl r2), .inl (am_ai h r0 (x4 + 1))] h (am_aft (am_hand m_L_law Q (am_W m_L_law (am_ev am_prog (d + 12)) Q) 687) (am_W m_L_law (am_ev am_prog (d + 12)) Q) 687 [some (.inr (.inl r0)), some (.inr (.inl r1)), some (.inr (.inl r2)), some (.inr (.inl r3)), some (.inl x4), some (.inl y0), o6] [])))) : am_W m_L_law (am_ev am_prog (d + 12)) Q 680 [some (.inr (.inl r0)), some (.inr (.inl r1)), some (.inr (.inl r2)), some (.inr (.inl r3)), some (.inl x4), o5, o6] [.inl y0] h := by
  obtain ⟨⟨a353, a354, a355⟩, H⟩ := H
  obtain ⟨a356, H⟩ := H
  refine r_L_law_680 ?_
  refine ⟨a353, a354, a355, a356, ?_⟩
  exact H
theorem v_L_law_688 {d : Nat} {Q : am_K} {h : am_H} {r0 : Nat} {r1 : Nat} {r2 : Nat} {r3 : Nat} {x4 : Int} {x5 : Int} {o6 : Option am_V} {y0 : Int} (H : (am_ty h r2 = 5) ∧ (((am_fi h 38 r2 : Int) = x5 → ((x5 : Int) ≠ 0 → ((-2147483648 ≤ x4 + 6 ∧ x4 + 6 ≤ 2147483647)) ∧ (am_W m_L_law (am_ev am_prog (d + 12)) Q 13 [some (.inr (.inl r0)), some (.inr (.inl r1)), some (.inr (.inl r2)), some (.inr (.inl r3)), some (.inl (x4 + 6)), some (.inl x5), some (.inl y0)] [] h)) ∧ ((x5 : Int) = 0 → (am_ty h r3 = 104 ∧ ((0 : Int) ≤ 0 ∧ 0 < am_ln h r3)) ∧ (((am_ai h r3 0) < y0 → Q (.inl (some (.inl 0))) h) ∧ ((am_ai h r3 0) = y0 → ((-2147483648 ≤ x4 + 6 ∧ x4 + 6 ≤ 2147483647)) ∧ (am_W m_L_law (am_ev am_prog (d + 12)) Q 13 [some (.inr (.inl r0)), some (.inr (.inl r1)), some (.inr (.inl r2)), some (.inr (.inl r3)), some (.inl (x4 + 6)), some (.inl x5), some (.inl y0)] [] h)) ∧ (y0 < (am_ai h r3 0) → Q (.inl (some (.inl 0))) h)))) ∧ ((am_fi h 38 r2 : Int) ≠ x5 → Q (.inl (some (.inl 0))) h))) : am_W m_L_law (am_ev am_prog (d + 12)) Q 688 [some (.inr (.inl r0)), some (.inr (.inl r1)), some (.inr (.inl r2)), some (.inr (.inl r3)), some (.inl x4), some (.inl x5), o6] [.inl y0] h := by
  obtain ⟨a357, H⟩ := H
  refine r_L_law_688 ?_
  refine ⟨a357, ?_⟩
  refine am_en p_X5_thrown rfl rfl ?_
  refine r_X5_thrown_0 ?_
  refine ⟨a357, ?_⟩
  refine am_av ?_
  refine r_L_law_691 ?_
  refine ⟨fun c => ?_, fun c => ?_⟩
  · replace H := H.1 c
    refine r_L_law_695 ?_
    refine ⟨fun c => ?_, fun c => ?_⟩
    · replace H := H.1 c
      refine r_L_law_706 ?_
      obtain ⟨a358, H⟩ := H
      refine r_L_law_1987 ?_
      refine ⟨a358, ?_⟩
      exact H
    · replace H := H.2 c
      obtain ⟨⟨a359, a360⟩, H⟩ := H
      refine r_L_law_697 ?_
      refine ⟨a359, a360, ⟨fun c => ?_, fun c => ?_, fun c => ?_⟩⟩
      · replace H := H.1 c
        refine r_L_law_703 ?_
        refine ⟨fun c => absurd c (by decide), fun c => ?_⟩
        refine r_L_law_704 ?_
        refine ⟨(by decide), ?_⟩
        exact H
      · replace H := H.2.1 c
        refine r_L_law_703 ?_
        refine ⟨fun c => ?_, fun c => absurd c (by decide)⟩
        refine r_L_law_706 ?_
        obtain ⟨a361, H⟩ := H
        refine r_L_law_1987 ?_
        refine ⟨a361, ?_⟩
        exact H
      · replace H := H.2.2 c
        refine r_L_law_703 ?_
        refine ⟨fun c => absurd c (by decide), fun c => ?_⟩
        refine r_L_law_704 ?_
        refine ⟨(by decide), ?_⟩
        exact H
  · replace H := H.2 c
    refine r_L_law_693 ?_
    refine ⟨(by decide), ?_⟩
    exact H
theorem v_L_law_720 {d : Nat} {Q : am_K} {h : am_H} {r0 : Nat} {r1 : Nat} {r2 : Nat} {r3 : Nat} {x4 : Int} {o5 : Option am_V} {o6 : Option am_V} {y0 : Int} (H : ((-2147483648 ≤ x4 + 1 ∧ x4 + 1 ≤ 2147483647) ∧ (am_ty h r0 = 101 ∨ am_ty h r0 = 121) ∧ ((0 : Int) ≤ x4 + 1 ∧ x4 + 1 < am_ln h r0) ∧ (-2147483648 ≤ x4 + 2 ∧ x4 + 2 ≤ 2147483647) ∧ ((0 : Int) ≤ x4 + 2 ∧ x4 + 2 < am_ln h r0)) ∧ ((am_ty h r2 = 5) ∧ (am_ev am_prog (d + 12) 71 [.inr (.inl r2), .inl (am_ai h r0 (x4 + 1)), .inl (am_ai h r0 (x4 + 2))] h (am_aft (am_hand m_L_law Q (am_W m_L_law (am_ev am_prog (d + 12)) Q) 732) (am_W m_L_law (am_ev am_prog (d + 12)) Q) 732 [some (.inr (.inl r0)), some (.inr (.inl r1)), some (.inr (.inl r2)), some (.inr (.inl r3)), some (.inl x4), some (.inl y0), o6] [])))) : am_W m_L_law (am_ev am_prog (d + 12)) Q 720 [some (.inr (.inl r0)), some (.inr (.inl r1)), some (.inr (.inl r2)), some (.inr (.inl r3)), some (.inl x4), o5, o6] [.inl y0] h := by
  obtain ⟨⟨a362, a363, a364, a365, a366⟩, H⟩ := H
  obtain ⟨a367, H⟩ := H
  refine r_L_law_720 ?_
  refine ⟨a362, a363, a364, a365, a363, a366, a367, ?_⟩
  exact H
theorem v_L_law_733 {d : Nat} {Q : am_K} {h : am_H} {r0 : Nat} {r1 : Nat} {r2 : Nat} {r3 : Nat} {x4 : Int} {x5 : Int} {o6 : Option am_V} {y0 : Int} (H : (am_ty h r2 = 5) ∧ (((am_fi h 38 r2 : Int) = x5 → ((x5 : Int) ≠ 0 → ((-2147483648 ≤ x4 + 6 ∧ x4 + 6 ≤ 2147483647)) ∧ (am_W m_L_law (am_ev am_prog (d + 12)) Q 13 [some (.inr (.inl r0)), some (.inr (.inl r1)), some (.inr (.inl r2)), some (.inr (.inl r3)), some (.inl (x4 + 6)), some (.inl x5), some (.inl y0)] [] h)) ∧ ((x5 : Int) = 0 → (am_ty h r3 = 104 ∧ ((0 : Int) ≤ 0 ∧ 0 < am_ln h r3)) ∧ (((am_ai h r3 0) < y0 → Q (.inl (some (.inl 0))) h) ∧ ((am_ai h r3 0) = y0 → ((-2147483648 ≤ x4 + 6 ∧ x4 + 6 ≤ 2147483647)) ∧ (am_W m_L_law (am_ev am_prog (d + 12)) Q 13 [some (.inr (.inl r0)), some (.inr (.inl r1)), some (.inr (.inl r2)), some (.inr (.inl r3)), some (.inl (x4 + 6)), some (.inl x5), some (.inl y0)] [] h)) ∧ (y0 < (am_ai h r3 0) → Q (.inl (some (.inl 0))) h)))) ∧ ((am_fi h 38 r2 : Int) ≠ x5 → Q (.inl (some (.inl 0))) h))) : am_W m_L_law (am_ev am_prog (d + 12)) Q 733 [some (.inr (.inl r0)), some (.inr (.inl r1)), some (.inr (.inl r2)), some (.inr (.inl r3)), some (.inl x4), some (.inl x5), o6] [.inl y0] h := by
  obtain ⟨a368, H⟩ := H
  refine r_L_law_733 ?_
  refine ⟨a368, ?_⟩
  refine am_en p_X5_thrown rfl rfl ?_
  refine r_X5_thrown_0 ?_
  refine ⟨a368, ?_⟩
  refine am_av ?_
  refine r_L_law_736 ?_
  refine ⟨fun c => ?_, fun c => ?_⟩
  · replace H := H.1 c
    refine r_L_law_740 ?_
    refine ⟨fun c => ?_, fun c => ?_⟩
    · replace H := H.1 c
      refine r_L_law_751 ?_
      obtain ⟨a369, H⟩ := H
      refine r_L_law_1987 ?_
      refine ⟨a369, ?_⟩
      exact H
    · replace H := H.2 c
      obtain ⟨⟨a370, a371⟩, H⟩ := H
      refine r_L_law_742 ?_
      refine ⟨a370, a371, ⟨fun c => ?_, fun c => ?_, fun c => ?_⟩⟩
      · replace H := H.1 c
        refine r_L_law_748 ?_
        refine ⟨fun c => absurd c (by decide), fun c => ?_⟩
        refine r_L_law_749 ?_
        refine ⟨(by decide), ?_⟩
        exact H
      · replace H := H.2.1 c
        refine r_L_law_748 ?_
        refine ⟨fun c => ?_, fun c => absurd c (by decide)⟩
        refine r_L_law_751 ?_
        obtain ⟨a372, H⟩ := H
        refine r_L_law_1987 ?_
        refine ⟨a372, ?_⟩
        exact H
      · replace H := H.2.2 c
        refine r_L_law_748 ?_
        refine ⟨fun c => absurd c (by decide), fun c => ?_⟩
        refine r_L_law_749 ?_
        refine ⟨(by decide), ?_⟩
        exact H
  · replace H := H.2 c
    refine r_L_law_738 ?_
    refine ⟨(by decide), ?_⟩
    exact H
theorem v_L_law_765 {d : Nat} {Q : am_K} {h : am_H} {r0 : Nat} {r1 : Nat} {r2 : Nat} {r3 : Nat} {x4 : Int} {o5 : Option am_V} {o6 : Option am_V} {y0 : Int} (H : ((-2147483648 ≤ x4 + 1 ∧ x4 + 1 ≤ 2147483647) ∧ (am_ty h r0 = 101 ∨ am_ty h r0 = 121) ∧ ((0 : Int) ≤ x4 + 1 ∧ x4 + 1 < am_ln h r0) ∧ (-2147483648 ≤ x4 + 2 ∧ x4 + 2 ≤ 2147483647) ∧ ((0 : Int) ≤ x4 + 2 ∧ x4 + 2 < am_ln h r0)) ∧ ((am_ty h r2 = 5) ∧ (am_ev am_prog (d + 12) 76 [.inr (.inl r2), .inl (am_ai h r0 (x4 + 1)), .inl (am_ai h r0 (x4 + 2))] h (am_aft (am_hand m_L_law Q (am_W m_L_law (am_ev am_prog (d + 12)) Q) 777) (am_W m_L_law (am_ev am_prog (d + 12)) Q) 777 [some (.inr (.inl r0)), some (.inr (.inl r1)), some (.inr (.inl r2)), some (.inr (.inl r3)), some (.inl x4), some (.inl y0), o6] [])))) : am_W m_L_law (am_ev am_prog (d + 12)) Q 765 [some (.inr (.inl r0)), some (.inr (.inl r1)), some (.inr (.inl r2)), some (.inr (.inl r3)), some (.inl x4), o5, o6] [.inl y0] h := by
  obtain ⟨⟨a373, a374, a375, a376, a377⟩, H⟩ := H
  obtain ⟨a378, H⟩ := H
  refine r_L_law_765 ?_
  refine ⟨a373, a374, a375, a376, a374, a377, a378, ?_⟩
  exact H
theorem v_L_law_778 {d : Nat} {Q : am_K} {h : am_H} {r0 : Nat} {r1 : Nat} {r2 : Nat} {r3 : Nat} {x4 : Int} {x5 : Int} {o6 : Option am_V} {y0 : Int} (H : (am_ty h r2 = 5) ∧ (((am_fi h 38 r2 : Int) = x5 → ((x5 : Int) ≠ 0 → ((-2147483648 ≤ x4 + 6 ∧ x4 + 6 ≤ 2147483647)) ∧ (am_W m_L_law (am_ev am_prog (d + 12)) Q 13 [some (.inr (.inl r0)), some (.inr (.inl r1)), some (.inr (.inl r2)), some (.inr (.inl r3)), some (.inl (x4 + 6)), some (.inl x5), some (.inl y0)] [] h)) ∧ ((x5 : Int) = 0 → (am_ty h r3 = 104 ∧ ((0 : Int) ≤ 0 ∧ 0 < am_ln h r3)) ∧ (((am_ai h r3 0) < y0 → Q (.inl (some (.inl 0))) h) ∧ ((am_ai h r3 0) = y0 → ((-2147483648 ≤ x4 + 6 ∧ x4 + 6 ≤ 2147483647)) ∧ (am_W m_L_law (am_ev am_prog (d + 12)) Q 13 [some (.inr (.inl r0)), some (.inr (.inl r1)), some (.inr (.inl r2)), some (.inr (.inl r3)), some (.inl (x4 + 6)), some (.inl x5), some (.inl y0)] [] h)) ∧ (y0 < (am_ai h r3 0) → Q (.inl (some (.inl 0))) h)))) ∧ ((am_fi h 38 r2 : Int) ≠ x5 → Q (.inl (some (.inl 0))) h))) : am_W m_L_law (am_ev am_prog (d + 12)) Q 778 [some (.inr (.inl r0)), some (.inr (.inl r1)), some (.inr (.inl r2)), some (.inr (.inl r3)), some (.inl x4), some (.inl x5), o6] [.inl y0] h := by
  obtain ⟨a379, H⟩ := H
  refine r_L_law_778 ?_
  refine ⟨a379, ?_⟩
  refine am_en p_X5_thrown rfl rfl ?_
  refine r_X5_thrown_0 ?_
  refine ⟨a379, ?_⟩
  refine am_av ?_
  refine r_L_law_781 ?_
  refine ⟨fun c => ?_, fun c => ?_⟩
  · replace H := H.1 c
    refine r_L_law_785 ?_
    refine ⟨fun c => ?_, fun c => ?_⟩
    · replace H := H.1 c
      refine r_L_law_796 ?_
      obtain ⟨a380, H⟩ := H
      refine r_L_law_1987 ?_
      refine ⟨a380, ?_⟩
      exact H
    · replace H := H.2 c
      obtain ⟨⟨a381, a382⟩, H⟩ := H
      refine r_L_law_787 ?_
      refine ⟨a381, a382, ⟨fun c => ?_, fun c => ?_, fun c => ?_⟩⟩
      · replace H := H.1 c
        refine r_L_law_793 ?_
        refine ⟨fun c => absurd c (by decide), fun c => ?_⟩
        refine r_L_law_794 ?_
        refine ⟨(by decide), ?_⟩
        exact H
      · replace H := H.2.1 c
        refine r_L_law_793 ?_
        refine ⟨fun c => ?_, fun c => absurd c (by decide)⟩
        refine r_L_law_796 ?_
        obtain ⟨a383, H⟩ := H
        refine r_L_law_1987 ?_
        refine ⟨a383, ?_⟩
        exact H
      · replace H := H.2.2 c
        refine r_L_law_793 ?_
        refine ⟨fun c => absurd c (by decide), fun c => ?_⟩
        refine r_L_law_794 ?_
        refine ⟨(by decide), ?_⟩
        exact H
  · replace H := H.2 c
    refine r_L_law_783 ?_
    refine ⟨(by decide), ?_⟩
    exact H
theorem v_L_law_810 {d : Nat} {Q : am_K} {h : am_H} {r0 : Nat} {r1 : Nat} {r2 : Nat} {r3 : Nat} {x4 : Int} {o5 : Option am_V} {o6 : Option am_V} {y0 : Int} (H : ((-2147483648 ≤ x4 + 1 ∧ x4 + 1 ≤ 2147483647) ∧ (am_ty h r0 = 101 ∨ am_ty h r0 = 121) ∧ ((0 : Int) ≤ x4 + 1 ∧ x4 + 1 < am_ln h r0) ∧ (-2147483648 ≤ x4 + 2 ∧ x4 + 2 ≤ 2147483647) ∧ ((0 : Int) ≤ x4 + 2 ∧ x4 + 2 < am_ln h r0)) ∧ ((am_ty h r2 = 5) ∧ (am_ev am_prog (d + 12) 67 [.inr (.inl r2), .inl (am_ai h r0 (x4 + 1)), .inl (am_ai h r0 (x4 + 2))] h (am_aft (am_hand m_L_law Q (am_W m_L_law (am_ev am_prog (d + 12)) Q) 822) (am_W m_L_law (am_ev am_prog (d + 12)) Q) 822 [some (.inr (.inl r0)), some (.inr (.inl r1)), some (.inr (.inl r2)), some (.inr (.inl r3)), some (.inl x4), some (.inl y0), o6] [])))) : am_W m_L_law (am_ev am_prog (d + 12)) Q 810 [some (.inr (.inl r0)), some (.inr (.inl r1)), some (.inr (.inl r2)), some (.inr (.inl r3)), some (.inl x4), o5, o6] [.inl y0] h := by
  obtain ⟨⟨a384, a385, a386, a387, a388⟩, H⟩ := H
  obtain ⟨a389, H⟩ := H
  refine r_L_law_810 ?_
  refine ⟨a384, a385, a386, a387, a385, a388, a389, ?_⟩
  exact H
theorem v_L_law_823 {d : Nat} {Q : am_K} {h : am_H} {r0 : Nat} {r1 : Nat} {r2 : Nat} {r3 : Nat} {x4 : Int} {x5 : Int} {o6 : Option am_V} {y0 : Int} (H : (am_ty h r2 = 5) ∧ (((am_fi h 38 r2 : Int) = x5 → ((x5 : Int) ≠ 0 → ((-2147483648 ≤ x4 + 6 ∧ x4 + 6 ≤ 2147483647)) ∧ (am_W m_L_law (am_ev am_prog (d + 12)) Q 13 [some (.inr (.inl r0)), some (.inr (.inl r1)), some (.inr (.inl r2)), some (.inr (.inl r3)), some (.inl (x4 + 6)), some (.inl x5), some (.inl y0)] [] h)) ∧ ((x5 : Int) = 0 → (am_ty h r3 = 104 ∧ ((0 : Int) ≤ 0 ∧ 0 < am_ln h r3)) ∧ (((am_ai h r3 0) < y0 → Q (.inl (some (.inl 0))) h) ∧ ((am_ai h r3 0) = y0 → ((-2147483648 ≤ x4 + 6 ∧ x4 + 6 ≤ 2147483647)) ∧ (am_W m_L_law (am_ev am_prog (d + 12)) Q 13 [some (.inr (.inl r0)), some (.inr (.inl r1)), some (.inr (.inl r2)), some (.inr (.inl r3)), some (.inl (x4 + 6)), some (.inl x5), some (.inl y0)] [] h)) ∧ (y0 < (am_ai h r3 0) → Q (.inl (some (.inl 0))) h)))) ∧ ((am_fi h 38 r2 : Int) ≠ x5 → Q (.inl (some (.inl 0))) h))) : am_W m_L_law (am_ev am_prog (d + 12)) Q 823 [some (.inr (.inl r0)), some (.inr (.inl r1)), some (.inr (.inl r2)), some (.inr (.inl r3)), some (.inl x4), some (.inl x5), o6] [.inl y0] h := by
  obtain ⟨a390, H⟩ := H
  refine r_L_law_823 ?_
  refine ⟨a390, ?_⟩
  refine am_en p_X5_thrown rfl rfl ?_
  refine r_X5_thrown_0 ?_
  refine ⟨a390, ?_⟩
  refine am_av ?_
  refine r_L_law_826 ?_
  refine ⟨fun c => ?_, fun c => ?_⟩
  · replace H := H.1 c
    refine r_L_law_830 ?_
    refine ⟨fun c => ?_, fun c => ?_⟩
    · replace H := H.1 c
      refine r_L_law_841 ?_
      obtain ⟨a391, H⟩ := H
      refine r_L_law_1987 ?_
      refine ⟨a391, ?_⟩
      exact H
    · replace H := H.2 c
      obtain ⟨⟨a392, a393⟩, H⟩ := H
      refine r_L_law_832 ?_
      refine ⟨a392, a393, ⟨fun c => ?_, fun c => ?_, fun c => ?_⟩⟩
      · replace H := H.1 c
        refine r_L_law_838 ?_
        refine ⟨fun c => absurd c (by decide), fun c => ?_⟩
        refine r_L_law_839 ?_
        refine ⟨(by decide), ?_⟩
        exact H
      · replace H := H.2.1 c
        refine r_L_law_838 ?_
        refine ⟨fun c => ?_, fun c => absurd c (by decide)⟩
        refine r_L_law_841 ?_
        obtain ⟨a394, H⟩ := H
        refine r_L_law_1987 ?_
        refine ⟨a394, ?_⟩
        exact H
      · replace H := H.2.2 c
        refine r_L_law_838 ?_
        refine ⟨fun c => absurd c (by decide), fun c => ?_⟩
        refine r_L_law_839 ?_
        refine ⟨(by decide), ?_⟩
        exact H
  · replace H := H.2 c
    refine r_L_law_828 ?_
    refine ⟨(by decide), ?_⟩
    exact H
theorem v_L_law_855 {d : Nat} {Q : am_K} {h : am_H} {r0 : Nat} {r1 : Nat} {r2 : Nat} {r3 : Nat} {x4 : Int} {o5 : Option am_V} {o6 : Option am_V} {y0 : Int} (H : ((-2147483648 ≤ x4 + 1 ∧ x4 + 1 ≤ 2147483647) ∧ (am_ty h r0 = 101 ∨ am_ty h r0 = 121) ∧ ((0 : Int) ≤ x4 + 1 ∧ x4 + 1 < am_ln h r0) ∧ (-2147483648 ≤ x4 + 2 ∧ x4 + 2 ≤ 2147483647) ∧ ((0 : Int) ≤ x4 + 2 ∧ x4 + 2 < am_ln h r0)) ∧ ((am_ty h r2 = 5) ∧ (am_ev am_prog (d + 12) 73 [.inr (.inl r2), .inl (am_ai h r0 (x4 + 1)), .inl (am_ai h r0 (x4 + 2))] h (am_aft (am_hand m_L_law Q (am_W m_L_law (am_ev am_prog (d + 12)) Q) 867) (am_W m_L_law (am_ev am_prog (d + 12)) Q) 867 [some (.inr (.inl r0)), some (.inr (.inl r1)), some (.inr (.inl r2)), some (.inr (.inl r3)), some (.inl x4), some (.inl y0), o6] [])))) : am_W m_L_law (am_ev am_prog (d + 12)) Q 855 [some (.inr (.inl r0)), some (.inr (.inl r1)), some (.inr (.inl r2)), some (.inr (.inl r3)), some (.inl x4), o5, o6] [.inl y0] h := by
  obtain ⟨⟨a395, a396, a397, a398, a399⟩, H⟩ := H
  obtain ⟨a400, H⟩ := H
  refine r_L_law_855 ?_
  refine ⟨a395, a396, a397, a398, a396, a399, a400, ?_⟩
  exact H
theorem v_L_law_868 {d : Nat} {Q : am_K} {h : am_H} {r0 : Nat} {r1 : Nat} {r2 : Nat} {r3 : Nat} {x4 : Int} {x5 : Int} {o6 : Option am_V} {y0 : Int} (H : (am_ty h r2 = 5) ∧ (((am_fi h 38 r2 : Int) = x5 → ((x5 : Int) ≠ 0 → ((-2147483648 ≤ x4 + 6 ∧ x4 + 6 ≤ 2147483647)) ∧ (am_W m_L_law (am_ev am_prog (d + 12)) Q 13 [some (.inr (.inl r0)), some (.inr (.inl r1)), some (.inr (.inl r2)), some (.inr (.inl r3)), some (.inl (x4 + 6)), some (.inl x5), some (.inl y0)] [] h)) ∧ ((x5 : Int) = 0 → (am_ty h r3 = 104 ∧ ((0 : Int) ≤ 0 ∧ 0 < am_ln h r3)) ∧ (((am_ai h r3 0) < y0 → Q (.inl (some (.inl 0))) h) ∧ ((am_ai h r3 0) = y0 → ((-2147483648 ≤ x4 + 6 ∧ x4 + 6 ≤ 2147483647)) ∧ (am_W m_L_law (am_ev am_prog (d + 12)) Q 13 [some (.inr (.inl r0)), some (.inr (.inl r1)), some (.inr (.inl r2)), some (.inr (.inl r3)), some (.inl (x4 + 6)), some (.inl x5), some (.inl y0)] [] h)) ∧ (y0 < (am_ai h r3 0) → Q (.inl (some (.inl 0))) h)))) ∧ ((am_fi h 38 r2 : Int) ≠ x5 → Q (.inl (some (.inl 0))) h))) : am_W m_L_law (am_ev am_prog (d + 12)) Q 868 [some (.inr (.inl r0)), some (.inr (.inl r1)), some (.inr (.inl r2)), some (.inr (.inl r3)), some (.inl x4), some (.inl x5), o6] [.inl y0] h := by
  obtain ⟨a401, H⟩ := H
  refine r_L_law_868 ?_
  refine ⟨a401, ?_⟩
  refine am_en p_X5_thrown rfl rfl ?_
  refine r_X5_thrown_0 ?_
  refine ⟨a401, ?_⟩
  refine am_av ?_
  refine r_L_law_871 ?_
  refine ⟨fun c => ?_, fun c => ?_⟩
  · replace H := H.1 c
    refine r_L_law_875 ?_
    refine ⟨fun c => ?_, fun c => ?_⟩
    · replace H := H.1 c
      refine r_L_law_886 ?_
      obtain ⟨a402, H⟩ := H
      refine r_L_law_1987 ?_
      refine ⟨a402, ?_⟩
      exact H
    · replace H := H.2 c
      obtain ⟨⟨a403, a404⟩, H⟩ := H
      refine r_L_law_877 ?_
      refine ⟨a403, a404, ⟨fun c => ?_, fun c => ?_, fun c => ?_⟩⟩
      · replace H := H.1 c
        refine r_L_law_883 ?_
        refine ⟨fun c => absurd c (by decide), fun c => ?_⟩
        refine r_L_law_884 ?_
        refine ⟨(by decide), ?_⟩
        exact H
      · replace H := H.2.1 c
        refine r_L_law_883 ?_
        refine ⟨fun c => ?_, fun c => absurd c (by decide)⟩
        refine r_L_law_886 ?_
        obtain ⟨a405, H⟩ := H
        refine r_L_law_1987 ?_
        refine ⟨a405, ?_⟩
        exact H
      · replace H := H.2.2 c
        refine r_L_law_883 ?_
        refine ⟨fun c => absurd c (by decide), fun c => ?_⟩
        refine r_L_law_884 ?_
        refine ⟨(by decide), ?_⟩
        exact H
  · replace H := H.2 c
    refine r_L_law_873 ?_
    refine ⟨(by decide), ?_⟩
    exact H
theorem v_L_law_895 {d : Nat} {Q : am_K} {h : am_H} {r0 : Nat} {r1 : Nat} {r2 : Nat} {r3 : Nat} {x4 : Int} {o5 : Option am_V} {o6 : Option am_V} {y0 : Int} (H : ((-2147483648 ≤ x4 + 1 ∧ x4 + 1 ≤ 2147483647) ∧ (am_ty h r0 = 101 ∨ am_ty h r0 = 121) ∧ ((0 : Int) ≤ x4 + 1 ∧ x4 + 1 < am_ln h r0)) ∧ ((am_ty h r2 = 5) ∧ (am_ev am_prog (d + 12) 49 [.inr (.inl r2), .inl (am_ai h r0 (x4 + 1))] h (am_aft (am_hand m_L_law Q (am_W m_L_law (am_ev am_prog (d + 12)) Q) 902) (am_W m_L_law (am_ev am_prog (d + 12)) Q) 902 [some (.inr (.inl r0)), some (.inr (.inl r1)), some (.inr (.inl r2)), some (.inr (.inl r3)), some (.inl x4), some (.inl y0), o6] [])))) : am_W m_L_law (am_ev am_prog (d + 12)) Q 895 [some (.inr (.inl r0)), some (.inr (.inl r1)), some (.inr (.inl r2)), some (.inr (.inl r3)), some (.inl x4), o5, o6] [.inl y0] h := by
  obtain ⟨⟨a406, a407, a408⟩, H⟩ := H
  obtain ⟨a409, H⟩ := H
  refine r_L_law_895 ?_
  refine ⟨a406, a407, a408, a409, ?_⟩
  exact H
theorem v_L_law_903 {d : Nat} {Q : am_K} {h : am_H} {r0 : Nat} {r1 : Nat} {r2 : Nat} {r3 : Nat} {x4 : Int} {x5 : Int} {o6 : Option am_V} {y0 : Int} (H : (am_ty h r2 = 5) ∧ (((am_fi h 38 r2 : Int) = x5 → ((x5 : Int) ≠ 0 → ((-2147483648 ≤ x4 + 6 ∧ x4 + 6 ≤ 2147483647)) ∧ (am_W m_L_law (am_ev am_prog (d + 12)) Q 13 [some (.inr (.inl r0)), some (.inr (.inl r1)), some (.inr (.inl r2)), some (.inr (.inl r3)), some (.inl (x4 + 6)), some (.inl x5), some (.inl y0)] [] h)) ∧ ((x5 : Int) = 0 → (am_ty h r3 = 104 ∧ ((0 : Int) ≤ 0 ∧ 0 < am_ln h r3)) ∧ (((am_ai h r3 0) < y0 → Q (.inl (some (.inl 0))) h) ∧ ((am_ai h r3 0) = y0 → ((-2147483648 ≤ x4 + 6 ∧ x4 + 6 ≤ 2147483647)) ∧ (am_W m_L_law (am_ev am_prog (d + 12)) Q 13 [some (.inr (.inl r0)), some (.inr (.inl r1)), some (.inr (.inl r2)), some (.inr (.inl r3)), some (.inl (x4 + 6)), some (.inl x5), some (.inl y0)] [] h)) ∧ (y0 < (am_ai h r3 0) → Q (.inl (some (.inl 0))) h)))) ∧ ((am_fi h 38 r2 : Int) ≠ x5 → Q (.inl (some (.inl 0))) h))) : am_W m_L_law (am_ev am_prog (d + 12)) Q 903 [some (.inr (.inl r0)), some (.inr (.inl r1)), some (.inr (.inl r2)), some (.inr (.inl r3)), some (.inl x4), some (.inl x5), o6] [.inl y0] h := by
  obtain ⟨a410, H⟩ := H
  refine r_L_law_903 ?_
  refine ⟨a410, ?_⟩
  refine am_en p_X5_thrown rfl rfl ?_
  refine r_X5_thrown_0 ?_
  refine ⟨a410, ?_⟩
  refine am_av ?_
  refine r_L_law_906 ?_
  refine ⟨fun c => ?_, fun c => ?_⟩
  · replace H := H.1 c
    refine r_L_law_910 ?_
    refine ⟨fun c => ?_, fun c => ?_⟩
    · replace H := H.1 c
      refine r_L_law_921 ?_
      obtain ⟨a411, H⟩ := H
      refine r_L_law_1987 ?_
      refine ⟨a411, ?_⟩
      exact H
    · replace H := H.2 c
      obtain ⟨⟨a412, a413⟩, H⟩ := H
      refine r_L_law_912 ?_
      refine ⟨a412, a413, ⟨fun c => ?_, fun c => ?_, fun c => ?_⟩⟩
      · replace H := H.1 c
        refine r_L_law_918 ?_
        refine ⟨fun c => absurd c (by decide), fun c => ?_⟩
        refine r_L_law_919 ?_
        refine ⟨(by decide), ?_⟩
        exact H
      · replace H := H.2.1 c
        refine r_L_law_918 ?_
        refine ⟨fun c => ?_, fun c => absurd c (by decide)⟩
        refine r_L_law_921 ?_
        obtain ⟨a414, H⟩ := H
        refine r_L_law_1987 ?_
        refine ⟨a414, ?_⟩
        exact H
      · replace H := H.2.2 c
        refine r_L_law_918 ?_
        refine ⟨fun c => absurd c (by decide), fun c => ?_⟩
        refine r_L_law_919 ?_
        refine ⟨(by decide), ?_⟩
        exact H
  · replace H := H.2 c
    refine r_L_law_908 ?_
    refine ⟨(by decide), ?_⟩
    exact H
theorem v_L_law_930 {d : Nat} {Q : am_K} {h : am_H} {r0 : Nat} {r1 : Nat} {r2 : Nat} {r3 : Nat} {x4 : Int} {o5 : Option am_V} {o6 : Option am_V} {y0 : Int} (H : ((-2147483648 ≤ x4 + 1 ∧ x4 + 1 ≤ 2147483647) ∧ (am_ty h r0 = 101 ∨ am_ty h r0 = 121) ∧ ((0 : Int) ≤ x4 + 1 ∧ x4 + 1 < am_ln h r0)) ∧ ((am_ty h r2 = 5) ∧ (am_ev am_prog (d + 12) 44 [.inr (.inl r2), .inl (am_ai h r0 (x4 + 1))] h (am_aft (am_hand m_L_law Q (am_W m_L_law (am_ev am_prog (d + 12)) Q) 937) (am_W m_L_law (am_ev am_prog (d + 12)) Q) 937 [some (.inr (.inl r0)), some (.inr (.inl r1)), some (.inr (.inl r2)), some (.inr (.inl r3)), some (.inl x4), some (.inl y0), o6] [])))) : am_W m_L_law (am_ev am_prog (d + 12)) Q 930 [some (.inr (.inl r0)), some (.inr (.inl r1)), some (.inr (.inl r2)), some (.inr (.inl r3)), some (.inl x4), o5, o6] [.inl y0] h := by
  obtain ⟨⟨a415, a416, a417⟩, H⟩ := H
  obtain ⟨a418, H⟩ := H
  refine r_L_law_930 ?_
  refine ⟨a415, a416, a417, a418, ?_⟩
  exact H
theorem v_L_law_938 {d : Nat} {Q : am_K} {h : am_H} {r0 : Nat} {r1 : Nat} {r2 : Nat} {r3 : Nat} {x4 : Int} {x5 : Int} {o6 : Option am_V} {y0 : Int} (H : (am_ty h r2 = 5) ∧ (((am_fi h 38 r2 : Int) = x5 → ((x5 : Int) ≠ 0 → ((-2147483648 ≤ x4 + 6 ∧ x4 + 6 ≤ 2147483647)) ∧ (am_W m_L_law (am_ev am_prog (d + 12)) Q 13 [some (.inr (.inl r0)), some (.inr (.inl r1)), some (.inr (.inl r2)), some (.inr (.inl r3)), some (.inl (x4 + 6)), some (.inl x5), some (.inl y0)] [] h)) ∧ ((x5 : Int) = 0 → (am_ty h r3 = 104 ∧ ((0 : Int) ≤ 0 ∧ 0 < am_ln h r3)) ∧ (((y0 : Int) = 0 → ((am_ai h r3 0) < 0 → Q (.inl (some (.inl 0))) h) ∧ ((am_ai h r3 0) = 0 → ((-2147483648 ≤ x4 + 6 ∧ x4 + 6 ≤ 2147483647)) ∧ (am_W m_L_law (am_ev am_prog (d + 12)) Q 13 [some (.inr (.inl r0)), some (.inr (.inl r1)), some (.inr (.inl r2)), some (.inr (.inl r3)), some (.inl (x4 + 6)), some (.inl x5), some (.inl y0)] [] h)) ∧ (0 < (am_ai h r3 0) → Q (.inl (some (.inl 0))) h)) ∧ ((y0 : Int) ≠ 0 → ((am_ai h r3 0) < 1 → Q (.inl (some (.inl 0))) h) ∧ ((am_ai h r3 0) = 1 → ((-2147483648 ≤ x4 + 6 ∧ x4 + 6 ≤ 2147483647)) ∧ (am_W m_L_law (am_ev am_prog (d + 12)) Q 13 [some (.inr (.inl r0)), some (.inr (.inl r1)), some (.inr (.inl r2)), some (.inr (.inl r3)), some (.inl (x4 + 6)), some (.inl x5), some (.inl y0)] [] h)) ∧ (1 < (am_ai h r3 0) → Q (.inl (some (.inl 0))) h))))) ∧ ((am_fi h 38 r2 : Int) ≠ x5 → Q (.inl (some (.inl 0))) h))) : am_W m_L_law (am_ev am_prog (d + 12)) Q 938 [some (.inr (.inl r0)), some (.inr (.inl r1)), some (.inr (.inl r2)), some (.inr (.inl r3)), some (.inl x4), some (.inl x5), o6] [.inl y0] h := by
  obtain ⟨a419, H⟩ := H
  refine r_L_law_938 ?_
  refine ⟨a419, ?_⟩
  refine am_en p_X5_thrown rfl rfl ?_
  refine r_X5_thrown_0 ?_
  refine ⟨a419, ?_⟩
  refine am_av ?_
  refine r_L_law_941 ?_
  refine ⟨fun c => ?_, fun c => ?_⟩
  · replace H := H.1 c
    refine r_L_law_945 ?_
    refine ⟨fun c => ?_, fun c => ?_⟩
    · replace H := H.1 c
      refine r_L_law_959 ?_
      obtain ⟨a420, H⟩ := H
      refine r_L_law_1987 ?_
      refine ⟨a420, ?_⟩
      exact H
    · replace H := H.2 c
      obtain ⟨⟨a421, a422⟩, H⟩ := H
      refine r_L_law_947 ?_
      refine ⟨a421, a422, ⟨fun c => ?_, fun c => ?_⟩⟩
      · replace H := H.1 c
        refine r_L_law_954 ?_
        refine r_L_law_955 ?_
        refine ⟨fun c => ?_, fun c => ?_, fun c => ?_⟩
        · replace H := H.1 c
          refine r_L_law_956 ?_
          refine ⟨fun c => absurd c (by decide), fun c => ?_⟩
          refine r_L_law_957 ?_
          refine ⟨(by decide), ?_⟩
          exact H
        · replace H := H.2.1 c
          refine r_L_law_956 ?_
          refine ⟨fun c => ?_, fun c => absurd c (by decide)⟩
          refine r_L_law_959 ?_
          obtain ⟨a423, H⟩ := H
          refine r_L_law_1987 ?_
          refine ⟨a423, ?_⟩
          exact H
        · replace H := H.2.2 c
          refine r_L_law_956 ?_
          refine ⟨fun c => absurd c (by decide), fun c => ?_⟩
          refine r_L_law_957 ?_
          refine ⟨(by decide), ?_⟩
          exact H
      · replace H := H.2 c
        refine r_L_law_952 ?_
        refine r_L_law_955 ?_
        refine ⟨fun c => ?_, fun c => ?_, fun c => ?_⟩
        · replace H := H.1 c
          refine r_L_law_956 ?_
          refine ⟨fun c => absurd c (by decide), fun c => ?_⟩
          refine r_L_law_957 ?_
          refine ⟨(by decide), ?_⟩
          exact H
        · replace H := H.2.1 c
          refine r_L_law_956 ?_
          refine ⟨fun c => ?_, fun c => absurd c (by decide)⟩
          refine r_L_law_959 ?_
          obtain ⟨a424, H⟩ := H
          refine r_L_law_1987 ?_
          refine ⟨a424, ?_⟩
          exact H
        · replace H := H.2.2 c
          refine r_L_law_956 ?_
          refine ⟨fun c => absurd c (by decide), fun c => ?_⟩
          refine r_L_law_957 ?_
          refine ⟨(by decide), ?_⟩
          exact H
  · replace H := H.2 c
    refine r_L_law_943 ?_
    refine ⟨(by decide), ?_⟩
    exact H
theorem v_L_law_973 {d : Nat} {Q : am_K} {h : am_H} {r0 : Nat} {r1 : Nat} {r2 : Nat} {r3 : Nat} {x4 : Int} {o5 : Option am_V} {o6 : Option am_V} {y0 : Int} (H : ((-2147483648 ≤ x4 + 1 ∧ x4 + 1 ≤ 2147483647) ∧ (am_ty h r0 = 101 ∨ am_ty h r0 = 121) ∧ ((0 : Int) ≤ x4 + 1 ∧ x4 + 1 < am_ln h r0) ∧ (-2147483648 ≤ x4 + 2 ∧ x4 + 2 ≤ 2147483647) ∧ ((0 : Int) ≤ x4 + 2 ∧ x4 + 2 < am_ln h r0)) ∧ ((am_ty h r2 = 5) ∧ (am_ev am_prog (d + 12) 70 [.inr (.inl r2), .inl (am_ai h r0 (x4 + 1)), .inl (am_ai h r0 (x4 + 2))] h (am_aft (am_hand m_L_law Q (am_W m_L_law (am_ev am_prog (d + 12)) Q) 985) (am_W m_L_law (am_ev am_prog (d + 12)) Q) 985 [some (.inr (.inl r0)), some (.inr (.inl r1)), some (.inr (.inl r2)), some (.inr (.inl r3)), some (.inl x4), some (.inl y0), o6] [])))) : am_W m_L_law (am_ev am_prog (d + 12)) Q 973 [some (.inr (.inl r0)), some (.inr (.inl r1)), some (.inr (.inl r2)), some (.inr (.inl r3)), some (.inl x4), o5, o6] [.inl y0] h := by
  obtain ⟨⟨a425, a426, a427, a428, a429⟩, H⟩ := H
  obtain ⟨a430, H⟩ := H
  refine r_L_law_973 ?_
  refine ⟨a425, a426, a427, a428, a426, a429, a430, ?_⟩
  exact H
theorem v_L_law_986 {d : Nat} {Q : am_K} {h : am_H} {r0 : Nat} {r1 : Nat} {r2 : Nat} {r3 : Nat} {x4 : Int} {x5 : Int} {o6 : Option am_V} {y0 : Int} (H : (am_ty h r2 = 5) ∧ (((am_fi h 38 r2 : Int) = x5 → ((x5 : Int) ≠ 0 → ((-2147483648 ≤ x4 + 6 ∧ x4 + 6 ≤ 2147483647)) ∧ (am_W m_L_law (am_ev am_prog (d + 12)) Q 13 [some (.inr (.inl r0)), some (.inr (.inl r1)), some (.inr (.inl r2)), some (.inr (.inl r3)), some (.inl (x4 + 6)), some (.inl x5), some (.inl y0)] [] h)) ∧ ((x5 : Int) = 0 → (am_ty h r3 = 104 ∧ ((0 : Int) ≤ 0 ∧ 0 < am_ln h r3)) ∧ (((y0 : Int) = 0 → ((am_ai h r3 0) < 0 → Q (.inl (some (.inl 0))) h) ∧ ((am_ai h r3 0) = 0 → ((-2147483648 ≤ x4 + 6 ∧ x4 + 6 ≤ 2147483647)) ∧ (am_W m_L_law (am_ev am_prog (d + 12)) Q 13 [some (.inr (.inl r0)), some (.inr (.inl r1)), some (.inr (.inl r2)), some (.inr (.inl r3)), some (.inl (x4 + 6)), some (.inl x5), some (.inl y0)] [] h)) ∧ (0 < (am_ai h r3 0) → Q (.inl (some (.inl 0))) h)) ∧ ((y0 : Int) ≠ 0 → ((am_ai h r3 0) < 1 → Q (.inl (some (.inl 0))) h) ∧ ((am_ai h r3 0) = 1 → ((-2147483648 ≤ x4 + 6 ∧ x4 + 6 ≤ 2147483647)) ∧ (am_W m_L_law (am_ev am_prog (d + 12)) Q 13 [some (.inr (.inl r0)), some (.inr (.inl r1)), some (.inr (.inl r2)), some (.inr (.inl r3)), some (.inl (x4 + 6)), some (.inl x5), some (.inl y0)] [] h)) ∧ (1 < (am_ai h r3 0) → Q (.inl (some (.inl 0))) h))))) ∧ ((am_fi h 38 r2 : Int) ≠ x5 → Q (.inl (some (.inl 0))) h))) : am_W m_L_law (am_ev am_prog (d + 12)) Q 986 [some (.inr (.inl r0)), some (.inr (.inl r1)), some (.inr (.inl r2)), some (.inr (.inl r3)), some (.inl x4), some (.inl x5), o6] [.inl y0] h := by
  obtain ⟨a431, H⟩ := H
  refine r_L_law_986 ?_
  refine ⟨a431, ?_⟩
  refine am_en p_X5_thrown rfl rfl ?_
  refine r_X5_thrown_0 ?_
  refine ⟨a431, ?_⟩
  refine am_av ?_
  refine r_L_law_989 ?_
  refine ⟨fun c => ?_, fun c => ?_⟩
  · replace H := H.1 c
    refine r_L_law_993 ?_
    refine ⟨fun c => ?_, fun c => ?_⟩
    · replace H := H.1 c
      refine r_L_law_1007 ?_
      obtain ⟨a432, H⟩ := H
      refine r_L_law_1987 ?_
      refine ⟨a432, ?_⟩
      exact H
    · replace H := H.2 c
      obtain ⟨⟨a433, a434⟩, H⟩ := H
      refine r_L_law_995 ?_
      refine ⟨a433, a434, ⟨fun c => ?_, fun c => ?_⟩⟩
      · replace H := H.1 c
        refine r_L_law_1002 ?_
        refine r_L_law_1003 ?_
        refine ⟨fun c => ?_, fun c => ?_, fun c => ?_⟩
        · replace H := H.1 c
          refine r_L_law_1004 ?_
          refine ⟨fun c => absurd c (by decide), fun c => ?_⟩
          refine r_L_law_1005 ?_
          refine ⟨(by decide), ?_⟩
          exact H
        · replace H := H.2.1 c
          refine r_L_law_1004 ?_
          refine ⟨fun c => ?_, fun c => absurd c (by decide)⟩
          refine r_L_law_1007 ?_
          obtain ⟨a435, H⟩ := H
          refine r_L_law_1987 ?_
          refine ⟨a435, ?_⟩
          exact H
        · replace H := H.2.2 c
          refine r_L_law_1004 ?_
          refine ⟨fun c => absurd c (by decide), fun c => ?_⟩
          refine r_L_law_1005 ?_
          refine ⟨(by decide), ?_⟩
          exact H
      · replace H := H.2 c
        refine r_L_law_1000 ?_
        refine r_L_law_1003 ?_
        refine ⟨fun c => ?_, fun c => ?_, fun c => ?_⟩
        · replace H := H.1 c
          refine r_L_law_1004 ?_
          refine ⟨fun c => absurd c (by decide), fun c => ?_⟩
          refine r_L_law_1005 ?_
          refine ⟨(by decide), ?_⟩
          exact H
        · replace H := H.2.1 c
          refine r_L_law_1004 ?_
          refine ⟨fun c => ?_, fun c => absurd c (by decide)⟩
          refine r_L_law_1007 ?_
          obtain ⟨a436, H⟩ := H
          refine r_L_law_1987 ?_
          refine ⟨a436, ?_⟩
          exact H
        · replace H := H.2.2 c
          refine r_L_law_1004 ?_
          refine ⟨fun c => absurd c (by decide), fun c => ?_⟩
          refine r_L_law_1005 ?_
          refine ⟨(by decide), ?_⟩
          exact H
  · replace H := H.2 c
    refine r_L_law_991 ?_
    refine ⟨(by decide), ?_⟩
    exact H
theorem v_L_law_1026 {d : Nat} {Q : am_K} {h : am_H} {r0 : Nat} {r1 : Nat} {r2 : Nat} {r3 : Nat} {x4 : Int} {o5 : Option am_V} {o6 : Option am_V} {y0 : Int} (H : ((-2147483648 ≤ x4 + 1 ∧ x4 + 1 ≤ 2147483647) ∧ (am_ty h r0 = 101 ∨ am_ty h r0 = 121) ∧ ((0 : Int) ≤ x4 + 1 ∧ x4 + 1 < am_ln h r0) ∧ (-2147483648 ≤ x4 + 2 ∧ x4 + 2 ≤ 2147483647) ∧ ((0 : Int) ≤ x4 + 2 ∧ x4 + 2 < am_ln h r0) ∧ (-2147483648 ≤ x4 + 3 ∧ x4 + 3 ≤ 2147483647) ∧ ((0 : Int) ≤ x4 + 3 ∧ x4 + 3 < am_ln h r0)) ∧ ((am_ty h r2 = 5) ∧ (am_ev am_prog (d + 12) 95 [.inr (.inl r2), .inl (am_ai h r0 (x4 + 1)), .inl (am_ai h r0 (x4 + 2)), .inl (am_ai h r0 (x4 + 3))] h (am_aft (am_hand m_L_law Q (am_W m_L_law (am_ev am_prog (d + 12)) Q) 1043) (am_W m_L_law (am_ev am_prog (d + 12)) Q) 1043 [some (.inr (.inl r0)), some (.inr (.inl r1)), some (.inr (.inl r2)), some (.inr (.inl r3)), some (.inl x4), some (.inl y0), o6] [])))) : am_W m_L_law (am_ev am_prog (d + 12)) Q 1026 [some (.inr (.inl r0)), some (.inr (.inl r1)), some (.inr (.inl r2)), some (.inr (.inl r3)), some (.inl x4), o5, o6] [.inl y0] h := by
  obtain ⟨⟨a437, a438, a439, a440, a441, a442, a443⟩, H⟩ := H
  obtain ⟨a444, H⟩ := H
  refine r_L_law_1026 ?_
  refine ⟨a437, a438, a439, a440, a438, a441, a442, a438, a443, a444, ?_⟩
  exact H
theorem v_L_law_1044 {d : Nat} {Q : am_K} {h : am_H} {r0 : Nat} {r1 : Nat} {r2 : Nat} {r3 : Nat} {x4 : Int} {x5 : Int} {o6 : Option am_V} {y0 : Int} (H : (am_ty h r2 = 5) ∧ (((am_fi h 38 r2 : Int) = x5 → ((x5 : Int) ≠ 0 → ((-2147483648 ≤ x4 + 6 ∧ x4 + 6 ≤ 2147483647)) ∧ (am_W m_L_law (am_ev am_prog (d + 12)) Q 13 [some (.inr (.inl r0)), some (.inr (.inl r1)), some (.inr (.inl r2)), some (.inr (.inl r3)), some (.inl (x4 + 6)), some (.inl x5), some (.inl y0)] [] h)) ∧ ((x5 : Int) = 0 → (am_ty h r3 = 104 ∧ ((0 : Int) ≤ 0 ∧ 0 < am_ln h r3)) ∧ (((am_ai h r3 0) < y0 → Q (.inl (some (.inl 0))) h) ∧ ((am_ai h r3 0) = y0 → ((-2147483648 ≤ x4 + 6 ∧ x4 + 6 ≤ 2147483647)) ∧ (am_W m_L_law (am_ev am_prog (d + 12)) Q 13 [some (.inr (.inl r0)), some (.inr (.inl r1)), some (.inr (.inl r2)), some (.inr (.inl r3)), some (.inl (x4 + 6)), some (.inl x5), some (.inl y0)] [] h)) ∧ (y0 < (am_ai h r3 0) → Q (.inl (some (.inl 0))) h)))) ∧ ((am_fi h 38 r2 : Int) ≠ x5 → Q (.inl (some (.inl 0))) h))) : am_W m_L_law (am_ev am_prog (d + 12)) Q 1044 [some (.inr (.inl r0)), some (.inr (.inl r1)), some (.inr (.inl r2)), some (.inr (.inl r3)), some (.inl x4), some (.inl x5), o6] [.inl y0] h := by
  obtain ⟨a445, H⟩ := H
  refine r_L_law_1044 ?_
  refine ⟨a445, ?_⟩
  refine am_en p_X5_thrown rfl rfl ?_
  refine r_X5_thrown_0 ?_
  refine ⟨a445, ?_⟩
  refine am_av ?_
  refine r_L_law_1047 ?_
  refine ⟨fun c => ?_, fun c => ?_⟩
  · replace H := H.1 c
    refine r_L_law_1051 ?_
    refine ⟨fun c => ?_, fun c => ?_⟩
    · replace H := H.1 c
      refine r_L_law_1062 ?_
      obtain ⟨a446, H⟩ := H
      refine r_L_law_1987 ?_
      refine ⟨a446, ?_⟩
      exact H
    · replace H := H.2 c
      obtain ⟨⟨a447, a448⟩, H⟩ := H
      refine r_L_law_1053 ?_
      refine ⟨a447, a448, ⟨fun c => ?_, fun c => ?_, fun c => ?_⟩⟩
      · replace H := H.1 c
        refine r_L_law_1059 ?_
        refine ⟨fun c => absurd c (by decide), fun c => ?_⟩
        refine r_L_law_1060 ?_
        refine ⟨(by decide), ?_⟩
        exact H
      · replace H := H.2.1 c
        refine r_L_law_1059 ?_
        refine ⟨fun c => ?_, fun c => absurd c (by decide)⟩
        refine r_L_law_1062 ?_
        obtain ⟨a449, H⟩ := H
        refine r_L_law_1987 ?_
        refine ⟨a449, ?_⟩
        exact H
      · replace H := H.2.2 c
        refine r_L_law_1059 ?_
        refine ⟨fun c => absurd c (by decide), fun c => ?_⟩
        refine r_L_law_1060 ?_
        refine ⟨(by decide), ?_⟩
        exact H
  · replace H := H.2 c
    refine r_L_law_1049 ?_
    refine ⟨(by decide), ?_⟩
    exact H
theorem v_L_law_1081 {d : Nat} {Q : am_K} {h : am_H} {r0 : Nat} {r1 : Nat} {r2 : Nat} {r3 : Nat} {x4 : Int} {o5 : Option am_V} {o6 : Option am_V} {y0 : Int} (H : ((-2147483648 ≤ x4 + 1 ∧ x4 + 1 ≤ 2147483647) ∧ (am_ty h r0 = 101 ∨ am_ty h r0 = 121) ∧ ((0 : Int) ≤ x4 + 1 ∧ x4 + 1 < am_ln h r0) ∧ (-2147483648 ≤ x4 + 2 ∧ x4 + 2 ≤ 2147483647) ∧ ((0 : Int) ≤ x4 + 2 ∧ x4 + 2 < am_ln h r0) ∧ (-2147483648 ≤ x4 + 3 ∧ x4 + 3 ≤ 2147483647) ∧ ((0 : Int) ≤ x4 + 3 ∧ x4 + 3 < am_ln h r0)) ∧ ((am_ty h r2 = 5) ∧ (am_ev am_prog (d + 12) 90 [.inr (.inl r2), .inl (am_ai h r0 (x4 + 1)), .inl (am_ai h r0 (x4 + 2)), .inl (am_ai h r0 (x4 + 3))] h (am_aft (am_hand m_L_law Q (am_W m_L_law (am_ev am_prog (d + 12)) Q) 1098) (am_W m_L_law (am_ev am_prog (d + 12)) Q) 1098 [some (.inr (.inl r0)), some (.inr (.inl r1)), some (.inr (.inl r2)), some (.inr (.inl r3)), some (.inl x4), some (.inl y0), o6] [])))) : am_W m_L_law (am_ev am_prog (d + 12)) Q 1081 [some (.inr (.inl r0)), some (.inr (.inl r1)), some (.inr (.inl r2)), some (.inr (.inl r3)), some (.inl x4), o5, o6] [.inl y0] h := by
  obtain ⟨⟨a450, a451, a452, a453, a454, a455, a456⟩, H⟩ := H
  obtain ⟨a457, H⟩ := H
  refine r_L_law_1081 ?_
  refine ⟨a450, a451, a452, a453, a451, a454, a455, a451, a456, a457, ?_⟩
  exact H
theorem v_L_law_1099 {d : Nat} {Q : am_K} {h : am_H} {r0 : Nat} {r1 : Nat} {r2 : Nat} {r3 : Nat} {x4 : Int} {x5 : Int} {o6 : Option am_V} {y0 : Int} (H : (am_ty h r2 = 5) ∧ (((am_fi h 38 r2 : Int) = x5 → ((x5 : Int) ≠ 0 → ((-2147483648 ≤ x4 + 6 ∧ x4 + 6 ≤ 2147483647)) ∧ (am_W m_L_law (am_ev am_prog (d + 12)) Q 13 [some (.inr (.inl r0)), some (.inr (.inl r1)), some (.inr (.inl r2)), some (.inr (.inl r3)), some (.inl (x4 + 6)), some (.inl x5), some (.inl y0)] [] h)) ∧ ((x5 : Int) = 0 → (am_ty h r3 = 104 ∧ ((0 : Int) ≤ 0 ∧ 0 < am_ln h r3)) ∧ (((am_ai h r3 0) < y0 → Q (.inl (some (.inl 0))) h) ∧ ((am_ai h r3 0) = y0 → ((-2147483648 ≤ x4 + 6 ∧ x4 + 6 ≤ 2147483647)) ∧ (am_W m_L_law (am_ev am_prog (d + 12)) Q 13 [some (.inr (.inl r0)), some (.inr (.inl r1)), some (.inr (.inl r2)), some (.inr (.inl r3)), some (.inl (x4 + 6)), some (.inl x5), some (.inl y0)] [] h)) ∧ (y0 < (am_ai h r3 0) → Q (.inl (some (.inl 0))) h)))) ∧ ((am_fi h 38 r2 : Int) ≠ x5 → Q (.inl (some (.inl 0))) h))) : am_W m_L_law (am_ev am_prog (d + 12)) Q 1099 [some (.inr (.inl r0)), some (.inr (.inl r1)), some (.inr (.inl r2)), some (.inr (.inl r3)), some (.inl x4), some (.inl x5), o6] [.inl y0] h := by
  obtain ⟨a458, H⟩ := H
  refine r_L_law_1099 ?_
  refine ⟨a458, ?_⟩
  refine am_en p_X5_thrown rfl rfl ?_
  refine r_X5_thrown_0 ?_
  refine ⟨a458, ?_⟩
  refine am_av ?_
  refine r_L_law_1102 ?_
  refine ⟨fun c => ?_, fun c => ?_⟩
  · replace H := H.1 c
    refine r_L_law_1106 ?_
    refine ⟨fun c => ?_, fun c => ?_⟩
    · replace H := H.1 c
      refine r_L_law_1117 ?_
      obtain ⟨a459, H⟩ := H
      refine r_L_law_1987 ?_
      refine ⟨a459, ?_⟩
      exact H
    · replace H := H.2 c
      obtain ⟨⟨a460, a461⟩, H⟩ := H
      refine r_L_law_1108 ?_
      refine ⟨a460, a461, ⟨fun c => ?_, fun c => ?_, fun c => ?_⟩⟩
      · replace H := H.1 c
        refine r_L_law_1114 ?_
        refine ⟨fun c => absurd c (by decide), fun c => ?_⟩
        refine r_L_law_1115 ?_
        refine ⟨(by decide), ?_⟩
        exact H
      · replace H := H.2.1 c
        refine r_L_law_1114 ?_
        refine ⟨fun c => ?_, fun c => absurd c (by decide)⟩
        refine r_L_law_1117 ?_
        obtain ⟨a462, H⟩ := H
        refine r_L_law_1987 ?_
        refine ⟨a462, ?_⟩
        exact H
      · replace H := H.2.2 c
        refine r_L_law_1114 ?_
        refine ⟨fun c => absurd c (by decide), fun c => ?_⟩
        refine r_L_law_1115 ?_
        refine ⟨(by decide), ?_⟩
        exact H
  · replace H := H.2 c
    refine r_L_law_1104 ?_
    refine ⟨(by decide), ?_⟩
    exact H
theorem v_L_law_1136 {d : Nat} {Q : am_K} {h : am_H} {r0 : Nat} {r1 : Nat} {r2 : Nat} {r3 : Nat} {x4 : Int} {o5 : Option am_V} {o6 : Option am_V} {y0 : Int} (H : ((-2147483648 ≤ x4 + 1 ∧ x4 + 1 ≤ 2147483647) ∧ (am_ty h r0 = 101 ∨ am_ty h r0 = 121) ∧ ((0 : Int) ≤ x4 + 1 ∧ x4 + 1 < am_ln h r0) ∧ (-2147483648 ≤ x4 + 2 ∧ x4 + 2 ≤ 2147483647) ∧ ((0 : Int) ≤ x4 + 2 ∧ x4 + 2 < am_ln h r0) ∧ (-2147483648 ≤ x4 + 3 ∧ x4 + 3 ≤ 2147483647) ∧ ((0 : Int) ≤ x4 + 3 ∧ x4 + 3 < am_ln h r0)) ∧ ((am_ty h r2 = 5) ∧ (am_ev am_prog (d + 12) 92 [.inr (.inl r2), .inl (am_ai h r0 (x4 + 1)), .inl (am_ai h r0 (x4 + 2)), .inl (am_ai h r0 (x4 + 3))] h (am_aft (am_hand m_L_law Q (am_W m_L_law (am_ev am_prog (d + 12)) Q) 1153) (am_W m_L_law (am_ev am_prog (d + 12)) Q) 1153 [some (.inr (.inl r0)), some (.inr (.inl r1)), some (.inr (.inl r2)), some (.inr (.inl r3)), some (.inl x4), some (.inl y0), o6] [])))) : am_W m_L_law (am_ev am_prog (d + 12)) Q 1136 [some (.inr (.inl r0)), some (.inr (.inl r1)), some (.inr (.inl r2)), some (.inr (.inl r3)), some (.inl x4), o5, o6] [.inl y0] h := by
  obtain ⟨⟨a463, a464, a465, a466, a467, a468, a469⟩, H⟩ := H
  obtain ⟨a470, H⟩ := H
  refine r_L_law_1136 ?_
  refine ⟨a463, a464, a465, a466, a464, a467, a468, a464, a469, a470, ?_⟩
  exact H
theorem v_L_law_1154 {d : Nat} {Q : am_K} {h : am_H} {r0 : Nat} {r1 : Nat} {r2 : Nat} {r3 : Nat} {x4 : Int} {x5 : Int} {o6 : Option am_V} {y0 : Int} (H : (am_ty h r2 = 5) ∧ (((am_fi h 38 r2 : Int) = x5 → ((x5 : Int) ≠ 0 → ((-2147483648 ≤ x4 + 6 ∧ x4 + 6 ≤ 2147483647)) ∧ (am_W m_L_law (am_ev am_prog (d + 12)) Q 13 [some (.inr (.inl r0)), some (.inr (.inl r1)), some (.inr (.inl r2)), some (.inr (.inl r3)), some (.inl (x4 + 6)), some (.inl x5), some (.inl y0)] [] h)) ∧ ((x5 : Int) = 0 → (am_ty h r3 = 104 ∧ ((0 : Int) ≤ 0 ∧ 0 < am_ln h r3)) ∧ (((y0 : Int) = 0 → ((am_ai h r3 0) < 0 → Q (.inl (some (.inl 0))) h) ∧ ((am_ai h r3 0) = 0 → ((-2147483648 ≤ x4 + 6 ∧ x4 + 6 ≤ 2147483647)) ∧ (am_W m_L_law (am_ev am_prog (d + 12)) Q 13 [some (.inr (.inl r0)), some (.inr (.inl r1)), some (.inr (.inl r2)), some (.inr (.inl r3)), some (.inl (x4 + 6)), some (.inl x5), some (.inl y0)] [] h)) ∧ (0 < (am_ai h r3 0) → Q (.inl (some (.inl 0))) h)) ∧ ((y0 : Int) ≠ 0 → ((am_ai h r3 0) < 1 → Q (.inl (some (.inl 0))) h) ∧ ((am_ai h r3 0) = 1 → ((-2147483648 ≤ x4 + 6 ∧ x4 + 6 ≤ 2147483647)) ∧ (am_W m_L_law (am_ev am_prog (d + 12)) Q 13 [some (.inr (.inl r0)), some (.inr (.inl r1)), some (.inr (.inl r2)), some (.inr (.inl r3)), some (.inl (x4 + 6)), some (.inl x5), some (.inl y0)] [] h)) ∧ (1 < (am_ai h r3 0) → Q (.inl (some (.inl 0))) h))))) ∧ ((am_fi h 38 r2 : Int) ≠ x5 → Q (.inl (some (.inl 0))) h))) : am_W m_L_law (am_ev am_prog (d + 12)) Q 1154 [some (.inr (.inl r0)), some (.inr (.inl r1)), some (.inr (.inl r2)), some (.inr (.inl r3)), some (.inl x4), some (.inl x5), o6] [.inl y0] h := by
  obtain ⟨a471, H⟩ := H
  refine r_L_law_1154 ?_
  refine ⟨a471, ?_⟩
  refine am_en p_X5_thrown rfl rfl ?_
  refine r_X5_thrown_0 ?_
  refine ⟨a471, ?_⟩
  refine am_av ?_
  refine r_L_law_1157 ?_
  refine ⟨fun c => ?_, fun c => ?_⟩
  · replace H := H.1 c
    refine r_L_law_1161 ?_
    refine ⟨fun c => ?_, fun c => ?_⟩
    · replace H := H.1 c
      refine r_L_law_1175 ?_
      obtain ⟨a472, H⟩ := H
      refine r_L_law_1987 ?_
      refine ⟨a472, ?_⟩
      exact H
    · replace H := H.2 c
      obtain ⟨⟨a473, a474⟩, H⟩ := H
      refine r_L_law_1163 ?_
      refine ⟨a473, a474, ⟨fun c => ?_, fun c => ?_⟩⟩
      · replace H := H.1 c
        refine r_L_law_1170 ?_
        refine r_L_law_1171 ?_
        refine ⟨fun c => ?_, fun c => ?_, fun c => ?_⟩
        · replace H := H.1 c
          refine r_L_law_1172 ?_
          refine ⟨fun c => absurd c (by decide), fun c => ?_⟩
          refine r_L_law_1173 ?_
          refine ⟨(by decide), ?_⟩
          exact H
        · replace H := H.2.1 c
          refine r_L_law_1172 ?_
          refine ⟨fun c => ?_, fun c => absurd c (by decide)⟩
          refine r_L_law_1175 ?_
          obtain ⟨a475, H⟩ := H
          refine r_L_law_1987 ?_
          refine ⟨a475, ?_⟩
          exact H
        · replace H := H.2.2 c
          refine r_L_law_1172 ?_
          refine ⟨fun c => absurd c (by decide), fun c => ?_⟩
          refine r_L_law_1173 ?_
          refine ⟨(by decide), ?_⟩
          exact H
      · replace H := H.2 c
        refine r_L_law_1168 ?_
        refine r_L_law_1171 ?_
        refine ⟨fun c => ?_, fun c => ?_, fun c => ?_⟩
        · replace H := H.1 c
          refine r_L_law_1172 ?_
          refine ⟨fun c => absurd c (by decide), fun c => ?_⟩
          refine r_L_law_1173 ?_
          refine ⟨(by decide), ?_⟩
          exact H
        · replace H := H.2.1 c
          refine r_L_law_1172 ?_
          refine ⟨fun c => ?_, fun c => absurd c (by decide)⟩
          refine r_L_law_1175 ?_
          obtain ⟨a476, H⟩ := H
          refine r_L_law_1987 ?_
          refine ⟨a476, ?_⟩
          exact H
        · replace H := H.2.2 c
          refine r_L_law_1172 ?_
          refine ⟨fun c => absurd c (by decide), fun c => ?_⟩
          refine r_L_law_1173 ?_
          refine ⟨(by decide), ?_⟩
          exact H
  · replace H := H.2 c
    refine r_L_law_1159 ?_
    refine ⟨(by decide), ?_⟩
    exact H
theorem v_L_law_1189 {d : Nat} {Q : am_K} {h : am_H} {r0 : Nat} {r1 : Nat} {r2 : Nat} {r3 : Nat} {x4 : Int} {o5 : Option am_V} {o6 : Option am_V} {y0 : Int} (H : ((-2147483648 ≤ x4 + 1 ∧ x4 + 1 ≤ 2147483647) ∧ (am_ty h r0 = 101 ∨ am_ty h r0 = 121) ∧ ((0 : Int) ≤ x4 + 1 ∧ x4 + 1 < am_ln h r0) ∧ (-2147483648 ≤ x4 + 2 ∧ x4 + 2 ≤ 2147483647) ∧ ((0 : Int) ≤ x4 + 2 ∧ x4 + 2 < am_ln h r0)) ∧ ((am_ty h r2 = 5) ∧ (am_ev am_prog (d + 12) 66 [.inr (.inl r2), .inl (am_ai h r0 (x4 + 1)), .inl (am_ai h r0 (x4 + 2))] h (am_aft (am_hand m_L_law Q (am_W m_L_law (am_ev am_prog (d + 12)) Q) 1201) (am_W m_L_law (am_ev am_prog (d + 12)) Q) 1201 [some (.inr (.inl r0)), some (.inr (.inl r1)), some (.inr (.inl r2)), some (.inr (.inl r3)), some (.inl x4), some (.inl y0), o6] [])))) : am_W m_L_law (am_ev am_prog (d + 12)) Q 1189 [some (.inr (.inl r0)), some (.inr (.inl r1)), some (.inr (.inl r2)), some (.inr (.inl r3)), some (.inl x4), o5, o6] [.inl y0] h := by
  obtain ⟨⟨a477, a478, a479, a480, a481⟩, H⟩ := H
  obtain ⟨a482, H⟩ := H
  refine r_L_law_1189 ?_
  refine ⟨a477, a478, a479, a480, a478, a481, a482, ?_⟩
  exact H
theorem v_L_law_1202 {d : Nat} {Q : am_K} {h : am_H} {r0 : Nat} {r1 : Nat} {r2 : Nat} {r3 : Nat} {x4 : Int} {x5 : Int} {o6 : Option am_V} {y0 : Int} (H : (am_ty h r2 = 5) ∧ (((am_fi h 38 r2 : Int) = x5 → ((x5 : Int) ≠ 0 → ((-2147483648 ≤ x4 + 6 ∧ x4 + 6 ≤ 2147483647)) ∧ (am_W m_L_law (am_ev am_prog (d + 12)) Q 13 [some (.inr (.inl r0)), some (.inr (.inl r1)), some (.inr (.inl r2)), some (.inr (.inl r3)), some (.inl (x4 + 6)), some (.inl x5), some (.inl y0)] [] h)) ∧ ((x5 : Int) = 0 → (am_ty h r3 = 104 ∧ ((0 : Int) ≤ 0 ∧ 0 < am_ln h r3)) ∧ (((y0 : Int) = 0 → ((am_ai h r3 0) < 0 → Q (.inl (some (.inl 0))) h) ∧ ((am_ai h r3 0) = 0 → ((-2147483648 ≤ x4 + 6 ∧ x4 + 6 ≤ 2147483647)) ∧ (am_W m_L_law (am_ev am_prog (d + 12)) Q 13 [some (.inr (.inl r0)), some (.inr (.inl r1)), some (.inr (.inl r2)), some (.inr (.inl r3)), some (.inl (x4 + 6)), some (.inl x5), some (.inl y0)] [] h)) ∧ (0 < (am_ai h r3 0) → Q (.inl (some (.inl 0))) h)) ∧ ((y0 : Int) ≠ 0 → ((am_ai h r3 0) < 1 → Q (.inl (some (.inl 0))) h) ∧ ((am_ai h r3 0) = 1 → ((-2147483648 ≤ x4 + 6 ∧ x4 + 6 ≤ 2147483647)) ∧ (am_W m_L_law (am_ev am_prog (d + 12)) Q 13 [some (.inr (.inl r0)), some (.inr (.inl r1)), some (.inr (.inl r2)), some (.inr (.inl r3)), some (.inl (x4 + 6)), some (.inl x5), some (.inl y0)] [] h)) ∧ (1 < (am_ai h r3 0) → Q (.inl (some (.inl 0))) h))))) ∧ ((am_fi h 38 r2 : Int) ≠ x5 → Q (.inl (some (.inl 0))) h))) : am_W m_L_law (am_ev am_prog (d + 12)) Q 1202 [some (.inr (.inl r0)), some (.inr (.inl r1)), some (.inr (.inl r2)), some (.inr (.inl r3)), some (.inl x4), some (.inl x5), o6] [.inl y0] h := by
  obtain ⟨a483, H⟩ := H
  refine r_L_law_1202 ?_
  refine ⟨a483, ?_⟩
  refine am_en p_X5_thrown rfl rfl ?_
  refine r_X5_thrown_0 ?_
  refine ⟨a483, ?_⟩
  refine am_av ?_
  refine r_L_law_1205 ?_
  refine ⟨fun c => ?_, fun c => ?_⟩
  · replace H := H.1 c
    refine r_L_law_1209 ?_
    refine ⟨fun c => ?_, fun c => ?_⟩
    · replace H := H.1 c
      refine r_L_law_1223 ?_
      obtain ⟨a484, H⟩ := H
      refine r_L_law_1987 ?_
      refine ⟨a484, ?_⟩
      exact H
    · replace H := H.2 c
      obtain ⟨⟨a485, a486⟩, H⟩ := H
      refine r_L_law_1211 ?_
      refine ⟨a485, a486, ⟨fun c => ?_, fun c => ?_⟩⟩
      · replace H := H.1 c
        refine r_L_law_1218 ?_
        refine r_L_law_1219 ?_
        refine ⟨fun c => ?_, fun c => ?_, fun c => ?_⟩
        · replace H := H.1 c
          refine r_L_law_1220 ?_
          refine ⟨fun c => absurd c (by decide), fun c => ?_⟩
          refine r_L_law_1221 ?_
          refine ⟨(by decide), ?_⟩
          exact H
        · replace H := H.2.1 c
          refine r_L_law_1220 ?_
          refine ⟨fun c => ?_, fun c => absurd c (by decide)⟩
          refine r_L_law_1223 ?_
          obtain ⟨a487, H⟩ := H
          refine r_L_law_1987 ?_
          refine ⟨a487, ?_⟩
          exact H
        · replace H := H.2.2 c
          refine r_L_law_1220 ?_
          refine ⟨fun c => absurd c (by decide), fun c => ?_⟩
          refine r_L_law_1221 ?_
          refine ⟨(by decide), ?_⟩
          exact H
      · replace H := H.2 c
        refine r_L_law_1216 ?_
        refine r_L_law_1219 ?_
        refine ⟨fun c => ?_, fun c => ?_, fun c => ?_⟩
        · replace H := H.1 c
          refine r_L_law_1220 ?_
          refine ⟨fun c => absurd c (by decide), fun c => ?_⟩
          refine r_L_law_1221 ?_
          refine ⟨(by decide), ?_⟩
          exact H
        · replace H := H.2.1 c
          refine r_L_law_1220 ?_
          refine ⟨fun c => ?_, fun c => absurd c (by decide)⟩
          refine r_L_law_1223 ?_
          obtain ⟨a488, H⟩ := H
          refine r_L_law_1987 ?_
          refine ⟨a488, ?_⟩
          exact H
        · replace H := H.2.2 c
          refine r_L_law_1220 ?_
          refine ⟨fun c => absurd c (by decide), fun c => ?_⟩
          refine r_L_law_1221 ?_
          refine ⟨(by decide), ?_⟩
          exact H
  · replace H := H.2 c
    refine r_L_law_1207 ?_
    refine ⟨(by decide), ?_⟩
    exact H
theorem v_L_law_1232 {d : Nat} {Q : am_K} {h : am_H} {r0 : Nat} {r1 : Nat} {r2 : Nat} {r3 : Nat} {x4 : Int} {o5 : Option am_V} {o6 : Option am_V} {y0 : Int} (H : ((-2147483648 ≤ x4 + 1 ∧ x4 + 1 ≤ 2147483647) ∧ (am_ty h r0 = 101 ∨ am_ty h r0 = 121) ∧ ((0 : Int) ≤ x4 + 1 ∧ x4 + 1 < am_ln h r0)) ∧ ((am_ty h r2 = 5) ∧ (am_ev am_prog (d + 12) 47 [.inr (.inl r2), .inl (am_ai h r0 (x4 + 1))] h (am_aft (am_hand m_L_law Q (am_W m_L_law (am_ev am_prog (d + 12)) Q) 1239) (am_W m_L_law (am_ev am_prog (d + 12)) Q) 1239 [some (.inr (.inl r0)), some (.inr (.inl r1)), some (.inr (.inl r2)), some (.inr (.inl r3)), some (.inl x4), some (.inl y0), o6] [])))) : am_W m_L_law (am_ev am_prog (d + 12)) Q 1232 [some (.inr (.inl r0)), some (.inr (.inl r1)), some (.inr (.inl r2)), some (.inr (.inl r3)), some (.inl x4), o5, o6] [.inl y0] h := by
  obtain ⟨⟨a489, a490, a491⟩, H⟩ := H
  obtain ⟨a492, H⟩ := H
  refine r_L_law_1232 ?_
  refine ⟨a489, a490, a491, a492, ?_⟩
  exact H
theorem v_L_law_1240 {d : Nat} {Q : am_K} {h : am_H} {r0 : Nat} {r1 : Nat} {r2 : Nat} {r3 : Nat} {x4 : Int} {x5 : Int} {o6 : Option am_V} {y0 : Int} (H : (am_ty h r2 = 5) ∧ (((am_fi h 38 r2 : Int) = x5 → ((x5 : Int) ≠ 0 → ((-2147483648 ≤ x4 + 6 ∧ x4 + 6 ≤ 2147483647)) ∧ (am_W m_L_law (am_ev am_prog (d + 12)) Q 13 [some (.inr (.inl r0)), some (.inr (.inl r1)), some (.inr (.inl r2)), some (.inr (.inl r3)), some (.inl (x4 + 6)), some (.inl x5), some (.inl y0)] [] h)) ∧ ((x5 : Int) = 0 → (am_ty h r3 = 104 ∧ ((0 : Int) ≤ 0 ∧ 0 < am_ln h r3)) ∧ (((am_ai h r3 0) < y0 → Q (.inl (some (.inl 0))) h) ∧ ((am_ai h r3 0) = y0 → ((-2147483648 ≤ x4 + 6 ∧ x4 + 6 ≤ 2147483647)) ∧ (am_W m_L_law (am_ev am_prog (d + 12)) Q 13 [some (.inr (.inl r0)), some (.inr (.inl r1)), some (.inr (.inl r2)), some (.inr (.inl r3)), some (.inl (x4 + 6)), some (.inl x5), some (.inl y0)] [] h)) ∧ (y0 < (am_ai h r3 0) → Q (.inl (some (.inl 0))) h)))) ∧ ((am_fi h 38 r2 : Int) ≠ x5 → Q (.inl (some (.inl 0))) h))) : am_W m_L_law (am_ev am_prog (d + 12)) Q 1240 [some (.inr (.inl r0)), some (.inr (.inl r1)), some (.inr (.inl r2)), some (.inr (.inl r3)), some (.inl x4), some (.inl x5), o6] [.inl y0] h := by
  obtain ⟨a493, H⟩ := H
  refine r_L_law_1240 ?_
  refine ⟨a493, ?_⟩
  refine am_en p_X5_thrown rfl rfl ?_
  refine r_X5_thrown_0 ?_
  refine ⟨a493, ?_⟩
  refine am_av ?_
  refine r_L_law_1243 ?_
  refine ⟨fun c => ?_, fun c => ?_⟩
  · replace H := H.1 c
    refine r_L_law_1247 ?_
    refine ⟨fun c => ?_, fun c => ?_⟩
    · replace H := H.1 c
      refine r_L_law_1258 ?_
      obtain ⟨a494, H⟩ := H
      refine r_L_law_1987 ?_
      refine ⟨a494, ?_⟩
      exact H
    · replace H := H.2 c
      obtain ⟨⟨a495, a496⟩, H⟩ := H
      refine r_L_law_1249 ?_
      refine ⟨a495, a496, ⟨fun c => ?_, fun c => ?_, fun c => ?_⟩⟩
      · replace H := H.1 c
        refine r_L_law_1255 ?_
        refine ⟨fun c => absurd c (by decide), fun c => ?_⟩
        refine r_L_law_1256 ?_
        refine ⟨(by decide), ?_⟩
        exact H
      · replace H := H.2.1 c
        refine r_L_law_1255 ?_
        refine ⟨fun c => ?_, fun c => absurd c (by decide)⟩
        refine r_L_law_1258 ?_
        obtain ⟨a497, H⟩ := H
        refine r_L_law_1987 ?_
        refine ⟨a497, ?_⟩
        exact H
      · replace H := H.2.2 c
        refine r_L_law_1255 ?_
        refine ⟨fun c => absurd c (by decide), fun c => ?_⟩
        refine r_L_law_1256 ?_
        refine ⟨(by decide), ?_⟩
        exact H
  · replace H := H.2 c
    refine r_L_law_1245 ?_
    refine ⟨(by decide), ?_⟩
    exact H
theorem v_L_law_1277 {d : Nat} {Q : am_K} {h : am_H} {r0 : Nat} {r1 : Nat} {r2 : Nat} {r3 : Nat} {x4 : Int} {o5 : Option am_V} {o6 : Option am_V} {y0 : Int} (H : ((-2147483648 ≤ x4 + 1 ∧ x4 + 1 ≤ 2147483647) ∧ (am_ty h r0 = 101 ∨ am_ty h r0 = 121) ∧ ((0 : Int) ≤ x4 + 1 ∧ x4 + 1 < am_ln h r0) ∧ (-2147483648 ≤ x4 + 2 ∧ x4 + 2 ≤ 2147483647) ∧ ((0 : Int) ≤ x4 + 2 ∧ x4 + 2 < am_ln h r0) ∧ (-2147483648 ≤ x4 + 3 ∧ x4 + 3 ≤ 2147483647) ∧ ((0 : Int) ≤ x4 + 3 ∧ x4 + 3 < am_ln h r0)) ∧ ((am_ty h r2 = 5) ∧ (am_ev am_prog (d + 12) 94 [.inr (.inl r2), .inl (am_ai h r0 (x4 + 1)), .inl (am_ai h r0 (x4 + 2)), .inl (am_ai h r0 (x4 + 3))] h (am_aft (am_hand m_L_law Q (am_W m_L_law (am_ev am_prog (d + 12)) Q) 1294) (am_W m_L_law (am_ev am_prog (d + 12)) Q) 1294 [some (.inr (.inl r0)), some (.inr (.inl r1)), some (.inr (.inl r2)), some (.inr (.inl r3)), some (.inl x4), some (.inl y0), o6] [])))) : am_W m_L_law (am_ev am_prog (d + 12)) Q 1277 [some (.inr (.inl r0)), some (.inr (.inl r1)), some (.inr (.inl r2)), some (.inr (.inl r3)), some (.inl x4), o5, o6] [.inl y0] h := by
  obtain ⟨⟨a498, a499, a500, a501, a502, a503, a504⟩, H⟩ := H
  obtain ⟨a505, H⟩ := H
  refine r_L_law_1277 ?_
  refine ⟨a498, a499, a500, a501, a499, a502, a503, a499, a504, a505, ?_⟩
  exact H
theorem v_L_law_1295 {d : Nat} {Q : am_K} {h : am_H} {r0 : Nat} {r1 : Nat} {r2 : Nat} {r3 : Nat} {x4 : Int} {x5 : Int} {o6 : Option am_V} {y0 : Int} (H : (am_ty h r2 = 5) ∧ (((am_fi h 38 r2 : Int) = x5 → ((x5 : Int) ≠ 0 → ((-2147483648 ≤ x4 + 6 ∧ x4 + 6 ≤ 2147483647)) ∧ (am_W m_L_law (am_ev am_prog (d + 12)) Q 13 [some (.inr (.inl r0)), some (.inr (.inl r1)), some (.inr (.inl r2)), some (.inr (.inl r3)), some (.inl (x4 + 6)), some (.inl x5), some (.inl y0)] [] h)) ∧ ((x5 : Int) = 0 → (am_ty h r3 = 104 ∧ ((0 : Int) ≤ 0 ∧ 0 < am_ln h r3)) ∧ (((am_ai h r3 0) < y0 → Q (.inl (some (.inl 0))) h) ∧ ((am_ai h r3 0) = y0 → ((-2147483648 ≤ x4 + 6 ∧ x4 + 6 ≤ 2147483647)) ∧ (am_W m_L_law (am_ev am_prog (d + 12)) Q 13 [some (.inr (.inl r0)), some (.inr (.inl r1)), some (.inr (.inl r2)), some (.inr (.inl r3)), some (.inl (x4 + 6)), some (.inl x5), some (.inl y0)] [] h)) ∧ (y0 < (am_ai h r3 0) → Q (.inl (some (.inl 0))) h)))) ∧ ((am_fi h 38 r2 : Int) ≠ x5 → Q (.inl (some (.inl 0))) h))) : am_W m_L_law (am_ev am_prog (d + 12)) Q 1295 [some (.inr (.inl r0)), some (.inr (.inl r1)), some (.inr (.inl r2)), some (.inr (.inl r3)), some (.inl x4), some (.inl x5), o6] [.inl y0] h := by
  obtain ⟨a506, H⟩ := H
  refine r_L_law_1295 ?_
  refine ⟨a506, ?_⟩
  refine am_en p_X5_thrown rfl rfl ?_
  refine r_X5_thrown_0 ?_
  refine ⟨a506, ?_⟩
  refine am_av ?_
  refine r_L_law_1298 ?_
  refine ⟨fun c => ?_, fun c => ?_⟩
  · replace H := H.1 c
    refine r_L_law_1302 ?_
    refine ⟨fun c => ?_, fun c => ?_⟩
    · replace H := H.1 c
      refine r_L_law_1313 ?_
      obtain ⟨a507, H⟩ := H
      refine r_L_law_1987 ?_
      refine ⟨a507, ?_⟩
      exact H
    · replace H := H.2 c
      obtain ⟨⟨a508, a509⟩, H⟩ := H
      refine r_L_law_1304 ?_
      refine ⟨a508, a509, ⟨fun c => ?_, fun c => ?_, fun c => ?_⟩⟩
      · replace H := H.1 c
        refine r_L_law_1310 ?_
        refine ⟨fun c => absurd c (by decide), fun c => ?_⟩
        refine r_L_law_1311 ?_
        refine ⟨(by decide), ?_⟩
        exact H
      · replace H := H.2.1 c
        refine r_L_law_1310 ?_
        refine ⟨fun c => ?_, fun c => absurd c (by decide)⟩
        refine r_L_law_1313 ?_
        obtain ⟨a510, H⟩ := H
        refine r_L_law_1987 ?_
        refine ⟨a510, ?_⟩
        exact H
      · replace H := H.2.2 c
        refine r_L_law_1310 ?_
        refine ⟨fun c => absurd c (by decide), fun c => ?_⟩
        refine r_L_law_1311 ?_
        refine ⟨(by decide), ?_⟩
        exact H
  · replace H := H.2 c
    refine r_L_law_1300 ?_
    refine ⟨(by decide), ?_⟩
    exact H
theorem v_L_law_1332 {d : Nat} {Q : am_K} {h : am_H} {r0 : Nat} {r1 : Nat} {r2 : Nat} {r3 : Nat} {x4 : Int} {o5 : Option am_V} {o6 : Option am_V} {y0 : Int} (H : ((-2147483648 ≤ x4 + 1 ∧ x4 + 1 ≤ 2147483647) ∧ (am_ty h r0 = 101 ∨ am_ty h r0 = 121) ∧ ((0 : Int) ≤ x4 + 1 ∧ x4 + 1 < am_ln h r0) ∧ (-2147483648 ≤ x4 + 2 ∧ x4 + 2 ≤ 2147483647) ∧ ((0 : Int) ≤ x4 + 2 ∧ x4 + 2 < am_ln h r0) ∧ (-2147483648 ≤ x4 + 3 ∧ x4 + 3 ≤ 2147483647) ∧ ((0 : Int) ≤ x4 + 3 ∧ x4 + 3 < am_ln h r0)) ∧ ((am_ty h r2 = 5) ∧ (am_ev am_prog (d + 12) 88 [.inr (.inl r2), .inl (am_ai h r0 (x4 + 1)), .inl (am_ai h r0 (x4 + 2)), .inl (am_ai h r0 (x4 + 3))] h (am_aft (am_hand m_L_law Q (am_W m_L_law (am_ev am_prog (d + 12)) Q) 1349) (am_W m_L_law (am_ev am_prog (d + 12)) Q) 1349 [some (.inr (.inl r0)), some (.inr (.inl r1)), some (.inr (.inl r2)), some (.inr (.inl r3)), some (.inl x4), some (.inl y0), o6] [])))) : am_W m_L_law (am_ev am_prog (d + 12)) Q 1332 [some (.inr (.inl r0)), some (.inr (.inl r1)), some (.inr (.inl r2)), some (.inr (.inl r3)), some (.inl x4), o5, o6] [.inl y0] h := by
  obtain ⟨⟨a511, a512, a513, a514, a515, a516, a517⟩, H⟩ := H
  obtain ⟨a518, H⟩ := H
  refine r_L_law_1332 ?_
  refine ⟨a511, a512, a513, a514, a512, a515, a516, a512, a517, a518, ?_⟩
  exact H
theorem v_L_law_1350 {d : Nat} {Q : am_K} {h : am_H} {r0 : Nat} {r1 : Nat} {r2 : Nat} {r3 : Nat} {x4 : Int} {x5 : Int} {o6 : Option am_V} {y0 : Int} (H : (am_ty h r2 = 5) ∧ (((am_fi h 38 r2 : Int) = x5 → ((x5 : Int) ≠ 0 → ((-2147483648 ≤ x4 + 6 ∧ x4 + 6 ≤ 2147483647)) ∧ (am_W m_L_law (am_ev am_prog (d + 12)) Q 13 [some (.inr (.inl r0)), some (.inr (.inl r1)), some (.inr (.inl r2)), some (.inr (.inl r3)), some (.inl (x4 + 6)), some (.inl x5), some (.inl y0)] [] h)) ∧ ((x5 : Int) = 0 → (am_ty h r3 = 104 ∧ ((0 : Int) ≤ 0 ∧ 0 < am_ln h r3)) ∧ (((am_ai h r3 0) < y0 → Q (.inl (some (.inl 0))) h) ∧ ((am_ai h r3 0) = y0 → ((-2147483648 ≤ x4 + 6 ∧ x4 + 6 ≤ 2147483647)) ∧ (am_W m_L_law (am_ev am_prog (d + 12)) Q 13 [some (.inr (.inl r0)), some (.inr (.inl r1)), some (.inr (.inl r2)), some (.inr (.inl r3)), some (.inl (x4 + 6)), some (.inl x5), some (.inl y0)] [] h)) ∧ (y0 < (am_ai h r3 0) → Q (.inl (some (.inl 0))) h)))) ∧ ((am_fi h 38 r2 : Int) ≠ x5 → Q (.inl (some (.inl 0))) h))) : am_W m_L_law (am_ev am_prog (d + 12)) Q 1350 [some (.inr (.inl r0)), some (.inr (.inl r1)), some (.inr (.inl r2)), some (.inr (.inl r3)), some (.inl x4), some (.inl x5), o6] [.inl y0] h := by
  obtain ⟨a519, H⟩ := H
  refine r_L_law_1350 ?_
  refine ⟨a519, ?_⟩
  refine am_en p_X5_thrown rfl rfl ?_
  refine r_X5_thrown_0 ?_
  refine ⟨a519, ?_⟩
  refine am_av ?_
  refine r_L_law_1353 ?_
  refine ⟨fun c => ?_, fun c => ?_⟩
  · replace H := H.1 c
    refine r_L_law_1357 ?_
    refine ⟨fun c => ?_, fun c => ?_⟩
    · replace H := H.1 c
      refine r_L_law_1368 ?_
      obtain ⟨a520, H⟩ := H
      refine r_L_law_1987 ?_
      refine ⟨a520, ?_⟩
      exact H
    · replace H := H.2 c
      obtain ⟨⟨a521, a522⟩, H⟩ := H
      refine r_L_law_1359 ?_
      refine ⟨a521, a522, ⟨fun c => ?_, fun c => ?_, fun c => ?_⟩⟩
      · replace H := H.1 c
        refine r_L_law_1365 ?_
        refine ⟨fun c => absurd c (by decide), fun c => ?_⟩
        refine r_L_law_1366 ?_
        refine ⟨(by decide), ?_⟩
        exact H
      · replace H := H.2.1 c
        refine r_L_law_1365 ?_
        refine ⟨fun c => ?_, fun c => absurd c (by decide)⟩
        refine r_L_law_1368 ?_
        obtain ⟨a523, H⟩ := H
        refine r_L_law_1987 ?_
        refine ⟨a523, ?_⟩
        exact H
      · replace H := H.2.2 c
        refine r_L_law_1365 ?_
        refine ⟨fun c => absurd c (by decide), fun c => ?_⟩
        refine r_L_law_1366 ?_
        refine ⟨(by decide), ?_⟩
        exact H
  · replace H := H.2 c
    refine r_L_law_1355 ?_
    refine ⟨(by decide), ?_⟩
    exact H
theorem v_L_law_1386 {d : Nat} {Q : am_K} {h : am_H} {r0 : Nat} {r1 : Nat} {r2 : Nat} {r3 : Nat} {x4 : Int} {o5 : Option am_V} {o6 : Option am_V} {y0 : Int} (H : ((-2147483648 ≤ x4 + 1 ∧ x4 + 1 ≤ 2147483647) ∧ (am_ty h r0 = 101 ∨ am_ty h r0 = 121) ∧ ((0 : Int) ≤ x4 + 1 ∧ x4 + 1 < am_ln h r0) ∧ (-2147483648 ≤ x4 + 2 ∧ x4 + 2 ≤ 2147483647) ∧ ((0 : Int) ≤ x4 + 2 ∧ x4 + 2 < am_ln h r0) ∧ (-2147483648 ≤ x4 + 3 ∧ x4 + 3 ≤ 2147483647) ∧ ((0 : Int) ≤ x4 + 3 ∧ x4 + 3 < am_ln h r0)) ∧ ((am_ty h r2 = 5) ∧ (am_ev am_prog (d + 12) 83 [.inr (.inl r2), .inl (am_ai h r0 (x4 + 1)), .inl (am_ai h r0 (x4 + 2)), .inl (am_ai h r0 (x4 + 3))] h (am_aft (am_hand m_L_law Q (am_W m_L_law (am_ev am_prog (d + 12)) Q) 1403) (am_W m_L_law (am_ev am_prog (d + 12)) Q) 1403 [some (.inr (.inl r0)), some (.inr (.inl r1)), some (.inr (.inl r2)), some (.inr (.inl r3)), some (.inl x4), some (.inl y0), o6] [])))) : am_W m_L_law (am_ev am_prog (d + 12)) Q 1386 [some (.inr (.inl r0)), some (.inr (.inl r1)), some (.inr (.inl r2)), some (.inr (.inl r3)), some (.inl x4), o5, o6] [.inl y0] h := by
  obtain ⟨⟨a524, a525, a526, a527, a528, a529, a530⟩, H⟩ := H
  obtain ⟨a531, H⟩ := H
  refine r_L_law_1386 ?_
  refine ⟨a524, a525, a526, a527, a525, a528, a529, a525, a530, a531, ?_⟩
  exact H
theorem v_L_law_1404 {d : Nat} {Q : am_K} {h : am_H} {r0 : Nat} {r1 : Nat} {r2 : Nat} {r3 : Nat} {x4 : Int} {x5 : Int} {o6 : Option am_V} (H : (am_ty h r2 = 5) ∧ (((am_fi h 38 r2 : Int) = x5 → ((-2147483648 ≤ x4 + 6 ∧ x4 + 6 ≤ 2147483647)) ∧ (am_W m_L_law (am_ev am_prog (d + 12)) Q 13 [some (.inr (.inl r0)), some (.inr (.inl r1)), some (.inr (.inl r2)), some (.inr (.inl r3)), some (.inl (x4 + 6)), some (.inl x5), o6] [] h)) ∧ ((am_fi h 38 r2 : Int) ≠ x5 → Q (.inl (some (.inl 0))) h))) : am_W m_L_law (am_ev am_prog (d + 12)) Q 1404 [some (.inr (.inl r0)), some (.inr (.inl r1)), some (.inr (.inl r2)), some (.inr (.inl r3)), some (.inl x4), some (.inl x5), o6] [] h := by
  obtain ⟨a532, H⟩ := H
  refine r_L_law_1404 ?_
  refine ⟨a532, ?_⟩
  refine am_en p_X5_thrown rfl rfl ?_
  refine r_X5_thrown_0 ?_
  refine ⟨a532, ?_⟩
  refine am_av ?_
  refine r_L_law_1406 ?_
  refine ⟨fun c => ?_, fun c => ?_⟩
  · replace H := H.1 c
    refine r_L_law_1410 ?_
    obtain ⟨a533, H⟩ := H
    refine r_L_law_1987 ?_
    refine ⟨a533, ?_⟩
    exact H
  · replace H := H.2 c
    refine r_L_law_1408 ?_
    refine ⟨(by decide), ?_⟩
    exact H
theorem v_L_law_1424 {d : Nat} {Q : am_K} {h : am_H} {r0 : Nat} {r1 : Nat} {r2 : Nat} {r3 : Nat} {x4 : Int} {o5 : Option am_V} {o6 : Option am_V} {y0 : Int} (H : ((-2147483648 ≤ x4 + 1 ∧ x4 + 1 ≤ 2147483647) ∧ (am_ty h r0 = 101 ∨ am_ty h r0 = 121) ∧ ((0 : Int) ≤ x4 + 1 ∧ x4 + 1 < am_ln h r0) ∧ (-2147483648 ≤ x4 + 2 ∧ x4 + 2 ≤ 2147483647) ∧ ((0 : Int) ≤ x4 + 2 ∧ x4 + 2 < am_ln h r0)) ∧ ((am_ty h r2 = 5) ∧ (am_ev am_prog (d + 12) 64 [.inr (.inl r2), .inl (am_ai h r0 (x4 + 1)), .inl (am_ai h r0 (x4 + 2))] h (am_aft (am_hand m_L_law Q (am_W m_L_law (am_ev am_prog (d + 12)) Q) 1436) (am_W m_L_law (am_ev am_prog (d + 12)) Q) 1436 [some (.inr (.inl r0)), some (.inr (.inl r1)), some (.inr (.inl r2)), some (.inr (.inl r3)), some (.inl x4), some (.inl y0), o6] [])))) : am_W m_L_law (am_ev am_prog (d + 12)) Q 1424 [some (.inr (.inl r0)), some (.inr (.inl r1)), some (.inr (.inl r2)), some (.inr (.inl r3)), some (.inl x4), o5, o6] [.inl y0] h := by
  obtain ⟨⟨a534, a535, a536, a537, a538⟩, H⟩ := H
  obtain ⟨a539, H⟩ := H
  refine r_L_law_1424 ?_
  refine ⟨a534, a535, a536, a537, a535, a538, a539, ?_⟩
  exact H
theorem v_L_law_1437 {d : Nat} {Q : am_K} {h : am_H} {r0 : Nat} {r1 : Nat} {r2 : Nat} {r3 : Nat} {x4 : Int} {x5 : Int} {o6 : Option am_V} {y0 : Int} (H : (am_ty h r2 = 5) ∧ (((am_fi h 38 r2 : Int) = x5 → ((x5 : Int) ≠ 0 → ((-2147483648 ≤ x4 + 6 ∧ x4 + 6 ≤ 2147483647)) ∧ (am_W m_L_law (am_ev am_prog (d + 12)) Q 13 [some (.inr (.inl r0)), some (.inr (.inl r1)), some (.inr (.inl r2)), some (.inr (.inl r3)), some (.inl (x4 + 6)), some (.inl x5), some (.inl y0)] [] h)) ∧ ((x5 : Int) = 0 → (am_ty h r3 = 104 ∧ ((0 : Int) ≤ 0 ∧ 0 < am_ln h r3)) ∧ (((am_ai h r3 0) < y0 → Q (.inl (some (.inl 0))) h) ∧ ((am_ai h r3 0) = y0 → ((-2147483648 ≤ x4 + 6 ∧ x4 + 6 ≤ 2147483647)) ∧ (am_W m_L_law (am_ev am_prog (d + 12)) Q 13 [some (.inr (.inl r0)), some (.inr (.inl r1)), some (.inr (.inl r2)), some (.inr (.inl r3)), some (.inl (x4 + 6)), some (.inl x5), some (.inl y0)] [] h)) ∧ (y0 < (am_ai h r3 0) → Q (.inl (some (.inl 0))) h)))) ∧ ((am_fi h 38 r2 : Int) ≠ x5 → Q (.inl (some (.inl 0))) h))) : am_W m_L_law (am_ev am_prog (d + 12)) Q 1437 [some (.inr (.inl r0)), some (.inr (.inl r1)), some (.inr (.inl r2)), some (.inr (.inl r3)), some (.inl x4), some (.inl x5), o6] [.inl y0] h := by
  obtain ⟨a540, H⟩ := H
  refine r_L_law_1437 ?_
  refine ⟨a540, ?_⟩
  refine am_en p_X5_thrown rfl rfl ?_
  refine r_X5_thrown_0 ?_
  refine ⟨a540, ?_⟩
  refine am_av ?_
  refine r_L_law_1440 ?_
  refine ⟨fun c => ?_, fun c => ?_⟩
  · replace H := H.1 c
    refine r_L_law_1444 ?_
    refine ⟨fun c => ?_, fun c => ?_⟩
    · replace H := H.1 c
      refine r_L_law_1455 ?_
      obtain ⟨a541, H⟩ := H
      refine r_L_law_1987 ?_
      refine ⟨a541, ?_⟩
      exact H
    · replace H := H.2 c
      obtain ⟨⟨a542, a543⟩, H⟩ := H
      refine r_L_law_1446 ?_
      refine ⟨a542, a543, ⟨fun c => ?_, fun c => ?_, fun c => ?_⟩⟩
      · replace H := H.1 c
        refine r_L_law_1452 ?_
        refine ⟨fun c => absurd c (by decide), fun c => ?_⟩
        refine r_L_law_1453 ?_
        refine ⟨(by decide), ?_⟩
        exact H
      · replace H := H.2.1 c
        refine r_L_law_1452 ?_
        refine ⟨fun c => ?_, fun c => absurd c (by decide)⟩
        refine r_L_law_1455 ?_
        obtain ⟨a544, H⟩ := H
        refine r_L_law_1987 ?_
        refine ⟨a544, ?_⟩
        exact H
      · replace H := H.2.2 c
        refine r_L_law_1452 ?_
        refine ⟨fun c => absurd c (by decide), fun c => ?_⟩
        refine r_L_law_1453 ?_
        refine ⟨(by decide), ?_⟩
        exact H
  · replace H := H.2 c
    refine r_L_law_1442 ?_
    refine ⟨(by decide), ?_⟩
    exact H
theorem v_L_law_1483 {d : Nat} {Q : am_K} {h : am_H} {r0 : Nat} {r1 : Nat} {r2 : Nat} {r3 : Nat} {x4 : Int} {o5 : Option am_V} {o6 : Option am_V} {y0 : Int} (H : ((-2147483648 ≤ x4 + 1 ∧ x4 + 1 ≤ 2147483647) ∧ (am_ty h r0 = 101 ∨ am_ty h r0 = 121) ∧ ((0 : Int) ≤ x4 + 1 ∧ x4 + 1 < am_ln h r0) ∧ (-2147483648 ≤ x4 + 2 ∧ x4 + 2 ≤ 2147483647) ∧ ((0 : Int) ≤ x4 + 2 ∧ x4 + 2 < am_ln h r0) ∧ (-2147483648 ≤ x4 + 3 ∧ x4 + 3 ≤ 2147483647) ∧ ((0 : Int) ≤ x4 + 3 ∧ x4 + 3 < am_ln h r0) ∧ (-2147483648 ≤ x4 + 4 ∧ x4 + 4 ≤ 2147483647) ∧ ((0 : Int) ≤ x4 + 4 ∧ x4 + 4 < am_ln h r0)) ∧ (((am_ai h r0 (x4 + 4) : Int) = 0 → (am_ty h r2 = 5) ∧ (am_ev am_prog (d + 12) 96 [.inr (.inl r2), .inl (am_ai h r0 (x4 + 1)), .inl (am_ai h r0 (x4 + 2)), .inl (am_ai h r0 (x4 + 3)), .inl 0] h (am_aft (am_hand m_L_law Q (am_W m_L_law (am_ev am_prog (d + 12)) Q) 1509) (am_W m_L_law (am_ev am_prog (d + 12)) Q) 1509 [some (.inr (.inl r0)), some (.inr (.inl r1)), some (.inr (.inl r2)), some (.inr (.inl r3)), some (.inl x4), some (.inl y0), o6] []))) ∧ ((am_ai h r0 (x4 + 4) : Int) ≠ 0 → (am_ty h r2 = 5) ∧ (am_ev am_prog (d + 12) 96 [.inr (.inl r2), .inl (am_ai h r0 (x4 + 1)), .inl (am_ai h r0 (x4 + 2)), .inl (am_ai h r0 (x4 + 3)), .inl 1] h (am_aft (am_hand m_L_law Q (am_W m_L_law (am_ev am_prog (d + 12)) Q) 1509) (am_W m_L_law (am_ev am_prog (d + 12)) Q) 1509 [some (.inr (.inl r0)), some (.inr (.inl r1)), some (.inr (.inl r2)), some (.inr (.inl r3)), some (.inl x4), some (.inl y0), o6] []))))) : am_W m_L_law (am_ev am_prog (d + 12)) Q 1483 [some (.inr (.inl r0)), some (.inr (.inl r1)), some (.inr (.inl r2)), some (.inr (.inl r3)), some (.inl x4), o5, o6] [.inl y0] h := by
  obtain ⟨⟨a545, a546, a547, a548, a549, a550, a551, a552, a553⟩, H⟩ := H
  refine r_L_law_1483 ?_
  refine ⟨a545, a546, a547, a548, a546, a549, a550, a546, a551, a552, a546, a553, ⟨fun c => ?_, fun c => ?_⟩⟩
  · replace H := H.1 c
    refine r_L_law_1508 ?_
    obtain ⟨a554, H⟩ := H
    refine r_L_law_1509 ?_
    refine ⟨a554, ?_⟩
    exact H
  · replace H := H.2 c
    refine r_L_law_1506 ?_
    obtain ⟨a555, H⟩ := H
    refine r_L_law_1509 ?_
    refine ⟨a555, ?_⟩
    exact H
theorem v_L_law_1510 {d : Nat} {Q : am_K} {h : am_H} {r0 : Nat} {r1 : Nat} {r2 : Nat} {r3 : Nat} {x4 : Int} {x5 : Int} {o6 : Option am_V} {y0 : Int} (H : (am_ty h r2 = 5) ∧ (((am_fi h 38 r2 : Int) = x5 → ((x5 : Int) ≠ 0 → ((-2147483648 ≤ x4 + 6 ∧ x4 + 6 ≤ 2147483647)) ∧ (am_W m_L_law (am_ev am_prog (d + 12)) Q 13 [some (.inr (.inl r0)), some (.inr (.inl r1)), some (.inr (.inl r2)), some (.inr (.inl r3)), some (.inl (x4 + 6)), some (.inl x5), some (.inl y0)] [] h)) ∧ ((x5 : Int) = 0 → (am_ty h r3 = 104 ∧ ((0 : Int) ≤ 0 ∧ 0 < am_ln h r3)) ∧ (((am_ai h r3 0) < y0 → Q (.inl (some (.inl 0))) h) ∧ ((am_ai h r3 0) = y0 → ((-2147483648 ≤ x4 + 6 ∧ x4 + 6 ≤ 2147483647)) ∧ (am_W m_L_law (am_ev am_prog (d + 12)) Q 13 [some (.inr (.inl r0)), some (.inr (.inl r1)), some (.inr (.inl r2)), some (.inr (.inl r3)), some (.inl (x4 + 6)), some (.inl x5), some (.inl y0)] [] h)) ∧ (y0 < (am_ai h r3 0) → Q (.inl (some (.inl 0))) h)))) ∧ ((am_fi h 38 r2 : Int) ≠ x5 → Q (.inl (some (.inl 0))) h))) : am_W m_L_law (am_ev am_prog (d + 12)) Q 1510 [some (.inr (.inl r0)), some (.inr (.inl r1)), some (.inr (.inl r2)), some (.inr (.inl r3)), some (.inl x4), some (.inl x5), o6] [.inl y0] h := by
  obtain ⟨a556, H⟩ := H
  refine r_L_law_1510 ?_
  refine ⟨a556, ?_⟩
  refine am_en p_X5_thrown rfl rfl ?_
  refine r_X5_thrown_0 ?_
  refine ⟨a556, ?_⟩
  refine am_av ?_
  refine r_L_law_1513 ?_
  refine ⟨fun c => ?_, fun c => ?_⟩
  · replace H := H.1 c
    refine r_L_law_1517 ?_
    refine ⟨fun c => ?_, fun c => ?_⟩
    · replace H := H.1 c
      refine r_L_law_1528 ?_
      obtain ⟨a557, H⟩ := H
      refine r_L_law_1987 ?_
      refine ⟨a557, ?_⟩
      exact H
    · replace H := H.2 c
      obtain ⟨⟨a558, a559⟩, H⟩ := H
      refine r_L_law_1519 ?_
      refine ⟨a558, a559, ⟨fun c => ?_, fun c => ?_, fun c => ?_⟩⟩
      · replace H := H.1 c
        refine r_L_law_1525 ?_
        refine ⟨fun c => absurd c (by decide), fun c => ?_⟩
        refine r_L_law_1526 ?_
        refine ⟨(by decide), ?_⟩
        exact H
      · replace H := H.2.1 c
        refine r_L_law_1525 ?_
        refine ⟨fun c => ?_, fun c => absurd c (by decide)⟩
        refine r_L_law_1528 ?_
        obtain ⟨a560, H⟩ := H
        refine r_L_law_1987 ?_
        refine ⟨a560, ?_⟩
        exact H
      · replace H := H.2.2 c
        refine r_L_law_1525 ?_
        refine ⟨fun c => absurd c (by decide), fun c => ?_⟩
        refine r_L_law_1526 ?_
        refine ⟨(by decide), ?_⟩
        exact H
  · replace H := H.2 c
    refine r_L_law_1515 ?_
    refine ⟨(by decide), ?_⟩
    exact H
theorem v_L_law_1542 {d : Nat} {Q : am_K} {h : am_H} {r0 : Nat} {r1 : Nat} {r2 : Nat} {r3 : Nat} {x4 : Int} {o5 : Option am_V} {o6 : Option am_V} {y0 : Int} (H : ((-2147483648 ≤ x4 + 1 ∧ x4 + 1 ≤ 2147483647) ∧ (am_ty h r0 = 101 ∨ am_ty h r0 = 121) ∧ ((0 : Int) ≤ x4 + 1 ∧ x4 + 1 < am_ln h r0) ∧ (-2147483648 ≤ x4 + 2 ∧ x4 + 2 ≤ 2147483647) ∧ ((0 : Int) ≤ x4 + 2 ∧ x4 + 2 < am_ln h r0)) ∧ ((am_ty h r2 = 5) ∧ (am_ev am_prog (d + 12) 79 [.inr (.inl r2), .inl (am_ai h r0 (x4 + 1)), .inl (am_ai h r0 (x4 + 2))] h (am_aft (am_hand m_L_law Q (am_W m_L_law (am_ev am_prog (d + 12)) Q) 1554) (am_W m_L_law (am_ev am_prog (d + 12)) Q) 1554 [some (.inr (.inl r0)), some (.inr (.inl r1)), some (.inr (.inl r2)), some (.inr (.inl r3)), some (.inl x4), some (.inl y0), o6] [])))) : am_W m_L_law (am_ev am_prog (d + 12)) Q 1542 [some (.inr (.inl r0)), some (.inr (.inl r1)), some (.inr (.inl r2)), some (.inr (.inl r3)), some (.inl x4), o5, o6] [.inl y0] h := by
  obtain ⟨⟨a561, a562, a563, a564, a565⟩, H⟩ := H
  obtain ⟨a566, H⟩ := H
  refine r_L_law_1542 ?_
  refine ⟨a561, a562, a563, a564, a562, a565, a566, ?_⟩
  exact H
theorem v_L_law_1555 {d : Nat} {Q : am_K} {h : am_H} {r0 : Nat} {r1 : Nat} {r2 : Nat} {r3 : Nat} {x4 : Int} {x5 : Int} {o6 : Option am_V} {y0 : Int} (H : (am_ty h r2 = 5) ∧ (((am_fi h 38 r2 : Int) = x5 → ((x5 : Int) ≠ 0 → ((-2147483648 ≤ x4 + 6 ∧ x4 + 6 ≤ 2147483647)) ∧ (am_W m_L_law (am_ev am_prog (d + 12)) Q 13 [some (.inr (.inl r0)), some (.inr (.inl r1)), some (.inr (.inl r2)), some (.inr (.inl r3)), some (.inl (x4 + 6)), some (.inl x5), some (.inl y0)] [] h)) ∧ ((x5 : Int) = 0 → (am_ty h r3 = 104 ∧ ((0 : Int) ≤ 0 ∧ 0 < am_ln h r3)) ∧ (((am_ai h r3 0) < y0 → Q (.inl (some (.inl 0))) h) ∧ ((am_ai h r3 0) = y0 → ((-2147483648 ≤ x4 + 6 ∧ x4 + 6 ≤ 2147483647)) ∧ (am_W m_L_law (am_ev am_prog (d + 12)) Q 13 [some (.inr (.inl r0)), some (.inr (.inl r1)), some (.inr (.inl r2)), some (.inr (.inl r3)), some (.inl (x4 + 6)), some (.inl x5), some (.inl y0)] [] h)) ∧ (y0 < (am_ai h r3 0) → Q (.inl (some (.inl 0))) h)))) ∧ ((am_fi h 38 r2 : Int) ≠ x5 → Q (.inl (some (.inl 0))) h))) : am_W m_L_law (am_ev am_prog (d + 12)) Q 1555 [some (.inr (.inl r0)), some (.inr (.inl r1)), some (.inr (.inl r2)), some (.inr (.inl r3)), some (.inl x4), some (.inl x5), o6] [.inl y0] h := by
  obtain ⟨a567, H⟩ := H
  refine r_L_law_1555 ?_
  refine ⟨a567, ?_⟩
  refine am_en p_X5_thrown rfl rfl ?_
  refine r_X5_thrown_0 ?_
  refine ⟨a567, ?_⟩
  refine am_av ?_
  refine r_L_law_1558 ?_
  refine ⟨fun c => ?_, fun c => ?_⟩
  · replace H := H.1 c
    refine r_L_law_1562 ?_
    refine ⟨fun c => ?_, fun c => ?_⟩
    · replace H := H.1 c
      refine r_L_law_1573 ?_
      obtain ⟨a568, H⟩ := H
      refine r_L_law_1987 ?_
      refine ⟨a568, ?_⟩
      exact H
    · replace H := H.2 c
      obtain ⟨⟨a569, a570⟩, H⟩ := H
      refine r_L_law_1564 ?_
      refine ⟨a569, a570, ⟨fun c => ?_, fun c => ?_, fun c => ?_⟩⟩
      · replace H := H.1 c
        refine r_L_law_1570 ?_
        refine ⟨fun c => absurd c (by decide), fun c => ?_⟩
        refine r_L_law_1571 ?_
        refine ⟨(by decide), ?_⟩
        exact H
      · replace H := H.2.1 c
        refine r_L_law_1570 ?_
        refine ⟨fun c => ?_, fun c => absurd c (by decide)⟩
        refine r_L_law_1573 ?_
        obtain ⟨a571, H⟩ := H
        refine r_L_law_1987 ?_
        refine ⟨a571, ?_⟩
        exact H
      · replace H := H.2.2 c
        refine r_L_law_1570 ?_
        refine ⟨fun c => absurd c (by decide), fun c => ?_⟩
        refine r_L_law_1571 ?_
        refine ⟨(by decide), ?_⟩
        exact H
  · replace H := H.2 c
    refine r_L_law_1560 ?_
    refine ⟨(by decide), ?_⟩
    exact H
theorem v_L_law_1587 {d : Nat} {Q : am_K} {h : am_H} {r0 : Nat} {r1 : Nat} {r2 : Nat} {r3 : Nat} {x4 : Int} {o5 : Option am_V} {o6 : Option am_V} {y0 : Int} (H : ((-2147483648 ≤ x4 + 1 ∧ x4 + 1 ≤ 2147483647) ∧ (am_ty h r0 = 101 ∨ am_ty h r0 = 121) ∧ ((0 : Int) ≤ x4 + 1 ∧ x4 + 1 < am_ln h r0) ∧ (-2147483648 ≤ x4 + 2 ∧ x4 + 2 ≤ 2147483647) ∧ ((0 : Int) ≤ x4 + 2 ∧ x4 + 2 < am_ln h r0)) ∧ ((am_ty h r2 = 5) ∧ (am_ev am_prog (d + 12) 68 [.inr (.inl r2), .inl (am_ai h r0 (x4 + 1)), .inl (am_ai h r0 (x4 + 2))] h (am_aft (am_hand m_L_law Q (am_W m_L_law (am_ev am_prog (d + 12)) Q) 1599) (am_W m_L_law (am_ev am_prog (d + 12)) Q) 1599 [some (.inr (.inl r0)), some (.inr (.inl r1)), some (.inr (.inl r2)), some (.inr (.inl r3)), some (.inl x4), some (.inl y0), o6] [])))) : am_W m_L_law (am_ev am_prog (d + 12)) Q 1587 [some (.inr (.inl r0)), some (.inr (.inl r1)), some (.inr (.inl r2)), some (.inr (.inl r3)), some (.inl x4), o5, o6] [.inl y0] h := by
  obtain ⟨⟨a572, a573, a574, a575, a576⟩, H⟩ := H
  obtain ⟨a577, H⟩ := H
  refine r_L_law_1587 ?_
  refine ⟨a572, a573, a574, a575, a573, a576, a577, ?_⟩
  exact H
theorem v_L_law_1600 {d : Nat} {Q : am_K} {h : am_H} {r0 : Nat} {r1 : Nat} {r2 : Nat} {r3 : Nat} {x4 : Int} {x5 : Int} {o6 : Option am_V} {y0 : Int} (H : (am_ty h r2 = 5) ∧ (((am_fi h 38 r2 : Int) = x5 → ((x5 : Int) ≠ 0 → ((-2147483648 ≤ x4 + 6 ∧ x4 + 6 ≤ 2147483647)) ∧ (am_W m_L_law (am_ev am_prog (d + 12)) Q 13 [some (.inr (.inl r0)), some (.inr (.inl r1)), some (.inr (.inl r2)), some (.inr (.inl r3)), some (.inl (x4 + 6)), some (.inl x5), some (.inl y0)] [] h)) ∧ ((x5 : Int) = 0 → (am_ty h r3 = 104 ∧ ((0 : Int) ≤ 0 ∧ 0 < am_ln h r3)) ∧ (((am_ai h r3 0) < y0 → Q (.inl (some (.inl 0))) h) ∧ ((am_ai h r3 0) = y0 → ((-2147483648 ≤ x4 + 6 ∧ x4 + 6 ≤ 2147483647)) ∧ (am_W m_L_law (am_ev am_prog (d + 12)) Q 13 [some (.inr (.inl r0)), some (.inr (.inl r1)), some (.inr (.inl r2)), some (.inr (.inl r3)), some (.inl (x4 + 6)), some (.inl x5), some (.inl y0)] [] h)) ∧ (y0 < (am_ai h r3 0) → Q (.inl (some (.inl 0))) h)))) ∧ ((am_fi h 38 r2 : Int) ≠ x5 → Q (.inl (some (.inl 0))) h))) : am_W m_L_law (am_ev am_prog (d + 12)) Q 1600 [some (.inr (.inl r0)), some (.inr (.inl r1)), some (.inr (.inl r2)), some (.inr (.inl r3)), some (.inl x4), some (.inl x5), o6] [.inl y0] h := by
  obtain ⟨a578, H⟩ := H
  refine r_L_law_1600 ?_
  refine ⟨a578, ?_⟩
  refine am_en p_X5_thrown rfl rfl ?_
  refine r_X5_thrown_0 ?_
  refine ⟨a578, ?_⟩
  refine am_av ?_
  refine r_L_law_1603 ?_
  refine ⟨fun c => ?_, fun c => ?_⟩
  · replace H := H.1 c
    refine r_L_law_1607 ?_
    refine ⟨fun c => ?_, fun c => ?_⟩
    · replace H := H.1 c
      refine r_L_law_1618 ?_
      obtain ⟨a579, H⟩ := H
      refine r_L_law_1987 ?_
      refine ⟨a579, ?_⟩
      exact H
    · replace H := H.2 c
      obtain ⟨⟨a580, a581⟩, H⟩ := H
      refine r_L_law_1609 ?_
      refine ⟨a580, a581, ⟨fun c => ?_, fun c => ?_, fun c => ?_⟩⟩
      · replace H := H.1 c
        refine r_L_law_1615 ?_
        refine ⟨fun c => absurd c (by decide), fun c => ?_⟩
        refine r_L_law_1616 ?_
        refine ⟨(by decide), ?_⟩
        exact H
      · replace H := H.2.1 c
        refine r_L_law_1615 ?_
        refine ⟨fun c => ?_, fun c => absurd c (by decide)⟩
        refine r_L_law_1618 ?_
        obtain ⟨a582, H⟩ := H
        refine r_L_law_1987 ?_
        refine ⟨a582, ?_⟩
        exact H
      · replace H := H.2.2 c
        refine r_L_law_1615 ?_
        refine ⟨fun c => absurd c (by decide), fun c => ?_⟩
        refine r_L_law_1616 ?_
        refine ⟨(by decide), ?_⟩
        exact H
  · replace H := H.2 c
    refine r_L_law_1605 ?_
    refine ⟨(by decide), ?_⟩
    exact H
theorem v_L_law_1637 {d : Nat} {Q : am_K} {h : am_H} {r0 : Nat} {r1 : Nat} {r2 : Nat} {r3 : Nat} {x4 : Int} {o5 : Option am_V} {o6 : Option am_V} {y0 : Int} (H : ((-2147483648 ≤ x4 + 1 ∧ x4 + 1 ≤ 2147483647) ∧ (am_ty h r0 = 101 ∨ am_ty h r0 = 121) ∧ ((0 : Int) ≤ x4 + 1 ∧ x4 + 1 < am_ln h r0) ∧ (-2147483648 ≤ x4 + 2 ∧ x4 + 2 ≤ 2147483647) ∧ ((0 : Int) ≤ x4 + 2 ∧ x4 + 2 < am_ln h r0) ∧ (-2147483648 ≤ x4 + 3 ∧ x4 + 3 ≤ 2147483647) ∧ ((0 : Int) ≤ x4 + 3 ∧ x4 + 3 < am_ln h r0)) ∧ ((am_ty h r2 = 5) ∧ (am_ev am_prog (d + 12) 91 [.inr (.inl r2), .inl (am_ai h r0 (x4 + 1)), .inl (am_ai h r0 (x4 + 2)), .inl (am_ai h r0 (x4 + 3))] h (am_aft (am_hand m_L_law Q (am_W m_L_law (am_ev am_prog (d + 12)) Q) 1654) (am_W m_L_law (am_ev am_prog (d + 12)) Q) 1654 [some (.inr (.inl r0)), some (.inr (.inl r1)), some (.inr (.inl r2)), some (.inr (.inl r3)), some (.inl x4), some (.inl y0), o6] [])))) : am_W m_L_law (am_ev am_prog (d + 12)) Q 1637 [some (.inr (.inl r0)), some (.inr (.inl r1)), some (.inr (.inl r2)), some (.inr (.inl r3)), some (.inl x4), o5, o6] [.inl y0] h := by
  obtain ⟨⟨a583, a584, a585, a586, a587, a588, a589⟩, H⟩ := H
  obtain ⟨a590, H⟩ := H
  refine r_L_law_1637 ?_
  refine ⟨a583, a584, a585, a586, a584, a587, a588, a584, a589, a590, ?_⟩
  exact H
theorem v_L_law_1655 {d : Nat} {Q : am_K} {h : am_H} {r0 : Nat} {r1 : Nat} {r2 : Nat} {r3 : Nat} {x4 : Int} {x5 : Int} {o6 : Option am_V} {y0 : Int} (H : (am_ty h r2 = 5) ∧ (((am_fi h 38 r2 : Int) = x5 → ((x5 : Int) ≠ 0 → ((-2147483648 ≤ x4 + 6 ∧ x4 + 6 ≤ 2147483647)) ∧ (am_W m_L_law (am_ev am_prog (d + 12)) Q 13 [some (.inr (.inl r0)), some (.inr (.inl r1)), some (.inr (.inl r2)), some (.inr (.inl r3)), some (.inl (x4 + 6)), some (.inl x5), some (.inl y0)] [] h)) ∧ ((x5 : Int) = 0 → (am_ty h r3 = 104 ∧ ((0 : Int) ≤ 0 ∧ 0 < am_ln h r3)) ∧ (((am_ai h r3 0) < y0 → Q (.inl (some (.inl 0))) h) ∧ ((am_ai h r3 0) = y0 → ((-2147483648 ≤ x4 + 6 ∧ x4 + 6 ≤ 2147483647)) ∧ (am_W m_L_law (am_ev am_prog (d + 12)) Q 13 [some (.inr (.inl r0)), some (.inr (.inl r1)), some (.inr (.inl r2)), some (.inr (.inl r3)), some (.inl (x4 + 6)), some (.inl x5), some (.inl y0)] [] h)) ∧ (y0 < (am_ai h r3 0) → Q (.inl (some (.inl 0))) h)))) ∧ ((am_fi h 38 r2 : Int) ≠ x5 → Q (.inl (some (.inl 0))) h))) : am_W m_L_law (am_ev am_prog (d + 12)) Q 1655 [some (.inr (.inl r0)), some (.inr (.inl r1)), some (.inr (.inl r2)), some (.inr (.inl r3)), some (.inl x4), some (.inl x5), o6] [.inl y0] h := by
  obtain ⟨a591, H⟩ := H
  refine r_L_law_1655 ?_
  refine ⟨a591, ?_⟩
  refine am_en p_X5_thrown rfl rfl ?_
  refine r_X5_thrown_0 ?_
  refine ⟨a591, ?_⟩
  refine am_av ?_
  refine r_L_law_1658 ?_
  refine ⟨fun c => ?_, fun c => ?_⟩
  · replace H := H.1 c
    refine r_L_law_1662 ?_
    refine ⟨fun c => ?_, fun c => ?_⟩
    · replace H := H.1 c
      refine r_L_law_1673 ?_
      obtain ⟨a592, H⟩ := H
      refine r_L_law_1987 ?_
      refine ⟨a592, ?_⟩
      exact H
    · replace H := H.2 c
      obtain ⟨⟨a593, a594⟩, H⟩ := H
      refine r_L_law_1664 ?_
      refine ⟨a593, a594, ⟨fun c => ?_, fun c => ?_, fun c => ?_⟩⟩
      · replace H := H.1 c
        refine r_L_law_1670 ?_
        refine ⟨fun c => absurd c (by decide), fun c => ?_⟩
        refine r_L_law_1671 ?_
        refine ⟨(by decide), ?_⟩
        exact H
      · replace H := H.2.1 c
        refine r_L_law_1670 ?_
        refine ⟨fun c => ?_, fun c => absurd c (by decide)⟩
        refine r_L_law_1673 ?_
        obtain ⟨a595, H⟩ := H
        refine r_L_law_1987 ?_
        refine ⟨a595, ?_⟩
        exact H
      · replace H := H.2.2 c
        refine r_L_law_1670 ?_
        refine ⟨fun c => absurd c (by decide), fun c => ?_⟩
        refine r_L_law_1671 ?_
        refine ⟨(by decide), ?_⟩
        exact H
  · replace H := H.2 c
    refine r_L_law_1660 ?_
    refine ⟨(by decide), ?_⟩
    exact H
theorem v_L_law_1677 {d : Nat} {Q : am_K} {h : am_H} {r0 : Nat} {r1 : Nat} {r2 : Nat} {r3 : Nat} {x4 : Int} {o5 : Option am_V} {o6 : Option am_V} {y0 : Int} (H : (am_ty h r2 = 5) ∧ (am_ev am_prog (d + 12) 14 [.inr (.inl r2)] h (am_aft (am_hand m_L_law Q (am_W m_L_law (am_ev am_prog (d + 12)) Q) 1679) (am_W m_L_law (am_ev am_prog (d + 12)) Q) 1679 [some (.inr (.inl r0)), some (.inr (.inl r1)), some (.inr (.inl r2)), some (.inr (.inl r3)), some (.inl x4), some (.inl y0), o6] []))) : am_W m_L_law (am_ev am_prog (d + 12)) Q 1677 [some (.inr (.inl r0)), some (.inr (.inl r1)), some (.inr (.inl r2)), some (.inr (.inl r3)), some (.inl x4), o5, o6] [.inl y0] h := by
  obtain ⟨a596, H⟩ := H
  refine r_L_law_1677 ?_
  refine ⟨a596, ?_⟩
  exact H
theorem v_L_law_1680 {d : Nat} {Q : am_K} {h : am_H} {r0 : Nat} {r1 : Nat} {r2 : Nat} {r3 : Nat} {x4 : Int} {x5 : Int} {o6 : Option am_V} {y0 : Int} (H : (am_ty h r2 = 5) ∧ (((am_fi h 38 r2 : Int) = x5 → ((x5 : Int) ≠ 0 → ((-2147483648 ≤ x4 + 6 ∧ x4 + 6 ≤ 2147483647)) ∧ (am_W m_L_law (am_ev am_prog (d + 12)) Q 13 [some (.inr (.inl r0)), some (.inr (.inl r1)), some (.inr (.inl r2)), some (.inr (.inl r3)), some (.inl (x4 + 6)), some (.inl x5), some (.inl y0)] [] h)) ∧ ((x5 : Int) = 0 → (am_ty h r3 = 104 ∧ ((0 : Int) ≤ 0 ∧ 0 < am_ln h r3)) ∧ (((am_ai h r3 0) < y0 → Q (.inl (some (.inl 0))) h) ∧ ((am_ai h r3 0) = y0 → ((-2147483648 ≤ x4 + 6 ∧ x4 + 6 ≤ 2147483647)) ∧ (am_W m_L_law (am_ev am_prog (d + 12)) Q 13 [some (.inr (.inl r0)), some (.inr (.inl r1)), some (.inr (.inl r2)), some (.inr (.inl r3)), some (.inl (x4 + 6)), some (.inl x5), some (.inl y0)] [] h)) ∧ (y0 < (am_ai h r3 0) → Q (.inl (some (.inl 0))) h)))) ∧ ((am_fi h 38 r2 : Int) ≠ x5 → Q (.inl (some (.inl 0))) h))) : am_W m_L_law (am_ev am_prog (d + 12)) Q 1680 [some (.inr (.inl r0)), some (.inr (.inl r1)), some (.inr (.inl r2)), some (.inr (.inl r3)), some (.inl x4), some (.inl x5), o6] [.inl y0] h := by
  obtain ⟨a597, H⟩ := H
  refine r_L_law_1680 ?_
  refine ⟨a597, ?_⟩
  refine am_en p_X5_thrown rfl rfl ?_
  refine r_X5_thrown_0 ?_
  refine ⟨a597, ?_⟩
  refine am_av ?_
  refine r_L_law_1683 ?_
  refine ⟨fun c => ?_, fun c => ?_⟩
  · replace H := H.1 c
    refine r_L_law_1687 ?_
    refine ⟨fun c => ?_, fun c => ?_⟩
    · replace H := H.1 c
      refine r_L_law_1698 ?_
      obtain ⟨a598, H⟩ := H
      refine r_L_law_1987 ?_
      refine ⟨a598, ?_⟩
      exact H
    · replace H := H.2 c
      obtain ⟨⟨a599, a600⟩, H⟩ := H
      refine r_L_law_1689 ?_
      refine ⟨a599, a600, ⟨fun c => ?_, fun c => ?_, fun c => ?_⟩⟩
      · replace H := H.1 c
        refine r_L_law_1695 ?_
        refine ⟨fun c => absurd c (by decide), fun c => ?_⟩
        refine r_L_law_1696 ?_
        refine ⟨(by decide), ?_⟩
        exact H
      · replace H := H.2.1 c
        refine r_L_law_1695 ?_
        refine ⟨fun c => ?_, fun c => absurd c (by decide)⟩
        refine r_L_law_1698 ?_
        obtain ⟨a601, H⟩ := H
        refine r_L_law_1987 ?_
        refine ⟨a601, ?_⟩
        exact H
      · replace H := H.2.2 c
        refine r_L_law_1695 ?_
        refine ⟨fun c => absurd c (by decide), fun c => ?_⟩
        refine r_L_law_1696 ?_
        refine ⟨(by decide), ?_⟩
        exact H
  · replace H := H.2 c
    refine r_L_law_1685 ?_
    refine ⟨(by decide), ?_⟩
    exact H
theorem v_L_law_1717 {d : Nat} {Q : am_K} {h : am_H} {r0 : Nat} {r1 : Nat} {r2 : Nat} {r3 : Nat} {x4 : Int} {o5 : Option am_V} {o6 : Option am_V} {y0 : Int} (H : ((-2147483648 ≤ x4 + 1 ∧ x4 + 1 ≤ 2147483647) ∧ (am_ty h r0 = 101 ∨ am_ty h r0 = 121) ∧ ((0 : Int) ≤ x4 + 1 ∧ x4 + 1 < am_ln h r0) ∧ (-2147483648 ≤ x4 + 2 ∧ x4 + 2 ≤ 2147483647) ∧ ((0 : Int) ≤ x4 + 2 ∧ x4 + 2 < am_ln h r0) ∧ (-2147483648 ≤ x4 + 3 ∧ x4 + 3 ≤ 2147483647) ∧ ((0 : Int) ≤ x4 + 3 ∧ x4 + 3 < am_ln h r0)) ∧ ((am_ty h r2 = 5) ∧ (am_ev am_prog (d + 12) 89 [.inr (.inl r2), .inl (am_ai h r0 (x4 + 1)), .inl (am_ai h r0 (x4 + 2)), .inl (am_ai h r0 (x4 + 3))] h (am_aft (am_hand m_L_law Q (am_W m_L_law (am_ev am_prog (d + 12)) Q) 1734) (am_W m_L_law (am_ev am_prog (d + 12)) Q) 1734 [some (.inr (.inl r0)), some (.inr (.inl r1)), some (.inr (.inl r2)), some (.inr (.inl r3)), some (.inl x4), some (.inl y0), o6] [])))) : am_W m_L_law (am_ev am_prog (d + 12)) Q 1717 [some (.inr (.inl r0)), some (.inr (.inl r1)), some (.inr (.inl r2)), some (.inr (.inl r3)), some (.inl x4), o5, o6] [.inl y0] h := by
  obtain ⟨⟨a602, a603, a604, a605, a606, a607, a608⟩, H⟩ := H
  obtain ⟨a609, H⟩ := H
  refine r_L_law_1717 ?_
  refine ⟨a602, a603, a604, a605, a603, a606, a607, a603, a608, a609, ?_⟩
  exact H
theorem v_L_law_1735 {d : Nat} {Q : am_K} {h : am_H} {r0 : Nat} {r1 : Nat} {r2 : Nat} {r3 : Nat} {x4 : Int} {x5 : Int} {o6 : Option am_V} {y0 : Int} (H : (am_ty h r2 = 5) ∧ (((am_fi h 38 r2 : Int) = x5 → ((x5 : Int) ≠ 0 → ((-2147483648 ≤ x4 + 6 ∧ x4 + 6 ≤ 2147483647)) ∧ (am_W m_L_law (am_ev am_prog (d + 12)) Q 13 [some (.inr (.inl r0)), some (.inr (.inl r1)), some (.inr (.inl r2)), some (.inr (.inl r3)), some (.inl (x4 + 6)), some (.inl x5), some (.inl y0)] [] h)) ∧ ((x5 : Int) = 0 → (am_ty h r3 = 104 ∧ ((0 : Int) ≤ 0 ∧ 0 < am_ln h r3)) ∧ (((am_ai h r3 0) < y0 → Q (.inl (some (.inl 0))) h) ∧ ((am_ai h r3 0) = y0 → ((-2147483648 ≤ x4 + 6 ∧ x4 + 6 ≤ 2147483647)) ∧ (am_W m_L_law (am_ev am_prog (d + 12)) Q 13 [some (.inr (.inl r0)), some (.inr (.inl r1)), some (.inr (.inl r2)), some (.inr (.inl r3)), some (.inl (x4 + 6)), some (.inl x5), some (.inl y0)] [] h)) ∧ (y0 < (am_ai h r3 0) → Q (.inl (some (.inl 0))) h)))) ∧ ((am_fi h 38 r2 : Int) ≠ x5 → Q (.inl (some (.inl 0))) h))) : am_W m_L_law (am_ev am_prog (d + 12)) Q 1735 [some (.inr (.inl r0)), some (.inr (.inl r1)), some (.inr (.inl r2)), some (.inr (.inl r3)), some (.inl x4), some (.inl x5), o6] [.inl y0] h := by
  obtain ⟨a610, H⟩ := H
  refine r_L_law_1735 ?_
  refine ⟨a610, ?_⟩
  refine am_en p_X5_thrown rfl rfl ?_
  refine r_X5_thrown_0 ?_
  refine ⟨a610, ?_⟩
  refine am_av ?_
  refine r_L_law_1738 ?_
  refine ⟨fun c => ?_, fun c => ?_⟩
  · replace H := H.1 c
    refine r_L_law_1742 ?_
    refine ⟨fun c => ?_, fun c => ?_⟩
    · replace H := H.1 c
      refine r_L_law_1753 ?_
      obtain ⟨a611, H⟩ := H
      refine r_L_law_1987 ?_
      refine ⟨a611, ?_⟩
      exact H
    · replace H := H.2 c
      obtain ⟨⟨a612, a613⟩, H⟩ := H
      refine r_L_law_1744 ?_
      refine ⟨a612, a613, ⟨fun c => ?_, fun c => ?_, fun c => ?_⟩⟩
      · replace H := H.1 c
        refine r_L_law_1750 ?_
        refine ⟨fun c => absurd c (by decide), fun c => ?_⟩
        refine r_L_law_1751 ?_
        refine ⟨(by decide), ?_⟩
        exact H
      · replace H := H.2.1 c
        refine r_L_law_1750 ?_
        refine ⟨fun c => ?_, fun c => absurd c (by decide)⟩
        refine r_L_law_1753 ?_
        obtain ⟨a614, H⟩ := H
        refine r_L_law_1987 ?_
        refine ⟨a614, ?_⟩
        exact H
      · replace H := H.2.2 c
        refine r_L_law_1750 ?_
        refine ⟨fun c => absurd c (by decide), fun c => ?_⟩
        refine r_L_law_1751 ?_
        refine ⟨(by decide), ?_⟩
        exact H
  · replace H := H.2 c
    refine r_L_law_1740 ?_
    refine ⟨(by decide), ?_⟩
    exact H
theorem v_L_law_1756 {d : Nat} {Q : am_K} {h : am_H} {r0 : Nat} {r1 : Nat} {r2 : Nat} {r3 : Nat} {x4 : Int} {o5 : Option am_V} {o6 : Option am_V} {y0 : Int} (H : (am_ty h r2 = 5) ∧ (am_ev am_prog (d + 12) 12 [.inr (.inl r2)] h (am_aft (am_hand m_L_law Q (am_W m_L_law (am_ev am_prog (d + 12)) Q) 1757) (am_W m_L_law (am_ev am_prog (d + 12)) Q) 1757 [some (.inr (.inl r0)), some (.inr (.inl r1)), some (.inr (.inl r2)), some (.inr (.inl r3)), some (.inl x4), o5, o6] [.inl y0]))) : am_W m_L_law (am_ev am_prog (d + 12)) Q 1756 [some (.inr (.inl r0)), some (.inr (.inl r1)), some (.inr (.inl r2)), some (.inr (.inl r3)), some (.inl x4), o5, o6] [.inl y0] h := by
  obtain ⟨a615, H⟩ := H
  refine r_L_law_1756 ?_
  refine ⟨a615, ?_⟩
  exact H
theorem v_L_law_1758 {d : Nat} {Q : am_K} {h : am_H} {r0 : Nat} {r1 : Nat} {r2 : Nat} {r3 : Nat} {x4 : Int} {o5 : Option am_V} {o6 : Option am_V} {y1 : Int} {y0 : Int} (H : ((y0 : Int) = y1 → ((-2147483648 ≤ x4 + 6 ∧ x4 + 6 ≤ 2147483647)) ∧ (am_W m_L_law (am_ev am_prog (d + 12)) Q 13 [some (.inr (.inl r0)), some (.inr (.inl r1)), some (.inr (.inl r2)), some (.inr (.inl r3)), some (.inl (x4 + 6)), o5, o6] [] h)) ∧ ((y0 : Int) ≠ y1 → Q (.inl (some (.inl 0))) h)) : am_W m_L_law (am_ev am_prog (d + 12)) Q 1758 [some (.inr (.inl r0)), some (.inr (.inl r1)), some (.inr (.inl r2)), some (.inr (.inl r3)), some (.inl x4), o5, o6] [.inl y1, .inl y0] h := by
  refine r_L_law_1758 ?_
  refine ⟨fun c => ?_, fun c => ?_⟩
  · replace H := H.1 c
    obtain ⟨a616, H⟩ := H
    refine r_L_law_1987 ?_
    refine ⟨a616, ?_⟩
    exact H
  · replace H := H.2 c
    refine r_L_law_1759 ?_
    refine ⟨(by decide), ?_⟩
    exact H
theorem v_L_law_1769 {d : Nat} {Q : am_K} {h : am_H} {r0 : Nat} {r1 : Nat} {r2 : Nat} {r3 : Nat} {x4 : Int} {o5 : Option am_V} {o6 : Option am_V} {y0 : Int} (H : ((-2147483648 ≤ x4 + 1 ∧ x4 + 1 ≤ 2147483647) ∧ (am_ty h r0 = 101 ∨ am_ty h r0 = 121) ∧ ((0 : Int) ≤ x4 + 1 ∧ x4 + 1 < am_ln h r0)) ∧ ((am_ty h r2 = 5) ∧ (am_ev am_prog (d + 12) 48 [.inr (.inl r2), .inl (am_ai h r0 (x4 + 1))] h (am_aft (am_hand m_L_law Q (am_W m_L_law (am_ev am_prog (d + 12)) Q) 1776) (am_W m_L_law (am_ev am_prog (d + 12)) Q) 1776 [some (.inr (.inl r0)), some (.inr (.inl r1)), some (.inr (.inl r2)), some (.inr (.inl r3)), some (.inl x4), some (.inl y0), o6] [])))) : am_W m_L_law (am_ev am_prog (d + 12)) Q 1769 [some (.inr (.inl r0)), some (.inr (.inl r1)), some (.inr (.inl r2)), some (.inr (.inl r3)), some (.inl x4), o5, o6] [.inl y0] h := by
  obtain ⟨⟨a617, a618, a619⟩, H⟩ := H
  obtain ⟨a620, H⟩ := H
  refine r_L_law_1769 ?_
  refine ⟨a617, a618, a619, a620, ?_⟩
  exact H
theorem v_L_law_1777 {d : Nat} {Q : am_K} {h : am_H} {r0 : Nat} {r1 : Nat} {r2 : Nat} {r3 : Nat} {x4 : Int} {x5 : Int} {o6 : Option am_V} {y0 : Int} (H : (am_ty h r2 = 5) ∧ (((am_fi h 38 r2 : Int) = x5 → ((x5 : Int) ≠ 0 → ((-2147483648 ≤ x4 + 6 ∧ x4 + 6 ≤ 2147483647)) ∧ (am_W m_L_law (am_ev am_prog (d + 12)) Q 13 [some (.inr (.inl r0)), some (.inr (.inl r1)), some (.inr (.inl r2)), some (.inr (.inl r3)), some (.inl (x4 + 6)), some (.inl x5), some (.inl y0)] [] h)) ∧ ((x5 : Int) = 0 → (am_ty h r3 = 104 ∧ ((0 : Int) ≤ 0 ∧ 0 < am_ln h r3)) ∧ (((am_ai h r3 0) < y0 → Q (.inl (some (.inl 0))) h) ∧ ((am_ai h r3 0) = y0 → ((-2147483648 ≤ x4 + 6 ∧ x4 + 6 ≤ 2147483647)) ∧ (am_W m_L_law (am_ev am_prog (d + 12)) Q 13 [some (.inr (.inl r0)), some (.inr (.inl r1)), some (.inr (.inl r2)), some (.inr (.inl r3)), some (.inl (x4 + 6)), some (.inl x5), some (.inl y0)] [] h)) ∧ (y0 < (am_ai h r3 0) → Q (.inl (some (.inl 0))) h)))) ∧ ((am_fi h 38 r2 : Int) ≠ x5 → Q (.inl (some (.inl 0))) h))) : am_W m_L_law (am_ev am_prog (d + 12)) Q 1777 [some (.inr (.inl r0)), some (.inr (.inl r1)), some (.inr (.inl r2)), some (.inr (.inl r3)), some (.inl x4), some (.inl x5), o6] [.inl y0] h := by
  obtain ⟨a621, H⟩ := H
  refine r_L_law_1777 ?_
  refine ⟨a621, ?_⟩
  refine am_en p_X5_thrown rfl rfl ?_
  refine r_X5_thrown_0 ?_
  refine ⟨a621, ?_⟩
  refine am_av ?_
  refine r_L_law_1780 ?_
  refine ⟨fun c => ?_, fun c => ?_⟩
  · replace H := H.1 c
    refine r_L_law_1784 ?_
    refine ⟨fun c => ?_, fun c => ?_⟩
    · replace H := H.1 c
      refine r_L_law_1795 ?_
      obtain ⟨a622, H⟩ := H
      refine r_L_law_1987 ?_
      refine ⟨a622, ?_⟩
      exact H
    · replace H := H.2 c
      obtain ⟨⟨a623, a624⟩, H⟩ := H
      refine r_L_law_1786 ?_
      refine ⟨a623, a624, ⟨fun c => ?_, fun c => ?_, fun c => ?_⟩⟩
      · replace H := H.1 c
        refine r_L_law_1792 ?_
        refine ⟨fun c => absurd c (by decide), fun c => ?_⟩
        refine r_L_law_1793 ?_
        refine ⟨(by decide), ?_⟩
        exact H
      · replace H := H.2.1 c
        refine r_L_law_1792 ?_
        refine ⟨fun c => ?_, fun c => absurd c (by decide)⟩
        refine r_L_law_1795 ?_
        obtain ⟨a625, H⟩ := H
        refine r_L_law_1987 ?_
        refine ⟨a625, ?_⟩
        exact H
      · replace H := H.2.2 c
        refine r_L_law_1792 ?_
        refine ⟨fun c => absurd c (by decide), fun c => ?_⟩
        refine r_L_law_1793 ?_
        refine ⟨(by decide), ?_⟩
        exact H
  · replace H := H.2 c
    refine r_L_law_1782 ?_
    refine ⟨(by decide), ?_⟩
    exact H
theorem v_L_law_1814 {d : Nat} {Q : am_K} {h : am_H} {r0 : Nat} {r1 : Nat} {r2 : Nat} {r3 : Nat} {x4 : Int} {o5 : Option am_V} {o6 : Option am_V} {y0 : Int} (H : ((-2147483648 ≤ x4 + 1 ∧ x4 + 1 ≤ 2147483647) ∧ (am_ty h r0 = 101 ∨ am_ty h r0 = 121) ∧ ((0 : Int) ≤ x4 + 1 ∧ x4 + 1 < am_ln h r0) ∧ (-2147483648 ≤ x4 + 2 ∧ x4 + 2 ≤ 2147483647) ∧ ((0 : Int) ≤ x4 + 2 ∧ x4 + 2 < am_ln h r0) ∧ (-2147483648 ≤ x4 + 3 ∧ x4 + 3 ≤ 2147483647) ∧ ((0 : Int) ≤ x4 + 3 ∧ x4 + 3 < am_ln h r0)) ∧ ((am_ty h r2 = 5) ∧ (am_ev am_prog (d + 12) 86 [.inr (.inl r2), .inl (am_ai h r0 (x4 + 1)), .inl (am_ai h r0 (x4 + 2)), .inl (am_ai h r0 (x4 + 3))] h (am_aft (am_hand m_L_law Q (am_W m_L_law (am_ev am_prog (d + 12)) Q) 1831) (am_W m_L_law (am_ev am_prog (d + 12)) Q) 1831 [some (.inr (.inl r0)), some (.inr (.inl r1)), some (.inr (.inl r2)), some (.inr (.inl r3)), some (.inl x4), some (.inl y0), o6] [])))) : am_W m_L_law (am_ev am_prog (d + 12)) Q 1814 [some (.inr (.inl r0)), some (.inr (.inl r1)), some (.inr (.inl r2)), some (.inr (.inl r3)), some (.inl x4), o5, o6] [.inl y0] h := by
  obtain ⟨⟨a626, a627, a628, a629, a630, a631, a632⟩, H⟩ := H
  obtain ⟨a633, H⟩ := H
  refine r_L_law_1814 ?_
  refine ⟨a626, a627, a628, a629, a627, a630, a631, a627, a632, a633, ?_⟩
  exact H
theorem v_L_law_1832 {d : Nat} {Q : am_K} {h : am_H} {r0 : Nat} {r1 : Nat} {r2 : Nat} {r3 : Nat} {x4 : Int} {x5 : Int} {o6 : Option am_V} {y0 : Int} (H : (am_ty h r2 = 5) ∧ (((am_fi h 38 r2 : Int) = x5 → ((x5 : Int) ≠ 0 → ((-2147483648 ≤ x4 + 6 ∧ x4 + 6 ≤ 2147483647)) ∧ (am_W m_L_law (am_ev am_prog (d + 12)) Q 13 [some (.inr (.inl r0)), some (.inr (.inl r1)), some (.inr (.inl r2)), some (.inr (.inl r3)), some (.inl (x4 + 6)), some (.inl x5), some (.inl y0)] [] h)) ∧ ((x5 : Int) = 0 → (am_ty h r3 = 104 ∧ ((0 : Int) ≤ 0 ∧ 0 < am_ln h r3)) ∧ (((am_ai h r3 0) < y0 → Q (.inl (some (.inl 0))) h) ∧ ((am_ai h r3 0) = y0 → ((-2147483648 ≤ x4 + 6 ∧ x4 + 6 ≤ 2147483647)) ∧ (am_W m_L_law (am_ev am_prog (d + 12)) Q 13 [some (.inr (.inl r0)), some (.inr (.inl r1)), some (.inr (.inl r2)), some (.inr (.inl r3)), some (.inl (x4 + 6)), some (.inl x5), some (.inl y0)] [] h)) ∧ (y0 < (am_ai h r3 0) → Q (.inl (some (.inl 0))) h)))) ∧ ((am_fi h 38 r2 : Int) ≠ x5 → Q (.inl (some (.inl 0))) h))) : am_W m_L_law (am_ev am_prog (d + 12)) Q 1832 [some (.inr (.inl r0)), some (.inr (.inl r1)), some (.inr (.inl r2)), some (.inr (.inl r3)), some (.inl x4), some (.inl x5), o6] [.inl y0] h := by
  obtain ⟨a634, H⟩ := H
  refine r_L_law_1832 ?_
  refine ⟨a634, ?_⟩
  refine am_en p_X5_thrown rfl rfl ?_
  refine r_X5_thrown_0 ?_
  refine ⟨a634, ?_⟩
  refine am_av ?_
  refine r_L_law_1835 ?_
  refine ⟨fun c => ?_, fun c => ?_⟩
  · replace H := H.1 c
    refine r_L_law_1839 ?_
    refine ⟨fun c => ?_, fun c => ?_⟩
    · replace H := H.1 c
      refine r_L_law_1850 ?_
      obtain ⟨a635, H⟩ := H
      refine r_L_law_1987 ?_
      refine ⟨a635, ?_⟩
      exact H
    · replace H := H.2 c
      obtain ⟨⟨a636, a637⟩, H⟩ := H
      refine r_L_law_1841 ?_
      refine ⟨a636, a637, ⟨fun c => ?_, fun c => ?_, fun c => ?_⟩⟩
      · replace H := H.1 c
        refine r_L_law_1847 ?_
        refine ⟨fun c => absurd c (by decide), fun c => ?_⟩
        refine r_L_law_1848 ?_
        refine ⟨(by decide), ?_⟩
        exact H
      · replace H := H.2.1 c
        refine r_L_law_1847 ?_
        refine ⟨fun c => ?_, fun c => absurd c (by decide)⟩
        refine r_L_law_1850 ?_
        obtain ⟨a638, H⟩ := H
        refine r_L_law_1987 ?_
        refine ⟨a638, ?_⟩
        exact H
      · replace H := H.2.2 c
        refine r_L_law_1847 ?_
        refine ⟨fun c => absurd c (by decide), fun c => ?_⟩
        refine r_L_law_1848 ?_
        refine ⟨(by decide), ?_⟩
        exact H
  · replace H := H.2 c
    refine r_L_law_1837 ?_
    refine ⟨(by decide), ?_⟩
    exact H
theorem v_L_law_1864 {d : Nat} {Q : am_K} {h : am_H} {r0 : Nat} {r1 : Nat} {r2 : Nat} {r3 : Nat} {x4 : Int} {o5 : Option am_V} {o6 : Option am_V} {y0 : Int} (H : ((-2147483648 ≤ x4 + 1 ∧ x4 + 1 ≤ 2147483647) ∧ (am_ty h r0 = 101 ∨ am_ty h r0 = 121) ∧ ((0 : Int) ≤ x4 + 1 ∧ x4 + 1 < am_ln h r0) ∧ (-2147483648 ≤ x4 + 2 ∧ x4 + 2 ≤ 2147483647) ∧ ((0 : Int) ≤ x4 + 2 ∧ x4 + 2 < am_ln h r0)) ∧ ((am_ty h r2 = 5) ∧ (am_ev am_prog (d + 12) 69 [.inr (.inl r2), .inl (am_ai h r0 (x4 + 1)), .inl (am_ai h r0 (x4 + 2))] h (am_aft (am_hand m_L_law Q (am_W m_L_law (am_ev am_prog (d + 12)) Q) 1876) (am_W m_L_law (am_ev am_prog (d + 12)) Q) 1876 [some (.inr (.inl r0)), some (.inr (.inl r1)), some (.inr (.inl r2)), some (.inr (.inl r3)), some (.inl x4), some (.inl y0), o6] [])))) : am_W m_L_law (am_ev am_prog (d + 12)) Q 1864 [some (.inr (.inl r0)), some (.inr (.inl r1)), some (.inr (.inl r2)), some (.inr (.inl r3)), some (.inl x4), o5, o6] [.inl y0] h := by
  obtain ⟨⟨a639, a640, a641, a642, a643⟩, H⟩ := H
  obtain ⟨a644, H⟩ := H
  refine r_L_law_1864 ?_
  refine ⟨a639, a640, a641, a642, a640, a643, a644, ?_⟩
  exact H
theorem v_L_law_1877 {d : Nat} {Q : am_K} {h : am_H} {r0 : Nat} {r1 : Nat} {r2 : Nat} {r3 : Nat} {x4 : Int} {x5 : Int} {o6 : Option am_V} {y0 : Int} (H : (am_ty h r2 = 5) ∧ (((am_fi h 38 r2 : Int) = x5 → ((x5 : Int) ≠ 0 → ((-2147483648 ≤ x4 + 6 ∧ x4 + 6 ≤ 2147483647)) ∧ (am_W m_L_law (am_ev am_prog (d + 12)) Q 13 [some (.inr (.inl r0)), some (.inr (.inl r1)), some (.inr (.inl r2)), some (.inr (.inl r3)), some (.inl (x4 + 6)), some (.inl x5), some (.inl y0)] [] h)) ∧ ((x5 : Int) = 0 → (am_ty h r3 = 104 ∧ ((0 : Int) ≤ 0 ∧ 0 < am_ln h r3)) ∧ (((am_ai h r3 0) < y0 → Q (.inl (some (.inl 0))) h) ∧ ((am_ai h r3 0) = y0 → ((-2147483648 ≤ x4 + 6 ∧ x4 + 6 ≤ 2147483647)) ∧ (am_W m_L_law (am_ev am_prog (d + 12)) Q 13 [some (.inr (.inl r0)), some (.inr (.inl r1)), some (.inr (.inl r2)), some (.inr (.inl r3)), some (.inl (x4 + 6)), some (.inl x5), some (.inl y0)] [] h)) ∧ (y0 < (am_ai h r3 0) → Q (.inl (some (.inl 0))) h)))) ∧ ((am_fi h 38 r2 : Int) ≠ x5 → Q (.inl (some (.inl 0))) h))) : am_W m_L_law (am_ev am_prog (d + 12)) Q 1877 [some (.inr (.inl r0)), some (.inr (.inl r1)), some (.inr (.inl r2)), some (.inr (.inl r3)), some (.inl x4), some (.inl x5), o6] [.inl y0] h := by
  obtain ⟨a645, H⟩ := H
  refine r_L_law_1877 ?_
  refine ⟨a645, ?_⟩
  refine am_en p_X5_thrown rfl rfl ?_
  refine r_X5_thrown_0 ?_
  refine ⟨a645, ?_⟩
  refine am_av ?_
  refine r_L_law_1880 ?_
  refine ⟨fun c => ?_, fun c => ?_⟩
  · replace H := H.1 c
    refine r_L_law_1884 ?_
    refine ⟨fun c => ?_, fun c => ?_⟩
    · replace H := H.1 c
      refine r_L_law_1895 ?_
      obtain ⟨a646, H⟩ := H
      refine r_L_law_1987 ?_
      refine ⟨a646, ?_⟩
      exact H
    · replace H := H.2 c
      obtain ⟨⟨a647, a648⟩, H⟩ := H
      refine r_L_law_1886 ?_
      refine ⟨a647, a648, ⟨fun c => ?_, fun c => ?_, fun c => ?_⟩⟩
      · replace H := H.1 c
        refine r_L_law_1892 ?_
        refine ⟨fun c => absurd c (by decide), fun c => ?_⟩
        refine r_L_law_1893 ?_
        refine ⟨(by decide), ?_⟩
        exact H
      · replace H := H.2.1 c
        refine r_L_law_1892 ?_
        refine ⟨fun c => ?_, fun c => absurd c (by decide)⟩
        refine r_L_law_1895 ?_
        obtain ⟨a649, H⟩ := H
        refine r_L_law_1987 ?_
        refine ⟨a649, ?_⟩
        exact H
      · replace H := H.2.2 c
        refine r_L_law_1892 ?_
        refine ⟨fun c => absurd c (by decide), fun c => ?_⟩
        refine r_L_law_1893 ?_
        refine ⟨(by decide), ?_⟩
        exact H
  · replace H := H.2 c
    refine r_L_law_1882 ?_
    refine ⟨(by decide), ?_⟩
    exact H
theorem v_L_law_1914 {d : Nat} {Q : am_K} {h : am_H} {r0 : Nat} {r1 : Nat} {r2 : Nat} {r3 : Nat} {x4 : Int} {o5 : Option am_V} {o6 : Option am_V} {y0 : Int} (H : ((-2147483648 ≤ x4 + 1 ∧ x4 + 1 ≤ 2147483647) ∧ (am_ty h r0 = 101 ∨ am_ty h r0 = 121) ∧ ((0 : Int) ≤ x4 + 1 ∧ x4 + 1 < am_ln h r0) ∧ (-2147483648 ≤ x4 + 2 ∧ x4 + 2 ≤ 2147483647) ∧ ((0 : Int) ≤ x4 + 2 ∧ x4 + 2 < am_ln h r0) ∧ (-2147483648 ≤ x4 + 3 ∧ x4 + 3 ≤ 2147483647) ∧ ((0 : Int) ≤ x4 + 3 ∧ x4 + 3 < am_ln h r0)) ∧ ((am_ty h r2 = 5) ∧ (am_ev am_prog (d + 12) 93 [.inr (.inl r2), .inl (am_ai h r0 (x4 + 1)), .inl (am_ai h r0 (x4 + 2)), .inl (am_ai h r0 (x4 + 3))] h (am_aft (am_hand m_L_law Q (am_W m_L_law (am_ev am_prog (d + 12)) Q) 1931) (am_W m_L_law (am_ev am_prog (d + 12)) Q) 1931 [some (.inr (.inl r0)), some (.inr (.inl r1)), some (.inr (.inl r2)), some (.inr (.inl r3)), some (.inl x4), some (.inl y0), o6] [])))) : am_W m_L_law (am_ev am_prog (d + 12)) Q 1914 [some (.inr (.inl r0)), some (.inr (.inl r1)), some (.inr (.inl r2)), some (.inr (.inl r3)), some (.inl x4), o5, o6] [.inl y0] h := by
  obtain ⟨⟨a650, a651, a652, a653, a654, a655, a656⟩, H⟩ := H
  obtain ⟨a657, H⟩ := H
  refine r_L_law_1914 ?_
  refine ⟨a650, a651, a652, a653, a651, a654, a655, a651, a656, a657, ?_⟩
  exact H
theorem v_L_law_1932 {d : Nat} {Q : am_K} {h : am_H} {r0 : Nat} {r1 : Nat} {r2 : Nat} {r3 : Nat} {x4 : Int} {x5 : Int} {o6 : Option am_V} {y0 : Int} (H : (am_ty h r2 = 5) ∧ (((am_fi h 38 r2 : Int) = x5 → ((x5 : Int) ≠ 0 → ((-2147483648 ≤ x4 + 6 ∧ x4 + 6 ≤ 2147483647)) ∧ (am_W m_L_law (am_ev am_prog (d + 12)) Q 13 [some (.inr (.inl r0)), some (.inr (.inl r1)), some (.inr (.inl r2)), some (.inr (.inl r3)), some (.inl (x4 + 6)), some (.inl x5), some (.inl y0)] [] h)) ∧ ((x5 : Int) = 0 → (am_ty h r3 = 104 ∧ ((0 : Int) ≤ 0 ∧ 0 < am_ln h r3)) ∧ (((am_ai h r3 0) < y0 → Q (.inl (some (.inl 0))) h) ∧ ((am_ai h r3 0) = y0 → ((-2147483648 ≤ x4 + 6 ∧ x4 + 6 ≤ 2147483647)) ∧ (am_W m_L_law (am_ev am_prog (d + 12)) Q 13 [some (.inr (.inl r0)), some (.inr (.inl r1)), some (.inr (.inl r2)), some (.inr (.inl r3)), some (.inl (x4 + 6)), some (.inl x5), some (.inl y0)] [] h)) ∧ (y0 < (am_ai h r3 0) → Q (.inl (some (.inl 0))) h)))) ∧ ((am_fi h 38 r2 : Int) ≠ x5 → Q (.inl (some (.inl 0))) h))) : am_W m_L_law (am_ev am_prog (d + 12)) Q 1932 [some (.inr (.inl r0)), some (.inr (.inl r1)), some (.inr (.inl r2)), some (.inr (.inl r3)), some (.inl x4), some (.inl x5), o6] [.inl y0] h := by
  obtain ⟨a658, H⟩ := H
  refine r_L_law_1932 ?_
  refine ⟨a658, ?_⟩
  refine am_en p_X5_thrown rfl rfl ?_
  refine r_X5_thrown_0 ?_
  refine ⟨a658, ?_⟩
  refine am_av ?_
  refine r_L_law_1935 ?_
  refine ⟨fun c => ?_, fun c => ?_⟩
  · replace H := H.1 c
    refine r_L_law_1939 ?_
    refine ⟨fun c => ?_, fun c => ?_⟩
    · replace H := H.1 c
      refine r_L_law_1950 ?_
      obtain ⟨a659, H⟩ := H
      refine r_L_law_1987 ?_
      refine ⟨a659, ?_⟩
      exact H
    · replace H := H.2 c
      obtain ⟨⟨a660, a661⟩, H⟩ := H
      refine r_L_law_1941 ?_
      refine ⟨a660, a661, ⟨fun c => ?_, fun c => ?_, fun c => ?_⟩⟩
      · replace H := H.1 c
        refine r_L_law_1947 ?_
        refine ⟨fun c => absurd c (by decide), fun c => ?_⟩
        refine r_L_law_1948 ?_
        refine ⟨(by decide), ?_⟩
        exact H
      · replace H := H.2.1 c
        refine r_L_law_1947 ?_
        refine ⟨fun c => ?_, fun c => absurd c (by decide)⟩
        refine r_L_law_1950 ?_
        obtain ⟨a662, H⟩ := H
        refine r_L_law_1987 ?_
        refine ⟨a662, ?_⟩
        exact H
      · replace H := H.2.2 c
        refine r_L_law_1947 ?_
        refine ⟨fun c => absurd c (by decide), fun c => ?_⟩
        refine r_L_law_1948 ?_
        refine ⟨(by decide), ?_⟩
        exact H
  · replace H := H.2 c
    refine r_L_law_1937 ?_
    refine ⟨(by decide), ?_⟩
    exact H
theorem v_L_law_1953 {d : Nat} {Q : am_K} {h : am_H} {r0 : Nat} {r1 : Nat} {r2 : Nat} {r3 : Nat} {x4 : Int} {o5 : Option am_V} {o6 : Option am_V} {y0 : Int} (H : (am_ty h r2 = 5) ∧ (am_ev am_prog (d + 12) 9 [.inr (.inl r2)] h (am_aft (am_hand m_L_law Q (am_W m_L_law (am_ev am_prog (d + 12)) Q) 1954) (am_W m_L_law (am_ev am_prog (d + 12)) Q) 1954 [some (.inr (.inl r0)), some (.inr (.inl r1)), some (.inr (.inl r2)), some (.inr (.inl r3)), some (.inl x4), o5, o6] [.inl y0]))) : am_W m_L_law (am_ev am_prog (d + 12)) Q 1953 [some (.inr (.inl r0)), some (.inr (.inl r1)), some (.inr (.inl r2)), some (.inr (.inl r3)), some (.inl x4), o5, o6] [.inl y0] h := by
  obtain ⟨a663, H⟩ := H
  refine r_L_law_1953 ?_
  refine ⟨a663, ?_⟩
  exact H
theorem v_L_law_1955 {d : Nat} {Q : am_K} {h : am_H} {r0 : Nat} {r1 : Nat} {r2 : Nat} {r3 : Nat} {x4 : Int} {o5 : Option am_V} {o6 : Option am_V} {y1 : Int} {y0 : Int} (H : ((y0 : Int) = y1 → ((-2147483648 ≤ x4 + 6 ∧ x4 + 6 ≤ 2147483647)) ∧ (am_W m_L_law (am_ev am_prog (d + 12)) Q 13 [some (.inr (.inl r0)), some (.inr (.inl r1)), some (.inr (.inl r2)), some (.inr (.inl r3)), some (.inl (x4 + 6)), o5, o6] [] h)) ∧ ((y0 : Int) ≠ y1 → Q (.inl (some (.inl 0))) h)) : am_W m_L_law (am_ev am_prog (d + 12)) Q 1955 [some (.inr (.inl r0)), some (.inr (.inl r1)), some (.inr (.inl r2)), some (.inr (.inl r3)), some (.inl x4), o5, o6] [.inl y1, .inl y0] h := by
  refine r_L_law_1955 ?_
  refine ⟨fun c => ?_, fun c => ?_⟩
  · replace H := H.1 c
    obtain ⟨a664, H⟩ := H
    refine r_L_law_1987 ?_
    refine ⟨a664, ?_⟩
    exact H
  · replace H := H.2 c
    refine r_L_law_1956 ?_
    refine ⟨(by decide), ?_⟩
    exact H
theorem v_L_law_1960 {d : Nat} {Q : am_K} {h : am_H} {r0 : Nat} {r1 : Nat} {r2 : Nat} {r3 : Nat} {x4 : Int} {o5 : Option am_V} {o6 : Option am_V} (H : (am_ty h r2 = 5) ∧ (am_ev am_prog (d + 12) 10 [.inr (.inl r2)] h (am_aft (am_hand m_L_law Q (am_W m_L_law (am_ev am_prog (d + 12)) Q) 1961) (am_W m_L_law (am_ev am_prog (d + 12)) Q) 1961 [some (.inr (.inl r0)), some (.inr (.inl r1)), some (.inr (.inl r2)), some (.inr (.inl r3)), some (.inl x4), o5, o6] []))) : am_W m_L_law (am_ev am_prog (d + 12)) Q 1960 [some (.inr (.inl r0)), some (.inr (.inl r1)), some (.inr (.inl r2)), some (.inr (.inl r3)), some (.inl x4), o5, o6] [] h := by
  obtain ⟨a665, H⟩ := H
  refine r_L_law_1960 ?_
  refine ⟨a665, ?_⟩
  exact H
theorem v_L_law_1962 {d : Nat} {Q : am_K} {h : am_H} {r0 : Nat} {r1 : Nat} {r2 : Nat} {r3 : Nat} {x4 : Int} {o5 : Option am_V} {o6 : Option am_V} (H : ((-2147483648 ≤ x4 + 6 ∧ x4 + 6 ≤ 2147483647)) ∧ (am_W m_L_law (am_ev am_prog (d + 12)) Q 13 [some (.inr (.inl r0)), some (.inr (.inl r1)), some (.inr (.inl r2)), some (.inr (.inl r3)), some (.inl (x4 + 6)), o5, o6] [] h)) : am_W m_L_law (am_ev am_prog (d + 12)) Q 1962 [some (.inr (.inl r0)), some (.inr (.inl r1)), some (.inr (.inl r2)), some (.inr (.inl r3)), some (.inl x4), o5, o6] [] h := by
  refine r_L_law_1962 ?_
  obtain ⟨a666, H⟩ := H
  refine r_L_law_1987 ?_
  refine ⟨a666, ?_⟩
  exact H
theorem v_L_law_1965 {d : Nat} {Q : am_K} {h : am_H} {r0 : Nat} {r1 : Nat} {r2 : Nat} {r3 : Nat} {x4 : Int} {o5 : Option am_V} {o6 : Option am_V} {y0 : Int} (H : (am_ty h r2 = 5) ∧ (am_ev am_prog (d + 12) 11 [.inr (.inl r2)] h (am_aft (am_hand m_L_law Q (am_W m_L_law (am_ev am_prog (d + 12)) Q) 1966) (am_W m_L_law (am_ev am_prog (d + 12)) Q) 1966 [some (.inr (.inl r0)), some (.inr (.inl r1)), some (.inr (.inl r2)), some (.inr (.inl r3)), some (.inl x4), o5, o6] [.inl y0]))) : am_W m_L_law (am_ev am_prog (d + 12)) Q 1965 [some (.inr (.inl r0)), some (.inr (.inl r1)), some (.inr (.inl r2)), some (.inr (.inl r3)), some (.inl x4), o5, o6] [.inl y0] h := by
  obtain ⟨a667, H⟩ := H
  refine r_L_law_1965 ?_
  refine ⟨a667, ?_⟩
  exact H
theorem v_L_law_1967 {d : Nat} {Q : am_K} {h : am_H} {r0 : Nat} {r1 : Nat} {r2 : Nat} {r3 : Nat} {x4 : Int} {o5 : Option am_V} {o6 : Option am_V} {y1 : Int} {y0 : Int} (H : ((y0 : Int) = y1 → ((-2147483648 ≤ x4 + 6 ∧ x4 + 6 ≤ 2147483647)) ∧ (am_W m_L_law (am_ev am_prog (d + 12)) Q 13 [some (.inr (.inl r0)), some (.inr (.inl r1)), some (.inr (.inl r2)), some (.inr (.inl r3)), some (.inl (x4 + 6)), o5, o6] [] h)) ∧ ((y0 : Int) ≠ y1 → Q (.inl (some (.inl 0))) h)) : am_W m_L_law (am_ev am_prog (d + 12)) Q 1967 [some (.inr (.inl r0)), some (.inr (.inl r1)), some (.inr (.inl r2)), some (.inr (.inl r3)), some (.inl x4), o5, o6] [.inl y1, .inl y0] h := by
  refine r_L_law_1967 ?_
  refine ⟨fun c => ?_, fun c => ?_⟩
  · replace H := H.1 c
    obtain ⟨a668, H⟩ := H
    refine r_L_law_1987 ?_
    refine ⟨a668, ?_⟩
    exact H
  · replace H := H.2 c
    refine r_L_law_1968 ?_
    refine ⟨(by decide), ?_⟩
    exact H
theorem v_L_law_1977 {d : Nat} {Q : am_K} {h : am_H} {r0 : Nat} {r1 : Nat} {r2 : Nat} {r3 : Nat} {x4 : Int} {o5 : Option am_V} {o6 : Option am_V} {y0 : Int} (H : ((-2147483648 ≤ x4 + 1 ∧ x4 + 1 ≤ 2147483647) ∧ (am_ty h r0 = 101 ∨ am_ty h r0 = 121) ∧ ((0 : Int) ≤ x4 + 1 ∧ x4 + 1 < am_ln h r0)) ∧ ((am_ty h r2 = 5) ∧ (am_ev am_prog (d + 12) 40 [.inr (.inl r2), .inl (am_ai h r0 (x4 + 1))] h (am_aft (am_hand m_L_law Q (am_W m_L_law (am_ev am_prog (d + 12)) Q) 1983) (am_W m_L_law (am_ev am_prog (d + 12)) Q) 1983 [some (.inr (.inl r0)), some (.inr (.inl r1)), some (.inr (.inl r2)), some (.inr (.inl r3)), some (.inl x4), o5, o6] [.inl y0])))) : am_W m_L_law (am_ev am_prog (d + 12)) Q 1977 [some (.inr (.inl r0)), some (.inr (.inl r1)), some (.inr (.inl r2)), some (.inr (.inl r3)), some (.inl x4), o5, o6] [.inl y0] h := by
  obtain ⟨⟨a669, a670, a671⟩, H⟩ := H
  obtain ⟨a672, H⟩ := H
  refine r_L_law_1977 ?_
  refine ⟨a669, a670, a671, a672, ?_⟩
  exact H
theorem v_L_law_1984 {d : Nat} {Q : am_K} {h : am_H} {r0 : Nat} {r1 : Nat} {r2 : Nat} {r3 : Nat} {x4 : Int} {o5 : Option am_V} {o6 : Option am_V} {y1 : Int} {y0 : Int} (H : ((y0 : Int) = y1 → ((-2147483648 ≤ x4 + 6 ∧ x4 + 6 ≤ 2147483647)) ∧ (am_W m_L_law (am_ev am_prog (d + 12)) Q 13 [some (.inr (.inl r0)), some (.inr (.inl r1)), some (.inr (.inl r2)), some (.inr (.inl r3)), some (.inl (x4 + 6)), o5, o6] [] h)) ∧ ((y0 : Int) ≠ y1 → Q (.inl (some (.inl 0))) h)) : am_W m_L_law (am_ev am_prog (d + 12)) Q 1984 [some (.inr (.inl r0)), some (.inr (.inl r1)), some (.inr (.inl r2)), some (.inr (.inl r3)), some (.inl x4), o5, o6] [.inl y1, .inl y0] h := by
  refine r_L_law_1984 ?_
  refine ⟨fun c => ?_, fun c => ?_⟩
  · replace H := H.1 c
    obtain ⟨a673, H⟩ := H
    refine r_L_law_1987 ?_
    refine ⟨a673, ?_⟩
    exact H
  · replace H := H.2 c
    refine r_L_law_1985 ?_
    refine ⟨(by decide), ?_⟩
    exact H
