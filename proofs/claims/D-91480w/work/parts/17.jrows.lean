set_option maxRecDepth 100000
theorem v_J6_iterator_0 {d : Nat} {Q : am_K} {h : am_H} {r0 : Nat} (H : (r0 ≤ am_sz h ∧ am_ty h r0 = 31) ∧ (Q (.inl (some (.inr (.inl (am_sz h + 1))))) (am_sfi (am_sfi (am_sfr (am_new h 38 4) 199 (am_sz h + 1) r0) 197 (am_sz h + 1) (-1)) 198 (am_sz h + 1) (am_fi h 193 r0)))) : am_W m_J6_iterator (am_ev am_prog (d + 5)) Q 0 [some (.inr (.inl r0))] [] h := by
  refine r_J6_iterator_0 ?_
  refine r_J6_iterator_1 ?_
  simp only [x_tyn0 (h := h) (q := am_sz h + 1) rfl, true_or, or_true, Nat.reduceEqDiff, true_and]
  refine am_en p_J23_init rfl rfl ?_
  refine r_J23_init_0 ?_
  simp only [x_tyn0 (h := h) (q := am_sz h + 1) rfl, true_or, or_true, Nat.reduceEqDiff, true_and]
  refine r_J23_init_3 ?_
  simp only [x_ty_sfr, x_tyn0 (h := h) (q := am_sz h + 1) rfl, true_or, or_true, Nat.reduceEqDiff, true_and]
  obtain ⟨⟨a1, a2⟩, H⟩ := H
  refine r_J23_init_8 ?_
  simp only [x_ty_sfi, x_ty_sfr, x_tyn0 (h := h) (q := am_sz h + 1) rfl, true_or, or_true, Nat.reduceEqDiff, x_fr_sfi, x_fre, x_tyn (h := h) (q := r0) (show r0 ≤ am_sz h by omega), x_fif (by decide : (193 : Nat) ≠ 197), x_fi_sfr, x_fin (h := h) (q := r0) (show r0 ≤ am_sz h by omega), true_and]
  refine ⟨a2, ?_⟩
  refine r_J23_init_13 ?_
  refine am_an ?_
  refine r_J6_iterator_4 ?_
  exact H
theorem v_J23_hasNext_0 {d : Nat} {Q : am_K} {h : am_H} {r0 : Nat} (H : (am_ty h r0 = 38 ∧ am_ty h (am_fr h 199 r0) = 31) ∧ (((am_fi h 196 r0 : Int) = am_fi h 195 (am_fr h 199 r0) → Q (.inl (some (.inl 0))) h) ∧ ((am_fi h 196 r0 : Int) ≠ am_fi h 195 (am_fr h 199 r0) → Q (.inl (some (.inl 1))) h))) : am_W m_J23_hasNext (am_ev am_prog (d + 5)) Q 0 [some (.inr (.inl r0))] [] h := by
  obtain ⟨⟨a3, a4⟩, H⟩ := H
  refine r_J23_hasNext_0 ?_
  refine ⟨a3, a3, a4, ⟨fun c => ?_, fun c => ?_⟩⟩
  · replace H := H.1 c
    refine r_J23_hasNext_8 ?_
    refine r_J23_hasNext_9 ?_
    refine ⟨(by decide), ?_⟩
    exact H
  · replace H := H.2 c
    refine r_J23_hasNext_6 ?_
    refine r_J23_hasNext_9 ?_
    refine ⟨(by decide), ?_⟩
    exact H
theorem v_J23_next_0 {d : Nat} {Q : am_K} {h : am_H} {r0 : Nat} {o1 : Option am_V} {o2 : Option am_V} (H : (am_ty h r0 = 38) ∧ ((am_ty h (am_fr h 199 r0) = 31) ∧ (((am_fi h 193 (am_fr h 199 r0) : Int) = am_fi h 198 r0 → ((am_fi h 196 r0 : Int) < am_fi h 195 (am_fr h 199 r0) → ((am_ty h (am_fr h 194 (am_fr h 199 r0)) = 114 ∨ am_ty h (am_fr h 194 (am_fr h 199 r0)) = 134)) ∧ (((am_fi h 196 r0 : Int) < am_ln h (am_fr h 194 (am_fr h 199 r0)) → ((-2147483648 ≤ (am_fi h 196 r0) + 1 ∧ (am_fi h 196 r0) + 1 ≤ 2147483647)) ∧ ((((0 : Int) ≤ am_fi h 196 r0 ∧ am_fi h 196 r0 < am_ln h (am_fr h 194 (am_fr h 199 r0)))) ∧ (Q (.inl (some (.inr (.inl (am_ar h (am_fr h 194 (am_fr h 199 r0)) (am_fi h 196 r0)))))) (am_sfi (am_sfi h 196 r0 ((am_fi h 196 r0) + 1)) 197 r0 (am_fi h 196 r0))))) ∧ (am_ln h (am_fr h 194 (am_fr h 199 r0)) ≤ (am_fi h 196 r0 : Int) → False))) ∧ (am_fi h 195 (am_fr h 199 r0) ≤ (am_fi h 196 r0 : Int) → False)) ∧ ((am_fi h 193 (am_fr h 199 r0) : Int) ≠ am_fi h 198 r0 → False)))) : am_W m_J23_next (am_ev am_prog (d + 5)) Q 0 [some (.inr (.inl r0)), o1, o2] [] h := by
  obtain ⟨a5, H⟩ := H
  refine r_J23_next_0 ?_
  refine ⟨a5, ?_⟩
  refine am_en p_J23_checkForComodification rfl rfl ?_
  obtain ⟨a6, H⟩ := H
  refine r_J23_checkForComodification_0 ?_
  refine ⟨a5, a6, a5, ⟨fun c => ?_, fun c => ?_⟩⟩
  · replace H := H.1 c
    refine r_J23_checkForComodification_10 ?_
    refine am_an ?_
    refine r_J23_next_2 ?_
    refine ⟨a5, a5, a6, ⟨fun c => ?_, fun c => ?_⟩⟩
    · replace H := H.1 c
      obtain ⟨a7, H⟩ := H
      refine r_J23_next_14 ?_
      refine ⟨a5, a6, a7, ⟨fun c => ?_, fun c => ?_⟩⟩
      · replace H := H.1 c
        obtain ⟨a8, H⟩ := H
        refine r_J23_next_26 ?_
        refine ⟨a8, a5, ?_⟩
        refine r_J23_next_31 ?_
        simp only [x_ty_sfi, true_and]
        refine ⟨a5, ?_⟩
        obtain ⟨a9, H⟩ := H
        refine r_J23_next_36 ?_
        simp only [x_ty_sfi, x_ln_sfi, x_ar_sfi, true_and]
        refine ⟨a7, a9, ?_⟩
        exact H
      · replace H := H.2 c
        exact H.elim
    · replace H := H.2 c
      exact H.elim
  · replace H := H.2 c
    exact H.elim
theorem v_J6_size_0 {d : Nat} {Q : am_K} {h : am_H} {r0 : Nat} (H : (am_ty h r0 = 31) ∧ (Q (.inl (some (.inl (am_fi h 195 r0)))) h)) : am_W m_J6_size (am_ev am_prog (d + 5)) Q 0 [some (.inr (.inl r0))] [] h := by
  obtain ⟨a10, H⟩ := H
  refine r_J6_size_0 ?_
  refine ⟨a10, ?_⟩
  exact H
theorem v_J15_max_0 {d : Nat} {Q : am_K} {h : am_H} {x0 : Int} {x1 : Int} (H : ((x0 : Int) < x1 → Q (.inl (some (.inl x1))) h) ∧ (x1 ≤ (x0 : Int) → Q (.inl (some (.inl x0))) h)) : am_W m_J15_max (am_ev am_prog (d + 5)) Q 0 [some (.inl x0), some (.inl x1)] [] h := by
  refine r_J15_max_0 ?_
  refine ⟨fun c => ?_, fun c => ?_⟩
  · replace H := H.1 c
    refine r_J15_max_5 ?_
    refine r_J15_max_6 ?_
    exact H
  · replace H := H.2 c
    refine r_J15_max_3 ?_
    refine r_J15_max_6 ?_
    exact H
theorem v_J1_init_0 {d : Nat} {Q : am_K} {h : am_H} {r0 : Nat} (H : (am_ty h r0 = 29) ∧ ((r0 ≤ am_sz h) ∧ (Q (.inl none) (am_sfi (am_sfr (am_new h 102 16) 185 r0 (am_sz h + 1)) 186 r0 0)))) : am_W m_J1_init (am_ev am_prog (d + 5)) Q 0 [some (.inr (.inl r0))] [] h := by
  obtain ⟨a11, H⟩ := H
  refine r_J1_init_0 ?_
  refine ⟨a11, ?_⟩
  refine am_en p_J0_init rfl rfl ?_
  refine r_J0_init_0 ?_
  refine ⟨a11, ⟨fun c => absurd c (by decide), fun c => ?_⟩⟩
  refine r_J0_init_4 ?_
  simp only [Int.reduceToNat, true_and]
  refine ⟨(by decide), ?_⟩
  obtain ⟨a12, H⟩ := H
  refine r_J0_init_7 ?_
  simp only [x_tyn (h := h) (q := r0) (show r0 ≤ am_sz h by omega), true_and]
  refine ⟨a11, ?_⟩
  refine r_J0_init_8 ?_
  simp only [x_ty_sfr, x_tyn (h := h) (q := r0) (show r0 ≤ am_sz h by omega), true_and]
  refine ⟨a11, (by decide), ?_⟩
  refine r_J0_init_11 ?_
  refine r_J0_init_19 ?_
  refine am_an ?_
  refine r_J1_init_3 ?_
  exact H
theorem v_J6_init_0 {d : Nat} {Q : am_K} {h : am_H} {r0 : Nat} (H : (am_ty h r0 = 31) ∧ (Q (.inl none) (am_sfr (am_sfi h 193 r0 0) 194 r0 (am_cs h 0)))) : am_W m_J6_init (am_ev am_prog (d + 5)) Q 0 [some (.inr (.inl r0))] [] h := by
  obtain ⟨a13, H⟩ := H
  refine r_J6_init_0 ?_
  refine ⟨a13, ?_⟩
  refine am_en p_J5_init rfl rfl ?_
  refine r_J5_init_0 ?_
  refine ⟨a13, ?_⟩
  refine am_en p_J4_init rfl rfl ?_
  refine r_J4_init_0 ?_
  refine ⟨a13, ?_⟩
  refine am_an ?_
  refine r_J5_init_2 ?_
  refine ⟨a13, ?_⟩
  refine r_J5_init_5 ?_
  refine am_an ?_
  refine r_J6_init_2 ?_
  simp only [x_cs_sfi, x_ty_sfi, true_and]
  refine ⟨a13, ?_⟩
  refine r_J6_init_5 ?_
  exact H
theorem v_J6_addAll_0 {d : Nat} {Q : am_K} {h : am_H} {r0 : Nat} {r1 : Nat} {o2 : Option am_V} {o3 : Option am_V} {o4 : Option am_V} {o5 : Option am_V} (H : (am_ty h r1 = 31) ∧ (((am_ty h (am_fr h 194 r1) = 114 ∨ am_ty h (am_fr h 194 r1) = 134)) ∧ ((((0 : Int) ≤ am_fi h 195 r1 ∧ am_fi h 195 r1 ≤ 1000000)) ∧ ((am_fr h 194 r1 ≤ am_sz h) ∧ ((am_fi h 195 r1 < (am_ln h (am_fr h 194 r1) : Int) → (((0 : Int) ≤ am_fi h 195 r1 ∧ (0 : Int) ≤ 0 ∧ (0 : Int) ≤ 0 ∧ (0 : Int) + (am_fi h 195 r1) ≤ am_ln h (am_fr h 194 r1) ∧ (0 : Int) + (am_fi h 195 r1) ≤ ((Int.toNat (am_fi h 195 r1) : Nat) : Int))) ∧ ((r0 ≤ am_sz h ∧ am_ty h r0 = 31 ∧ (-2147483648 ≤ (am_fi h 193 r0) + 1 ∧ (am_fi h 193 r0) + 1 ≤ 2147483647)) ∧ (((((Int.toNat (am_fi h 195 r1) : Nat) : Int) : Int) ≠ 0 → (am_fr h 194 r0 ≤ am_sz h ∧ (am_ty h (am_fr h 194 r0) = 114 ∨ am_ty h (am_fr h 194 r0) = 134) ∧ (-2147483648 ≤ (am_ln h (am_fr h 194 r0)) - (am_fi h 195 r0) ∧ (am_ln h (am_fr h 194 r0)) - (am_fi h 195 r0) ≤ 2147483647)) ∧ (((((Int.toNat (am_fi h 195 r1) : Nat) : Int) : Int) ≤ (am_ln h (am_fr h 194 r0)) - (am_fi h 195 r0) → (am_ty h (am_fr h 194 r0) = 114 ∧ ((0 : Int) ≤ ((Int.toNat (am_fi h 195 r1) : Nat) : Int) ∧ (0 : Int) ≤ 0 ∧ (0 : Int) ≤ am_fi h 195 r0 ∧ (0 : Int) + ((Int.toNat (am_fi h 195 r1) : Nat) : Int) ≤ ((Int.toNat (am_fi h 195 r1) : Nat) : Int) ∧ ((am_fi h 195 r0) : Int) + ((Int.toNat (am_fi h 195 r1) : Nat) : Int) ≤ am_ln h (am_fr h 194 r0))) ∧ (((-2147483648 ≤ (am_fi h 195 r0) + ((Int.toNat (am_fi h 195 r1) : Nat) : Int) ∧ (am_fi h 195 r0) + ((Int.toNat (am_fi h 195 r1) : Nat) : Int) ≤ 2147483647)) ∧ (Q (.inl (some (.inl 1))) (am_sfi (am_war (am_sfi (am_war (am_new h 114 (Int.toNat (am_fi h 195 r1))) (am_sz h + 1) (am_cpy (am_ar h (am_fr h 194 r1)) (fun _ => 0) 0 0 (am_fi h 195 r1))) 193 r0 ((am_fi h 193 r0) + 1)) (am_fr h 194 r0) (am_cpy (am_cpy (am_ar h (am_fr h 194 r1)) (fun _ => 0) 0 0 (am_fi h 195 r1)) (am_ar h (am_fr h 194 r0)) 0 (am_fi h 195 r0) ((Int.toNat (am_fi h 195 r1) : Nat) : Int))) 195 r0 ((am_fi h 195 r0) + ((Int.toNat (am_fi h 195 r1) : Nat) : Int)))))) ∧ ((am_ln h (am_fr h 194 r0)) - (am_fi h 195 r0) < (((Int.toNat (am_fi h 195 r1) : Nat) : Int) : Int) → ((-2147483648 ≤ (am_fi h 195 r0) + ((Int.toNat (am_fi h 195 r1) : Nat) : Int) ∧ (am_fi h 195 r0) + ((Int.toNat (am_fi h 195 r1) : Nat) : Int) ≤ 2147483647)) ∧ (am_ev am_prog (d + 5) 291 [.inr (.inl r0), .inl ((am_fi h 195 r0) + ((Int.toNat (am_fi h 195 r1) : Nat) : Int))] (am_sfi (am_war (am_new h 114 (Int.toNat (am_fi h 195 r1))) (am_sz h + 1) (am_cpy (am_ar h (am_fr h 194 r1)) (fun _ => 0) 0 0 (am_fi h 195 r1))) 193 r0 ((am_fi h 193 r0) + 1)) (am_aft (am_hand m_J6_addAll Q (am_W m_J6_addAll (am_ev am_prog (d + 5)) Q) 32) (am_W m_J6_addAll (am_ev am_prog (d + 5)) Q) 32 [some (.inr (.inl r0)), some (.inr (.inl r1)), some (.inr (.inl (am_sz h + 1))), some (.inl ((Int.toNat (am_fi h 195 r1) : Nat) : Int)), some (.inr (.inl (am_fr h 194 r0))), some (.inl (am_fi h 195 r0))] []))))) ∧ ((((Int.toNat (am_fi h 195 r1) : Nat) : Int) : Int) = 0 → Q (.inl (some (.inl 0))) (am_sfi (am_war (am_new h 114 (Int.toNat (am_fi h 195 r1))) (am_sz h + 1) (am_cpy (am_ar h (am_fr h 194 r1)) (fun _ => 0) 0 0 (am_fi h 195 r1))) 193 r0 ((am_fi h 193 r0) + 1)))))) ∧ ((am_ln h (am_fr h 194 r1) : Int) ≤ am_fi h 195 r1 → (((0 : Int) ≤ am_ln h (am_fr h 194 r1) ∧ (0 : Int) ≤ 0 ∧ (0 : Int) ≤ 0 ∧ (0 : Int) + (am_ln h (am_fr h 194 r1)) ≤ am_ln h (am_fr h 194 r1) ∧ (0 : Int) + (am_ln h (am_fr h 194 r1)) ≤ ((Int.toNat (am_fi h 195 r1) : Nat) : Int))) ∧ ((r0 ≤ am_sz h ∧ am_ty h r0 = 31 ∧ (-2147483648 ≤ (am_fi h 193 r0) + 1 ∧ (am_fi h 193 r0) + 1 ≤ 2147483647)) ∧ (((((Int.toNat (am_fi h 195 r1) : Nat) : Int) : Int) ≠ 0 → (am_fr h 194 r0 ≤ am_sz h ∧ (am_ty h (am_fr h 194 r0) = 114 ∨ am_ty h (am_fr h 194 r0) = 134) ∧ (-2147483648 ≤ (am_ln h (am_fr h 194 r0)) - (am_fi h 195 r0) ∧ (am_ln h (am_fr h 194 r0)) - (am_fi h 195 r0) ≤ 2147483647)) ∧ (((((Int.toNat (am_fi h 195 r1) : Nat) : Int) : Int) ≤ (am_ln h (am_fr h 194 r0)) - (am_fi h 195 r0) → (am_ty h (am_fr h 194 r0) = 114 ∧ ((0 : Int) ≤ ((Int.toNat (am_fi h 195 r1) : Nat) : Int) ∧ (0 : Int) ≤ 0 ∧ (0 : Int) ≤ am_fi h 195 r0 ∧ (0 : Int) + ((Int.toNat (am_fi h 195 r1) : Nat) : Int) ≤ ((Int.toNat (am_fi h 195 r1) : Nat) : Int) ∧ ((am_fi h 195 r0) : Int) + ((Int.toNat (am_fi h 195 r1) : Nat) : Int) ≤ am_ln h (am_fr h 194 r0))) ∧ (((-2147483648 ≤ (am_fi h 195 r0) + ((Int.toNat (am_fi h 195 r1) : Nat) : Int) ∧ (am_fi h 195 r0) + ((Int.toNat (am_fi h 195 r1) : Nat) : Int) ≤ 2147483647)) ∧ (Q (.inl (some (.inl 1))) (am_sfi (am_war (am_sfi (am_war (am_new h 114 (Int.toNat (am_fi h 195 r1))) (am_sz h + 1) (am_cpy (am_ar h (am_fr h 194 r1)) (fun _ => 0) 0 0 (am_ln h (am_fr h 194 r1)))) 193 r0 ((am_fi h 193 r0) + 1)) (am_fr h 194 r0) (am_cpy (am_cpy (am_ar h (am_fr h 194 r1)) (fun _ => 0) 0 0 (am_ln h (am_fr h 194 r1))) (am_ar h (am_fr h 194 r0)) 0 (am_fi h 195 r0) ((Int.toNat (am_fi h 195 r1) : Nat) : Int))) 195 r0 ((am_fi h 195 r0) + ((Int.toNat (am_fi h 195 r1) : Nat) : Int)))))) ∧ ((am_ln h (am_fr h 194 r0)) - (am_fi h 195 r0) < (((Int.toNat (am_fi h 195 r1) : Nat) : Int) : Int) → ((-2147483648 ≤ (am_fi h 195 r0) + ((Int.toNat (am_fi h 195 r1) : Nat) : Int) ∧ (am_fi h 195 r0) + ((Int.toNat (am_fi h 195 r1) : Nat) : Int) ≤ 2147483647)) ∧ (am_ev am_prog (d + 5) 291 [.inr (.inl r0), .inl ((am_fi h 195 r0) + ((Int.toNat (am_fi h 195 r1) : Nat) : Int))] (am_sfi (am_war (am_new h 114 (Int.toNat (am_fi h 195 r1))) (am_sz h + 1) (am_cpy (am_ar h (am_fr h 194 r1)) (fun _ => 0) 0 0 (am_ln h (am_fr h 194 r1)))) 193 r0 ((am_fi h 193 r0) + 1)) (am_aft (am_hand m_J6_addAll Q (am_W m_J6_addAll (am_ev am_prog (d + 5)) Q) 32) (am_W m_J6_addAll (am_ev am_prog (d + 5)) Q) 32 [some (.inr (.inl r0)), some (.inr (.inl r1)), some (.inr (.inl (am_sz h + 1))), some (.inl ((Int.toNat (am_fi h 195 r1) : Nat) : Int)), some (.inr (.inl (am_fr h 194 r0))), some (.inl (am_fi h 195 r0))] []))))) ∧ ((((Int.toNat (am_fi h 195 r1) : Nat) : Int) : Int) = 0 → Q (.inl (some (.inl 0))) (am_sfi (am_war (am_new h 114 (Int.toNat (am_fi h 195 r1))) (am_sz h + 1) (am_cpy (am_ar h (am_fr h 194 r1)) (fun _ => 0) 0 0 (am_ln h (am_fr h 194 r1)))) 193 r0 ((am_fi h 193 r0) + 1))))))))))) : am_W m_J6_addAll (am_ev am_prog (d + 5)) Q 0 [some (.inr (.inl r0)), some (.inr (.inl r1)), o2, o3, o4, o5] [] h := by
  obtain ⟨a14, H⟩ := H
  refine r_J6_addAll_0 ?_
  refine ⟨a14, ?_⟩
  refine am_en p_J6_toArray rfl rfl ?_
  refine r_J6_toArray_0 ?_
  refine ⟨a14, a14, ?_⟩
  refine am_en p_J16_copyOf rfl rfl ?_
  obtain ⟨a15, H⟩ := H
  refine r_J16_copyOf_0 ?_
  refine ⟨a15, ?_⟩
  refine am_en p_J16_copyOf_2 rfl rfl ?_
  refine r_J16_copyOf_2_0 ?_
  refine ⟨fun c => absurd rfl c, fun c => ?_⟩
  obtain ⟨a16, H⟩ := H
  refine r_J16_copyOf_2_3 ?_
  refine ⟨a16, ?_⟩
  refine r_J16_copyOf_2_5 ?_
  obtain ⟨a17, H⟩ := H
  refine r_J16_copyOf_2_11 ?_
  simp only [x_tyn (h := h) (q := am_fr h 194 r1) (show am_fr h 194 r1 ≤ am_sz h by omega), x_lnn (h := h) (q := am_fr h 194 r1) (show am_fr h 194 r1 ≤ am_sz h by omega), true_and]
  refine ⟨a15, ?_⟩
  refine am_en p_J15_min rfl rfl ?_
  refine r_J15_min_0 ?_
  refine ⟨fun c => ?_, fun c => ?_⟩
  · replace H := H.1 c
    refine r_J15_min_5 ?_
    refine r_J15_min_6 ?_
    refine am_av ?_
    obtain ⟨a18, H⟩ := H
    refine r_J16_copyOf_2_20 ?_
    simp only [x_tyn (h := h) (q := am_fr h 194 r1) (show am_fr h 194 r1 ≤ am_sz h by omega), x_tyn0 (h := h) (q := am_sz h + 1) rfl, true_or, or_true, Nat.reduceEqDiff, x_lnn (h := h) (q := am_fr h 194 r1) (show am_fr h 194 r1 ≤ am_sz h by omega), x_lnn0 (h := h) (q := am_sz h + 1) rfl, x_arn (h := h) (q := am_fr h 194 r1) (show am_fr h 194 r1 ≤ am_sz h by omega), x_arn0 (h := h) (q := am_sz h + 1) rfl, true_and]
    refine ⟨a15, a18, ?_⟩
    refine r_J16_copyOf_2_21 ?_
    refine am_av ?_
    refine r_J16_copyOf_5 ?_
    refine am_av ?_
    refine r_J6_toArray_5 ?_
    refine am_av ?_
    obtain ⟨⟨a19, a20, a21⟩, H⟩ := H
    refine r_J6_addAll_2 ?_
    simp only [x_ty_war, x_tyn (h := h) (q := r0) (show r0 ≤ am_sz h by omega), x_fi_war, x_fin (h := h) (q := r0) (show r0 ≤ am_sz h by omega), true_and]
    refine ⟨a20, a21, a20, ?_⟩
    refine r_J6_addAll_9 ?_
    simp only [x_ty_sfi, x_ty_war, x_tyn0 (h := h) (q := am_sz h + 1) rfl, true_or, or_true, Nat.reduceEqDiff, x_ln_sfi, x_ln_war, x_lnn0 (h := h) (q := am_sz h + 1) rfl, true_and]
    refine ⟨fun c => ?_, fun c => ?_⟩
    · replace H := H.1 c
      obtain ⟨⟨a22, a23, a24⟩, H⟩ := H
      refine r_J6_addAll_16 ?_
      simp only [x_ty_sfi, x_ty_war, x_tyn (h := h) (q := r0) (show r0 ≤ am_sz h by omega), x_fr_sfi, x_fr_war, x_frn (h := h) (q := r0) (show r0 ≤ am_sz h by omega), x_tyn (h := h) (q := am_fr h 194 r0) (show am_fr h 194 r0 ≤ am_sz h by omega), x_ln_sfi, x_ln_war, x_lnn (h := h) (q := am_fr h 194 r0) (show am_fr h 194 r0 ≤ am_sz h by omega), x_fif (by decide : (195 : Nat) ≠ 193), x_fi_war, x_fin (h := h) (q := r0) (show r0 ≤ am_sz h by omega), true_and]
      refine ⟨a20, a23, a20, a24, ⟨fun c => ?_, fun c => ?_⟩⟩
      · replace H := H.1 c
        obtain ⟨⟨a25, a26⟩, H⟩ := H
        refine r_J6_addAll_34 ?_
        simp only [x_ty_sfi, x_ty_war, x_tyn0 (h := h) (q := am_sz h + 1) rfl, true_or, or_true, Nat.reduceEqDiff, x_tyn (h := h) (q := am_fr h 194 r0) (show am_fr h 194 r0 ≤ am_sz h by omega), x_ln_sfi, x_ln_war, x_lnn0 (h := h) (q := am_sz h + 1) rfl, x_lnn (h := h) (q := am_fr h 194 r0) (show am_fr h 194 r0 ≤ am_sz h by omega), x_ar_sfi, x_arwe, x_arr (q := am_fr h 194 r0) (r := am_sz h + 1) (by omega), x_arn (h := h) (q := am_fr h 194 r0) (show am_fr h 194 r0 ≤ am_sz h by omega), true_and]
        refine ⟨a25, a26, ?_⟩
        obtain ⟨a27, H⟩ := H
        refine r_J6_addAll_40 ?_
        simp only [x_ty_war, x_ty_sfi, x_tyn (h := h) (q := r0) (show r0 ≤ am_sz h by omega), true_and]
        refine ⟨a27, a20, ?_⟩
        refine r_J6_addAll_45 ?_
        refine ⟨(by decide), ?_⟩
        exact H
      · replace H := H.2 c
        obtain ⟨a28, H⟩ := H
        refine r_J6_addAll_28 ?_
        simp only [x_ty_sfi, x_ty_war, x_tyn (h := h) (q := r0) (show r0 ≤ am_sz h by omega), true_and]
        refine ⟨a28, a20, ?_⟩
        exact H
    · replace H := H.2 c
      refine r_J6_addAll_14 ?_
      refine ⟨(by decide), ?_⟩
      exact H
  · replace H := H.2 c
    refine r_J15_min_3 ?_
    refine r_J15_min_6 ?_
    refine am_av ?_
    obtain ⟨a29, H⟩ := H
    refine r_J16_copyOf_2_20 ?_
    simp only [x_tyn (h := h) (q := am_fr h 194 r1) (show am_fr h 194 r1 ≤ am_sz h by omega), x_tyn0 (h := h) (q := am_sz h + 1) rfl, true_or, or_true, Nat.reduceEqDiff, x_lnn (h := h) (q := am_fr h 194 r1) (show am_fr h 194 r1 ≤ am_sz h by omega), x_lnn0 (h := h) (q := am_sz h + 1) rfl, x_arn (h := h) (q := am_fr h 194 r1) (show am_fr h 194 r1 ≤ am_sz h by omega), x_arn0 (h := h) (q := am_sz h + 1) rfl, true_and]
    refine ⟨a15, a29, ?_⟩
    refine r_J16_copyOf_2_21 ?_
    refine am_av ?_
    refine r_J16_copyOf_5 ?_
    refine am_av ?_
    refine r_J6_toArray_5 ?_
    refine am_av ?_
    obtain ⟨⟨a30, a31, a32⟩, H⟩ := H
    refine r_J6_addAll_2 ?_
    simp only [x_ty_war, x_tyn (h := h) (q := r0) (show r0 ≤ am_sz h by omega), x_fi_war, x_fin (h := h) (q := r0) (show r0 ≤ am_sz h by omega), true_and]
    refine ⟨a31, a32, a31, ?_⟩
    refine r_J6_addAll_9 ?_
    simp only [x_ty_sfi, x_ty_war, x_tyn0 (h := h) (q := am_sz h + 1) rfl, true_or, or_true, Nat.reduceEqDiff, x_ln_sfi, x_ln_war, x_lnn0 (h := h) (q := am_sz h + 1) rfl, true_and]
    refine ⟨fun c => ?_, fun c => ?_⟩
    · replace H := H.1 c
      obtain ⟨⟨a33, a34, a35⟩, H⟩ := H
      refine r_J6_addAll_16 ?_
      simp only [x_ty_sfi, x_ty_war, x_tyn (h := h) (q := r0) (show r0 ≤ am_sz h by omega), x_fr_sfi, x_fr_war, x_frn (h := h) (q := r0) (show r0 ≤ am_sz h by omega), x_tyn (h := h) (q := am_fr h 194 r0) (show am_fr h 194 r0 ≤ am_sz h by omega), x_ln_sfi, x_ln_war, x_lnn (h := h) (q := am_fr h 194 r0) (show am_fr h 194 r0 ≤ am_sz h by omega), x_fif (by decide : (195 : Nat) ≠ 193), x_fi_war, x_fin (h := h) (q := r0) (show r0 ≤ am_sz h by omega), true_and]
      refine ⟨a31, a34, a31, a35, ⟨fun c => ?_, fun c => ?_⟩⟩
      · replace H := H.1 c
        obtain ⟨⟨a36, a37⟩, H⟩ := H
        refine r_J6_addAll_34 ?_
        simp only [x_ty_sfi, x_ty_war, x_tyn0 (h := h) (q := am_sz h + 1) rfl, true_or, or_true, Nat.reduceEqDiff, x_tyn (h := h) (q := am_fr h 194 r0) (show am_fr h 194 r0 ≤ am_sz h by omega), x_ln_sfi, x_ln_war, x_lnn0 (h := h) (q := am_sz h + 1) rfl, x_lnn (h := h) (q := am_fr h 194 r0) (show am_fr h 194 r0 ≤ am_sz h by omega), x_ar_sfi, x_arwe, x_arr (q := am_fr h 194 r0) (r := am_sz h + 1) (by omega), x_arn (h := h) (q := am_fr h 194 r0) (show am_fr h 194 r0 ≤ am_sz h by omega), true_and]
        refine ⟨a36, a37, ?_⟩
        obtain ⟨a38, H⟩ := H
        refine r_J6_addAll_40 ?_
        simp only [x_ty_war, x_ty_sfi, x_tyn (h := h) (q := r0) (show r0 ≤ am_sz h by omega), true_and]
        refine ⟨a38, a31, ?_⟩
        refine r_J6_addAll_45 ?_
        refine ⟨(by decide), ?_⟩
        exact H
      · replace H := H.2 c
        obtain ⟨a39, H⟩ := H
        refine r_J6_addAll_28 ?_
        simp only [x_ty_sfi, x_ty_war, x_tyn (h := h) (q := r0) (show r0 ≤ am_sz h by omega), true_and]
        refine ⟨a39, a31, ?_⟩
        exact H
    · replace H := H.2 c
      refine r_J6_addAll_14 ?_
      refine ⟨(by decide), ?_⟩
      exact H
theorem v_J6_addAll_33 {d : Nat} {Q : am_K} {h : am_H} {r0 : Nat} {r1 : Nat} {r2 : Nat} {x3 : Int} {r4 : Nat} {x5 : Int} {q0 : Nat} (H : ((am_ty h r2 = 114 ∨ am_ty h r2 = 134) ∧ am_ty h q0 = 114 ∧ ((0 : Int) ≤ x3 ∧ (0 : Int) ≤ 0 ∧ (0 : Int) ≤ x5 ∧ (0 : Int) + x3 ≤ am_ln h r2 ∧ (x5 : Int) + x3 ≤ am_ln h q0)) ∧ (((-2147483648 ≤ x5 + x3 ∧ x5 + x3 ≤ 2147483647) ∧ am_ty h r0 = 31) ∧ (Q (.inl (some (.inl 1))) (am_sfi (am_war h q0 (am_cpy (am_ar h r2) (am_ar h q0) 0 x5 x3)) 195 r0 (x5 + x3))))) : am_W m_J6_addAll (am_ev am_prog (d + 5)) Q 33 [some (.inr (.inl r0)), some (.inr (.inl r1)), some (.inr (.inl r2)), some (.inl x3), some (.inr (.inl r4)), some (.inl x5)] [.inr (.inl q0)] h := by
  refine r_J6_addAll_33 ?_
  obtain ⟨⟨a40, a41, a42⟩, H⟩ := H
  refine r_J6_addAll_34 ?_
  refine ⟨a40, a41, a42, ?_⟩
  obtain ⟨⟨a43, a44⟩, H⟩ := H
  refine r_J6_addAll_40 ?_
  simp only [x_ty_war, true_and]
  refine ⟨a43, a44, ?_⟩
  refine r_J6_addAll_45 ?_
  refine ⟨(by decide), ?_⟩
  exact H
theorem v_J6_add_0 {d : Nat} {Q : am_K} {h : am_H} {r0 : Nat} {r1 : Nat} (H : (am_ty h r0 = 31 ∧ (-2147483648 ≤ (am_fi h 193 r0) + 1 ∧ (am_fi h 193 r0) + 1 ≤ 2147483647)) ∧ (am_ev am_prog (d + 5) 295 [.inr (.inl r0), .inr (.inl r1), .inr (.inl (am_fr h 194 r0)), .inl (am_fi h 195 r0)] (am_sfi h 193 r0 ((am_fi h 193 r0) + 1)) (am_aft (am_hand m_J6_add Q (am_W m_J6_add (am_ev am_prog (d + 5)) Q) 12) (am_W m_J6_add (am_ev am_prog (d + 5)) Q) 12 [some (.inr (.inl r0)), some (.inr (.inl r1))] []))) : am_W m_J6_add (am_ev am_prog (d + 5)) Q 0 [some (.inr (.inl r0)), some (.inr (.inl r1))] [] h := by
  obtain ⟨⟨a45, a46⟩, H⟩ := H
  refine r_J6_add_0 ?_
  refine ⟨a45, a46, a45, ?_⟩
  refine r_J6_add_6 ?_
  simp only [x_ty_sfi, x_fr_sfi, x_fif (by decide : (195 : Nat) ≠ 193), true_and]
  refine ⟨a45, a45, a45, ?_⟩
  exact H
theorem v_J6_add_13 {d : Nat} {Q : am_K} {h : am_H} {r0 : Nat} {r1 : Nat} (H : Q (.inl (some (.inl 1))) h) : am_W m_J6_add (am_ev am_prog (d + 5)) Q 13 [some (.inr (.inl r0)), some (.inr (.inl r1))] [] h := by
  refine r_J6_add_13 ?_
  refine ⟨(by decide), ?_⟩
  exact H
theorem v_J23_init_0 {d : Nat} {Q : am_K} {h : am_H} {r0 : Nat} {r1 : Nat} (H : (am_ty h r0 = 38) ∧ ((am_ty h r1 = 31) ∧ (Q (.inl none) (am_sfi (am_sfi (am_sfr h 199 r0 r1) 197 r0 (-1)) 198 r0 (am_fi h 193 r1))))) : am_W m_J23_init (am_ev am_prog (d + 5)) Q 0 [some (.inr (.inl r0)), some (.inr (.inl r1))] [] h := by
  obtain ⟨a47, H⟩ := H
  refine r_J23_init_0 ?_
  refine ⟨a47, ?_⟩
  refine r_J23_init_3 ?_
  simp only [x_ty_sfr, true_and]
  refine ⟨a47, a47, ?_⟩
  obtain ⟨a48, H⟩ := H
  refine r_J23_init_8 ?_
  simp only [x_ty_sfi, x_ty_sfr, x_fr_sfi, x_fre, x_fif (by decide : (193 : Nat) ≠ 197), x_fi_sfr, true_and]
  refine ⟨a47, a48, a47, ?_⟩
  refine r_J23_init_13 ?_
  exact H
theorem v_J23_checkForComodification_0 {d : Nat} {Q : am_K} {h : am_H} {r0 : Nat} (H : (am_ty h r0 = 38 ∧ am_ty h (am_fr h 199 r0) = 31) ∧ (((am_fi h 193 (am_fr h 199 r0) : Int) = am_fi h 198 r0 → Q (.inl none) h) ∧ ((am_fi h 193 (am_fr h 199 r0) : Int) ≠ am_fi h 198 r0 → False))) : am_W m_J23_checkForComodification (am_ev am_prog (d + 5)) Q 0 [some (.inr (.inl r0))] [] h := by
  obtain ⟨⟨a49, a50⟩, H⟩ := H
  refine r_J23_checkForComodification_0 ?_
  refine ⟨a49, a50, a49, ⟨fun c => ?_, fun c => ?_⟩⟩
  · replace H := H.1 c
    refine r_J23_checkForComodification_10 ?_
    exact H
  · replace H := H.2 c
    exact H.elim
theorem v_J6_get_0 {d : Nat} {Q : am_K} {h : am_H} {r0 : Nat} {x1 : Int} (H : (am_ty h r0 = 31) ∧ (((x1 : Int) < 0 → False) ∧ (0 ≤ (x1 : Int) → ((x1 : Int) < am_fi h 195 r0 → ((am_ty h (am_fr h 194 r0) = 114 ∨ am_ty h (am_fr h 194 r0) = 134) ∧ ((0 : Int) ≤ x1 ∧ x1 < am_ln h (am_fr h 194 r0))) ∧ (Q (.inl (some (.inr (.inl (am_ar h (am_fr h 194 r0) x1))))) h)) ∧ (am_fi h 195 r0 ≤ (x1 : Int) → False)))) : am_W m_J6_get (am_ev am_prog (d + 5)) Q 0 [some (.inr (.inl r0)), some (.inl x1)] [] h := by
  obtain ⟨a51, H⟩ := H
  refine r_J6_get_0 ?_
  refine ⟨a51, ?_⟩
  refine am_en p_J21_checkIndex rfl rfl ?_
  refine r_J21_checkIndex_0 ?_
  refine am_en p_J17_checkIndex rfl rfl ?_
  refine r_J17_checkIndex_0 ?_
  refine ⟨fun c => ?_, fun c => ?_⟩
  · replace H := H.1 c
    exact H.elim
  · replace H := H.2 c
    refine r_J17_checkIndex_2 ?_
    refine ⟨fun c => ?_, fun c => ?_⟩
    · replace H := H.1 c
      refine r_J17_checkIndex_10 ?_
      refine am_av ?_
      refine r_J21_checkIndex_4 ?_
      refine am_av ?_
      refine r_J6_get_4 ?_
      refine ⟨a51, ?_⟩
      refine am_en p_J6_elementData rfl rfl ?_
      obtain ⟨⟨a52, a53⟩, H⟩ := H
      refine r_J6_elementData_0 ?_
      refine ⟨a51, a52, a53, ?_⟩
      refine am_av ?_
      refine r_J6_get_8 ?_
      exact H
    · replace H := H.2 c
      exact H.elim
theorem v_J2_length_0 {d : Nat} {Q : am_K} {h : am_H} {r0 : Nat} (H : ((am_ty h r0 = 30 ∨ am_ty h r0 = 90) ∧ (am_ty h (am_fr h 189 r0) = 102 ∨ am_ty h (am_fr h 189 r0) = 122)) ∧ ((((-128 : Int) ≤ am_fi h 190 r0 ∧ am_fi h 190 r0 ≤ 127)) ∧ (Q (.inl (some (.inl (am_shrz (am_ln h (am_fr h 189 r0)) (am_fi h 190 r0))))) h))) : am_W m_J2_length (am_ev am_prog (d + 5)) Q 0 [some (.inr (.inl r0))] [] h := by
  obtain ⟨⟨a54, a55⟩, H⟩ := H
  refine r_J2_length_0 ?_
  refine ⟨a54, a55, a54, ?_⟩
  refine am_en p_J2_coder rfl rfl ?_
  refine r_J2_coder_0 ?_
  refine ⟨fun c => absurd c (by decide), fun c => ?_⟩
  refine r_J2_coder_2 ?_
  refine ⟨a54, ?_⟩
  obtain ⟨a56, H⟩ := H
  refine r_J2_coder_6 ?_
  refine ⟨a56, ?_⟩
  refine am_av ?_
  refine r_J2_length_5 ?_
  exact H
theorem v_J2_charAt_0 {d : Nat} {Q : am_K} {h : am_H} {r0 : Nat} {x1 : Int} (H : ((am_ty h r0 = 30 ∨ am_ty h r0 = 90)) ∧ (((am_fi h 190 r0 : Int) ≠ 0 → False) ∧ ((am_fi h 190 r0 : Int) = 0 → ((am_ty h (am_fr h 189 r0) = 102 ∨ am_ty h (am_fr h 189 r0) = 122)) ∧ (((x1 : Int) < 0 → False) ∧ (0 ≤ (x1 : Int) → ((x1 : Int) < am_ln h (am_fr h 189 r0) → (((0 : Int) ≤ x1 ∧ x1 < am_ln h (am_fr h 189 r0)) ∧ ((0 : Int) ≤ am_i2cz (am_andz (am_ai h (am_fr h 189 r0) x1) 255) ∧ am_i2cz (am_andz (am_ai h (am_fr h 189 r0) x1) 255) ≤ 65535)) ∧ (Q (.inl (some (.inl (am_i2cz (am_andz (am_ai h (am_fr h 189 r0) x1) 255))))) h)) ∧ (am_ln h (am_fr h 189 r0) ≤ (x1 : Int) → False)))))) : am_W m_J2_charAt (am_ev am_prog (d + 5)) Q 0 [some (.inr (.inl r0)), some (.inl x1)] [] h := by
  obtain ⟨a57, H⟩ := H
  refine r_J2_charAt_0 ?_
  refine ⟨a57, ?_⟩
  refine am_en p_J2_isLatin1 rfl rfl ?_
  refine r_J2_isLatin1_0 ?_
  refine ⟨fun c => absurd c (by decide), fun c => ?_⟩
  refine r_J2_isLatin1_2 ?_
  refine ⟨a57, ⟨fun c => ?_, fun c => ?_⟩⟩
  · replace H := H.1 c
    refine r_J2_isLatin1_7 ?_
    refine r_J2_isLatin1_8 ?_
    refine ⟨(by decide), ?_⟩
    refine am_av ?_
    refine r_J2_charAt_2 ?_
    refine ⟨fun c => ?_, fun c => absurd c (by decide)⟩
    exact H.elim
  · replace H := H.2 c
    refine r_J2_isLatin1_5 ?_
    refine r_J2_isLatin1_8 ?_
    refine ⟨(by decide), ?_⟩
    refine am_av ?_
    refine r_J2_charAt_2 ?_
    refine ⟨fun c => absurd c (by decide), fun c => ?_⟩
    refine r_J2_charAt_3 ?_
    refine ⟨a57, ?_⟩
    refine am_en p_J18_charAt rfl rfl ?_
    obtain ⟨a58, H⟩ := H
    refine r_J18_charAt_0 ?_
    refine ⟨a58, ?_⟩
    refine am_en p_J2_checkIndex rfl rfl ?_
    refine r_J2_checkIndex_0 ?_
    refine am_en p_J17_checkIndex rfl rfl ?_
    refine r_J17_checkIndex_0 ?_
    refine ⟨fun c => ?_, fun c => ?_⟩
    · replace H := H.1 c
      exact H.elim
    · replace H := H.2 c
      refine r_J17_checkIndex_2 ?_
      refine ⟨fun c => ?_, fun c => ?_⟩
      · replace H := H.1 c
        refine r_J17_checkIndex_10 ?_
        refine am_av ?_
        refine r_J2_checkIndex_4 ?_
        refine am_an ?_
        obtain ⟨⟨a59, a60⟩, H⟩ := H
        refine r_J18_charAt_4 ?_
        refine ⟨a58, a59, a60, ?_⟩
        refine am_av ?_
        refine r_J2_charAt_7 ?_
        refine ⟨a60, ?_⟩
        exact H
      · replace H := H.2 c
        exact H.elim
theorem v_J6_isEmpty_0 {d : Nat} {Q : am_K} {h : am_H} {r0 : Nat} (H : (am_ty h r0 = 31) ∧ (((am_fi h 195 r0 : Int) ≠ 0 → Q (.inl (some (.inl 0))) h) ∧ ((am_fi h 195 r0 : Int) = 0 → Q (.inl (some (.inl 1))) h))) : am_W m_J6_isEmpty (am_ev am_prog (d + 5)) Q 0 [some (.inr (.inl r0))] [] h := by
  obtain ⟨a61, H⟩ := H
  refine r_J6_isEmpty_0 ?_
  refine ⟨a61, ⟨fun c => ?_, fun c => ?_⟩⟩
  · replace H := H.1 c
    refine r_J6_isEmpty_5 ?_
    refine r_J6_isEmpty_6 ?_
    refine ⟨(by decide), ?_⟩
    exact H
  · replace H := H.2 c
    refine r_J6_isEmpty_3 ?_
    refine r_J6_isEmpty_6 ?_
    refine ⟨(by decide), ?_⟩
    exact H
theorem v_J1_init_2_0 {d : Nat} {Q : am_K} {h : am_H} {r0 : Nat} {r1 : Nat} (H : (am_ty h r0 = 29) ∧ (am_ev am_prog (d + 5) 334 [.inr (.inl r0), .inr (.inl r1)] h (am_aft (am_hand m_J1_init_2 Q (am_W m_J1_init_2 (am_ev am_prog (d + 5)) Q) 2) (am_W m_J1_init_2 (am_ev am_prog (d + 5)) Q) 2 [some (.inr (.inl r0)), some (.inr (.inl r1))] []))) : am_W m_J1_init_2 (am_ev am_prog (d + 5)) Q 0 [some (.inr (.inl r0)), some (.inr (.inl r1))] [] h := by
  obtain ⟨a62, H⟩ := H
  refine r_J1_init_2_0 ?_
  refine ⟨a62, ?_⟩
  exact H
theorem v_J1_init_2_3 {d : Nat} {Q : am_K} {h : am_H} {r0 : Nat} {r1 : Nat} (H : Q (.inl none) h) : am_W m_J1_init_2 (am_ev am_prog (d + 5)) Q 3 [some (.inr (.inl r0)), some (.inr (.inl r1))] [] h := by
  refine r_J1_init_2_3 ?_
  exact H
theorem v_J1_setCharAt_0 {d : Nat} {Q : am_K} {h : am_H} {r0 : Nat} {x1 : Int} {x2 : Int} (H : (am_ty h r0 = 29) ∧ (am_ev am_prog (d + 5) 335 [.inr (.inl r0), .inl x1, .inl x2] h (am_aft (am_hand m_J1_setCharAt Q (am_W m_J1_setCharAt (am_ev am_prog (d + 5)) Q) 3) (am_W m_J1_setCharAt (am_ev am_prog (d + 5)) Q) 3 [some (.inr (.inl r0)), some (.inl x1), some (.inl x2)] []))) : am_W m_J1_setCharAt (am_ev am_prog (d + 5)) Q 0 [some (.inr (.inl r0)), some (.inl x1), some (.inl x2)] [] h := by
  obtain ⟨a63, H⟩ := H
  refine r_J1_setCharAt_0 ?_
  refine ⟨a63, ?_⟩
  exact H
theorem v_J1_setCharAt_4 {d : Nat} {Q : am_K} {h : am_H} {r0 : Nat} {x1 : Int} {x2 : Int} (H : Q (.inl none) h) : am_W m_J1_setCharAt (am_ev am_prog (d + 5)) Q 4 [some (.inr (.inl r0)), some (.inl x1), some (.inl x2)] [] h := by
  refine r_J1_setCharAt_4 ?_
  exact H
theorem v_J1_toString_0 {d : Nat} {Q : am_K} {h : am_H} {r0 : Nat} (H : am_ev am_prog (d + 5) 336 [.inr (.inl (am_sz h + 1)), .inr (.inl r0)] (am_new h 30 4) (am_aft (am_hand m_J1_toString Q (am_W m_J1_toString (am_ev am_prog (d + 5)) Q) 3) (am_W m_J1_toString (am_ev am_prog (d + 5)) Q) 3 [some (.inr (.inl r0))] [.inr (.inl (am_sz h + 1))])) : am_W m_J1_toString (am_ev am_prog (d + 5)) Q 0 [some (.inr (.inl r0))] [] h := by
  refine r_J1_toString_0 ?_
  refine r_J1_toString_1 ?_
  simp only [x_tyn0 (h := h) (q := am_sz h + 1) rfl, true_or, or_true, Nat.reduceEqDiff, true_and]
  exact H
theorem v_J1_toString_4 {d : Nat} {Q : am_K} {h : am_H} {r0 : Nat} {q0 : Nat} (H : Q (.inl (some (.inr (.inl q0)))) h) : am_W m_J1_toString (am_ev am_prog (d + 5)) Q 4 [some (.inr (.inl r0))] [.inr (.inl q0)] h := by
  refine r_J1_toString_4 ?_
  exact H
theorem v_J0_init_0 {d : Nat} {Q : am_K} {h : am_H} {r0 : Nat} {x1 : Int} (H : (am_ty h r0 = 29) ∧ ((((0 : Int) ≤ x1 ∧ x1 ≤ 1000000)) ∧ ((r0 ≤ am_sz h) ∧ (Q (.inl none) (am_sfi (am_sfr (am_new h 102 (Int.toNat x1)) 185 r0 (am_sz h + 1)) 186 r0 0))))) : am_W m_J0_init (am_ev am_prog (d + 5)) Q 0 [some (.inr (.inl r0)), some (.inl x1)] [] h := by
  obtain ⟨a64, H⟩ := H
  refine r_J0_init_0 ?_
  refine ⟨a64, ⟨fun c => absurd c (by decide), fun c => ?_⟩⟩
  obtain ⟨a65, H⟩ := H
  refine r_J0_init_4 ?_
  refine ⟨a65, ?_⟩
  obtain ⟨a66, H⟩ := H
  refine r_J0_init_7 ?_
  simp only [x_tyn (h := h) (q := r0) (show r0 ≤ am_sz h by omega), true_and]
  refine ⟨a64, ?_⟩
  refine r_J0_init_8 ?_
  simp only [x_ty_sfr, x_tyn (h := h) (q := r0) (show r0 ≤ am_sz h by omega), true_and]
  refine ⟨a64, (by decide), ?_⟩
  refine r_J0_init_11 ?_
  refine r_J0_init_19 ?_
  exact H
theorem v_J5_init_0 {d : Nat} {Q : am_K} {h : am_H} {r0 : Nat} (H : (am_ty h r0 = 31) ∧ (Q (.inl none) (am_sfi h 193 r0 0))) : am_W m_J5_init (am_ev am_prog (d + 5)) Q 0 [some (.inr (.inl r0))] [] h := by
  obtain ⟨a67, H⟩ := H
  refine r_J5_init_0 ?_
  refine ⟨a67, ?_⟩
  refine am_en p_J4_init rfl rfl ?_
  refine r_J4_init_0 ?_
  refine ⟨a67, ?_⟩
  refine am_an ?_
  refine r_J5_init_2 ?_
  refine ⟨a67, ?_⟩
  refine r_J5_init_5 ?_
  exact H
theorem v_J6_toArray_0 {d : Nat} {Q : am_K} {h : am_H} {r0 : Nat} (H : (am_ty h r0 = 31) ∧ (((am_ty h (am_fr h 194 r0) = 114 ∨ am_ty h (am_fr h 194 r0) = 134)) ∧ ((((0 : Int) ≤ am_fi h 195 r0 ∧ am_fi h 195 r0 ≤ 1000000)) ∧ ((am_fr h 194 r0 ≤ am_sz h) ∧ ((am_fi h 195 r0 < (am_ln h (am_fr h 194 r0) : Int) → (((0 : Int) ≤ am_fi h 195 r0 ∧ (0 : Int) ≤ 0 ∧ (0 : Int) ≤ 0 ∧ (0 : Int) + (am_fi h 195 r0) ≤ am_ln h (am_fr h 194 r0) ∧ (0 : Int) + (am_fi h 195 r0) ≤ ((Int.toNat (am_fi h 195 r0) : Nat) : Int))) ∧ (Q (.inl (some (.inr (.inl (am_sz h + 1))))) (am_war (am_new h 114 (Int.toNat (am_fi h 195 r0))) (am_sz h + 1) (am_cpy (am_ar h (am_fr h 194 r0)) (fun _ => 0) 0 0 (am_fi h 195 r0))))) ∧ ((am_ln h (am_fr h 194 r0) : Int) ≤ am_fi h 195 r0 → (((0 : Int) ≤ am_ln h (am_fr h 194 r0) ∧ (0 : Int) ≤ 0 ∧ (0 : Int) ≤ 0 ∧ (0 : Int) + (am_ln h (am_fr h 194 r0)) ≤ am_ln h (am_fr h 194 r0) ∧ (0 : Int) + (am_ln h (am_fr h 194 r0)) ≤ ((Int.toNat (am_fi h 195 r0) : Nat) : Int))) ∧ (Q (.inl (some (.inr (.inl (am_sz h + 1))))) (am_war (am_new h 114 (Int.toNat (am_fi h 195 r0))) (am_sz h + 1) (am_cpy (am_ar h (am_fr h 194 r0)) (fun _ => 0) 0 0 (am_ln h (am_fr h 194 r0))))))))))) : am_W m_J6_toArray (am_ev am_prog (d + 5)) Q 0 [some (.inr (.inl r0))] [] h := by
  obtain ⟨a68, H⟩ := H
  refine r_J6_toArray_0 ?_
  refine ⟨a68, a68, ?_⟩
  refine am_en p_J16_copyOf rfl rfl ?_
  obtain ⟨a69, H⟩ := H
  refine r_J16_copyOf_0 ?_
  refine ⟨a69, ?_⟩
  refine am_en p_J16_copyOf_2 rfl rfl ?_
  refine r_J16_copyOf_2_0 ?_
  refine ⟨fun c => absurd rfl c, fun c => ?_⟩
  obtain ⟨a70, H⟩ := H
  refine r_J16_copyOf_2_3 ?_
  refine ⟨a70, ?_⟩
  refine r_J16_copyOf_2_5 ?_
  obtain ⟨a71, H⟩ := H
  refine r_J16_copyOf_2_11 ?_
  simp only [x_tyn (h := h) (q := am_fr h 194 r0) (show am_fr h 194 r0 ≤ am_sz h by omega), x_lnn (h := h) (q := am_fr h 194 r0) (show am_fr h 194 r0 ≤ am_sz h by omega), true_and]
  refine ⟨a69, ?_⟩
  refine am_en p_J15_min rfl rfl ?_
  refine r_J15_min_0 ?_
  refine ⟨fun c => ?_, fun c => ?_⟩
  · replace H := H.1 c
    refine r_J15_min_5 ?_
    refine r_J15_min_6 ?_
    refine am_av ?_
    obtain ⟨a72, H⟩ := H
    refine r_J16_copyOf_2_20 ?_
    simp only [x_tyn (h := h) (q := am_fr h 194 r0) (show am_fr h 194 r0 ≤ am_sz h by omega), x_tyn0 (h := h) (q := am_sz h + 1) rfl, true_or, or_true, Nat.reduceEqDiff, x_lnn (h := h) (q := am_fr h 194 r0) (show am_fr h 194 r0 ≤ am_sz h by omega), x_lnn0 (h := h) (q := am_sz h + 1) rfl, x_arn (h := h) (q := am_fr h 194 r0) (show am_fr h 194 r0 ≤ am_sz h by omega), x_arn0 (h := h) (q := am_sz h + 1) rfl, true_and]
    refine ⟨a69, a72, ?_⟩
    refine r_J16_copyOf_2_21 ?_
    refine am_av ?_
    refine r_J16_copyOf_5 ?_
    refine am_av ?_
    refine r_J6_toArray_5 ?_
    exact H
  · replace H := H.2 c
    refine r_J15_min_3 ?_
    refine r_J15_min_6 ?_
    refine am_av ?_
    obtain ⟨a73, H⟩ := H
    refine r_J16_copyOf_2_20 ?_
    simp only [x_tyn (h := h) (q := am_fr h 194 r0) (show am_fr h 194 r0 ≤ am_sz h by omega), x_tyn0 (h := h) (q := am_sz h + 1) rfl, true_or, or_true, Nat.reduceEqDiff, x_lnn (h := h) (q := am_fr h 194 r0) (show am_fr h 194 r0 ≤ am_sz h by omega), x_lnn0 (h := h) (q := am_sz h + 1) rfl, x_arn (h := h) (q := am_fr h 194 r0) (show am_fr h 194 r0 ≤ am_sz h by omega), x_arn0 (h := h) (q := am_sz h + 1) rfl, true_and]
    refine ⟨a69, a73, ?_⟩
    refine r_J16_copyOf_2_21 ?_
    refine am_av ?_
    refine r_J16_copyOf_5 ?_
    refine am_av ?_
    refine r_J6_toArray_5 ?_
    exact H
theorem v_J6_grow_0 {d : Nat} {Q : am_K} {h : am_H} {r0 : Nat} {x1 : Int} {o2 : Option am_V} {o3 : Option am_V} (H : (am_ty h r0 = 31 ∧ (am_ty h (am_fr h 194 r0) = 114 ∨ am_ty h (am_fr h 194 r0) = 134)) ∧ ((0 < (am_ln h (am_fr h 194 r0) : Int) → ((-2147483648 ≤ x1 - (am_ln h (am_fr h 194 r0)) ∧ x1 - (am_ln h (am_fr h 194 r0)) ≤ 2147483647)) ∧ (((x1 - (am_ln h (am_fr h 194 r0)) : Int) < am_shrz (am_ln h (am_fr h 194 r0)) 1 → ((-2147483648 ≤ (am_ln h (am_fr h 194 r0)) + (am_shrz (am_ln h (am_fr h 194 r0)) 1) ∧ (am_ln h (am_fr h 194 r0)) + (am_shrz (am_ln h (am_fr h 194 r0)) 1) ≤ 2147483647)) ∧ (((am_ln h (am_fr h 194 r0)) + (am_shrz (am_ln h (am_fr h 194 r0)) 1) ≤ (0 : Int) → False) ∧ ((0 : Int) < (am_ln h (am_fr h 194 r0)) + (am_shrz (am_ln h (am_fr h 194 r0)) 1) → (2147483639 < ((am_ln h (am_fr h 194 r0)) + (am_shrz (am_ln h (am_fr h 194 r0)) 1) : Int) → False) ∧ (((am_ln h (am_fr h 194 r0)) + (am_shrz (am_ln h (am_fr h 194 r0)) 1) : Int) ≤ 2147483639 → (((0 : Int) ≤ (am_ln h (am_fr h 194 r0)) + (am_shrz (am_ln h (am_fr h 194 r0)) 1) ∧ (am_ln h (am_fr h 194 r0)) + (am_shrz (am_ln h (am_fr h 194 r0)) 1) ≤ 1000000)) ∧ ((am_fr h 194 r0 ≤ am_sz h) ∧ (((am_ln h (am_fr h 194 r0)) + (am_shrz (am_ln h (am_fr h 194 r0)) 1) < (am_ln h (am_fr h 194 r0) : Int) → (((0 : Int) ≤ (am_ln h (am_fr h 194 r0)) + (am_shrz (am_ln h (am_fr h 194 r0)) 1) ∧ (0 : Int) ≤ 0 ∧ (0 : Int) ≤ 0 ∧ (0 : Int) + ((am_ln h (am_fr h 194 r0)) + (am_shrz (am_ln h (am_fr h 194 r0)) 1)) ≤ am_ln h (am_fr h 194 r0) ∧ (0 : Int) + ((am_ln h (am_fr h 194 r0)) + (am_shrz (am_ln h (am_fr h 194 r0)) 1)) ≤ ((Int.toNat ((am_ln h (am_fr h 194 r0)) + (am_shrz (am_ln h (am_fr h 194 r0)) 1)) : Nat) : Int))) ∧ ((r0 ≤ am_sz h) ∧ (Q (.inl (some (.inr (.inl (am_sz h + 1))))) (am_sfr (am_war (am_new h 114 (Int.toNat ((am_ln h (am_fr h 194 r0)) + (am_shrz (am_ln h (am_fr h 194 r0)) 1)))) (am_sz h + 1) (am_cpy (am_ar h (am_fr h 194 r0)) (fun _ => 0) 0 0 ((am_ln h (am_fr h 194 r0)) + (am_shrz (am_ln h (am_fr h 194 r0)) 1)))) 194 r0 (am_sz h + 1))))) ∧ ((am_ln h (am_fr h 194 r0) : Int) ≤ (am_ln h (am_fr h 194 r0)) + (am_shrz (am_ln h (am_fr h 194 r0)) 1) → (((0 : Int) ≤ am_ln h (am_fr h 194 r0) ∧ (0 : Int) ≤ 0 ∧ (0 : Int) ≤ 0 ∧ (0 : Int) + (am_ln h (am_fr h 194 r0)) ≤ am_ln h (am_fr h 194 r0) ∧ (0 : Int) + (am_ln h (am_fr h 194 r0)) ≤ ((Int.toNat ((am_ln h (am_fr h 194 r0)) + (am_shrz (am_ln h (am_fr h 194 r0)) 1)) : Nat) : Int))) ∧ ((r0 ≤ am_sz h) ∧ (Q (.inl (some (.inr (.inl (am_sz h + 1))))) (am_sfr (am_war (am_new h 114 (Int.toNat ((am_ln h (am_fr h 194 r0)) + (am_shrz (am_ln h (am_fr h 194 r0)) 1)))) (am_sz h + 1) (am_cpy (am_ar h (am_fr h 194 r0)) (fun _ => 0) 0 0 (am_ln h (am_fr h 194 r0)))) 194 r0 (am_sz h + 1))))))))))) ∧ (am_shrz (am_ln h (am_fr h 194 r0)) 1 ≤ (x1 - (am_ln h (am_fr h 194 r0)) : Int) → ((-2147483648 ≤ (am_ln h (am_fr h 194 r0)) + (x1 - (am_ln h (am_fr h 194 r0))) ∧ (am_ln h (am_fr h 194 r0)) + (x1 - (am_ln h (am_fr h 194 r0))) ≤ 2147483647)) ∧ (((am_ln h (am_fr h 194 r0)) + (x1 - (am_ln h (am_fr h 194 r0))) ≤ (0 : Int) → False) ∧ ((0 : Int) < (am_ln h (am_fr h 194 r0)) + (x1 - (am_ln h (am_fr h 194 r0))) → (2147483639 < ((am_ln h (am_fr h 194 r0)) + (x1 - (am_ln h (am_fr h 194 r0))) : Int) → False) ∧ (((am_ln h (am_fr h 194 r0)) + (x1 - (am_ln h (am_fr h 194 r0))) : Int) ≤ 2147483639 → (((0 : Int) ≤ (am_ln h (am_fr h 194 r0)) + (x1 - (am_ln h (am_fr h 194 r0))) ∧ (am_ln h (am_fr h 194 r0)) + (x1 - (am_ln h (am_fr h 194 r0))) ≤ 1000000)) ∧ ((am_fr h 194 r0 ≤ am_sz h) ∧ (((am_ln h (am_fr h 194 r0)) + (x1 - (am_ln h (am_fr h 194 r0))) < (am_ln h (am_fr h 194 r0) : Int) → (((0 : Int) ≤ (am_ln h (am_fr h 194 r0)) + (x1 - (am_ln h (am_fr h 194 r0))) ∧ (0 : Int) ≤ 0 ∧ (0 : Int) ≤ 0 ∧ (0 : Int) + ((am_ln h (am_fr h 194 r0)) + (x1 - (am_ln h (am_fr h 194 r0)))) ≤ am_ln h (am_fr h 194 r0) ∧ (0 : Int) + ((am_ln h (am_fr h 194 r0)) + (x1 - (am_ln h (am_fr h 194 r0)))) ≤ ((Int.toNat ((am_ln h (am_fr h 194 r0)) + (x1 - (am_ln h (am_fr h 194 r0)))) : Nat) : Int))) ∧ ((r0 ≤ am_sz h) ∧ (Q (.inl (some (.inr (.inl (am_sz h + 1))))) (am_sfr (am_war (am_new h 114 (Int.toNat ((am_ln h (am_fr h 194 r0)) + (x1 - (am_ln h (am_fr h 194 r0)))))) (am_sz h + 1) (am_cpy (am_ar h (am_fr h 194 r0)) (fun _ => 0) 0 0 ((am_ln h (am_fr h 194 r0)) + (x1 - (am_ln h (am_fr h 194 r0)))))) 194 r0 (am_sz h + 1))))) ∧ ((am_ln h (am_fr h 194 r0) : Int) ≤ (am_ln h (am_fr h 194 r0)) + (x1 - (am_ln h (am_fr h 194 r0))) → (((0 : Int) ≤ am_ln h (am_fr h 194 r0) ∧ (0 : Int) ≤ 0 ∧ (0 : Int) ≤ 0 ∧ (0 : Int) + (am_ln h (am_fr h 194 r0)) ≤ am_ln h (am_fr h 194 r0) ∧ (0 : Int) + (am_ln h (am_fr h 194 r0)) ≤ ((Int.toNat ((am_ln h (am_fr h 194 r0)) + (x1 - (am_ln h (am_fr h 194 r0)))) : Nat) : Int))) ∧ ((r0 ≤ am_sz h) ∧ (Q (.inl (some (.inr (.inl (am_sz h + 1))))) (am_sfr (am_war (am_new h 114 (Int.toNat ((am_ln h (am_fr h 194 r0)) + (x1 - (am_ln h (am_fr h 194 r0)))))) (am_sz h + 1) (am_cpy (am_ar h (am_fr h 194 r0)) (fun _ => 0) 0 0 (am_ln h (am_fr h 194 r0)))) 194 r0 (am_sz h + 1))))))))))))) ∧ ((am_ln h (am_fr h 194 r0) : Int) ≤ 0 → ((am_fr h 194 r0) = (am_cs h 0) → ((10 : Int) < x1 → (((0 : Int) ≤ x1 ∧ x1 ≤ 1000000)) ∧ ((r0 ≤ am_sz h) ∧ (Q (.inl (some (.inr (.inl (am_sz h + 1))))) (am_sfr (am_new h 114 (Int.toNat x1)) 194 r0 (am_sz h + 1))))) ∧ (x1 ≤ (10 : Int) → (r0 ≤ am_sz h) ∧ (Q (.inl (some (.inr (.inl (am_sz h + 1))))) (am_sfr (am_new h 114 10) 194 r0 (am_sz h + 1))))) ∧ ((am_fr h 194 r0) ≠ (am_cs h 0) → ((-2147483648 ≤ x1 - (am_ln h (am_fr h 194 r0)) ∧ x1 - (am_ln h (am_fr h 194 r0)) ≤ 2147483647)) ∧ (((x1 - (am_ln h (am_fr h 194 r0)) : Int) < am_shrz (am_ln h (am_fr h 194 r0)) 1 → ((-2147483648 ≤ (am_ln h (am_fr h 194 r0)) + (am_shrz (am_ln h (am_fr h 194 r0)) 1) ∧ (am_ln h (am_fr h 194 r0)) + (am_shrz (am_ln h (am_fr h 194 r0)) 1) ≤ 2147483647)) ∧ (((am_ln h (am_fr h 194 r0)) + (am_shrz (am_ln h (am_fr h 194 r0)) 1) ≤ (0 : Int) → False) ∧ ((0 : Int) < (am_ln h (am_fr h 194 r0)) + (am_shrz (am_ln h (am_fr h 194 r0)) 1) → (2147483639 < ((am_ln h (am_fr h 194 r0)) + (am_shrz (am_ln h (am_fr h 194 r0)) 1) : Int) → False) ∧ (((am_ln h (am_fr h 194 r0)) + (am_shrz (am_ln h (am_fr h 194 r0)) 1) : Int) ≤ 2147483639 → (((0 : Int) ≤ (am_ln h (am_fr h 194 r0)) + (am_shrz (am_ln h (am_fr h 194 r0)) 1) ∧ (am_ln h (am_fr h 194 r0)) + (am_shrz (am_ln h (am_fr h 194 r0)) 1) ≤ 1000000)) ∧ ((am_fr h 194 r0 ≤ am_sz h) ∧ (((am_ln h (am_fr h 194 r0)) + (am_shrz (am_ln h (am_fr h 194 r0)) 1) < (am_ln h (am_fr h 194 r0) : Int) → (((0 : Int) ≤ (am_ln h (am_fr h 194 r0)) + (am_shrz (am_ln h (am_fr h 194 r0)) 1) ∧ (0 : Int) ≤ 0 ∧ (0 : Int) ≤ 0 ∧ (0 : Int) + ((am_ln h (am_fr h 194 r0)) + (am_shrz (am_ln h (am_fr h 194 r0)) 1)) ≤ am_ln h (am_fr h 194 r0) ∧ (0 : Int) + ((am_ln h (am_fr h 194 r0)) + (am_shrz (am_ln h (am_fr h 194 r0)) 1)) ≤ ((Int.toNat ((am_ln h (am_fr h 194 r0)) + (am_shrz (am_ln h (am_fr h 194 r0)) 1)) : Nat) : Int))) ∧ ((r0 ≤ am_sz h) ∧ (Q (.inl (some (.inr (.inl (am_sz h + 1))))) (am_sfr (am_war (am_new h 114 (Int.toNat ((am_ln h (am_fr h 194 r0)) + (am_shrz (am_ln h (am_fr h 194 r0)) 1)))) (am_sz h + 1) (am_cpy (am_ar h (am_fr h 194 r0)) (fun _ => 0) 0 0 ((am_ln h (am_fr h 194 r0)) + (am_shrz (am_ln h (am_fr h 194 r0)) 1)))) 194 r0 (am_sz h + 1))))) ∧ ((am_ln h (am_fr h 194 r0) : Int) ≤ (am_ln h (am_fr h 194 r0)) + (am_shrz (am_ln h (am_fr h 194 r0)) 1) → (((0 : Int) ≤ am_ln h (am_fr h 194 r0) ∧ (0 : Int) ≤ 0 ∧ (0 : Int) ≤ 0 ∧ (0 : Int) + (am_ln h (am_fr h 194 r0)) ≤ am_ln h (am_fr h 194 r0) ∧ (0 : Int) + (am_ln h (am_fr h 194 r0)) ≤ ((Int.toNat ((am_ln h (am_fr h 194 r0)) + (am_shrz (am_ln h (am_fr h 194 r0)) 1)) : Nat) : Int))) ∧ ((r0 ≤ am_sz h) ∧ (Q (.inl (some (.inr (.inl (am_sz h + 1))))) (am_sfr (am_war (am_new h 114 (Int.toNat ((am_ln h (am_fr h 194 r0)) + (am_shrz (am_ln h (am_fr h 194 r0)) 1)))) (am_sz h + 1) (am_cpy (am_ar h (am_fr h 194 r0)) (fun _ => 0) 0 0 (am_ln h (am_fr h 194 r0)))) 194 r0 (am_sz h + 1))))))))))) ∧ (am_shrz (am_ln h (am_fr h 194 r0)) 1 ≤ (x1 - (am_ln h (am_fr h 194 r0)) : Int) → ((-2147483648 ≤ (am_ln h (am_fr h 194 r0)) + (x1 - (am_ln h (am_fr h 194 r0))) ∧ (am_ln h (am_fr h 194 r0)) + (x1 - (am_ln h (am_fr h 194 r0))) ≤ 2147483647)) ∧ (((am_ln h (am_fr h 194 r0)) + (x1 - (am_ln h (am_fr h 194 r0))) ≤ (0 : Int) → False) ∧ ((0 : Int) < (am_ln h (am_fr h 194 r0)) + (x1 - (am_ln h (am_fr h 194 r0))) → (2147483639 < ((am_ln h (am_fr h 194 r0)) + (x1 - (am_ln h (am_fr h 194 r0))) : Int) → False) ∧ (((am_ln h (am_fr h 194 r0)) + (x1 - (am_ln h (am_fr h 194 r0))) : Int) ≤ 2147483639 → (((0 : Int) ≤ (am_ln h (am_fr h 194 r0)) + (x1 - (am_ln h (am_fr h 194 r0))) ∧ (am_ln h (am_fr h 194 r0)) + (x1 - (am_ln h (am_fr h 194 r0))) ≤ 1000000)) ∧ ((am_fr h 194 r0 ≤ am_sz h) ∧ (((am_ln h (am_fr h 194 r0)) + (x1 - (am_ln h (am_fr h 194 r0))) < (am_ln h (am_fr h 194 r0) : Int) → (((0 : Int) ≤ (am_ln h (am_fr h 194 r0)) + (x1 - (am_ln h (am_fr h 194 r0))) ∧ (0 : Int) ≤ 0 ∧ (0 : Int) ≤ 0 ∧ (0 : Int) + ((am_ln h (am_fr h 194 r0)) + (x1 - (am_ln h (am_fr h 194 r0)))) ≤ am_ln h (am_fr h 194 r0) ∧ (0 : Int) + ((am_ln h (am_fr h 194 r0)) + (x1 - (am_ln h (am_fr h 194 r0)))) ≤ ((Int.toNat ((am_ln h (am_fr h 194 r0)) + (x1 - (am_ln h (am_fr h 194 r0)))) : Nat) : Int))) ∧ ((r0 ≤ am_sz h) ∧ (Q (.inl (some (.inr (.inl (am_sz h + 1))))) (am_sfr (am_war (am_new h 114 (Int.toNat ((am_ln h (am_fr h 194 r0)) + (x1 - (am_ln h (am_fr h 194 r0)))))) (am_sz h + 1) (am_cpy (am_ar h (am_fr h 194 r0)) (fun _ => 0) 0 0 ((am_ln h (am_fr h 194 r0)) + (x1 - (am_ln h (am_fr h 194 r0)))))) 194 r0 (am_sz h + 1))))) ∧ ((am_ln h (am_fr h 194 r0) : Int) ≤ (am_ln h (am_fr h 194 r0)) + (x1 - (am_ln h (am_fr h 194 r0))) → (((0 : Int) ≤ am_ln h (am_fr h 194 r0) ∧ (0 : Int) ≤ 0 ∧ (0 : Int) ≤ 0 ∧ (0 : Int) + (am_ln h (am_fr h 194 r0)) ≤ am_ln h (am_fr h 194 r0) ∧ (0 : Int) + (am_ln h (am_fr h 194 r0)) ≤ ((Int.toNat ((am_ln h (am_fr h 194 r0)) + (x1 - (am_ln h (am_fr h 194 r0)))) : Nat) : Int))) ∧ ((r0 ≤ am_sz h) ∧ (Q (.inl (some (.inr (.inl (am_sz h + 1))))) (am_sfr (am_war (am_new h 114 (Int.toNat ((am_ln h (am_fr h 194 r0)) + (x1 - (am_ln h (am_fr h 194 r0)))))) (am_sz h + 1) (am_cpy (am_ar h (am_fr h 194 r0)) (fun _ => 0) 0 0 (am_ln h (am_fr h 194 r0)))) 194 r0 (am_sz h + 1)))))))))))))))) : am_W m_J6_grow (am_ev am_prog (d + 5)) Q 0 [some (.inr (.inl r0)), some (.inl x1), o2, o3] [] h := by
  obtain ⟨⟨a74, a75⟩, H⟩ := H
  refine r_J6_grow_0 ?_
  refine ⟨a74, a75, ⟨fun c => ?_, fun c => ?_⟩⟩
  · replace H := H.1 c
    obtain ⟨a76, H⟩ := H
    refine r_J6_grow_10 ?_
    refine ⟨a76, ?_⟩
    refine am_en p_J14_newLength rfl rfl ?_
    refine r_J14_newLength_0 ?_
    refine am_en p_J15_max rfl rfl ?_
    refine r_J15_max_0 ?_
    refine ⟨fun c => ?_, fun c => ?_⟩
    · replace H := H.1 c
      refine r_J15_max_5 ?_
      refine r_J15_max_6 ?_
      refine am_av ?_
      obtain ⟨a77, H⟩ := H
      refine r_J14_newLength_4 ?_
      refine ⟨a77, ⟨fun c => ?_, fun c => ?_⟩⟩
      · replace H := H.1 c
        exact H.elim
      · replace H := H.2 c
        refine r_J14_newLength_9 ?_
        refine ⟨fun c => ?_, fun c => ?_⟩
        · replace H := H.1 c
          exact H.elim
        · replace H := H.2 c
          refine r_J14_newLength_12 ?_
          refine am_av ?_
          refine r_J6_grow_18 ?_
          refine ⟨a74, ?_⟩
          refine am_en p_J16_copyOf rfl rfl ?_
          refine r_J16_copyOf_0 ?_
          refine ⟨a75, ?_⟩
          refine am_en p_J16_copyOf_2 rfl rfl ?_
          refine r_J16_copyOf_2_0 ?_
          refine ⟨fun c => absurd rfl c, fun c => ?_⟩
          obtain ⟨a78, H⟩ := H
          refine r_J16_copyOf_2_3 ?_
          refine ⟨a78, ?_⟩
          refine r_J16_copyOf_2_5 ?_
          obtain ⟨a79, H⟩ := H
          refine r_J16_copyOf_2_11 ?_
          simp only [x_tyn (h := h) (q := am_fr h 194 r0) (show am_fr h 194 r0 ≤ am_sz h by omega), x_lnn (h := h) (q := am_fr h 194 r0) (show am_fr h 194 r0 ≤ am_sz h by omega), true_and]
          refine ⟨a75, ?_⟩
          refine am_en p_J15_min rfl rfl ?_
          refine r_J15_min_0 ?_
          refine ⟨fun c => ?_, fun c => ?_⟩
          · replace H := H.1 c
            refine r_J15_min_5 ?_
            refine r_J15_min_6 ?_
            refine am_av ?_
            obtain ⟨a80, H⟩ := H
            refine r_J16_copyOf_2_20 ?_
            simp only [x_tyn (h := h) (q := am_fr h 194 r0) (show am_fr h 194 r0 ≤ am_sz h by omega), x_tyn0 (h := h) (q := am_sz h + 1) rfl, true_or, or_true, Nat.reduceEqDiff, x_lnn (h := h) (q := am_fr h 194 r0) (show am_fr h 194 r0 ≤ am_sz h by omega), x_lnn0 (h := h) (q := am_sz h + 1) rfl, x_arn (h := h) (q := am_fr h 194 r0) (show am_fr h 194 r0 ≤ am_sz h by omega), x_arn0 (h := h) (q := am_sz h + 1) rfl, true_and]
            refine ⟨a75, a80, ?_⟩
            refine r_J16_copyOf_2_21 ?_
            refine am_av ?_
            refine r_J16_copyOf_5 ?_
            refine am_av ?_
            obtain ⟨a81, H⟩ := H
            refine r_J6_grow_24 ?_
            simp only [x_ty_war, x_tyn (h := h) (q := r0) (show r0 ≤ am_sz h by omega), true_and]
            refine ⟨a74, ?_⟩
            refine r_J6_grow_26 ?_
            exact H
          · replace H := H.2 c
            refine r_J15_min_3 ?_
            refine r_J15_min_6 ?_
            refine am_av ?_
            obtain ⟨a82, H⟩ := H
            refine r_J16_copyOf_2_20 ?_
            simp only [x_tyn (h := h) (q := am_fr h 194 r0) (show am_fr h 194 r0 ≤ am_sz h by omega), x_tyn0 (h := h) (q := am_sz h + 1) rfl, true_or, or_true, Nat.reduceEqDiff, x_lnn (h := h) (q := am_fr h 194 r0) (show am_fr h 194 r0 ≤ am_sz h by omega), x_lnn0 (h := h) (q := am_sz h + 1) rfl, x_arn (h := h) (q := am_fr h 194 r0) (show am_fr h 194 r0 ≤ am_sz h by omega), x_arn0 (h := h) (q := am_sz h + 1) rfl, true_and]
            refine ⟨a75, a82, ?_⟩
            refine r_J16_copyOf_2_21 ?_
            refine am_av ?_
            refine r_J16_copyOf_5 ?_
            refine am_av ?_
            obtain ⟨a83, H⟩ := H
            refine r_J6_grow_24 ?_
            simp only [x_ty_war, x_tyn (h := h) (q := r0) (show r0 ≤ am_sz h by omega), true_and]
            refine ⟨a74, ?_⟩
            refine r_J6_grow_26 ?_
            exact H
    · replace H := H.2 c
      refine r_J15_max_3 ?_
      refine r_J15_max_6 ?_
      refine am_av ?_
      obtain ⟨a84, H⟩ := H
      refine r_J14_newLength_4 ?_
      refine ⟨a84, ⟨fun c => ?_, fun c => ?_⟩⟩
      · replace H := H.1 c
        exact H.elim
      · replace H := H.2 c
        refine r_J14_newLength_9 ?_
        refine ⟨fun c => ?_, fun c => ?_⟩
        · replace H := H.1 c
          exact H.elim
        · replace H := H.2 c
          refine r_J14_newLength_12 ?_
          refine am_av ?_
          refine r_J6_grow_18 ?_
          refine ⟨a74, ?_⟩
          refine am_en p_J16_copyOf rfl rfl ?_
          refine r_J16_copyOf_0 ?_
          refine ⟨a75, ?_⟩
          refine am_en p_J16_copyOf_2 rfl rfl ?_
          refine r_J16_copyOf_2_0 ?_
          refine ⟨fun c => absurd rfl c, fun c => ?_⟩
          obtain ⟨a85, H⟩ := H
          refine r_J16_copyOf_2_3 ?_
          refine ⟨a85, ?_⟩
          refine r_J16_copyOf_2_5 ?_
          obtain ⟨a86, H⟩ := H
          refine r_J16_copyOf_2_11 ?_
          simp only [x_tyn (h := h) (q := am_fr h 194 r0) (show am_fr h 194 r0 ≤ am_sz h by omega), x_lnn (h := h) (q := am_fr h 194 r0) (show am_fr h 194 r0 ≤ am_sz h by omega), true_and]
          refine ⟨a75, ?_⟩
          refine am_en p_J15_min rfl rfl ?_
          refine r_J15_min_0 ?_
          refine ⟨fun c => ?_, fun c => ?_⟩
          · replace H := H.1 c
            refine r_J15_min_5 ?_
            refine r_J15_min_6 ?_
            refine am_av ?_
            obtain ⟨a87, H⟩ := H
            refine r_J16_copyOf_2_20 ?_
            simp only [x_tyn (h := h) (q := am_fr h 194 r0) (show am_fr h 194 r0 ≤ am_sz h by omega), x_tyn0 (h := h) (q := am_sz h + 1) rfl, true_or, or_true, Nat.reduceEqDiff, x_lnn (h := h) (q := am_fr h 194 r0) (show am_fr h 194 r0 ≤ am_sz h by omega), x_lnn0 (h := h) (q := am_sz h + 1) rfl, x_arn (h := h) (q := am_fr h 194 r0) (show am_fr h 194 r0 ≤ am_sz h by omega), x_arn0 (h := h) (q := am_sz h + 1) rfl, true_and]
            refine ⟨a75, a87, ?_⟩
            refine r_J16_copyOf_2_21 ?_
            refine am_av ?_
            refine r_J16_copyOf_5 ?_
            refine am_av ?_
            obtain ⟨a88, H⟩ := H
            refine r_J6_grow_24 ?_
            simp only [x_ty_war, x_tyn (h := h) (q := r0) (show r0 ≤ am_sz h by omega), true_and]
            refine ⟨a74, ?_⟩
            refine r_J6_grow_26 ?_
            exact H
          · replace H := H.2 c
            refine r_J15_min_3 ?_
            refine r_J15_min_6 ?_
            refine am_av ?_
            obtain ⟨a89, H⟩ := H
            refine r_J16_copyOf_2_20 ?_
            simp only [x_tyn (h := h) (q := am_fr h 194 r0) (show am_fr h 194 r0 ≤ am_sz h by omega), x_tyn0 (h := h) (q := am_sz h + 1) rfl, true_or, or_true, Nat.reduceEqDiff, x_lnn (h := h) (q := am_fr h 194 r0) (show am_fr h 194 r0 ≤ am_sz h by omega), x_lnn0 (h := h) (q := am_sz h + 1) rfl, x_arn (h := h) (q := am_fr h 194 r0) (show am_fr h 194 r0 ≤ am_sz h by omega), x_arn0 (h := h) (q := am_sz h + 1) rfl, true_and]
            refine ⟨a75, a89, ?_⟩
            refine r_J16_copyOf_2_21 ?_
            refine am_av ?_
            refine r_J16_copyOf_5 ?_
            refine am_av ?_
            obtain ⟨a90, H⟩ := H
            refine r_J6_grow_24 ?_
            simp only [x_ty_war, x_tyn (h := h) (q := r0) (show r0 ≤ am_sz h by omega), true_and]
            refine ⟨a74, ?_⟩
            refine r_J6_grow_26 ?_
            exact H
  · replace H := H.2 c
    refine r_J6_grow_6 ?_
    refine ⟨a74, ⟨fun c => ?_, fun c => ?_⟩⟩
    · replace H := H.1 c
      refine r_J6_grow_27 ?_
      refine am_en p_J15_max rfl rfl ?_
      refine r_J15_max_0 ?_
      refine ⟨fun c => ?_, fun c => ?_⟩
      · replace H := H.1 c
        refine r_J15_max_5 ?_
        refine r_J15_max_6 ?_
        refine am_av ?_
        obtain ⟨a91, H⟩ := H
        refine r_J6_grow_31 ?_
        refine ⟨a91, ?_⟩
        obtain ⟨a92, H⟩ := H
        refine r_J6_grow_32 ?_
        simp only [x_tyn (h := h) (q := r0) (show r0 ≤ am_sz h by omega), true_and]
        refine ⟨a74, ?_⟩
        refine r_J6_grow_34 ?_
        exact H
      · replace H := H.2 c
        refine r_J15_max_3 ?_
        refine r_J15_max_6 ?_
        refine am_av ?_
        refine r_J6_grow_31 ?_
        simp only [Int.reduceToNat, true_and]
        refine ⟨(by decide), ?_⟩
        obtain ⟨a93, H⟩ := H
        refine r_J6_grow_32 ?_
        simp only [x_tyn (h := h) (q := r0) (show r0 ≤ am_sz h by omega), true_and]
        refine ⟨a74, ?_⟩
        refine r_J6_grow_34 ?_
        exact H
    · replace H := H.2 c
      obtain ⟨a94, H⟩ := H
      refine r_J6_grow_10 ?_
      refine ⟨a94, ?_⟩
      refine am_en p_J14_newLength rfl rfl ?_
      refine r_J14_newLength_0 ?_
      refine am_en p_J15_max rfl rfl ?_
      refine r_J15_max_0 ?_
      refine ⟨fun c => ?_, fun c => ?_⟩
      · replace H := H.1 c
        refine r_J15_max_5 ?_
        refine r_J15_max_6 ?_
        refine am_av ?_
        obtain ⟨a95, H⟩ := H
        refine r_J14_newLength_4 ?_
        refine ⟨a95, ⟨fun c => ?_, fun c => ?_⟩⟩
        · replace H := H.1 c
          exact H.elim
        · replace H := H.2 c
          refine r_J14_newLength_9 ?_
          refine ⟨fun c => ?_, fun c => ?_⟩
          · replace H := H.1 c
            exact H.elim
          · replace H := H.2 c
            refine r_J14_newLength_12 ?_
            refine am_av ?_
            refine r_J6_grow_18 ?_
            refine ⟨a74, ?_⟩
            refine am_en p_J16_copyOf rfl rfl ?_
            refine r_J16_copyOf_0 ?_
            refine ⟨a75, ?_⟩
            refine am_en p_J16_copyOf_2 rfl rfl ?_
            refine r_J16_copyOf_2_0 ?_
            refine ⟨fun c => absurd rfl c, fun c => ?_⟩
            obtain ⟨a96, H⟩ := H
            refine r_J16_copyOf_2_3 ?_
            refine ⟨a96, ?_⟩
            refine r_J16_copyOf_2_5 ?_
            obtain ⟨a97, H⟩ := H
            refine r_J16_copyOf_2_11 ?_
            simp only [x_tyn (h := h) (q := am_fr h 194 r0) (show am_fr h 194 r0 ≤ am_sz h by omega), x_lnn (h := h) (q := am_fr h 194 r0) (show am_fr h 194 r0 ≤ am_sz h by omega), true_and]
            refine ⟨a75, ?_⟩
            refine am_en p_J15_min rfl rfl ?_
            refine r_J15_min_0 ?_
            refine ⟨fun c => ?_, fun c => ?_⟩
            · replace H := H.1 c
              refine r_J15_min_5 ?_
              refine r_J15_min_6 ?_
              refine am_av ?_
              obtain ⟨a98, H⟩ := H
              refine r_J16_copyOf_2_20 ?_
              simp only [x_tyn (h := h) (q := am_fr h 194 r0) (show am_fr h 194 r0 ≤ am_sz h by omega), x_tyn0 (h := h) (q := am_sz h + 1) rfl, true_or, or_true, Nat.reduceEqDiff, x_lnn (h := h) (q := am_fr h 194 r0) (show am_fr h 194 r0 ≤ am_sz h by omega), x_lnn0 (h := h) (q := am_sz h + 1) rfl, x_arn (h := h) (q := am_fr h 194 r0) (show am_fr h 194 r0 ≤ am_sz h by omega), x_arn0 (h := h) (q := am_sz h + 1) rfl, true_and]
              refine ⟨a75, a98, ?_⟩
              refine r_J16_copyOf_2_21 ?_
              refine am_av ?_
              refine r_J16_copyOf_5 ?_
              refine am_av ?_
              obtain ⟨a99, H⟩ := H
              refine r_J6_grow_24 ?_
              simp only [x_ty_war, x_tyn (h := h) (q := r0) (show r0 ≤ am_sz h by omega), true_and]
              refine ⟨a74, ?_⟩
              refine r_J6_grow_26 ?_
              exact H
            · replace H := H.2 c
              refine r_J15_min_3 ?_
              refine r_J15_min_6 ?_
              refine am_av ?_
              obtain ⟨a100, H⟩ := H
              refine r_J16_copyOf_2_20 ?_
              simp only [x_tyn (h := h) (q := am_fr h 194 r0) (show am_fr h 194 r0 ≤ am_sz h by omega), x_tyn0 (h := h) (q := am_sz h + 1) rfl, true_or, or_true, Nat.reduceEqDiff, x_lnn (h := h) (q := am_fr h 194 r0) (show am_fr h 194 r0 ≤ am_sz h by omega), x_lnn0 (h := h) (q := am_sz h + 1) rfl, x_arn (h := h) (q := am_fr h 194 r0) (show am_fr h 194 r0 ≤ am_sz h by omega), x_arn0 (h := h) (q := am_sz h + 1) rfl, true_and]
              refine ⟨a75, a100, ?_⟩
              refine r_J16_copyOf_2_21 ?_
              refine am_av ?_
              refine r_J16_copyOf_5 ?_
              refine am_av ?_
              obtain ⟨a101, H⟩ := H
              refine r_J6_grow_24 ?_
              simp only [x_ty_war, x_tyn (h := h) (q := r0) (show r0 ≤ am_sz h by omega), true_and]
              refine ⟨a74, ?_⟩
              refine r_J6_grow_26 ?_
              exact H
      · replace H := H.2 c
        refine r_J15_max_3 ?_
        refine r_J15_max_6 ?_
        refine am_av ?_
        obtain ⟨a102, H⟩ := H
        refine r_J14_newLength_4 ?_
        refine ⟨a102, ⟨fun c => ?_, fun c => ?_⟩⟩
        · replace H := H.1 c
          exact H.elim
        · replace H := H.2 c
          refine r_J14_newLength_9 ?_
          refine ⟨fun c => ?_, fun c => ?_⟩
          · replace H := H.1 c
            exact H.elim
          · replace H := H.2 c
            refine r_J14_newLength_12 ?_
            refine am_av ?_
            refine r_J6_grow_18 ?_
            refine ⟨a74, ?_⟩
            refine am_en p_J16_copyOf rfl rfl ?_
            refine r_J16_copyOf_0 ?_
            refine ⟨a75, ?_⟩
            refine am_en p_J16_copyOf_2 rfl rfl ?_
            refine r_J16_copyOf_2_0 ?_
            refine ⟨fun c => absurd rfl c, fun c => ?_⟩
            obtain ⟨a103, H⟩ := H
            refine r_J16_copyOf_2_3 ?_
            refine ⟨a103, ?_⟩
            refine r_J16_copyOf_2_5 ?_
            obtain ⟨a104, H⟩ := H
            refine r_J16_copyOf_2_11 ?_
            simp only [x_tyn (h := h) (q := am_fr h 194 r0) (show am_fr h 194 r0 ≤ am_sz h by omega), x_lnn (h := h) (q := am_fr h 194 r0) (show am_fr h 194 r0 ≤ am_sz h by omega), true_and]
            refine ⟨a75, ?_⟩
            refine am_en p_J15_min rfl rfl ?_
            refine r_J15_min_0 ?_
            refine ⟨fun c => ?_, fun c => ?_⟩
            · replace H := H.1 c
              refine r_J15_min_5 ?_
              refine r_J15_min_6 ?_
              refine am_av ?_
              obtain ⟨a105, H⟩ := H
              refine r_J16_copyOf_2_20 ?_
              simp only [x_tyn (h := h) (q := am_fr h 194 r0) (show am_fr h 194 r0 ≤ am_sz h by omega), x_tyn0 (h := h) (q := am_sz h + 1) rfl, true_or, or_true, Nat.reduceEqDiff, x_lnn (h := h) (q := am_fr h 194 r0) (show am_fr h 194 r0 ≤ am_sz h by omega), x_lnn0 (h := h) (q := am_sz h + 1) rfl, x_arn (h := h) (q := am_fr h 194 r0) (show am_fr h 194 r0 ≤ am_sz h by omega), x_arn0 (h := h) (q := am_sz h + 1) rfl, true_and]
              refine ⟨a75, a105, ?_⟩
              refine r_J16_copyOf_2_21 ?_
              refine am_av ?_
              refine r_J16_copyOf_5 ?_
              refine am_av ?_
              obtain ⟨a106, H⟩ := H
              refine r_J6_grow_24 ?_
              simp only [x_ty_war, x_tyn (h := h) (q := r0) (show r0 ≤ am_sz h by omega), true_and]
              refine ⟨a74, ?_⟩
              refine r_J6_grow_26 ?_
              exact H
            · replace H := H.2 c
              refine r_J15_min_3 ?_
              refine r_J15_min_6 ?_
              refine am_av ?_
              obtain ⟨a107, H⟩ := H
              refine r_J16_copyOf_2_20 ?_
              simp only [x_tyn (h := h) (q := am_fr h 194 r0) (show am_fr h 194 r0 ≤ am_sz h by omega), x_tyn0 (h := h) (q := am_sz h + 1) rfl, true_or, or_true, Nat.reduceEqDiff, x_lnn (h := h) (q := am_fr h 194 r0) (show am_fr h 194 r0 ≤ am_sz h by omega), x_lnn0 (h := h) (q := am_sz h + 1) rfl, x_arn (h := h) (q := am_fr h 194 r0) (show am_fr h 194 r0 ≤ am_sz h by omega), x_arn0 (h := h) (q := am_sz h + 1) rfl, true_and]
              refine ⟨a75, a107, ?_⟩
              refine r_J16_copyOf_2_21 ?_
              refine am_av ?_
              refine r_J16_copyOf_5 ?_
              refine am_av ?_
              obtain ⟨a108, H⟩ := H
              refine r_J6_grow_24 ?_
              simp only [x_ty_war, x_tyn (h := h) (q := r0) (show r0 ≤ am_sz h by omega), true_and]
              refine ⟨a74, ?_⟩
              refine r_J6_grow_26 ?_
              exact H
theorem v_J6_add_2_0 {d : Nat} {Q : am_K} {h : am_H} {r0 : Nat} {r1 : Nat} {r2 : Nat} {x3 : Int} (H : ((am_ty h r2 = 114 ∨ am_ty h r2 = 134)) ∧ (((x3 : Int) ≠ am_ln h r2 → (am_ty h r2 = 114 ∧ (r1 = 0 ∨ am_tin [8, 11, 19, 22, 23, 24, 25, 27, 115] (am_ty h r1)) ∧ ((0 : Int) ≤ x3 ∧ x3 < am_ln h r2)) ∧ (((-2147483648 ≤ x3 + 1 ∧ x3 + 1 ≤ 2147483647) ∧ am_ty h r0 = 31) ∧ (Q (.inl none) (am_sfi (am_sar h r2 x3 r1) 195 r0 (x3 + 1))))) ∧ ((x3 : Int) = am_ln h r2 → (am_ty h r0 = 31) ∧ (am_ev am_prog (d + 5) 343 [.inr (.inl r0)] h (am_aft (am_hand m_J6_add_2 Q (am_W m_J6_add_2 (am_ev am_prog (d + 5)) Q) 5) (am_W m_J6_add_2 (am_ev am_prog (d + 5)) Q) 5 [some (.inr (.inl r0)), some (.inr (.inl r1)), some (.inr (.inl r2)), some (.inl x3)] []))))) : am_W m_J6_add_2 (am_ev am_prog (d + 5)) Q 0 [some (.inr (.inl r0)), some (.inr (.inl r1)), some (.inr (.inl r2)), some (.inl x3)] [] h := by
  obtain ⟨a109, H⟩ := H
  refine r_J6_add_2_0 ?_
  refine ⟨a109, ⟨fun c => ?_, fun c => ?_⟩⟩
  · replace H := H.1 c
    obtain ⟨⟨a110, a111, a112⟩, H⟩ := H
    refine r_J6_add_2_7 ?_
    refine ⟨⟨(114, [8, 11, 19, 22, 23, 24, 25, 27, 115]), List.Mem.head _, a110, a111⟩, a112, ?_⟩
    obtain ⟨⟨a113, a114⟩, H⟩ := H
    refine r_J6_add_2_11 ?_
    simp only [x_ty_sar, true_and]
    refine ⟨a113, a114, ?_⟩
    refine r_J6_add_2_16 ?_
    exact H
  · replace H := H.2 c
    obtain ⟨a115, H⟩ := H
    refine r_J6_add_2_4 ?_
    refine ⟨a115, ?_⟩
    exact H
theorem v_J6_add_2_6 {d : Nat} {Q : am_K} {h : am_H} {r0 : Nat} {r1 : Nat} {r2 : Nat} {x3 : Int} {q0 : Nat} (H : (am_ty h q0 = 114 ∧ (r1 = 0 ∨ am_tin [8, 11, 19, 22, 23, 24, 25, 27, 115] (am_ty h r1)) ∧ ((0 : Int) ≤ x3 ∧ x3 < am_ln h q0)) ∧ (((-2147483648 ≤ x3 + 1 ∧ x3 + 1 ≤ 2147483647) ∧ am_ty h r0 = 31) ∧ (Q (.inl none) (am_sfi (am_sar h q0 x3 r1) 195 r0 (x3 + 1))))) : am_W m_J6_add_2 (am_ev am_prog (d + 5)) Q 6 [some (.inr (.inl r0)), some (.inr (.inl r1)), some (.inr (.inl r2)), some (.inl x3)] [.inr (.inl q0)] h := by
  refine r_J6_add_2_6 ?_
  obtain ⟨⟨a116, a117, a118⟩, H⟩ := H
  refine r_J6_add_2_7 ?_
  refine ⟨⟨(114, [8, 11, 19, 22, 23, 24, 25, 27, 115]), List.Mem.head _, a116, a117⟩, a118, ?_⟩
  obtain ⟨⟨a119, a120⟩, H⟩ := H
  refine r_J6_add_2_11 ?_
  simp only [x_ty_sar, true_and]
  refine ⟨a119, a120, ?_⟩
  refine r_J6_add_2_16 ?_
  exact H
theorem v_J20_init_0 {d : Nat} {Q : am_K} {h : am_H} {r0 : Nat} (H : ((am_ty h r0 = 8 ∨ am_ty h r0 = 11 ∨ am_ty h r0 = 12 ∨ am_ty h r0 = 13 ∨ am_ty h r0 = 14 ∨ am_ty h r0 = 15 ∨ am_ty h r0 = 16 ∨ am_ty h r0 = 17 ∨ am_ty h r0 = 18 ∨ am_ty h r0 = 19 ∨ am_ty h r0 = 20 ∨ am_ty h r0 = 25 ∨ am_ty h r0 = 27)) ∧ (Q (.inl none) h)) : am_W m_J20_init (am_ev am_prog (d + 5)) Q 0 [some (.inr (.inl r0))] [] h := by
  obtain ⟨a121, H⟩ := H
  refine r_J20_init_0 ?_
  refine ⟨a121, ?_⟩
  exact H
theorem v_J2_equals_0 {d : Nat} {Q : am_K} {h : am_H} {r0 : Nat} {r1 : Nat} {o2 : Option am_V} (H : (r0 ≠ r1 → ((am_ty h r1 = 30 ∨ am_ty h r1 = 90)) ∧ (((r1 = 0 ∨ (am_ty h r1 = 30 ∨ am_ty h r1 = 90))) ∧ (((am_ty h r0 = 30 ∨ am_ty h r0 = 90)) ∧ (((am_fi h 190 r0 : Int) ≠ am_fi h 190 r1 → Q (.inl (some (.inl 0))) h) ∧ ((am_fi h 190 r0 : Int) = am_fi h 190 r1 → am_ev am_prog (d + 5) 346 [.inr (.inl (am_fr h 189 r0)), .inr (.inl (am_fr h 189 r1))] h (am_aft (am_hand m_J2_equals Q (am_W m_J2_equals (am_ev am_prog (d + 5)) Q) 22) (am_W m_J2_equals (am_ev am_prog (d + 5)) Q) 22 [some (.inr (.inl r0)), some (.inr (.inl r1)), some (.inr (.inl r1))] [])))))) ∧ (r0 = r1 → Q (.inl (some (.inl 1))) h)) : am_W m_J2_equals (am_ev am_prog (d + 5)) Q 0 [some (.inr (.inl r0)), some (.inr (.inl r1)), o2] [] h := by
  refine r_J2_equals_0 ?_
  refine ⟨fun c => ?_, fun c => ?_⟩
  · replace H := H.1 c
    obtain ⟨a122, H⟩ := H
    refine r_J2_equals_5 ?_
    refine ⟨a122, ⟨fun c => absurd c (by decide), fun c => ?_⟩⟩
    obtain ⟨a123, H⟩ := H
    refine r_J2_equals_8 ?_
    refine ⟨a123, ⟨fun c => absurd c (by decide), fun c => ?_⟩⟩
    obtain ⟨a124, H⟩ := H
    refine r_J2_equals_13 ?_
    refine ⟨a124, a122, ⟨fun c => ?_, fun c => ?_⟩⟩
    · replace H := H.1 c
      refine r_J2_equals_26 ?_
      refine r_J2_equals_27 ?_
      refine ⟨(by decide), ?_⟩
      exact H
    · replace H := H.2 c
      refine r_J2_equals_18 ?_
      refine ⟨a124, a122, ?_⟩
      exact H
  · replace H := H.2 c
    refine r_J2_equals_3 ?_
    refine ⟨(by decide), ?_⟩
    exact H
theorem v_J2_equals_23 {d : Nat} {Q : am_K} {h : am_H} {r0 : Nat} {r1 : Nat} {r2 : Nat} {y0 : Int} (H : ((y0 : Int) = 0 → Q (.inl (some (.inl 0))) h) ∧ ((y0 : Int) ≠ 0 → Q (.inl (some (.inl 1))) h)) : am_W m_J2_equals (am_ev am_prog (d + 5)) Q 23 [some (.inr (.inl r0)), some (.inr (.inl r1)), some (.inr (.inl r2))] [.inl y0] h := by
  refine r_J2_equals_23 ?_
  refine ⟨fun c => ?_, fun c => ?_⟩
  · replace H := H.1 c
    refine r_J2_equals_26 ?_
    refine r_J2_equals_27 ?_
    refine ⟨(by decide), ?_⟩
    exact H
  · replace H := H.2 c
    refine r_J2_equals_24 ?_
    refine r_J2_equals_27 ?_
    refine ⟨(by decide), ?_⟩
    exact H
theorem v_J19_bitCount_0 {d : Nat} {Q : am_K} {h : am_H} {x0 : Int} (H : ((-2147483648 ≤ x0 - (am_andz (am_ushrz x0 1) 1431655765) ∧ x0 - (am_andz (am_ushrz x0 1) 1431655765) ≤ 2147483647) ∧ (-2147483648 ≤ (am_andz (x0 - (am_andz (am_ushrz x0 1) 1431655765)) 858993459) + (am_andz (am_ushrz (x0 - (am_andz (am_ushrz x0 1) 1431655765)) 2) 858993459) ∧ (am_andz (x0 - (am_andz (am_ushrz x0 1) 1431655765)) 858993459) + (am_andz (am_ushrz (x0 - (am_andz (am_ushrz x0 1) 1431655765)) 2) 858993459) ≤ 2147483647) ∧ (-2147483648 ≤ ((am_andz (x0 - (am_andz (am_ushrz x0 1) 1431655765)) 858993459) + (am_andz (am_ushrz (x0 - (am_andz (am_ushrz x0 1) 1431655765)) 2) 858993459)) + (am_ushrz ((am_andz (x0 - (am_andz (am_ushrz x0 1) 1431655765)) 858993459) + (am_andz (am_ushrz (x0 - (am_andz (am_ushrz x0 1) 1431655765)) 2) 858993459)) 4) ∧ ((am_andz (x0 - (am_andz (am_ushrz x0 1) 1431655765)) 858993459) + (am_andz (am_ushrz (x0 - (am_andz (am_ushrz x0 1) 1431655765)) 2) 858993459)) + (am_ushrz ((am_andz (x0 - (am_andz (am_ushrz x0 1) 1431655765)) 858993459) + (am_andz (am_ushrz (x0 - (am_andz (am_ushrz x0 1) 1431655765)) 2) 858993459)) 4) ≤ 2147483647) ∧ (-2147483648 ≤ (am_andz (((am_andz (x0 - (am_andz (am_ushrz x0 1) 1431655765)) 858993459) + (am_andz (am_ushrz (x0 - (am_andz (am_ushrz x0 1) 1431655765)) 2) 858993459)) + (am_ushrz ((am_andz (x0 - (am_andz (am_ushrz x0 1) 1431655765)) 858993459) + (am_andz (am_ushrz (x0 - (am_andz (am_ushrz x0 1) 1431655765)) 2) 858993459)) 4)) 252645135) + (am_ushrz (am_andz (((am_andz (x0 - (am_andz (am_ushrz x0 1) 1431655765)) 858993459) + (am_andz (am_ushrz (x0 - (am_andz (am_ushrz x0 1) 1431655765)) 2) 858993459)) + (am_ushrz ((am_andz (x0 - (am_andz (am_ushrz x0 1) 1431655765)) 858993459) + (am_andz (am_ushrz (x0 - (am_andz (am_ushrz x0 1) 1431655765)) 2) 858993459)) 4)) 252645135) 8) ∧ (am_andz (((am_andz (x0 - (am_andz (am_ushrz x0 1) 1431655765)) 858993459) + (am_andz (am_ushrz (x0 - (am_andz (am_ushrz x0 1) 1431655765)) 2) 858993459)) + (am_ushrz ((am_andz (x0 - (am_andz (am_ushrz x0 1) 1431655765)) 858993459) + (am_andz (am_ushrz (x0 - (am_andz (am_ushrz x0 1) 1431655765)) 2) 858993459)) 4)) 252645135) + (am_ushrz (am_andz (((am_andz (x0 - (am_andz (am_ushrz x0 1) 1431655765)) 858993459) + (am_andz (am_ushrz (x0 - (am_andz (am_ushrz x0 1) 1431655765)) 2) 858993459)) + (am_ushrz ((am_andz (x0 - (am_andz (am_ushrz x0 1) 1431655765)) 858993459) + (am_andz (am_ushrz (x0 - (am_andz (am_ushrz x0 1) 1431655765)) 2) 858993459)) 4)) 252645135) 8) ≤ 2147483647) ∧ (-2147483648 ≤ ((am_andz (((am_andz (x0 - (am_andz (am_ushrz x0 1) 1431655765)) 858993459) + (am_andz (am_ushrz (x0 - (am_andz (am_ushrz x0 1) 1431655765)) 2) 858993459)) + (am_ushrz ((am_andz (x0 - (am_andz (am_ushrz x0 1) 1431655765)) 858993459) + (am_andz (am_ushrz (x0 - (am_andz (am_ushrz x0 1) 1431655765)) 2) 858993459)) 4)) 252645135) + (am_ushrz (am_andz (((am_andz (x0 - (am_andz (am_ushrz x0 1) 1431655765)) 858993459) + (am_andz (am_ushrz (x0 - (am_andz (am_ushrz x0 1) 1431655765)) 2) 858993459)) + (am_ushrz ((am_andz (x0 - (am_andz (am_ushrz x0 1) 1431655765)) 858993459) + (am_andz (am_ushrz (x0 - (am_andz (am_ushrz x0 1) 1431655765)) 2) 858993459)) 4)) 252645135) 8)) + (am_ushrz ((am_andz (((am_andz (x0 - (am_andz (am_ushrz x0 1) 1431655765)) 858993459) + (am_andz (am_ushrz (x0 - (am_andz (am_ushrz x0 1) 1431655765)) 2) 858993459)) + (am_ushrz ((am_andz (x0 - (am_andz (am_ushrz x0 1) 1431655765)) 858993459) + (am_andz (am_ushrz (x0 - (am_andz (am_ushrz x0 1) 1431655765)) 2) 858993459)) 4)) 252645135) + (am_ushrz (am_andz (((am_andz (x0 - (am_andz (am_ushrz x0 1) 1431655765)) 858993459) + (am_andz (am_ushrz (x0 - (am_andz (am_ushrz x0 1) 1431655765)) 2) 858993459)) + (am_ushrz ((am_andz (x0 - (am_andz (am_ushrz x0 1) 1431655765)) 858993459) + (am_andz (am_ushrz (x0 - (am_andz (am_ushrz x0 1) 1431655765)) 2) 858993459)) 4)) 252645135) 8)) 16) ∧ ((am_andz (((am_andz (x0 - (am_andz (am_ushrz x0 1) 1431655765)) 858993459) + (am_andz (am_ushrz (x0 - (am_andz (am_ushrz x0 1) 1431655765)) 2) 858993459)) + (am_ushrz ((am_andz (x0 - (am_andz (am_ushrz x0 1) 1431655765)) 858993459) + (am_andz (am_ushrz (x0 - (am_andz (am_ushrz x0 1) 1431655765)) 2) 858993459)) 4)) 252645135) + (am_ushrz (am_andz (((am_andz (x0 - (am_andz (am_ushrz x0 1) 1431655765)) 858993459) + (am_andz (am_ushrz (x0 - (am_andz (am_ushrz x0 1) 1431655765)) 2) 858993459)) + (am_ushrz ((am_andz (x0 - (am_andz (am_ushrz x0 1) 1431655765)) 858993459) + (am_andz (am_ushrz (x0 - (am_andz (am_ushrz x0 1) 1431655765)) 2) 858993459)) 4)) 252645135) 8)) + (am_ushrz ((am_andz (((am_andz (x0 - (am_andz (am_ushrz x0 1) 1431655765)) 858993459) + (am_andz (am_ushrz (x0 - (am_andz (am_ushrz x0 1) 1431655765)) 2) 858993459)) + (am_ushrz ((am_andz (x0 - (am_andz (am_ushrz x0 1) 1431655765)) 858993459) + (am_andz (am_ushrz (x0 - (am_andz (am_ushrz x0 1) 1431655765)) 2) 858993459)) 4)) 252645135) + (am_ushrz (am_andz (((am_andz (x0 - (am_andz (am_ushrz x0 1) 1431655765)) 858993459) + (am_andz (am_ushrz (x0 - (am_andz (am_ushrz x0 1) 1431655765)) 2) 858993459)) + (am_ushrz ((am_andz (x0 - (am_andz (am_ushrz x0 1) 1431655765)) 858993459) + (am_andz (am_ushrz (x0 - (am_andz (am_ushrz x0 1) 1431655765)) 2) 858993459)) 4)) 252645135) 8)) 16) ≤ 2147483647)) ∧ (Q (.inl (some (.inl (am_andz (((am_andz (((am_andz (x0 - (am_andz (am_ushrz x0 1) 1431655765)) 858993459) + (am_andz (am_ushrz (x0 - (am_andz (am_ushrz x0 1) 1431655765)) 2) 858993459)) + (am_ushrz ((am_andz (x0 - (am_andz (am_ushrz x0 1) 1431655765)) 858993459) + (am_andz (am_ushrz (x0 - (am_andz (am_ushrz x0 1) 1431655765)) 2) 858993459)) 4)) 252645135) + (am_ushrz (am_andz (((am_andz (x0 - (am_andz (am_ushrz x0 1) 1431655765)) 858993459) + (am_andz (am_ushrz (x0 - (am_andz (am_ushrz x0 1) 1431655765)) 2) 858993459)) + (am_ushrz ((am_andz (x0 - (am_andz (am_ushrz x0 1) 1431655765)) 858993459) + (am_andz (am_ushrz (x0 - (am_andz (am_ushrz x0 1) 1431655765)) 2) 858993459)) 4)) 252645135) 8)) + (am_ushrz ((am_andz (((am_andz (x0 - (am_andz (am_ushrz x0 1) 1431655765)) 858993459) + (am_andz (am_ushrz (x0 - (am_andz (am_ushrz x0 1) 1431655765)) 2) 858993459)) + (am_ushrz ((am_andz (x0 - (am_andz (am_ushrz x0 1) 1431655765)) 858993459) + (am_andz (am_ushrz (x0 - (am_andz (am_ushrz x0 1) 1431655765)) 2) 858993459)) 4)) 252645135) + (am_ushrz (am_andz (((am_andz (x0 - (am_andz (am_ushrz x0 1) 1431655765)) 858993459) + (am_andz (am_ushrz (x0 - (am_andz (am_ushrz x0 1) 1431655765)) 2) 858993459)) + (am_ushrz ((am_andz (x0 - (am_andz (am_ushrz x0 1) 1431655765)) 858993459) + (am_andz (am_ushrz (x0 - (am_andz (am_ushrz x0 1) 1431655765)) 2) 858993459)) 4)) 252645135) 8)) 16)) 63)))) h)) : am_W m_J19_bitCount (am_ev am_prog (d + 5)) Q 0 [some (.inl x0)] [] h := by
  obtain ⟨⟨a125, a126, a127, a128, a129⟩, H⟩ := H
  refine r_J19_bitCount_0 ?_
  refine ⟨a125, a126, a127, a128, a129, ?_⟩
  exact H
theorem v_J21_checkIndex_0 {d : Nat} {Q : am_K} {h : am_H} {x0 : Int} {x1 : Int} (H : ((x0 : Int) < 0 → False) ∧ (0 ≤ (x0 : Int) → ((x0 : Int) < x1 → Q (.inl (some (.inl x0))) h) ∧ (x1 ≤ (x0 : Int) → False))) : am_W m_J21_checkIndex (am_ev am_prog (d + 5)) Q 0 [some (.inl x0), some (.inl x1)] [] h := by
  refine r_J21_checkIndex_0 ?_
  refine am_en p_J17_checkIndex rfl rfl ?_
  refine r_J17_checkIndex_0 ?_
  refine ⟨fun c => ?_, fun c => ?_⟩
  · replace H := H.1 c
    exact H.elim
  · replace H := H.2 c
    refine r_J17_checkIndex_2 ?_
    refine ⟨fun c => ?_, fun c => ?_⟩
    · replace H := H.1 c
      refine r_J17_checkIndex_10 ?_
      refine am_av ?_
      refine r_J21_checkIndex_4 ?_
      exact H
    · replace H := H.2 c
      exact H.elim
theorem v_J6_elementData_0 {d : Nat} {Q : am_K} {h : am_H} {r0 : Nat} {x1 : Int} (H : (am_ty h r0 = 31 ∧ (am_ty h (am_fr h 194 r0) = 114 ∨ am_ty h (am_fr h 194 r0) = 134) ∧ ((0 : Int) ≤ x1 ∧ x1 < am_ln h (am_fr h 194 r0))) ∧ (Q (.inl (some (.inr (.inl (am_ar h (am_fr h 194 r0) x1))))) h)) : am_W m_J6_elementData (am_ev am_prog (d + 5)) Q 0 [some (.inr (.inl r0)), some (.inl x1)] [] h := by
  obtain ⟨⟨a130, a131, a132⟩, H⟩ := H
  refine r_J6_elementData_0 ?_
  refine ⟨a130, a131, a132, ?_⟩
  exact H
theorem v_J2_coder_0 {d : Nat} {Q : am_K} {h : am_H} {r0 : Nat} (H : ((am_ty h r0 = 30 ∨ am_ty h r0 = 90)) ∧ ((((-128 : Int) ≤ am_fi h 190 r0 ∧ am_fi h 190 r0 ≤ 127)) ∧ (Q (.inl (some (.inl (am_fi h 190 r0)))) h))) : am_W m_J2_coder (am_ev am_prog (d + 5)) Q 0 [some (.inr (.inl r0))] [] h := by
  refine r_J2_coder_0 ?_
  refine ⟨fun c => absurd c (by decide), fun c => ?_⟩
  obtain ⟨a133, H⟩ := H
  refine r_J2_coder_2 ?_
  refine ⟨a133, ?_⟩
  obtain ⟨a134, H⟩ := H
  refine r_J2_coder_6 ?_
  refine ⟨a134, ?_⟩
  exact H
theorem v_J2_isLatin1_0 {d : Nat} {Q : am_K} {h : am_H} {r0 : Nat} (H : ((am_ty h r0 = 30 ∨ am_ty h r0 = 90)) ∧ (((am_fi h 190 r0 : Int) ≠ 0 → Q (.inl (some (.inl 0))) h) ∧ ((am_fi h 190 r0 : Int) = 0 → Q (.inl (some (.inl 1))) h))) : am_W m_J2_isLatin1 (am_ev am_prog (d + 5)) Q 0 [some (.inr (.inl r0))] [] h := by
  refine r_J2_isLatin1_0 ?_
  refine ⟨fun c => absurd c (by decide), fun c => ?_⟩
  obtain ⟨a135, H⟩ := H
  refine r_J2_isLatin1_2 ?_
  refine ⟨a135, ⟨fun c => ?_, fun c => ?_⟩⟩
  · replace H := H.1 c
    refine r_J2_isLatin1_7 ?_
    refine r_J2_isLatin1_8 ?_
    refine ⟨(by decide), ?_⟩
    exact H
  · replace H := H.2 c
    refine r_J2_isLatin1_5 ?_
    refine r_J2_isLatin1_8 ?_
    refine ⟨(by decide), ?_⟩
    exact H
theorem v_J18_charAt_0 {d : Nat} {Q : am_K} {h : am_H} {r0 : Nat} {x1 : Int} (H : ((am_ty h r0 = 102 ∨ am_ty h r0 = 122)) ∧ (((x1 : Int) < 0 → False) ∧ (0 ≤ (x1 : Int) → ((x1 : Int) < am_ln h r0 → (((0 : Int) ≤ x1 ∧ x1 < am_ln h r0) ∧ ((0 : Int) ≤ am_i2cz (am_andz (am_ai h r0 x1) 255) ∧ am_i2cz (am_andz (am_ai h r0 x1) 255) ≤ 65535)) ∧ (Q (.inl (some (.inl (am_i2cz (am_andz (am_ai h r0 x1) 255))))) h)) ∧ (am_ln h r0 ≤ (x1 : Int) → False)))) : am_W m_J18_charAt (am_ev am_prog (d + 5)) Q 0 [some (.inr (.inl r0)), some (.inl x1)] [] h := by
  obtain ⟨a136, H⟩ := H
  refine r_J18_charAt_0 ?_
  refine ⟨a136, ?_⟩
  refine am_en p_J2_checkIndex rfl rfl ?_
  refine r_J2_checkIndex_0 ?_
  refine am_en p_J17_checkIndex rfl rfl ?_
  refine r_J17_checkIndex_0 ?_
  refine ⟨fun c => ?_, fun c => ?_⟩
  · replace H := H.1 c
    exact H.elim
  · replace H := H.2 c
    refine r_J17_checkIndex_2 ?_
    refine ⟨fun c => ?_, fun c => ?_⟩
    · replace H := H.1 c
      refine r_J17_checkIndex_10 ?_
      refine am_av ?_
      refine r_J2_checkIndex_4 ?_
      refine am_an ?_
      obtain ⟨⟨a137, a138⟩, H⟩ := H
      refine r_J18_charAt_4 ?_
      refine ⟨a136, a137, a138, ?_⟩
      exact H
    · replace H := H.2 c
      exact H.elim
theorem v_J0_init_2_0 {d : Nat} {Q : am_K} {h : am_H} {r0 : Nat} {r1 : Nat} {o2 : Option am_V} {o3 : Option am_V} {o4 : Option am_V} (H : (am_ty h r0 = 29) ∧ (((am_ty h r1 = 30 ∨ am_ty h r1 = 90)) ∧ (((am_ty h (am_fr h 189 r1) = 102 ∨ am_ty h (am_fr h 189 r1) = 122)) ∧ ((((-128 : Int) ≤ am_fi h 190 r1 ∧ am_fi h 190 r1 ≤ 127)) ∧ ((2147483631 ≤ (am_shrz (am_ln h (am_fr h 189 r1)) (am_fi h 190 r1) : Int) → ((am_fi h 190 r1 : Int) ≠ 0 → False) ∧ ((am_fi h 190 r1 : Int) = 0 → (((0 : Int) ≤ 2147483647 ∧ (2147483647 : Int) ≤ 1000000)) ∧ ((r0 ≤ am_sz h) ∧ (am_ev am_prog (d + 5) 372 [.inr (.inl r0), .inr (.inl r1)] (am_sfr (am_new (am_sfi h 186 r0 (am_fi h 190 r1)) 102 (Int.toNat 2147483647)) 185 r0 (am_sz h + 1)) (am_aft (am_hand m_J0_init_2 Q (am_W m_J0_init_2 (am_ev am_prog (d + 5)) Q) 31) (am_W m_J0_init_2 (am_ev am_prog (d + 5)) Q) 31 [some (.inr (.inl r0)), some (.inr (.inl r1)), some (.inl (am_shrz (am_ln h (am_fr h 189 r1)) (am_fi h 190 r1))), some (.inl 2147483647), some (.inl (am_fi h 190 r1))] []))))) ∧ ((am_shrz (am_ln h (am_fr h 189 r1)) (am_fi h 190 r1) : Int) < 2147483631 → ((-2147483648 ≤ (am_shrz (am_ln h (am_fr h 189 r1)) (am_fi h 190 r1)) + 16 ∧ (am_shrz (am_ln h (am_fr h 189 r1)) (am_fi h 190 r1)) + 16 ≤ 2147483647)) ∧ (((am_fi h 190 r1 : Int) ≠ 0 → False) ∧ ((am_fi h 190 r1 : Int) = 0 → (((0 : Int) ≤ (am_shrz (am_ln h (am_fr h 189 r1)) (am_fi h 190 r1)) + 16 ∧ (am_shrz (am_ln h (am_fr h 189 r1)) (am_fi h 190 r1)) + 16 ≤ 1000000)) ∧ ((r0 ≤ am_sz h) ∧ (am_ev am_prog (d + 5) 372 [.inr (.inl r0), .inr (.inl r1)] (am_sfr (am_new (am_sfi h 186 r0 (am_fi h 190 r1)) 102 (Int.toNat ((am_shrz (am_ln h (am_fr h 189 r1)) (am_fi h 190 r1)) + 16))) 185 r0 (am_sz h + 1)) (am_aft (am_hand m_J0_init_2 Q (am_W m_J0_init_2 (am_ev am_prog (d + 5)) Q) 31) (am_W m_J0_init_2 (am_ev am_prog (d + 5)) Q) 31 [some (.inr (.inl r0)), some (.inr (.inl r1)), some (.inl (am_shrz (am_ln h (am_fr h 189 r1)) (am_fi h 190 r1))), some (.inl ((am_shrz (am_ln h (am_fr h 189 r1)) (am_fi h 190 r1)) + 16)), some (.inl (am_fi h 190 r1))] []))))))))))) : am_W m_J0_init_2 (am_ev am_prog (d + 5)) Q 0 [some (.inr (.inl r0)), some (.inr (.inl r1)), o2, o3, o4] [] h := by
  obtain ⟨a139, H⟩ := H
  obtain ⟨a140, H⟩ := H
  refine r_J0_init_2_0 ?_
  refine ⟨a139, a140, ?_⟩
  refine am_en p_J2_length rfl rfl ?_
  obtain ⟨a141, H⟩ := H
  refine r_J2_length_0 ?_
  refine ⟨a140, a141, a140, ?_⟩
  refine am_en p_J2_coder rfl rfl ?_
  refine r_J2_coder_0 ?_
  refine ⟨fun c => absurd c (by decide), fun c => ?_⟩
  refine r_J2_coder_2 ?_
  refine ⟨a140, ?_⟩
  obtain ⟨a142, H⟩ := H
  refine r_J2_coder_6 ?_
  refine ⟨a142, ?_⟩
  refine am_av ?_
  refine r_J2_length_5 ?_
  refine am_av ?_
  refine r_J0_init_2_4 ?_
  refine ⟨fun c => ?_, fun c => ?_⟩
  · replace H := H.1 c
    refine r_J0_init_2_12 ?_
    refine r_J0_init_2_13 ?_
    refine ⟨a140, ?_⟩
    refine am_en p_J2_coder rfl rfl ?_
    refine r_J2_coder_0 ?_
    refine ⟨fun c => absurd c (by decide), fun c => ?_⟩
    refine r_J2_coder_2 ?_
    refine ⟨a140, ?_⟩
    refine r_J2_coder_6 ?_
    refine ⟨a142, ?_⟩
    refine am_av ?_
    refine r_J0_init_2_16 ?_
    refine ⟨a139, a142, ?_⟩
    refine r_J0_init_2_20 ?_
    refine ⟨fun c => ?_, fun c => ?_⟩
    · replace H := H.1 c
      exact H.elim
    · replace H := H.2 c
      obtain ⟨a143, H⟩ := H
      refine r_J0_init_2_23 ?_
      simp only [x_sz_sfi, true_and]
      refine ⟨a143, ?_⟩
      refine r_J0_init_2_25 ?_
      obtain ⟨a144, H⟩ := H
      refine r_J0_init_2_28 ?_
      simp only [x_tyn (h := am_sfi h 186 r0 (am_fi h 190 r1)) (q := r0) (show r0 ≤ am_sz h by omega), x_ty_sfi, true_and]
      refine ⟨a139, ?_⟩
      refine r_J0_init_2_29 ?_
      simp only [x_ty_sfr, x_tyn (h := am_sfi h 186 r0 (am_fi h 190 r1)) (q := r0) (show r0 ≤ am_sz h by omega), x_ty_sfi, true_and]
      refine ⟨a139, ?_⟩
      exact H
  · replace H := H.2 c
    obtain ⟨a145, H⟩ := H
    refine r_J0_init_2_8 ?_
    refine ⟨a145, ?_⟩
    refine r_J0_init_2_13 ?_
    refine ⟨a140, ?_⟩
    refine am_en p_J2_coder rfl rfl ?_
    refine r_J2_coder_0 ?_
    refine ⟨fun c => absurd c (by decide), fun c => ?_⟩
    refine r_J2_coder_2 ?_
    refine ⟨a140, ?_⟩
    refine r_J2_coder_6 ?_
    refine ⟨a142, ?_⟩
    refine am_av ?_
    refine r_J0_init_2_16 ?_
    refine ⟨a139, a142, ?_⟩
    refine r_J0_init_2_20 ?_
    refine ⟨fun c => ?_, fun c => ?_⟩
    · replace H := H.1 c
      exact H.elim
    · replace H := H.2 c
      obtain ⟨a146, H⟩ := H
      refine r_J0_init_2_23 ?_
      simp only [x_sz_sfi, true_and]
      refine ⟨a146, ?_⟩
      refine r_J0_init_2_25 ?_
      obtain ⟨a147, H⟩ := H
      refine r_J0_init_2_28 ?_
      simp only [x_tyn (h := am_sfi h 186 r0 (am_fi h 190 r1)) (q := r0) (show r0 ≤ am_sz h by omega), x_ty_sfi, true_and]
      refine ⟨a139, ?_⟩
      refine r_J0_init_2_29 ?_
      simp only [x_ty_sfr, x_tyn (h := am_sfi h 186 r0 (am_fi h 190 r1)) (q := r0) (show r0 ≤ am_sz h by omega), x_ty_sfi, true_and]
      refine ⟨a139, ?_⟩
      exact H
theorem v_J0_init_2_32 {d : Nat} {Q : am_K} {h : am_H} {r0 : Nat} {r1 : Nat} {x2 : Int} {x3 : Int} {x4 : Int} {q0 : Nat} (H : Q (.inl none) h) : am_W m_J0_init_2 (am_ev am_prog (d + 5)) Q 32 [some (.inr (.inl r0)), some (.inr (.inl r1)), some (.inl x2), some (.inl x3), some (.inl x4)] [.inr (.inl q0)] h := by
  refine r_J0_init_2_32 ?_
  exact H
theorem v_J0_setCharAt_0 {d : Nat} {Q : am_K} {h : am_H} {r0 : Nat} {x1 : Int} {x2 : Int} (H : (am_ty h r0 = 29) ∧ (((x1 : Int) < 0 → False) ∧ (0 ≤ (x1 : Int) → ((x1 : Int) < am_fi h 188 r0 → ((am_fi h 186 r0 : Int) ≠ 0 → ((am_fi h 186 r0 : Int) ≠ 0 → False) ∧ ((am_fi h 186 r0 : Int) = 0 → False)) ∧ ((am_fi h 186 r0 : Int) = 0 → (255 < (x2 : Int) → ((am_fi h 186 r0 : Int) ≠ 0 → False) ∧ ((am_fi h 186 r0 : Int) = 0 → False)) ∧ ((x2 : Int) ≤ 255 → (am_ty h (am_fr h 185 r0) = 102 ∧ ((0 : Int) ≤ x1 ∧ x1 < am_ln h (am_fr h 185 r0))) ∧ (Q (.inl none) (am_sai h (am_fr h 185 r0) x1 (am_i2bz (am_i2bz x2))))))) ∧ (am_fi h 188 r0 ≤ (x1 : Int) → False)))) : am_W m_J0_setCharAt (am_ev am_prog (d + 5)) Q 0 [some (.inr (.inl r0)), some (.inl x1), some (.inl x2)] [] h := by
  obtain ⟨a148, H⟩ := H
  refine r_J0_setCharAt_0 ?_
  refine ⟨a148, ?_⟩
  refine am_en p_J2_checkIndex rfl rfl ?_
  refine r_J2_checkIndex_0 ?_
  refine am_en p_J17_checkIndex rfl rfl ?_
  refine r_J17_checkIndex_0 ?_
  refine ⟨fun c => ?_, fun c => ?_⟩
  · replace H := H.1 c
    exact H.elim
  · replace H := H.2 c
    refine r_J17_checkIndex_2 ?_
    refine ⟨fun c => ?_, fun c => ?_⟩
    · replace H := H.1 c
      refine r_J17_checkIndex_10 ?_
      refine am_av ?_
      refine r_J2_checkIndex_4 ?_
      refine am_an ?_
      refine r_J0_setCharAt_4 ?_
      refine ⟨a148, ?_⟩
      refine am_en p_J0_isLatin1 rfl rfl ?_
      refine r_J0_isLatin1_0 ?_
      refine ⟨fun c => absurd c (by decide), fun c => ?_⟩
      refine r_J0_isLatin1_2 ?_
      refine ⟨a148, ⟨fun c => ?_, fun c => ?_⟩⟩
      · replace H := H.1 c
        refine r_J0_isLatin1_7 ?_
        refine r_J0_isLatin1_8 ?_
        refine ⟨(by decide), ?_⟩
        refine am_av ?_
        refine r_J0_setCharAt_6 ?_
        refine ⟨fun c => ?_, fun c => absurd c (by decide)⟩
        refine r_J0_setCharAt_17 ?_
        refine ⟨a148, ?_⟩
        refine am_en p_J0_isLatin1 rfl rfl ?_
        refine r_J0_isLatin1_0 ?_
        refine ⟨fun c => absurd c (by decide), fun c => ?_⟩
        refine r_J0_isLatin1_2 ?_
        refine ⟨a148, ⟨fun c => ?_, fun c => ?_⟩⟩
        · replace H := H.1 c
          refine r_J0_isLatin1_7 ?_
          refine r_J0_isLatin1_8 ?_
          refine ⟨(by decide), ?_⟩
          refine am_av ?_
          refine r_J0_setCharAt_19 ?_
          refine ⟨fun c => ?_, fun c => absurd c (by decide)⟩
          exact H.elim
        · replace H := H.2 c
          refine r_J0_isLatin1_5 ?_
          refine r_J0_isLatin1_8 ?_
          refine ⟨(by decide), ?_⟩
          refine am_av ?_
          refine r_J0_setCharAt_19 ?_
          refine ⟨fun c => absurd c (by decide), fun c => ?_⟩
          exact H.elim
      · replace H := H.2 c
        refine r_J0_isLatin1_5 ?_
        refine r_J0_isLatin1_8 ?_
        refine ⟨(by decide), ?_⟩
        refine am_av ?_
        refine r_J0_setCharAt_6 ?_
        refine ⟨fun c => absurd c (by decide), fun c => ?_⟩
        refine r_J0_setCharAt_7 ?_
        refine am_en p_J18_canEncode rfl rfl ?_
        refine r_J18_canEncode_0 ?_
        refine ⟨fun c => ?_, fun c => ?_⟩
        · replace H := H.1 c
          refine r_J18_canEncode_5 ?_
          refine r_J18_canEncode_6 ?_
          refine ⟨(by decide), ?_⟩
          refine am_av ?_
          refine r_J0_setCharAt_9 ?_
          refine ⟨fun c => ?_, fun c => absurd c (by decide)⟩
          refine r_J0_setCharAt_17 ?_
          refine ⟨a148, ?_⟩
          refine am_en p_J0_isLatin1 rfl rfl ?_
          refine r_J0_isLatin1_0 ?_
          refine ⟨fun c => absurd c (by decide), fun c => ?_⟩
          refine r_J0_isLatin1_2 ?_
          refine ⟨a148, ⟨fun c => ?_, fun c => ?_⟩⟩
          · replace H := H.1 c
            refine r_J0_isLatin1_7 ?_
            refine r_J0_isLatin1_8 ?_
            refine ⟨(by decide), ?_⟩
            refine am_av ?_
            refine r_J0_setCharAt_19 ?_
            refine ⟨fun c => ?_, fun c => absurd c (by decide)⟩
            exact H.elim
          · replace H := H.2 c
            refine r_J0_isLatin1_5 ?_
            refine r_J0_isLatin1_8 ?_
            refine ⟨(by decide), ?_⟩
            refine am_av ?_
            refine r_J0_setCharAt_19 ?_
            refine ⟨fun c => absurd c (by decide), fun c => ?_⟩
            exact H.elim
        · replace H := H.2 c
          refine r_J18_canEncode_3 ?_
          refine r_J18_canEncode_6 ?_
          refine ⟨(by decide), ?_⟩
          refine am_av ?_
          refine r_J0_setCharAt_9 ?_
          refine ⟨fun c => absurd c (by decide), fun c => ?_⟩
          obtain ⟨⟨a149, a150⟩, H⟩ := H
          refine r_J0_setCharAt_10 ?_
          refine ⟨a148, a149, a150, ?_⟩
          refine r_J0_setCharAt_16 ?_
          refine r_J0_setCharAt_30 ?_
          exact H
    · replace H := H.2 c
      exact H.elim
theorem v_J2_init_0 {d : Nat} {Q : am_K} {h : am_H} {r0 : Nat} {r1 : Nat} (H : ((am_ty h r0 = 30 ∨ am_ty h r0 = 90)) ∧ (am_ev am_prog (d + 5) 375 [.inr (.inl r0), .inr (.inl r1), .inr (.inl 0)] h (am_aft (am_hand m_J2_init Q (am_W m_J2_init (am_ev am_prog (d + 5)) Q) 3) (am_W m_J2_init (am_ev am_prog (d + 5)) Q) 3 [some (.inr (.inl r0)), some (.inr (.inl r1))] []))) : am_W m_J2_init (am_ev am_prog (d + 5)) Q 0 [some (.inr (.inl r0)), some (.inr (.inl r1))] [] h := by
  obtain ⟨a151, H⟩ := H
  refine r_J2_init_0 ?_
  refine ⟨a151, ?_⟩
  exact H
theorem v_J2_init_4 {d : Nat} {Q : am_K} {h : am_H} {r0 : Nat} {r1 : Nat} (H : Q (.inl none) h) : am_W m_J2_init (am_ev am_prog (d + 5)) Q 4 [some (.inr (.inl r0)), some (.inr (.inl r1))] [] h := by
  refine r_J2_init_4 ?_
  exact H
theorem v_J4_init_0 {d : Nat} {Q : am_K} {h : am_H} {r0 : Nat} (H : (am_ty h r0 = 31) ∧ (Q (.inl none) h)) : am_W m_J4_init (am_ev am_prog (d + 5)) Q 0 [some (.inr (.inl r0))] [] h := by
  obtain ⟨a152, H⟩ := H
  refine r_J4_init_0 ?_
  refine ⟨a152, ?_⟩
  exact H
theorem v_J16_copyOf_0 {d : Nat} {Q : am_K} {h : am_H} {r0 : Nat} {x1 : Int} (H : ((am_ty h r0 = 114 ∨ am_ty h r0 = 134)) ∧ ((((0 : Int) ≤ x1 ∧ x1 ≤ 1000000)) ∧ ((r0 ≤ am_sz h) ∧ ((x1 < (am_ln h r0 : Int) → (((0 : Int) ≤ x1 ∧ (0 : Int) ≤ 0 ∧ (0 : Int) ≤ 0 ∧ (0 : Int) + x1 ≤ am_ln h r0 ∧ (0 : Int) + x1 ≤ ((Int.toNat x1 : Nat) : Int))) ∧ (Q (.inl (some (.inr (.inl (am_sz h + 1))))) (am_war (am_new h 114 (Int.toNat x1)) (am_sz h + 1) (am_cpy (am_ar h r0) (fun _ => 0) 0 0 x1)))) ∧ ((am_ln h r0 : Int) ≤ x1 → (((0 : Int) ≤ am_ln h r0 ∧ (0 : Int) ≤ 0 ∧ (0 : Int) ≤ 0 ∧ (0 : Int) + (am_ln h r0) ≤ am_ln h r0 ∧ (0 : Int) + (am_ln h r0) ≤ ((Int.toNat x1 : Nat) : Int))) ∧ (Q (.inl (some (.inr (.inl (am_sz h + 1))))) (am_war (am_new h 114 (Int.toNat x1)) (am_sz h + 1) (am_cpy (am_ar h r0) (fun _ => 0) 0 0 (am_ln h r0))))))))) : am_W m_J16_copyOf (am_ev am_prog (d + 5)) Q 0 [some (.inr (.inl r0)), some (.inl x1)] [] h := by
  obtain ⟨a153, H⟩ := H
  refine r_J16_copyOf_0 ?_
  refine ⟨a153, ?_⟩
  refine am_en p_J16_copyOf_2 rfl rfl ?_
  refine r_J16_copyOf_2_0 ?_
  refine ⟨fun c => absurd rfl c, fun c => ?_⟩
  obtain ⟨a154, H⟩ := H
  refine r_J16_copyOf_2_3 ?_
  refine ⟨a154, ?_⟩
  refine r_J16_copyOf_2_5 ?_
  obtain ⟨a155, H⟩ := H
  refine r_J16_copyOf_2_11 ?_
  simp only [x_tyn (h := h) (q := r0) (show r0 ≤ am_sz h by omega), x_lnn (h := h) (q := r0) (show r0 ≤ am_sz h by omega), true_and]
  refine ⟨a153, ?_⟩
  refine am_en p_J15_min rfl rfl ?_
  refine r_J15_min_0 ?_
  refine ⟨fun c => ?_, fun c => ?_⟩
  · replace H := H.1 c
    refine r_J15_min_5 ?_
    refine r_J15_min_6 ?_
    refine am_av ?_
    obtain ⟨a156, H⟩ := H
    refine r_J16_copyOf_2_20 ?_
    simp only [x_tyn (h := h) (q := r0) (show r0 ≤ am_sz h by omega), x_tyn0 (h := h) (q := am_sz h + 1) rfl, true_or, or_true, Nat.reduceEqDiff, x_lnn (h := h) (q := r0) (show r0 ≤ am_sz h by omega), x_lnn0 (h := h) (q := am_sz h + 1) rfl, x_arn (h := h) (q := r0) (show r0 ≤ am_sz h by omega), x_arn0 (h := h) (q := am_sz h + 1) rfl, true_and]
    refine ⟨a153, a156, ?_⟩
    refine r_J16_copyOf_2_21 ?_
    refine am_av ?_
    refine r_J16_copyOf_5 ?_
    exact H
  · replace H := H.2 c
    refine r_J15_min_3 ?_
    refine r_J15_min_6 ?_
    refine am_av ?_
    obtain ⟨a157, H⟩ := H
    refine r_J16_copyOf_2_20 ?_
    simp only [x_tyn (h := h) (q := r0) (show r0 ≤ am_sz h by omega), x_tyn0 (h := h) (q := am_sz h + 1) rfl, true_or, or_true, Nat.reduceEqDiff, x_lnn (h := h) (q := r0) (show r0 ≤ am_sz h by omega), x_lnn0 (h := h) (q := am_sz h + 1) rfl, x_arn (h := h) (q := r0) (show r0 ≤ am_sz h by omega), x_arn0 (h := h) (q := am_sz h + 1) rfl, true_and]
    refine ⟨a153, a157, ?_⟩
    refine r_J16_copyOf_2_21 ?_
    refine am_av ?_
    refine r_J16_copyOf_5 ?_
    exact H
theorem v_J14_newLength_0 {d : Nat} {Q : am_K} {h : am_H} {x0 : Int} {x1 : Int} {x2 : Int} {o3 : Option am_V} (H : ((x1 : Int) < x2 → ((-2147483648 ≤ x0 + x2 ∧ x0 + x2 ≤ 2147483647)) ∧ ((x0 + x2 ≤ (0 : Int) → False) ∧ ((0 : Int) < x0 + x2 → (2147483639 < (x0 + x2 : Int) → False) ∧ ((x0 + x2 : Int) ≤ 2147483639 → Q (.inl (some (.inl (x0 + x2)))) h)))) ∧ (x2 ≤ (x1 : Int) → ((-2147483648 ≤ x0 + x1 ∧ x0 + x1 ≤ 2147483647)) ∧ ((x0 + x1 ≤ (0 : Int) → False) ∧ ((0 : Int) < x0 + x1 → (2147483639 < (x0 + x1 : Int) → False) ∧ ((x0 + x1 : Int) ≤ 2147483639 → Q (.inl (some (.inl (x0 + x1)))) h))))) : am_W m_J14_newLength (am_ev am_prog (d + 5)) Q 0 [some (.inl x0), some (.inl x1), some (.inl x2), o3] [] h := by
  refine r_J14_newLength_0 ?_
  refine am_en p_J15_max rfl rfl ?_
  refine r_J15_max_0 ?_
  refine ⟨fun c => ?_, fun c => ?_⟩
  · replace H := H.1 c
    refine r_J15_max_5 ?_
    refine r_J15_max_6 ?_
    refine am_av ?_
    obtain ⟨a158, H⟩ := H
    refine r_J14_newLength_4 ?_
    refine ⟨a158, ⟨fun c => ?_, fun c => ?_⟩⟩
    · replace H := H.1 c
      exact H.elim
    · replace H := H.2 c
      refine r_J14_newLength_9 ?_
      refine ⟨fun c => ?_, fun c => ?_⟩
      · replace H := H.1 c
        exact H.elim
      · replace H := H.2 c
        refine r_J14_newLength_12 ?_
        exact H
  · replace H := H.2 c
    refine r_J15_max_3 ?_
    refine r_J15_max_6 ?_
    refine am_av ?_
    obtain ⟨a159, H⟩ := H
    refine r_J14_newLength_4 ?_
    refine ⟨a159, ⟨fun c => ?_, fun c => ?_⟩⟩
    · replace H := H.1 c
      exact H.elim
    · replace H := H.2 c
      refine r_J14_newLength_9 ?_
      refine ⟨fun c => ?_, fun c => ?_⟩
      · replace H := H.1 c
        exact H.elim
      · replace H := H.2 c
        refine r_J14_newLength_12 ?_
        exact H
theorem v_J6_grow_2_0 {d : Nat} {Q : am_K} {h : am_H} {r0 : Nat} (H : (am_ty h r0 = 31 ∧ (-2147483648 ≤ (am_fi h 195 r0) + 1 ∧ (am_fi h 195 r0) + 1 ≤ 2147483647)) ∧ (am_ev am_prog (d + 5) 291 [.inr (.inl r0), .inl ((am_fi h 195 r0) + 1)] h (am_aft (am_hand m_J6_grow_2 Q (am_W m_J6_grow_2 (am_ev am_prog (d + 5)) Q) 5) (am_W m_J6_grow_2 (am_ev am_prog (d + 5)) Q) 5 [some (.inr (.inl r0))] []))) : am_W m_J6_grow_2 (am_ev am_prog (d + 5)) Q 0 [some (.inr (.inl r0))] [] h := by
  obtain ⟨⟨a160, a161⟩, H⟩ := H
  refine r_J6_grow_2_0 ?_
  refine ⟨a160, a161, a160, ?_⟩
  exact H
theorem v_J6_grow_2_6 {d : Nat} {Q : am_K} {h : am_H} {r0 : Nat} {q0 : Nat} (H : Q (.inl (some (.inr (.inl q0)))) h) : am_W m_J6_grow_2 (am_ev am_prog (d + 5)) Q 6 [some (.inr (.inl r0))] [.inr (.inl q0)] h := by
  refine r_J6_grow_2_6 ?_
  exact H
theorem v_J18_equals_0 {d : Nat} {Q : am_K} {h : am_H} {r0 : Nat} {r1 : Nat} {o2 : Option am_V} (H : ((am_ty h r0 = 102 ∨ am_ty h r0 = 122) ∧ (am_ty h r1 = 102 ∨ am_ty h r1 = 122)) ∧ (((am_ln h r0 : Int) ≠ am_ln h r1 → Q (.inl (some (.inl 0))) h) ∧ ((am_ln h r0 : Int) = am_ln h r1 → am_W m_J18_equals (am_ev am_prog (d + 5)) Q 7 [some (.inr (.inl r0)), some (.inr (.inl r1)), some (.inl 0)] [] h))) : am_W m_J18_equals (am_ev am_prog (d + 5)) Q 0 [some (.inr (.inl r0)), some (.inr (.inl r1)), o2] [] h := by
  obtain ⟨⟨a162, a163⟩, H⟩ := H
  refine r_J18_equals_0 ?_
  refine ⟨a162, a163, ⟨fun c => ?_, fun c => ?_⟩⟩
  · replace H := H.1 c
    refine r_J18_equals_24 ?_
    refine ⟨(by decide), ?_⟩
    exact H
  · replace H := H.2 c
    refine r_J18_equals_5 ?_
    exact H
theorem v_J18_equals_7 {d : Nat} {Q : am_K} {h : am_H} {r0 : Nat} {r1 : Nat} {x2 : Int} (H : ((am_ty h r0 = 102 ∨ am_ty h r0 = 122)) ∧ ((am_ln h r0 ≤ (x2 : Int) → Q (.inl (some (.inl 1))) h) ∧ ((x2 : Int) < am_ln h r0 → (((0 : Int) ≤ x2 ∧ x2 < am_ln h r0) ∧ (am_ty h r1 = 102 ∨ am_ty h r1 = 122) ∧ ((0 : Int) ≤ x2 ∧ x2 < am_ln h r1)) ∧ (((am_ai h r0 x2 : Int) = am_ai h r1 x2 → ((-2147483648 ≤ x2 + 1 ∧ x2 + 1 ≤ 2147483647)) ∧ (am_W m_J18_equals (am_ev am_prog (d + 5)) Q 7 [some (.inr (.inl r0)), some (.inr (.inl r1)), some (.inl (x2 + 1))] [] h)) ∧ ((am_ai h r0 x2 : Int) ≠ am_ai h r1 x2 → Q (.inl (some (.inl 0))) h))))) : am_W m_J18_equals (am_ev am_prog (d + 5)) Q 7 [some (.inr (.inl r0)), some (.inr (.inl r1)), some (.inl x2)] [] h := by
  obtain ⟨a164, H⟩ := H
  refine r_J18_equals_7 ?_
  refine ⟨a164, ⟨fun c => ?_, fun c => ?_⟩⟩
  · replace H := H.1 c
    refine r_J18_equals_22 ?_
    refine ⟨(by decide), ?_⟩
    exact H
  · replace H := H.2 c
    obtain ⟨⟨a165, a166, a167⟩, H⟩ := H
    refine r_J18_equals_11 ?_
    refine ⟨a164, a165, a166, a167, ⟨fun c => ?_, fun c => ?_⟩⟩
    · replace H := H.1 c
      obtain ⟨a168, H⟩ := H
      refine r_J18_equals_20 ?_
      refine ⟨a168, ?_⟩
      exact H
    · replace H := H.2 c
      refine r_J18_equals_18 ?_
      refine ⟨(by decide), ?_⟩
      exact H
theorem v_J6_remove_0 {d : Nat} {Q : am_K} {h : am_H} {r0 : Nat} {x1 : Int} {o2 : Option am_V} {o3 : Option am_V} (H : (am_ty h r0 = 31) ∧ (((x1 : Int) < 0 → False) ∧ (0 ≤ (x1 : Int) → ((x1 : Int) < am_fi h 195 r0 → ((am_ty h (am_fr h 194 r0) = 114 ∨ am_ty h (am_fr h 194 r0) = 134) ∧ ((0 : Int) ≤ x1 ∧ x1 < am_ln h (am_fr h 194 r0))) ∧ (((-2147483648 ≤ (am_fi h 193 r0) + 1 ∧ (am_fi h 193 r0) + 1 ≤ 2147483647)) ∧ (((-2147483648 ≤ (am_fi h 195 r0) - 1 ∧ (am_fi h 195 r0) - 1 ≤ 2147483647)) ∧ ((((am_fi h 195 r0) - 1 : Int) ≤ x1 → (am_ty h (am_fr h 194 r0) = 114 ∧ ((0 : Int) ≤ (am_fi h 195 r0) - 1 ∧ (am_fi h 195 r0) - 1 < am_ln h (am_fr h 194 r0))) ∧ (Q (.inl (some (.inr (.inl (am_ar h (am_fr h 194 r0) x1))))) (am_sar (am_sfi (am_sfi h 193 r0 ((am_fi h 193 r0) + 1)) 195 r0 ((am_fi h 195 r0) - 1)) (am_fr h 194 r0) ((am_fi h 195 r0) - 1) 0))) ∧ (x1 < ((am_fi h 195 r0) - 1 : Int) → ((-2147483648 ≤ x1 + 1 ∧ x1 + 1 ≤ 2147483647) ∧ (-2147483648 ≤ ((am_fi h 195 r0) - 1) - x1 ∧ ((am_fi h 195 r0) - 1) - x1 ≤ 2147483647) ∧ am_ty h (am_fr h 194 r0) = 114 ∧ ((0 : Int) ≤ ((am_fi h 195 r0) - 1) - x1 ∧ (0 : Int) ≤ x1 + 1 ∧ (0 : Int) ≤ x1 ∧ ((x1 + 1) : Int) + (((am_fi h 195 r0) - 1) - x1) ≤ am_ln h (am_fr h 194 r0) ∧ (x1 : Int) + (((am_fi h 195 r0) - 1) - x1) ≤ am_ln h (am_fr h 194 r0))) ∧ ((((0 : Int) ≤ (am_fi h 195 r0) - 1 ∧ (am_fi h 195 r0) - 1 < am_ln h (am_fr h 194 r0))) ∧ (Q (.inl (some (.inr (.inl (am_ar h (am_fr h 194 r0) x1))))) (am_sar (am_sfi (am_war (am_sfi h 193 r0 ((am_fi h 193 r0) + 1)) (am_fr h 194 r0) (am_cpy (am_ar h (am_fr h 194 r0)) (am_ar h (am_fr h 194 r0)) (x1 + 1) x1 (((am_fi h 195 r0) - 1) - x1))) 195 r0 ((am_fi h 195 r0) - 1)) (am_fr h 194 r0) ((am_fi h 195 r0) - 1) 0)))))))) ∧ (am_fi h 195 r0 ≤ (x1 : Int) → False)))) : am_W m_J6_remove (am_ev am_prog (d + 5)) Q 0 [some (.inr (.inl r0)), some (.inl x1), o2, o3] [] h := by
  obtain ⟨a169, H⟩ := H
  refine r_J6_remove_0 ?_
  refine ⟨a169, ?_⟩
  refine am_en p_J21_checkIndex rfl rfl ?_
  refine r_J21_checkIndex_0 ?_
  refine am_en p_J17_checkIndex rfl rfl ?_
  refine r_J17_checkIndex_0 ?_
  refine ⟨fun c => ?_, fun c => ?_⟩
  · replace H := H.1 c
    exact H.elim
  · replace H := H.2 c
    refine r_J17_checkIndex_2 ?_
    refine ⟨fun c => ?_, fun c => ?_⟩
    · replace H := H.1 c
      refine r_J17_checkIndex_10 ?_
      refine am_av ?_
      refine r_J21_checkIndex_4 ?_
      refine am_av ?_
      obtain ⟨⟨a170, a171⟩, H⟩ := H
      refine r_J6_remove_4 ?_
      refine ⟨a169, a170, a171, a169, ?_⟩
      refine am_en p_J6_fastRemove rfl rfl ?_
      obtain ⟨a172, H⟩ := H
      refine r_J6_fastRemove_0 ?_
      refine ⟨a169, a172, a169, ?_⟩
      obtain ⟨a173, H⟩ := H
      refine r_J6_fastRemove_6 ?_
      simp only [x_ty_sfi, x_fif (by decide : (195 : Nat) ≠ 193), true_and]
      refine ⟨a169, a173, ⟨fun c => ?_, fun c => ?_⟩⟩
      · replace H := H.1 c
        refine r_J6_fastRemove_24 ?_
        simp only [x_ty_sfi, true_and]
        refine ⟨a169, ?_⟩
        obtain ⟨⟨a174, a175⟩, H⟩ := H
        refine r_J6_fastRemove_29 ?_
        simp only [x_ty_sfi, x_ln_sfi, true_and]
        refine ⟨⟨(114, [8, 11, 19, 22, 23, 24, 25, 27, 115]), List.Mem.head _, a174, Or.inl (by simp)⟩, a175, ?_⟩
        refine r_J6_fastRemove_31 ?_
        refine am_an ?_
        refine r_J6_remove_16 ?_
        exact H
      · replace H := H.2 c
        obtain ⟨⟨a176, a177, a178, a179⟩, H⟩ := H
        refine r_J6_fastRemove_14 ?_
        simp only [x_ty_sfi, x_ln_sfi, x_ar_sfi, true_and]
        refine ⟨a176, a177, a170, a178, a179, ?_⟩
        refine r_J6_fastRemove_24 ?_
        simp only [x_ty_war, x_ty_sfi, true_and]
        refine ⟨a169, ?_⟩
        obtain ⟨a180, H⟩ := H
        refine r_J6_fastRemove_29 ?_
        simp only [x_ty_sfi, x_ty_war, x_ln_sfi, x_ln_war, true_and]
        refine ⟨⟨(114, [8, 11, 19, 22, 23, 24, 25, 27, 115]), List.Mem.head _, a178, Or.inl (by simp)⟩, a180, ?_⟩
        refine r_J6_fastRemove_31 ?_
        refine am_an ?_
        refine r_J6_remove_16 ?_
        exact H
    · replace H := H.2 c
      exact H.elim
theorem v_J8_init_3_0 {d : Nat} {Q : am_K} {h : am_H} {r0 : Nat} {r1 : Nat} {r2 : Nat} {x3 : Int} {x4 : Int} (H : (am_ty h r0 = 7) ∧ (am_ev am_prog (d + 5) 386 [.inr (.inl r0), .inr (.inl r1), .inr (.inl r2), .inl x3, .inl x4] h (am_aft (am_hand m_J8_init_3 Q (am_W m_J8_init_3 (am_ev am_prog (d + 5)) Q) 5) (am_W m_J8_init_3 (am_ev am_prog (d + 5)) Q) 5 [some (.inr (.inl r0)), some (.inr (.inl r1)), some (.inr (.inl r2)), some (.inl x3), some (.inl x4)] []))) : am_W m_J8_init_3 (am_ev am_prog (d + 5)) Q 0 [some (.inr (.inl r0)), some (.inr (.inl r1)), some (.inr (.inl r2)), some (.inl x3), some (.inl x4)] [] h := by
  obtain ⟨a181, H⟩ := H
  refine r_J8_init_3_0 ?_
  refine ⟨a181, ?_⟩
  exact H
theorem v_J8_init_3_6 {d : Nat} {Q : am_K} {h : am_H} {r0 : Nat} {r1 : Nat} {r2 : Nat} {x3 : Int} {x4 : Int} (H : Q (.inl none) h) : am_W m_J8_init_3 (am_ev am_prog (d + 5)) Q 6 [some (.inr (.inl r0)), some (.inr (.inl r1)), some (.inr (.inl r2)), some (.inl x3), some (.inl x4)] [] h := by
  refine r_J8_init_3_6 ?_
  exact H
theorem v_J17_checkIndex_0 {d : Nat} {Q : am_K} {h : am_H} {x0 : Int} {x1 : Int} {r2 : Nat} (H : ((x0 : Int) < 0 → False) ∧ (0 ≤ (x0 : Int) → ((x0 : Int) < x1 → Q (.inl (some (.inl x0))) h) ∧ (x1 ≤ (x0 : Int) → False))) : am_W m_J17_checkIndex (am_ev am_prog (d + 5)) Q 0 [some (.inl x0), some (.inl x1), some (.inr (.inl r2))] [] h := by
  refine r_J17_checkIndex_0 ?_
  refine ⟨fun c => ?_, fun c => ?_⟩
  · replace H := H.1 c
    exact H.elim
  · replace H := H.2 c
    refine r_J17_checkIndex_2 ?_
    refine ⟨fun c => ?_, fun c => ?_⟩
    · replace H := H.1 c
      refine r_J17_checkIndex_10 ?_
      exact H
    · replace H := H.2 c
      exact H.elim
theorem v_J2_checkIndex_0 {d : Nat} {Q : am_K} {h : am_H} {x0 : Int} {x1 : Int} (H : ((x0 : Int) < 0 → False) ∧ (0 ≤ (x0 : Int) → ((x0 : Int) < x1 → Q (.inl none) h) ∧ (x1 ≤ (x0 : Int) → False))) : am_W m_J2_checkIndex (am_ev am_prog (d + 5)) Q 0 [some (.inl x0), some (.inl x1)] [] h := by
  refine r_J2_checkIndex_0 ?_
  refine am_en p_J17_checkIndex rfl rfl ?_
  refine r_J17_checkIndex_0 ?_
  refine ⟨fun c => ?_, fun c => ?_⟩
  · replace H := H.1 c
    exact H.elim
  · replace H := H.2 c
    refine r_J17_checkIndex_2 ?_
    refine ⟨fun c => ?_, fun c => ?_⟩
    · replace H := H.1 c
      refine r_J17_checkIndex_10 ?_
      refine am_av ?_
      refine r_J2_checkIndex_4 ?_
      exact H
    · replace H := H.2 c
      exact H.elim
theorem v_J1_append_4_0 {d : Nat} {Q : am_K} {h : am_H} {r0 : Nat} {r1 : Nat} (H : (am_ty h r0 = 29) ∧ (am_ev am_prog (d + 5) 395 [.inr (.inl r0), .inr (.inl r1)] h (am_aft (am_hand m_J1_append_4 Q (am_W m_J1_append_4 (am_ev am_prog (d + 5)) Q) 2) (am_W m_J1_append_4 (am_ev am_prog (d + 5)) Q) 2 [some (.inr (.inl r0)), some (.inr (.inl r1))] []))) : am_W m_J1_append_4 (am_ev am_prog (d + 5)) Q 0 [some (.inr (.inl r0)), some (.inr (.inl r1))] [] h := by
  obtain ⟨a182, H⟩ := H
  refine r_J1_append_4_0 ?_
  refine ⟨a182, ?_⟩
  exact H
theorem v_J1_append_4_3 {d : Nat} {Q : am_K} {h : am_H} {r0 : Nat} {r1 : Nat} {q0 : Nat} (H : Q (.inl (some (.inr (.inl q0)))) h) : am_W m_J1_append_4 (am_ev am_prog (d + 5)) Q 3 [some (.inr (.inl r0)), some (.inr (.inl r1))] [.inr (.inl q0)] h := by
  refine r_J1_append_4_3 ?_
  exact H
theorem v_J0_isLatin1_0 {d : Nat} {Q : am_K} {h : am_H} {r0 : Nat} (H : (am_ty h r0 = 29) ∧ (((am_fi h 186 r0 : Int) ≠ 0 → Q (.inl (some (.inl 0))) h) ∧ ((am_fi h 186 r0 : Int) = 0 → Q (.inl (some (.inl 1))) h))) : am_W m_J0_isLatin1 (am_ev am_prog (d + 5)) Q 0 [some (.inr (.inl r0))] [] h := by
  refine r_J0_isLatin1_0 ?_
  refine ⟨fun c => absurd c (by decide), fun c => ?_⟩
  obtain ⟨a183, H⟩ := H
  refine r_J0_isLatin1_2 ?_
  refine ⟨a183, ⟨fun c => ?_, fun c => ?_⟩⟩
  · replace H := H.1 c
    refine r_J0_isLatin1_7 ?_
    refine r_J0_isLatin1_8 ?_
    refine ⟨(by decide), ?_⟩
    exact H
  · replace H := H.2 c
    refine r_J0_isLatin1_5 ?_
    refine r_J0_isLatin1_8 ?_
    refine ⟨(by decide), ?_⟩
    exact H
theorem v_J18_canEncode_0 {d : Nat} {Q : am_K} {h : am_H} {x0 : Int} (H : (255 < (x0 : Int) → Q (.inl (some (.inl 0))) h) ∧ ((x0 : Int) ≤ 255 → Q (.inl (some (.inl 1))) h)) : am_W m_J18_canEncode (am_ev am_prog (d + 5)) Q 0 [some (.inl x0)] [] h := by
  refine r_J18_canEncode_0 ?_
  refine ⟨fun c => ?_, fun c => ?_⟩
  · replace H := H.1 c
    refine r_J18_canEncode_5 ?_
    refine r_J18_canEncode_6 ?_
    refine ⟨(by decide), ?_⟩
    exact H
  · replace H := H.2 c
    refine r_J18_canEncode_3 ?_
    refine r_J18_canEncode_6 ?_
    refine ⟨(by decide), ?_⟩
    exact H
theorem v_J2_init_2_0 {d : Nat} {Q : am_K} {h : am_H} {r0 : Nat} {r1 : Nat} {r2 : Nat} {o3 : Option am_V} {o4 : Option am_V} (H : ((am_ty h r0 = 30 ∨ am_ty h r0 = 90)) ∧ ((am_ty h r1 = 29) ∧ (((am_fi h 186 r1 : Int) ≠ 0 → ((am_fi h 187 r1 : Int) = 0 → (am_ty h r0 = 30) ∧ (am_ev am_prog (d + 5) 397 [.inr (.inl (am_fr h 185 r1)), .inl 0, .inl (am_shlz (am_fi h 188 r1) 1)] (am_sfi h 190 r0 1) (am_aft (am_hand m_J2_init_2 Q (am_W m_J2_init_2 (am_ev am_prog (d + 5)) Q) 48) (am_W m_J2_init_2 (am_ev am_prog (d + 5)) Q) 48 [some (.inr (.inl r0)), some (.inr (.inl r1)), some (.inr (.inl r2)), some (.inr (.inl (am_fr h 185 r1))), some (.inl (am_fi h 188 r1))] [.inr (.inl r0)]))) ∧ ((am_fi h 187 r1 : Int) ≠ 0 → False)) ∧ ((am_fi h 186 r1 : Int) = 0 → (am_ty h r0 = 30) ∧ (am_ev am_prog (d + 5) 397 [.inr (.inl (am_fr h 185 r1)), .inl 0, .inl (am_fi h 188 r1)] (am_sfi h 190 r0 0) (am_aft (am_hand m_J2_init_2 Q (am_W m_J2_init_2 (am_ev am_prog (d + 5)) Q) 18) (am_W m_J2_init_2 (am_ev am_prog (d + 5)) Q) 18 [some (.inr (.inl r0)), some (.inr (.inl r1)), some (.inr (.inl r2)), some (.inr (.inl (am_fr h 185 r1))), some (.inl (am_fi h 188 r1))] [.inr (.inl r0)])))))) : am_W m_J2_init_2 (am_ev am_prog (d + 5)) Q 0 [some (.inr (.inl r0)), some (.inr (.inl r1)), some (.inr (.inl r2)), o3, o4] [] h := by
  obtain ⟨a184, H⟩ := H
  obtain ⟨a185, H⟩ := H
  refine r_J2_init_2_0 ?_
  refine ⟨a184, a185, ?_⟩
  refine am_en p_J0_getValue rfl rfl ?_
  refine r_J0_getValue_0 ?_
  refine ⟨a185, ?_⟩
  refine am_av ?_
  refine r_J2_init_2_4 ?_
  refine ⟨a185, ?_⟩
  refine am_en p_J1_length rfl rfl ?_
  refine r_J1_length_0 ?_
  refine ⟨a185, ?_⟩
  refine am_en p_J0_length rfl rfl ?_
  refine r_J0_length_0 ?_
  refine ⟨a185, ?_⟩
  refine am_av ?_
  refine r_J1_length_2 ?_
  refine am_av ?_
  refine r_J2_init_2_7 ?_
  refine ⟨a185, ?_⟩
  refine am_en p_J0_isLatin1 rfl rfl ?_
  refine r_J0_isLatin1_0 ?_
  refine ⟨fun c => absurd c (by decide), fun c => ?_⟩
  refine r_J0_isLatin1_2 ?_
  refine ⟨a185, ⟨fun c => ?_, fun c => ?_⟩⟩
  · replace H := H.1 c
    refine r_J0_isLatin1_7 ?_
    refine r_J0_isLatin1_8 ?_
    refine ⟨(by decide), ?_⟩
    refine am_av ?_
    refine r_J2_init_2_10 ?_
    refine ⟨fun c => ?_, fun c => absurd c (by decide)⟩
    refine r_J2_init_2_21 ?_
    refine ⟨fun c => absurd c (by decide), fun c => ?_⟩
    refine r_J2_init_2_23 ?_
    refine ⟨a185, ⟨fun c => ?_, fun c => ?_⟩⟩
    · replace H := H.1 c
      obtain ⟨a186, H⟩ := H
      refine r_J2_init_2_39 ?_
      refine ⟨a186, (by decide), ?_⟩
      refine r_J2_init_2_42 ?_
      exact H
    · replace H := H.2 c
      exact H.elim
  · replace H := H.2 c
    refine r_J0_isLatin1_5 ?_
    refine r_J0_isLatin1_8 ?_
    refine ⟨(by decide), ?_⟩
    refine am_av ?_
    refine r_J2_init_2_10 ?_
    refine ⟨fun c => absurd c (by decide), fun c => ?_⟩
    obtain ⟨a187, H⟩ := H
    refine r_J2_init_2_11 ?_
    refine ⟨a187, (by decide), ?_⟩
    refine r_J2_init_2_14 ?_
    exact H
theorem v_J2_init_2_19 {d : Nat} {Q : am_K} {h : am_H} {r0 : Nat} {r1 : Nat} {r2 : Nat} {r3 : Nat} {x4 : Int} {q1 : Nat} {q0 : Nat} (H : (am_ty h q0 = 30) ∧ (Q (.inl none) (am_sfr h 189 q0 q1))) : am_W m_J2_init_2 (am_ev am_prog (d + 5)) Q 19 [some (.inr (.inl r0)), some (.inr (.inl r1)), some (.inr (.inl r2)), some (.inr (.inl r3)), some (.inl x4)] [.inr (.inl q1), .inr (.inl q0)] h := by
  obtain ⟨a188, H⟩ := H
  refine r_J2_init_2_19 ?_
  refine ⟨a188, ?_⟩
  refine r_J2_init_2_20 ?_
  refine r_J2_init_2_50 ?_
  exact H
theorem v_J2_init_2_49 {d : Nat} {Q : am_K} {h : am_H} {r0 : Nat} {r1 : Nat} {r2 : Nat} {r3 : Nat} {x4 : Int} {q1 : Nat} {q0 : Nat} (H : (am_ty h q0 = 30) ∧ (Q (.inl none) (am_sfr h 189 q0 q1))) : am_W m_J2_init_2 (am_ev am_prog (d + 5)) Q 49 [some (.inr (.inl r0)), some (.inr (.inl r1)), some (.inr (.inl r2)), some (.inr (.inl r3)), some (.inl x4)] [.inr (.inl q1), .inr (.inl q0)] h := by
  obtain ⟨a189, H⟩ := H
  refine r_J2_init_2_49 ?_
  refine ⟨a189, ?_⟩
  refine r_J2_init_2_50 ?_
  exact H
theorem v_J16_copyOf_2_0 {d : Nat} {Q : am_K} {h : am_H} {r0 : Nat} {x1 : Int} {r2 : Nat} {o3 : Option am_V} (H : (r2 ≠ (am_cs h 19) → False) ∧ (r2 = (am_cs h 19) → (((0 : Int) ≤ x1 ∧ x1 ≤ 1000000)) ∧ ((r0 ≤ am_sz h ∧ (am_ty h r0 = 114 ∨ am_ty h r0 = 134)) ∧ ((x1 < (am_ln h r0 : Int) → (((0 : Int) ≤ x1 ∧ (0 : Int) ≤ 0 ∧ (0 : Int) ≤ 0 ∧ (0 : Int) + x1 ≤ am_ln h r0 ∧ (0 : Int) + x1 ≤ ((Int.toNat x1 : Nat) : Int))) ∧ (Q (.inl (some (.inr (.inl (am_sz h + 1))))) (am_war (am_new h 114 (Int.toNat x1)) (am_sz h + 1) (am_cpy (am_ar h r0) (fun _ => 0) 0 0 x1)))) ∧ ((am_ln h r0 : Int) ≤ x1 → (((0 : Int) ≤ am_ln h r0 ∧ (0 : Int) ≤ 0 ∧ (0 : Int) ≤ 0 ∧ (0 : Int) + (am_ln h r0) ≤ am_ln h r0 ∧ (0 : Int) + (am_ln h r0) ≤ ((Int.toNat x1 : Nat) : Int))) ∧ (Q (.inl (some (.inr (.inl (am_sz h + 1))))) (am_war (am_new h 114 (Int.toNat x1)) (am_sz h + 1) (am_cpy (am_ar h r0) (fun _ => 0) 0 0 (am_ln h r0))))))))) : am_W m_J16_copyOf_2 (am_ev am_prog (d + 5)) Q 0 [some (.inr (.inl r0)), some (.inl x1), some (.inr (.inl r2)), o3] [] h := by
  refine r_J16_copyOf_2_0 ?_
  refine ⟨fun c => ?_, fun c => ?_⟩
  · replace H := H.1 c
    exact H.elim
  · replace H := H.2 c
    obtain ⟨a190, H⟩ := H
    refine r_J16_copyOf_2_3 ?_
    refine ⟨a190, ?_⟩
    refine r_J16_copyOf_2_5 ?_
    obtain ⟨⟨a191, a192⟩, H⟩ := H
    refine r_J16_copyOf_2_11 ?_
    simp only [x_tyn (h := h) (q := r0) (show r0 ≤ am_sz h by omega), x_lnn (h := h) (q := r0) (show r0 ≤ am_sz h by omega), true_and]
    refine ⟨a192, ?_⟩
    refine am_en p_J15_min rfl rfl ?_
    refine r_J15_min_0 ?_
    refine ⟨fun c => ?_, fun c => ?_⟩
    · replace H := H.1 c
      refine r_J15_min_5 ?_
      refine r_J15_min_6 ?_
      refine am_av ?_
      obtain ⟨a193, H⟩ := H
      refine r_J16_copyOf_2_20 ?_
      simp only [x_tyn (h := h) (q := r0) (show r0 ≤ am_sz h by omega), x_tyn0 (h := h) (q := am_sz h + 1) rfl, true_or, or_true, Nat.reduceEqDiff, x_lnn (h := h) (q := r0) (show r0 ≤ am_sz h by omega), x_lnn0 (h := h) (q := am_sz h + 1) rfl, x_arn (h := h) (q := r0) (show r0 ≤ am_sz h by omega), x_arn0 (h := h) (q := am_sz h + 1) rfl, true_and]
      refine ⟨a192, a193, ?_⟩
      refine r_J16_copyOf_2_21 ?_
      exact H
    · replace H := H.2 c
      refine r_J15_min_3 ?_
      refine r_J15_min_6 ?_
      refine am_av ?_
      obtain ⟨a194, H⟩ := H
      refine r_J16_copyOf_2_20 ?_
      simp only [x_tyn (h := h) (q := r0) (show r0 ≤ am_sz h by omega), x_tyn0 (h := h) (q := am_sz h + 1) rfl, true_or, or_true, Nat.reduceEqDiff, x_lnn (h := h) (q := r0) (show r0 ≤ am_sz h by omega), x_lnn0 (h := h) (q := am_sz h + 1) rfl, x_arn (h := h) (q := r0) (show r0 ≤ am_sz h by omega), x_arn0 (h := h) (q := am_sz h + 1) rfl, true_and]
      refine ⟨a192, a194, ?_⟩
      refine r_J16_copyOf_2_21 ?_
      exact H
theorem v_J6_fastRemove_0 {d : Nat} {Q : am_K} {h : am_H} {r0 : Nat} {r1 : Nat} {x2 : Int} {o3 : Option am_V} (H : (am_ty h r0 = 31 ∧ (-2147483648 ≤ (am_fi h 193 r0) + 1 ∧ (am_fi h 193 r0) + 1 ≤ 2147483647)) ∧ (((-2147483648 ≤ (am_fi h 195 r0) - 1 ∧ (am_fi h 195 r0) - 1 ≤ 2147483647)) ∧ ((((am_fi h 195 r0) - 1 : Int) ≤ x2 → (am_ty h r1 = 114 ∧ ((0 : Int) ≤ (am_fi h 195 r0) - 1 ∧ (am_fi h 195 r0) - 1 < am_ln h r1)) ∧ (Q (.inl none) (am_sar (am_sfi (am_sfi h 193 r0 ((am_fi h 193 r0) + 1)) 195 r0 ((am_fi h 195 r0) - 1)) r1 ((am_fi h 195 r0) - 1) 0))) ∧ (x2 < ((am_fi h 195 r0) - 1 : Int) → ((-2147483648 ≤ x2 + 1 ∧ x2 + 1 ≤ 2147483647) ∧ (-2147483648 ≤ ((am_fi h 195 r0) - 1) - x2 ∧ ((am_fi h 195 r0) - 1) - x2 ≤ 2147483647) ∧ (am_ty h r1 = 114 ∨ am_ty h r1 = 134) ∧ am_ty h r1 = 114 ∧ ((0 : Int) ≤ ((am_fi h 195 r0) - 1) - x2 ∧ (0 : Int) ≤ x2 + 1 ∧ (0 : Int) ≤ x2 ∧ ((x2 + 1) : Int) + (((am_fi h 195 r0) - 1) - x2) ≤ am_ln h r1 ∧ (x2 : Int) + (((am_fi h 195 r0) - 1) - x2) ≤ am_ln h r1)) ∧ ((((0 : Int) ≤ (am_fi h 195 r0) - 1 ∧ (am_fi h 195 r0) - 1 < am_ln h r1)) ∧ (Q (.inl none) (am_sar (am_sfi (am_war (am_sfi h 193 r0 ((am_fi h 193 r0) + 1)) r1 (am_cpy (am_ar h r1) (am_ar h r1) (x2 + 1) x2 (((am_fi h 195 r0) - 1) - x2))) 195 r0 ((am_fi h 195 r0) - 1)) r1 ((am_fi h 195 r0) - 1) 0))))))) : am_W m_J6_fastRemove (am_ev am_prog (d + 5)) Q 0 [some (.inr (.inl r0)), some (.inr (.inl r1)), some (.inl x2), o3] [] h := by
  obtain ⟨⟨a195, a196⟩, H⟩ := H
  refine r_J6_fastRemove_0 ?_
  refine ⟨a195, a196, a195, ?_⟩
  obtain ⟨a197, H⟩ := H
  refine r_J6_fastRemove_6 ?_
  simp only [x_ty_sfi, x_fif (by decide : (195 : Nat) ≠ 193), true_and]
  refine ⟨a195, a197, ⟨fun c => ?_, fun c => ?_⟩⟩
  · replace H := H.1 c
    refine r_J6_fastRemove_24 ?_
    simp only [x_ty_sfi, true_and]
    refine ⟨a195, ?_⟩
    obtain ⟨⟨a198, a199⟩, H⟩ := H
    refine r_J6_fastRemove_29 ?_
    simp only [x_ty_sfi, x_ln_sfi, true_and]
    refine ⟨⟨(114, [8, 11, 19, 22, 23, 24, 25, 27, 115]), List.Mem.head _, a198, Or.inl (by simp)⟩, a199, ?_⟩
    refine r_J6_fastRemove_31 ?_
    exact H
  · replace H := H.2 c
    obtain ⟨⟨a200, a201, a202, a203, a204⟩, H⟩ := H
    refine r_J6_fastRemove_14 ?_
    simp only [x_ty_sfi, x_ln_sfi, x_ar_sfi, true_and]
    refine ⟨a200, a201, a202, a203, a204, ?_⟩
    refine r_J6_fastRemove_24 ?_
    simp only [x_ty_war, x_ty_sfi, true_and]
    refine ⟨a195, ?_⟩
    obtain ⟨a205, H⟩ := H
    refine r_J6_fastRemove_29 ?_
    simp only [x_ty_sfi, x_ty_war, x_ln_sfi, x_ln_war, true_and]
    refine ⟨⟨(114, [8, 11, 19, 22, 23, 24, 25, 27, 115]), List.Mem.head _, a203, Or.inl (by simp)⟩, a205, ?_⟩
    refine r_J6_fastRemove_31 ?_
    exact H
theorem v_J1_append_3_0 {d : Nat} {Q : am_K} {h : am_H} {r0 : Nat} {x1 : Int} (H : (am_ty h r0 = 29) ∧ (am_ev am_prog (d + 5) 399 [.inr (.inl r0), .inl x1] h (am_aft (am_hand m_J1_append_3 Q (am_W m_J1_append_3 (am_ev am_prog (d + 5)) Q) 2) (am_W m_J1_append_3 (am_ev am_prog (d + 5)) Q) 2 [some (.inr (.inl r0)), some (.inl x1)] []))) : am_W m_J1_append_3 (am_ev am_prog (d + 5)) Q 0 [some (.inr (.inl r0)), some (.inl x1)] [] h := by
  obtain ⟨a206, H⟩ := H
  refine r_J1_append_3_0 ?_
  refine ⟨a206, ?_⟩
  exact H
theorem v_J1_append_3_3 {d : Nat} {Q : am_K} {h : am_H} {r0 : Nat} {x1 : Int} {q0 : Nat} (H : Q (.inl (some (.inr (.inl r0)))) h) : am_W m_J1_append_3 (am_ev am_prog (d + 5)) Q 3 [some (.inr (.inl r0)), some (.inl x1)] [.inr (.inl q0)] h := by
  refine r_J1_append_3_3 ?_
  exact H
theorem v_J7_init_3_0 {d : Nat} {Q : am_K} {h : am_H} {r0 : Nat} {r1 : Nat} {r2 : Nat} {x3 : Int} {x4 : Int} (H : (am_ty h r0 = 7) ∧ (((x4 : Int) = 0 → ((x3 : Int) ≠ 0 → Q (.inl none) (am_sfr (am_sfr (am_sfr (am_sfr (am_sfr (am_sfr h 101 r0 r0) 102 r0 (am_cs h 24)) 103 r0 (am_cs h 25)) 102 r0 0) 104 r0 r1) 101 r0 r2)) ∧ ((x3 : Int) = 0 → Q (.inl none) (am_sfr (am_sfr (am_sfr (am_sfr (am_sfr (am_sfr (am_sfr h 101 r0 r0) 102 r0 (am_cs h 24)) 103 r0 (am_cs h 25)) 102 r0 0) 104 r0 r1) 101 r0 r2) 103 r0 0))) ∧ ((x4 : Int) ≠ 0 → False))) : am_W m_J7_init_3 (am_ev am_prog (d + 5)) Q 0 [some (.inr (.inl r0)), some (.inr (.inl r1)), some (.inr (.inl r2)), some (.inl x3), some (.inl x4)] [] h := by
  obtain ⟨a207, H⟩ := H
  refine r_J7_init_3_0 ?_
  refine ⟨a207, a207, ?_⟩
  refine r_J7_init_3_5 ?_
  simp only [x_cs_sfr, x_ty_sfr, true_and]
  refine ⟨a207, ?_⟩
  refine r_J7_init_3_8 ?_
  simp only [x_cs_sfr, x_ty_sfr, true_and]
  refine ⟨a207, ?_⟩
  refine r_J7_init_3_11 ?_
  refine ⟨fun c => ?_, fun c => ?_⟩
  · replace H := H.1 c
    refine r_J7_init_3_17 ?_
    simp only [x_ty_sfr, true_and]
    refine ⟨a207, ?_⟩
    refine r_J7_init_3_20 ?_
    simp only [x_ty_sfr, true_and]
    refine ⟨a207, ?_⟩
    refine r_J7_init_3_23 ?_
    simp only [x_ty_sfr, true_and]
    refine ⟨a207, ?_⟩
    refine r_J7_init_3_26 ?_
    refine ⟨fun c => ?_, fun c => ?_⟩
    · replace H := H.1 c
      refine r_J7_init_3_31 ?_
      exact H
    · replace H := H.2 c
      refine r_J7_init_3_28 ?_
      simp only [x_ty_sfr, true_and]
      refine ⟨a207, ?_⟩
      refine r_J7_init_3_31 ?_
      exact H
  · replace H := H.2 c
    exact H.elim
theorem v_J1_setLength_0 {d : Nat} {Q : am_K} {h : am_H} {r0 : Nat} {x1 : Int} (H : (am_ty h r0 = 29) ∧ (am_ev am_prog (d + 5) 410 [.inr (.inl r0), .inl x1] h (am_aft (am_hand m_J1_setLength Q (am_W m_J1_setLength (am_ev am_prog (d + 5)) Q) 2) (am_W m_J1_setLength (am_ev am_prog (d + 5)) Q) 2 [some (.inr (.inl r0)), some (.inl x1)] []))) : am_W m_J1_setLength (am_ev am_prog (d + 5)) Q 0 [some (.inr (.inl r0)), some (.inl x1)] [] h := by
  obtain ⟨a208, H⟩ := H
  refine r_J1_setLength_0 ?_
  refine ⟨a208, ?_⟩
  exact H
theorem v_J1_setLength_3 {d : Nat} {Q : am_K} {h : am_H} {r0 : Nat} {x1 : Int} (H : Q (.inl none) h) : am_W m_J1_setLength (am_ev am_prog (d + 5)) Q 3 [some (.inr (.inl r0)), some (.inl x1)] [] h := by
  refine r_J1_setLength_3 ?_
  exact H
theorem v_J1_length_0 {d : Nat} {Q : am_K} {h : am_H} {r0 : Nat} (H : (am_ty h r0 = 29) ∧ (Q (.inl (some (.inl (am_fi h 188 r0)))) h)) : am_W m_J1_length (am_ev am_prog (d + 5)) Q 0 [some (.inr (.inl r0))] [] h := by
  obtain ⟨a209, H⟩ := H
  refine r_J1_length_0 ?_
  refine ⟨a209, ?_⟩
  refine am_en p_J0_length rfl rfl ?_
  refine r_J0_length_0 ?_
  refine ⟨a209, ?_⟩
  refine am_av ?_
  refine r_J1_length_2 ?_
  exact H
theorem v_J1_append_0 {d : Nat} {Q : am_K} {h : am_H} {r0 : Nat} {r1 : Nat} (H : (am_ty h r0 = 29) ∧ (am_ev am_prog (d + 5) 412 [.inr (.inl r0), .inr (.inl r1)] h (am_aft (am_hand m_J1_append Q (am_W m_J1_append (am_ev am_prog (d + 5)) Q) 2) (am_W m_J1_append (am_ev am_prog (d + 5)) Q) 2 [some (.inr (.inl r0)), some (.inr (.inl r1))] []))) : am_W m_J1_append (am_ev am_prog (d + 5)) Q 0 [some (.inr (.inl r0)), some (.inr (.inl r1))] [] h := by
  obtain ⟨a210, H⟩ := H
  refine r_J1_append_0 ?_
  refine ⟨a210, ?_⟩
  exact H
theorem v_J1_append_3 {d : Nat} {Q : am_K} {h : am_H} {r0 : Nat} {r1 : Nat} {q0 : Nat} (H : Q (.inl (some (.inr (.inl r0)))) h) : am_W m_J1_append (am_ev am_prog (d + 5)) Q 3 [some (.inr (.inl r0)), some (.inr (.inl r1))] [.inr (.inl q0)] h := by
  refine r_J1_append_3 ?_
  exact H
theorem v_J0_getValue_0 {d : Nat} {Q : am_K} {h : am_H} {r0 : Nat} (H : (am_ty h r0 = 29) ∧ (Q (.inl (some (.inr (.inl (am_fr h 185 r0))))) h)) : am_W m_J0_getValue (am_ev am_prog (d + 5)) Q 0 [some (.inr (.inl r0))] [] h := by
  obtain ⟨a211, H⟩ := H
  refine r_J0_getValue_0 ?_
  refine ⟨a211, ?_⟩
  exact H
theorem v_J16_copyOfRange_0 {d : Nat} {Q : am_K} {h : am_H} {r0 : Nat} {x1 : Int} {x2 : Int} (H : ((x1 : Int) ≠ 0 → am_ev am_prog (d + 5) 413 [.inr (.inl r0), .inl x1, .inl x2] h (am_aft (am_hand m_J16_copyOfRange Q (am_W m_J16_copyOfRange (am_ev am_prog (d + 5)) Q) 9) (am_W m_J16_copyOfRange (am_ev am_prog (d + 5)) Q) 9 [some (.inr (.inl r0)), some (.inl x1), some (.inl x2)] [])) ∧ ((x1 : Int) = 0 → ((am_ty h r0 = 102 ∨ am_ty h r0 = 122)) ∧ (((x2 : Int) = am_ln h r0 → (am_ty h r0 = 102) ∧ (Q (.inl (some (.inr (.inl (am_sz h + 1))))) (am_wai (am_new h 102 (Int.toNat (am_ln h r0))) (am_sz h + 1) (am_ai h r0)))) ∧ ((x2 : Int) ≠ am_ln h r0 → am_ev am_prog (d + 5) 413 [.inr (.inl r0), .inl x1, .inl x2] h (am_aft (am_hand m_J16_copyOfRange Q (am_W m_J16_copyOfRange (am_ev am_prog (d + 5)) Q) 9) (am_W m_J16_copyOfRange (am_ev am_prog (d + 5)) Q) 9 [some (.inr (.inl r0)), some (.inl x1), some (.inl x2)] []))))) : am_W m_J16_copyOfRange (am_ev am_prog (d + 5)) Q 0 [some (.inr (.inl r0)), some (.inl x1), some (.inl x2)] [] h := by
  refine r_J16_copyOfRange_0 ?_
  refine ⟨fun c => ?_, fun c => ?_⟩
  · replace H := H.1 c
    refine r_J16_copyOfRange_6 ?_
    exact H
  · replace H := H.2 c
    obtain ⟨a212, H⟩ := H
    refine r_J16_copyOfRange_2 ?_
    refine ⟨a212, ⟨fun c => ?_, fun c => ?_⟩⟩
    · replace H := H.1 c
      obtain ⟨a213, H⟩ := H
      refine r_J16_copyOfRange_11 ?_
      refine ⟨a213, ?_⟩
      refine r_J16_copyOfRange_13 ?_
      simp only [x_ty_wai, x_tyn0 (h := h) (q := am_sz h + 1) rfl, or_true, true_or, Nat.reduceEqDiff, true_and]
      exact H
    · replace H := H.2 c
      refine r_J16_copyOfRange_6 ?_
      exact H
theorem v_J16_copyOfRange_10 {d : Nat} {Q : am_K} {h : am_H} {r0 : Nat} {x1 : Int} {x2 : Int} {q0 : Nat} (H : Q (.inl (some (.inr (.inl q0)))) h) : am_W m_J16_copyOfRange (am_ev am_prog (d + 5)) Q 10 [some (.inr (.inl r0)), some (.inl x1), some (.inl x2)] [.inr (.inl q0)] h := by
  refine r_J16_copyOfRange_10 ?_
  exact H
theorem v_J15_min_0 {d : Nat} {Q : am_K} {h : am_H} {x0 : Int} {x1 : Int} (H : (x1 < (x0 : Int) → Q (.inl (some (.inl x1))) h) ∧ ((x0 : Int) ≤ x1 → Q (.inl (some (.inl x0))) h)) : am_W m_J15_min (am_ev am_prog (d + 5)) Q 0 [some (.inl x0), some (.inl x1)] [] h := by
  refine r_J15_min_0 ?_
  refine ⟨fun c => ?_, fun c => ?_⟩
  · replace H := H.1 c
    refine r_J15_min_5 ?_
    refine r_J15_min_6 ?_
    exact H
  · replace H := H.2 c
    refine r_J15_min_3 ?_
    refine r_J15_min_6 ?_
    exact H
theorem v_J0_append_3_0 {d : Nat} {Q : am_K} {h : am_H} {r0 : Nat} {x1 : Int} (H : (am_ty h r0 = 29 ∧ (-2147483648 ≤ (am_fi h 188 r0) + 1 ∧ (am_fi h 188 r0) + 1 ≤ 2147483647)) ∧ (am_ev am_prog (d + 5) 414 [.inr (.inl r0), .inl ((am_fi h 188 r0) + 1)] h (am_aft (am_hand m_J0_append_3 Q (am_W m_J0_append_3 (am_ev am_prog (d + 5)) Q) 5) (am_W m_J0_append_3 (am_ev am_prog (d + 5)) Q) 5 [some (.inr (.inl r0)), some (.inl x1)] []))) : am_W m_J0_append_3 (am_ev am_prog (d + 5)) Q 0 [some (.inr (.inl r0)), some (.inl x1)] [] h := by
  obtain ⟨⟨a214, a215⟩, H⟩ := H
  refine r_J0_append_3_0 ?_
  refine ⟨a214, a215, a214, ?_⟩
  exact H
theorem v_J0_append_3_6 {d : Nat} {Q : am_K} {h : am_H} {r0 : Nat} {x1 : Int} (H : (am_ty h r0 = 29) ∧ (((am_fi h 186 r0 : Int) ≠ 0 → ((am_fi h 186 r0 : Int) ≠ 0 → ((-2147483648 ≤ (am_fi h 188 r0) + 1 ∧ (am_fi h 188 r0) + 1 ≤ 2147483647)) ∧ (False)) ∧ ((am_fi h 186 r0 : Int) = 0 → False)) ∧ ((am_fi h 186 r0 : Int) = 0 → (255 < (x1 : Int) → ((am_fi h 186 r0 : Int) ≠ 0 → ((-2147483648 ≤ (am_fi h 188 r0) + 1 ∧ (am_fi h 188 r0) + 1 ≤ 2147483647)) ∧ (False)) ∧ ((am_fi h 186 r0 : Int) = 0 → False)) ∧ ((x1 : Int) ≤ 255 → ((-2147483648 ≤ (am_fi h 188 r0) + 1 ∧ (am_fi h 188 r0) + 1 ≤ 2147483647)) ∧ ((am_ty h (am_fr h 185 r0) = 102 ∧ ((0 : Int) ≤ am_fi h 188 r0 ∧ am_fi h 188 r0 < am_ln h (am_fr h 185 r0))) ∧ (Q (.inl (some (.inr (.inl r0)))) (am_sai (am_sfi h 188 r0 ((am_fi h 188 r0) + 1)) (am_fr h 185 r0) (am_fi h 188 r0) (am_i2bz (am_i2bz x1))))))))) : am_W m_J0_append_3 (am_ev am_prog (d + 5)) Q 6 [some (.inr (.inl r0)), some (.inl x1)] [] h := by
  obtain ⟨a216, H⟩ := H
  refine r_J0_append_3_6 ?_
  refine ⟨a216, ?_⟩
  refine am_en p_J0_isLatin1 rfl rfl ?_
  refine r_J0_isLatin1_0 ?_
  refine ⟨fun c => absurd c (by decide), fun c => ?_⟩
  refine r_J0_isLatin1_2 ?_
  refine ⟨a216, ⟨fun c => ?_, fun c => ?_⟩⟩
  · replace H := H.1 c
    refine r_J0_isLatin1_7 ?_
    refine r_J0_isLatin1_8 ?_
    refine ⟨(by decide), ?_⟩
    refine am_av ?_
    refine r_J0_append_3_8 ?_
    refine ⟨fun c => ?_, fun c => absurd c (by decide)⟩
    refine r_J0_append_3_25 ?_
    refine ⟨a216, ?_⟩
    refine am_en p_J0_isLatin1 rfl rfl ?_
    refine r_J0_isLatin1_0 ?_
    refine ⟨fun c => absurd c (by decide), fun c => ?_⟩
    refine r_J0_isLatin1_2 ?_
    refine ⟨a216, ⟨fun c => ?_, fun c => ?_⟩⟩
    · replace H := H.1 c
      refine r_J0_isLatin1_7 ?_
      refine r_J0_isLatin1_8 ?_
      refine ⟨(by decide), ?_⟩
      refine am_av ?_
      refine r_J0_append_3_27 ?_
      refine ⟨fun c => ?_, fun c => absurd c (by decide)⟩
      obtain ⟨a217, H⟩ := H
      refine r_J0_append_3_30 ?_
      refine ⟨a216, a216, a217, a216, ?_⟩
      exact H.elim
    · replace H := H.2 c
      refine r_J0_isLatin1_5 ?_
      refine r_J0_isLatin1_8 ?_
      refine ⟨(by decide), ?_⟩
      refine am_av ?_
      refine r_J0_append_3_27 ?_
      refine ⟨fun c => absurd c (by decide), fun c => ?_⟩
      exact H.elim
  · replace H := H.2 c
    refine r_J0_isLatin1_5 ?_
    refine r_J0_isLatin1_8 ?_
    refine ⟨(by decide), ?_⟩
    refine am_av ?_
    refine r_J0_append_3_8 ?_
    refine ⟨fun c => absurd c (by decide), fun c => ?_⟩
    refine r_J0_append_3_9 ?_
    refine am_en p_J18_canEncode rfl rfl ?_
    refine r_J18_canEncode_0 ?_
    refine ⟨fun c => ?_, fun c => ?_⟩
    · replace H := H.1 c
      refine r_J18_canEncode_5 ?_
      refine r_J18_canEncode_6 ?_
      refine ⟨(by decide), ?_⟩
      refine am_av ?_
      refine r_J0_append_3_11 ?_
      refine ⟨fun c => ?_, fun c => absurd c (by decide)⟩
      refine r_J0_append_3_25 ?_
      refine ⟨a216, ?_⟩
      refine am_en p_J0_isLatin1 rfl rfl ?_
      refine r_J0_isLatin1_0 ?_
      refine ⟨fun c => absurd c (by decide), fun c => ?_⟩
      refine r_J0_isLatin1_2 ?_
      refine ⟨a216, ⟨fun c => ?_, fun c => ?_⟩⟩
      · replace H := H.1 c
        refine r_J0_isLatin1_7 ?_
        refine r_J0_isLatin1_8 ?_
        refine ⟨(by decide), ?_⟩
        refine am_av ?_
        refine r_J0_append_3_27 ?_
        refine ⟨fun c => ?_, fun c => absurd c (by decide)⟩
        obtain ⟨a218, H⟩ := H
        refine r_J0_append_3_30 ?_
        refine ⟨a216, a216, a218, a216, ?_⟩
        exact H.elim
      · replace H := H.2 c
        refine r_J0_isLatin1_5 ?_
        refine r_J0_isLatin1_8 ?_
        refine ⟨(by decide), ?_⟩
        refine am_av ?_
        refine r_J0_append_3_27 ?_
        refine ⟨fun c => absurd c (by decide), fun c => ?_⟩
        exact H.elim
    · replace H := H.2 c
      refine r_J18_canEncode_3 ?_
      refine r_J18_canEncode_6 ?_
      refine ⟨(by decide), ?_⟩
      refine am_av ?_
      refine r_J0_append_3_11 ?_
      refine ⟨fun c => absurd c (by decide), fun c => ?_⟩
      obtain ⟨a219, H⟩ := H
      refine r_J0_append_3_12 ?_
      refine ⟨a216, a216, a219, a216, ?_⟩
      obtain ⟨⟨a220, a221⟩, H⟩ := H
      refine r_J0_append_3_21 ?_
      simp only [x_ty_sfi, x_ln_sfi, true_and]
      refine ⟨a220, a221, ?_⟩
      refine r_J0_append_3_24 ?_
      refine r_J0_append_3_41 ?_
      exact H
theorem v_J0_setLength_0 {d : Nat} {Q : am_K} {h : am_H} {r0 : Nat} {x1 : Int} (H : (0 ≤ (x1 : Int) → (am_ty h r0 = 29) ∧ (am_ev am_prog (d + 5) 414 [.inr (.inl r0), .inl x1] h (am_aft (am_hand m_J0_setLength Q (am_W m_J0_setLength (am_ev am_prog (d + 5)) Q) 9) (am_W m_J0_setLength (am_ev am_prog (d + 5)) Q) 9 [some (.inr (.inl r0)), some (.inl x1)] []))) ∧ ((x1 : Int) < 0 → am_ev am_prog (d + 5) 423 [.inr (.inl (am_sz h + 1)), .inl x1] (am_new h 36 6) (am_aft (am_hand m_J0_setLength Q (am_W m_J0_setLength (am_ev am_prog (d + 5)) Q) 5) (am_W m_J0_setLength (am_ev am_prog (d + 5)) Q) 5 [some (.inr (.inl r0)), some (.inl x1)] [.inr (.inl (am_sz h + 1))]))) : am_W m_J0_setLength (am_ev am_prog (d + 5)) Q 0 [some (.inr (.inl r0)), some (.inl x1)] [] h := by
  refine r_J0_setLength_0 ?_
  refine ⟨fun c => ?_, fun c => ?_⟩
  · replace H := H.1 c
    obtain ⟨a222, H⟩ := H
    refine r_J0_setLength_7 ?_
    refine ⟨a222, ?_⟩
    exact H
  · replace H := H.2 c
    refine r_J0_setLength_2 ?_
    refine r_J0_setLength_3 ?_
    simp only [x_tyn0 (h := h) (q := am_sz h + 1) rfl, true_or, or_true, Nat.reduceEqDiff, true_and]
    exact H
theorem v_J0_setLength_6 {d : Nat} {Q : am_K} {h : am_H} {r0 : Nat} {x1 : Int} {q0 : Nat} (H : (q0 ≠ 0) ∧ (Q (.inr q0) h)) : am_W m_J0_setLength (am_ev am_prog (d + 5)) Q 6 [some (.inr (.inl r0)), some (.inl x1)] [.inr (.inl q0)] h := by
  obtain ⟨a223, H⟩ := H
  refine r_J0_setLength_6 ?_
  refine ⟨a223, ?_⟩
  refine am_hx rfl ?_
  exact H
theorem v_J0_setLength_10 {d : Nat} {Q : am_K} {h : am_H} {r0 : Nat} {x1 : Int} (H : (am_ty h r0 = 29) ∧ ((x1 ≤ (am_fi h 188 r0 : Int) → ((am_fi h 188 r0 : Int) ≤ x1 → Q (.inl none) (am_sfi h 188 r0 x1)) ∧ (x1 < (am_fi h 188 r0 : Int) → Q (.inl none) (am_sfi (am_sfi h 187 r0 1) 188 r0 x1))) ∧ ((am_fi h 188 r0 : Int) < x1 → ((am_fi h 186 r0 : Int) ≠ 0 → False) ∧ ((am_fi h 186 r0 : Int) = 0 → am_ev am_prog (d + 5) 424 [.inr (.inl (am_fr h 185 r0)), .inl (am_fi h 188 r0), .inl x1] h (am_aft (am_hand m_J0_setLength Q (am_W m_J0_setLength (am_ev am_prog (d + 5)) Q) 22) (am_W m_J0_setLength (am_ev am_prog (d + 5)) Q) 22 [some (.inr (.inl r0)), some (.inl x1)] []))))) : am_W m_J0_setLength (am_ev am_prog (d + 5)) Q 10 [some (.inr (.inl r0)), some (.inl x1)] [] h := by
  obtain ⟨a224, H⟩ := H
  refine r_J0_setLength_10 ?_
  refine ⟨a224, ⟨fun c => ?_, fun c => ?_⟩⟩
  · replace H := H.1 c
    refine r_J0_setLength_31 ?_
    refine ⟨a224, ⟨fun c => ?_, fun c => ?_⟩⟩
    · replace H := H.1 c
      refine r_J0_setLength_38 ?_
      refine ⟨a224, ?_⟩
      refine r_J0_setLength_41 ?_
      exact H
    · replace H := H.2 c
      refine r_J0_setLength_35 ?_
      refine ⟨a224, (by decide), ?_⟩
      refine r_J0_setLength_38 ?_
      simp only [x_ty_sfi, true_and]
      refine ⟨a224, ?_⟩
      refine r_J0_setLength_41 ?_
      exact H
  · replace H := H.2 c
    refine r_J0_setLength_14 ?_
    refine ⟨a224, ?_⟩
    refine am_en p_J0_isLatin1 rfl rfl ?_
    refine r_J0_isLatin1_0 ?_
    refine ⟨fun c => absurd c (by decide), fun c => ?_⟩
    refine r_J0_isLatin1_2 ?_
    refine ⟨a224, ⟨fun c => ?_, fun c => ?_⟩⟩
    · replace H := H.1 c
      refine r_J0_isLatin1_7 ?_
      refine r_J0_isLatin1_8 ?_
      refine ⟨(by decide), ?_⟩
      refine am_av ?_
      refine r_J0_setLength_16 ?_
      refine ⟨fun c => ?_, fun c => absurd c (by decide)⟩
      exact H.elim
    · replace H := H.2 c
      refine r_J0_isLatin1_5 ?_
      refine r_J0_isLatin1_8 ?_
      refine ⟨(by decide), ?_⟩
      refine am_av ?_
      refine r_J0_setLength_16 ?_
      refine ⟨fun c => absurd c (by decide), fun c => ?_⟩
      refine r_J0_setLength_17 ?_
      refine ⟨a224, a224, ?_⟩
      exact H
theorem v_J0_setLength_23 {d : Nat} {Q : am_K} {h : am_H} {r0 : Nat} {x1 : Int} (H : (am_ty h r0 = 29) ∧ (Q (.inl none) (am_sfi h 188 r0 x1))) : am_W m_J0_setLength (am_ev am_prog (d + 5)) Q 23 [some (.inr (.inl r0)), some (.inl x1)] [] h := by
  refine r_J0_setLength_23 ?_
  obtain ⟨a225, H⟩ := H
  refine r_J0_setLength_38 ?_
  refine ⟨a225, ?_⟩
  refine r_J0_setLength_41 ?_
  exact H
theorem v_J0_length_0 {d : Nat} {Q : am_K} {h : am_H} {r0 : Nat} (H : (am_ty h r0 = 29) ∧ (Q (.inl (some (.inl (am_fi h 188 r0)))) h)) : am_W m_J0_length (am_ev am_prog (d + 5)) Q 0 [some (.inr (.inl r0))] [] h := by
  obtain ⟨a226, H⟩ := H
  refine r_J0_length_0 ?_
  refine ⟨a226, ?_⟩
  exact H
theorem v_J0_append_0 {d : Nat} {Q : am_K} {h : am_H} {r0 : Nat} {r1 : Nat} {o2 : Option am_V} (H : (r1 ≠ 0 → ((am_ty h r1 = 30 ∨ am_ty h r1 = 90)) ∧ (((am_ty h (am_fr h 189 r1) = 102 ∨ am_ty h (am_fr h 189 r1) = 122)) ∧ ((((-128 : Int) ≤ am_fi h 190 r1 ∧ am_fi h 190 r1 ≤ 127)) ∧ ((am_ty h r0 = 29 ∧ (-2147483648 ≤ (am_fi h 188 r0) + (am_shrz (am_ln h (am_fr h 189 r1)) (am_fi h 190 r1)) ∧ (am_fi h 188 r0) + (am_shrz (am_ln h (am_fr h 189 r1)) (am_fi h 190 r1)) ≤ 2147483647)) ∧ (am_ev am_prog (d + 5) 414 [.inr (.inl r0), .inl ((am_fi h 188 r0) + (am_shrz (am_ln h (am_fr h 189 r1)) (am_fi h 190 r1)))] h (am_aft (am_hand m_J0_append Q (am_W m_J0_append (am_ev am_prog (d + 5)) Q) 13) (am_W m_J0_append (am_ev am_prog (d + 5)) Q) 13 [some (.inr (.inl r0)), some (.inr (.inl r1)), some (.inl (am_shrz (am_ln h (am_fr h 189 r1)) (am_fi h 190 r1)))] [])))))) ∧ (r1 = 0 → False)) : am_W m_J0_append (am_ev am_prog (d + 5)) Q 0 [some (.inr (.inl r0)), some (.inr (.inl r1)), o2] [] h := by
  refine r_J0_append_0 ?_
  refine ⟨fun c => ?_, fun c => ?_⟩
  · replace H := H.1 c
    obtain ⟨a227, H⟩ := H
    refine r_J0_append_5 ?_
    refine ⟨a227, ?_⟩
    refine am_en p_J2_length rfl rfl ?_
    obtain ⟨a228, H⟩ := H
    refine r_J2_length_0 ?_
    refine ⟨a227, a228, a227, ?_⟩
    refine am_en p_J2_coder rfl rfl ?_
    refine r_J2_coder_0 ?_
    refine ⟨fun c => absurd c (by decide), fun c => ?_⟩
    refine r_J2_coder_2 ?_
    refine ⟨a227, ?_⟩
    obtain ⟨a229, H⟩ := H
    refine r_J2_coder_6 ?_
    refine ⟨a229, ?_⟩
    refine am_av ?_
    refine r_J2_length_5 ?_
    refine am_av ?_
    obtain ⟨⟨a230, a231⟩, H⟩ := H
    refine r_J0_append_7 ?_
    refine ⟨a230, a231, a230, ?_⟩
    exact H
  · replace H := H.2 c
    exact H.elim
theorem v_J0_append_14 {d : Nat} {Q : am_K} {h : am_H} {r0 : Nat} {r1 : Nat} {x2 : Int} (H : (am_ty h r0 = 29) ∧ (((am_ty h r1 = 30 ∨ am_ty h r1 = 90)) ∧ ((((-128 : Int) ≤ am_fi h 190 r1 ∧ am_fi h 190 r1 ≤ 127)) ∧ (((am_fi h 186 r0 : Int) = am_fi h 190 r1 → ((am_fi h 190 r1 : Int) ≠ am_fi h 186 r0 → ((am_ty h (am_fr h 189 r1) = 102 ∨ am_ty h (am_fr h 189 r1) = 122)) ∧ (False)) ∧ ((am_fi h 190 r1 : Int) = am_fi h 186 r0 → ((am_ty h (am_fr h 189 r1) = 102 ∨ am_ty h (am_fr h 189 r1) = 122) ∧ am_ty h (am_fr h 185 r0) = 102 ∧ ((0 : Int) ≤ am_ln h (am_fr h 189 r1) ∧ (0 : Int) ≤ 0 ∧ (0 : Int) ≤ am_shlz (am_fi h 188 r0) (am_fi h 186 r0) ∧ (0 : Int) + (am_ln h (am_fr h 189 r1)) ≤ am_ln h (am_fr h 189 r1) ∧ ((am_shlz (am_fi h 188 r0) (am_fi h 186 r0)) : Int) + (am_ln h (am_fr h 189 r1)) ≤ am_ln h (am_fr h 185 r0))) ∧ (((-2147483648 ≤ (am_fi h 188 r0) + x2 ∧ (am_fi h 188 r0) + x2 ≤ 2147483647)) ∧ (Q (.inl (some (.inr (.inl r0)))) (am_sfi (am_wai h (am_fr h 185 r0) (am_cpy (am_ai h (am_fr h 189 r1)) (am_ai h (am_fr h 185 r0)) 0 (am_shlz (am_fi h 188 r0) (am_fi h 186 r0)) (am_ln h (am_fr h 189 r1)))) 188 r0 ((am_fi h 188 r0) + x2)))))) ∧ ((am_fi h 186 r0 : Int) ≠ am_fi h 190 r1 → False))))) : am_W m_J0_append (am_ev am_prog (d + 5)) Q 14 [some (.inr (.inl r0)), some (.inr (.inl r1)), some (.inl x2)] [] h := by
  obtain ⟨a232, H⟩ := H
  refine r_J0_append_14 ?_
  refine ⟨a232, a232, ?_⟩
  refine am_en p_J0_putStringAt rfl rfl ?_
  refine r_J0_putStringAt_0 ?_
  refine ⟨a232, ?_⟩
  refine am_en p_J0_inflateIfNeededFor rfl rfl ?_
  refine r_J0_inflateIfNeededFor_0 ?_
  refine ⟨fun c => absurd c (by decide), fun c => ?_⟩
  obtain ⟨a233, H⟩ := H
  refine r_J0_inflateIfNeededFor_2 ?_
  refine ⟨a232, a233, ?_⟩
  refine am_en p_J2_coder rfl rfl ?_
  refine r_J2_coder_0 ?_
  refine ⟨fun c => absurd c (by decide), fun c => ?_⟩
  refine r_J2_coder_2 ?_
  refine ⟨a233, ?_⟩
  obtain ⟨a234, H⟩ := H
  refine r_J2_coder_6 ?_
  refine ⟨a234, ?_⟩
  refine am_av ?_
  refine r_J0_inflateIfNeededFor_6 ?_
  refine ⟨fun c => ?_, fun c => ?_⟩
  · replace H := H.1 c
    refine r_J0_inflateIfNeededFor_9 ?_
    refine am_an ?_
    refine r_J0_putStringAt_3 ?_
    refine ⟨a232, a232, a233, ?_⟩
    refine am_en p_J2_getBytes rfl rfl ?_
    refine r_J2_getBytes_0 ?_
    refine ⟨a233, ?_⟩
    refine am_en p_J2_coder rfl rfl ?_
    refine r_J2_coder_0 ?_
    refine ⟨fun c => absurd c (by decide), fun c => ?_⟩
    refine r_J2_coder_2 ?_
    refine ⟨a233, ?_⟩
    refine r_J2_coder_6 ?_
    refine ⟨a234, ?_⟩
    refine am_av ?_
    refine r_J2_getBytes_2 ?_
    refine ⟨fun c => ?_, fun c => ?_⟩
    · replace H := H.1 c
      obtain ⟨a235, H⟩ := H
      exact H.elim
    · replace H := H.2 c
      obtain ⟨⟨a236, a237, a238⟩, H⟩ := H
      refine r_J2_getBytes_4 ?_
      refine ⟨a233, a233, a236, a236, a237, a238, ?_⟩
      refine r_J2_getBytes_15 ?_
      refine r_J2_getBytes_25 ?_
      refine am_an ?_
      refine r_J0_putStringAt_10 ?_
      refine am_an ?_
      obtain ⟨a239, H⟩ := H
      refine r_J0_append_19 ?_
      simp only [x_ty_wai, x_fi_wai, true_and]
      refine ⟨a232, a239, a232, ?_⟩
      refine r_J0_append_25 ?_
      exact H
  · replace H := H.2 c
    exact H.elim
theorem v_J16_copyOfRangeByte_0 {d : Nat} {Q : am_K} {h : am_H} {r0 : Nat} {x1 : Int} {x2 : Int} {o3 : Option am_V} {o4 : Option am_V} (H : (x1 ≤ (x2 : Int) → ((-2147483648 ≤ x2 - x1 ∧ x2 - x1 ≤ 2147483647) ∧ ((0 : Int) ≤ x2 - x1 ∧ x2 - x1 ≤ 1000000)) ∧ ((r0 ≤ am_sz h ∧ (am_ty h r0 = 102 ∨ am_ty h r0 = 122) ∧ (-2147483648 ≤ (am_ln h r0) - x1 ∧ (am_ln h r0) - x1 ≤ 2147483647)) ∧ ((x2 - x1 < ((am_ln h r0) - x1 : Int) → (((0 : Int) ≤ x2 - x1 ∧ (0 : Int) ≤ x1 ∧ (0 : Int) ≤ 0 ∧ (x1 : Int) + (x2 - x1) ≤ am_ln h r0 ∧ (0 : Int) + (x2 - x1) ≤ ((Int.toNat (x2 - x1) : Nat) : Int))) ∧ (Q (.inl (some (.inr (.inl (am_sz h + 1))))) (am_wai (am_new h 102 (Int.toNat (x2 - x1))) (am_sz h + 1) (am_cpy (am_ai h r0) (fun _ => 0) x1 0 (x2 - x1))))) ∧ (((am_ln h r0) - x1 : Int) ≤ x2 - x1 → (((0 : Int) ≤ (am_ln h r0) - x1 ∧ (0 : Int) ≤ x1 ∧ (0 : Int) ≤ 0 ∧ (x1 : Int) + ((am_ln h r0) - x1) ≤ am_ln h r0 ∧ (0 : Int) + ((am_ln h r0) - x1) ≤ ((Int.toNat (x2 - x1) : Nat) : Int))) ∧ (Q (.inl (some (.inr (.inl (am_sz h + 1))))) (am_wai (am_new h 102 (Int.toNat (x2 - x1))) (am_sz h + 1) (am_cpy (am_ai h r0) (fun _ => 0) x1 0 ((am_ln h r0) - x1)))))))) ∧ ((x2 : Int) < x1 → False)) : am_W m_J16_copyOfRangeByte (am_ev am_prog (d + 5)) Q 0 [some (.inr (.inl r0)), some (.inl x1), some (.inl x2), o3, o4] [] h := by
  refine r_J16_copyOfRangeByte_0 ?_
  refine am_en p_J16_checkLength rfl rfl ?_
  refine r_J16_checkLength_0 ?_
  refine ⟨fun c => ?_, fun c => ?_⟩
  · replace H := H.1 c
    refine r_J16_checkLength_17 ?_
    refine am_an ?_
    obtain ⟨⟨a240, a241⟩, H⟩ := H
    refine r_J16_copyOfRangeByte_3 ?_
    refine ⟨a240, a241, ?_⟩
    obtain ⟨⟨a242, a243, a244⟩, H⟩ := H
    refine r_J16_copyOfRangeByte_9 ?_
    simp only [x_tyn (h := h) (q := r0) (show r0 ≤ am_sz h by omega), x_lnn (h := h) (q := r0) (show r0 ≤ am_sz h by omega), true_and]
    refine ⟨a243, a244, ?_⟩
    refine am_en p_J15_min rfl rfl ?_
    refine r_J15_min_0 ?_
    refine ⟨fun c => ?_, fun c => ?_⟩
    · replace H := H.1 c
      refine r_J15_min_5 ?_
      refine r_J15_min_6 ?_
      refine am_av ?_
      obtain ⟨a245, H⟩ := H
      refine r_J16_copyOfRangeByte_20 ?_
      simp only [x_tyn (h := h) (q := r0) (show r0 ≤ am_sz h by omega), x_tyn0 (h := h) (q := am_sz h + 1) rfl, true_or, or_true, Nat.reduceEqDiff, x_lnn (h := h) (q := r0) (show r0 ≤ am_sz h by omega), x_lnn0 (h := h) (q := am_sz h + 1) rfl, x_ain (h := h) (q := r0) (show r0 ≤ am_sz h by omega), x_ain0 (h := h) (q := am_sz h + 1) rfl, true_and]
      refine ⟨a243, a245, ?_⟩
      refine r_J16_copyOfRangeByte_21 ?_
      exact H
    · replace H := H.2 c
      refine r_J15_min_3 ?_
      refine r_J15_min_6 ?_
      refine am_av ?_
      obtain ⟨a246, H⟩ := H
      refine r_J16_copyOfRangeByte_20 ?_
      simp only [x_tyn (h := h) (q := r0) (show r0 ≤ am_sz h by omega), x_tyn0 (h := h) (q := am_sz h + 1) rfl, true_or, or_true, Nat.reduceEqDiff, x_lnn (h := h) (q := r0) (show r0 ≤ am_sz h by omega), x_lnn0 (h := h) (q := am_sz h + 1) rfl, x_ain (h := h) (q := r0) (show r0 ≤ am_sz h by omega), x_ain0 (h := h) (q := am_sz h + 1) rfl, true_and]
      refine ⟨a243, a246, ?_⟩
      refine r_J16_copyOfRangeByte_21 ?_
      exact H
  · replace H := H.2 c
    exact H.elim
theorem v_J0_ensureCapacityInternal_0 {d : Nat} {Q : am_K} {h : am_H} {r0 : Nat} {x1 : Int} {o2 : Option am_V} (H : (am_ty h r0 = 29 ∧ (am_ty h (am_fr h 185 r0) = 102 ∨ am_ty h (am_fr h 185 r0) = 122) ∧ (-2147483648 ≤ x1 - (am_shrz (am_ln h (am_fr h 185 r0)) (am_fi h 186 r0)) ∧ x1 - (am_shrz (am_ln h (am_fr h 185 r0)) (am_fi h 186 r0)) ≤ 2147483647)) ∧ (((x1 - (am_shrz (am_ln h (am_fr h 185 r0)) (am_fi h 186 r0)) : Int) ≤ 0 → Q (.inl none) h) ∧ (0 < (x1 - (am_shrz (am_ln h (am_fr h 185 r0)) (am_fi h 186 r0)) : Int) → ((-2147483648 ≤ (am_shlz x1 (am_fi h 186 r0)) - (am_ln h (am_fr h 185 r0)) ∧ (am_shlz x1 (am_fi h 186 r0)) - (am_ln h (am_fr h 185 r0)) ≤ 2147483647) ∧ (-2147483648 ≤ (am_ln h (am_fr h 185 r0)) + (am_shlz 2 (am_fi h 186 r0)) ∧ (am_ln h (am_fr h 185 r0)) + (am_shlz 2 (am_fi h 186 r0)) ≤ 2147483647)) ∧ ((((am_shlz x1 (am_fi h 186 r0)) - (am_ln h (am_fr h 185 r0)) : Int) < (am_ln h (am_fr h 185 r0)) + (am_shlz 2 (am_fi h 186 r0)) → ((-2147483648 ≤ (am_ln h (am_fr h 185 r0)) + ((am_ln h (am_fr h 185 r0)) + (am_shlz 2 (am_fi h 186 r0))) ∧ (am_ln h (am_fr h 185 r0)) + ((am_ln h (am_fr h 185 r0)) + (am_shlz 2 (am_fi h 186 r0))) ≤ 2147483647)) ∧ (((am_ln h (am_fr h 185 r0)) + ((am_ln h (am_fr h 185 r0)) + (am_shlz 2 (am_fi h 186 r0))) ≤ (0 : Int) → False) ∧ ((0 : Int) < (am_ln h (am_fr h 185 r0)) + ((am_ln h (am_fr h 185 r0)) + (am_shlz 2 (am_fi h 186 r0))) → (2147483639 < ((am_ln h (am_fr h 185 r0)) + ((am_ln h (am_fr h 185 r0)) + (am_shlz 2 (am_fi h 186 r0))) : Int) → False) ∧ (((am_ln h (am_fr h 185 r0)) + ((am_ln h (am_fr h 185 r0)) + (am_shlz 2 (am_fi h 186 r0))) : Int) ≤ 2147483639 → (((am_ln h (am_fr h 185 r0)) + ((am_ln h (am_fr h 185 r0)) + (am_shlz 2 (am_fi h 186 r0))) : Int) ≠ 2147483647 → ((am_shlz (am_shrz ((am_ln h (am_fr h 185 r0)) + ((am_ln h (am_fr h 185 r0)) + (am_shlz 2 (am_fi h 186 r0)))) (am_fi h 186 r0)) (am_fi h 186 r0) : Int) ≠ am_ln h (am_fr h 185 r0) → (((0 : Int) ≤ am_shlz (am_shrz ((am_ln h (am_fr h 185 r0)) + ((am_ln h (am_fr h 185 r0)) + (am_shlz 2 (am_fi h 186 r0)))) (am_fi h 186 r0)) (am_fi h 186 r0) ∧ am_shlz (am_shrz ((am_ln h (am_fr h 185 r0)) + ((am_ln h (am_fr h 185 r0)) + (am_shlz 2 (am_fi h 186 r0)))) (am_fi h 186 r0)) (am_fi h 186 r0) ≤ 1000000)) ∧ ((am_fr h 185 r0 ≤ am_sz h) ∧ ((am_shlz (am_shrz ((am_ln h (am_fr h 185 r0)) + ((am_ln h (am_fr h 185 r0)) + (am_shlz 2 (am_fi h 186 r0)))) (am_fi h 186 r0)) (am_fi h 186 r0) < (am_ln h (am_fr h 185 r0) : Int) → (((0 : Int) ≤ am_shlz (am_shrz ((am_ln h (am_fr h 185 r0)) + ((am_ln h (am_fr h 185 r0)) + (am_shlz 2 (am_fi h 186 r0)))) (am_fi h 186 r0)) (am_fi h 186 r0) ∧ (0 : Int) ≤ 0 ∧ (0 : Int) ≤ 0 ∧ (0 : Int) + (am_shlz (am_shrz ((am_ln h (am_fr h 185 r0)) + ((am_ln h (am_fr h 185 r0)) + (am_shlz 2 (am_fi h 186 r0)))) (am_fi h 186 r0)) (am_fi h 186 r0)) ≤ am_ln h (am_fr h 185 r0) ∧ (0 : Int) + (am_shlz (am_shrz ((am_ln h (am_fr h 185 r0)) + ((am_ln h (am_fr h 185 r0)) + (am_shlz 2 (am_fi h 186 r0)))) (am_fi h 186 r0)) (am_fi h 186 r0)) ≤ ((Int.toNat (am_shlz (am_shrz ((am_ln h (am_fr h 185 r0)) + ((am_ln h (am_fr h 185 r0)) + (am_shlz 2 (am_fi h 186 r0)))) (am_fi h 186 r0)) (am_fi h 186 r0)) : Nat) : Int))) ∧ ((r0 ≤ am_sz h) ∧ (Q (.inl none) (am_sfr (am_wai (am_new h 102 (Int.toNat (am_shlz (am_shrz ((am_ln h (am_fr h 185 r0)) + ((am_ln h (am_fr h 185 r0)) + (am_shlz 2 (am_fi h 186 r0)))) (am_fi h 186 r0)) (am_fi h 186 r0)))) (am_sz h + 1) (am_cpy (am_ai h (am_fr h 185 r0)) (fun _ => 0) 0 0 (am_shlz (am_shrz ((am_ln h (am_fr h 185 r0)) + ((am_ln h (am_fr h 185 r0)) + (am_shlz 2 (am_fi h 186 r0)))) (am_fi h 186 r0)) (am_fi h 186 r0)))) 185 r0 (am_sz h + 1))))) ∧ ((am_ln h (am_fr h 185 r0) : Int) ≤ am_shlz (am_shrz ((am_ln h (am_fr h 185 r0)) + ((am_ln h (am_fr h 185 r0)) + (am_shlz 2 (am_fi h 186 r0)))) (am_fi h 186 r0)) (am_fi h 186 r0) → (((0 : Int) ≤ am_ln h (am_fr h 185 r0) ∧ (0 : Int) ≤ 0 ∧ (0 : Int) ≤ 0 ∧ (0 : Int) + (am_ln h (am_fr h 185 r0)) ≤ am_ln h (am_fr h 185 r0) ∧ (0 : Int) + (am_ln h (am_fr h 185 r0)) ≤ ((Int.toNat (am_shlz (am_shrz ((am_ln h (am_fr h 185 r0)) + ((am_ln h (am_fr h 185 r0)) + (am_shlz 2 (am_fi h 186 r0)))) (am_fi h 186 r0)) (am_fi h 186 r0)) : Nat) : Int))) ∧ ((r0 ≤ am_sz h) ∧ (Q (.inl none) (am_sfr (am_wai (am_new h 102 (Int.toNat (am_shlz (am_shrz ((am_ln h (am_fr h 185 r0)) + ((am_ln h (am_fr h 185 r0)) + (am_shlz 2 (am_fi h 186 r0)))) (am_fi h 186 r0)) (am_fi h 186 r0)))) (am_sz h + 1) (am_cpy (am_ai h (am_fr h 185 r0)) (fun _ => 0) 0 0 (am_ln h (am_fr h 185 r0)))) 185 r0 (am_sz h + 1)))))))) ∧ ((am_shlz (am_shrz ((am_ln h (am_fr h 185 r0)) + ((am_ln h (am_fr h 185 r0)) + (am_shlz 2 (am_fi h 186 r0)))) (am_fi h 186 r0)) (am_fi h 186 r0) : Int) = am_ln h (am_fr h 185 r0) → (am_ty h (am_fr h 185 r0) = 102) ∧ ((r0 ≤ am_sz h) ∧ (Q (.inl none) (am_sfr (am_wai (am_new h 102 (Int.toNat (am_ln h (am_fr h 185 r0)))) (am_sz h + 1) (am_ai h (am_fr h 185 r0))) 185 r0 (am_sz h + 1)))))) ∧ (((am_ln h (am_fr h 185 r0)) + ((am_ln h (am_fr h 185 r0)) + (am_shlz 2 (am_fi h 186 r0))) : Int) = 2147483647 → False))))) ∧ ((am_ln h (am_fr h 185 r0)) + (am_shlz 2 (am_fi h 186 r0)) ≤ ((am_shlz x1 (am_fi h 186 r0)) - (am_ln h (am_fr h 185 r0)) : Int) → ((-2147483648 ≤ (am_ln h (am_fr h 185 r0)) + ((am_shlz x1 (am_fi h 186 r0)) - (am_ln h (am_fr h 185 r0))) ∧ (am_ln h (am_fr h 185 r0)) + ((am_shlz x1 (am_fi h 186 r0)) - (am_ln h (am_fr h 185 r0))) ≤ 2147483647)) ∧ (((am_ln h (am_fr h 185 r0)) + ((am_shlz x1 (am_fi h 186 r0)) - (am_ln h (am_fr h 185 r0))) ≤ (0 : Int) → False) ∧ ((0 : Int) < (am_ln h (am_fr h 185 r0)) + ((am_shlz x1 (am_fi h 186 r0)) - (am_ln h (am_fr h 185 r0))) → (2147483639 < ((am_ln h (am_fr h 185 r0)) + ((am_shlz x1 (am_fi h 186 r0)) - (am_ln h (am_fr h 185 r0))) : Int) → False) ∧ (((am_ln h (am_fr h 185 r0)) + ((am_shlz x1 (am_fi h 186 r0)) - (am_ln h (am_fr h 185 r0))) : Int) ≤ 2147483639 → (((am_ln h (am_fr h 185 r0)) + ((am_shlz x1 (am_fi h 186 r0)) - (am_ln h (am_fr h 185 r0))) : Int) ≠ 2147483647 → ((am_shlz (am_shrz ((am_ln h (am_fr h 185 r0)) + ((am_shlz x1 (am_fi h 186 r0)) - (am_ln h (am_fr h 185 r0)))) (am_fi h 186 r0)) (am_fi h 186 r0) : Int) ≠ am_ln h (am_fr h 185 r0) → (((0 : Int) ≤ am_shlz (am_shrz ((am_ln h (am_fr h 185 r0)) + ((am_shlz x1 (am_fi h 186 r0)) - (am_ln h (am_fr h 185 r0)))) (am_fi h 186 r0)) (am_fi h 186 r0) ∧ am_shlz (am_shrz ((am_ln h (am_fr h 185 r0)) + ((am_shlz x1 (am_fi h 186 r0)) - (am_ln h (am_fr h 185 r0)))) (am_fi h 186 r0)) (am_fi h 186 r0) ≤ 1000000)) ∧ ((am_fr h 185 r0 ≤ am_sz h) ∧ ((am_shlz (am_shrz ((am_ln h (am_fr h 185 r0)) + ((am_shlz x1 (am_fi h 186 r0)) - (am_ln h (am_fr h 185 r0)))) (am_fi h 186 r0)) (am_fi h 186 r0) < (am_ln h (am_fr h 185 r0) : Int) → (((0 : Int) ≤ am_shlz (am_shrz ((am_ln h (am_fr h 185 r0)) + ((am_shlz x1 (am_fi h 186 r0)) - (am_ln h (am_fr h 185 r0)))) (am_fi h 186 r0)) (am_fi h 186 r0) ∧ (0 : Int) ≤ 0 ∧ (0 : Int) ≤ 0 ∧ (0 : Int) + (am_shlz (am_shrz ((am_ln h (am_fr h 185 r0)) + ((am_shlz x1 (am_fi h 186 r0)) - (am_ln h (am_fr h 185 r0)))) (am_fi h 186 r0)) (am_fi h 186 r0)) ≤ am_ln h (am_fr h 185 r0) ∧ (0 : Int) + (am_shlz (am_shrz ((am_ln h (am_fr h 185 r0)) + ((am_shlz x1 (am_fi h 186 r0)) - (am_ln h (am_fr h 185 r0)))) (am_fi h 186 r0)) (am_fi h 186 r0)) ≤ ((Int.toNat (am_shlz (am_shrz ((am_ln h (am_fr h 185 r0)) + ((am_shlz x1 (am_fi h 186 r0)) - (am_ln h (am_fr h 185 r0)))) (am_fi h 186 r0)) (am_fi h 186 r0)) : Nat) : Int))) ∧ ((r0 ≤ am_sz h) ∧ (Q (.inl none) (am_sfr (am_wai (am_new h 102 (Int.toNat (am_shlz (am_shrz ((am_ln h (am_fr h 185 r0)) + ((am_shlz x1 (am_fi h 186 r0)) - (am_ln h (am_fr h 185 r0)))) (am_fi h 186 r0)) (am_fi h 186 r0)))) (am_sz h + 1) (am_cpy (am_ai h (am_fr h 185 r0)) (fun _ => 0) 0 0 (am_shlz (am_shrz ((am_ln h (am_fr h 185 r0)) + ((am_shlz x1 (am_fi h 186 r0)) - (am_ln h (am_fr h 185 r0)))) (am_fi h 186 r0)) (am_fi h 186 r0)))) 185 r0 (am_sz h + 1))))) ∧ ((am_ln h (am_fr h 185 r0) : Int) ≤ am_shlz (am_shrz ((am_ln h (am_fr h 185 r0)) + ((am_shlz x1 (am_fi h 186 r0)) - (am_ln h (am_fr h 185 r0)))) (am_fi h 186 r0)) (am_fi h 186 r0) → (((0 : Int) ≤ am_ln h (am_fr h 185 r0) ∧ (0 : Int) ≤ 0 ∧ (0 : Int) ≤ 0 ∧ (0 : Int) + (am_ln h (am_fr h 185 r0)) ≤ am_ln h (am_fr h 185 r0) ∧ (0 : Int) + (am_ln h (am_fr h 185 r0)) ≤ ((Int.toNat (am_shlz (am_shrz ((am_ln h (am_fr h 185 r0)) + ((am_shlz x1 (am_fi h 186 r0)) - (am_ln h (am_fr h 185 r0)))) (am_fi h 186 r0)) (am_fi h 186 r0)) : Nat) : Int))) ∧ ((r0 ≤ am_sz h) ∧ (Q (.inl none) (am_sfr (am_wai (am_new h 102 (Int.toNat (am_shlz (am_shrz ((am_ln h (am_fr h 185 r0)) + ((am_shlz x1 (am_fi h 186 r0)) - (am_ln h (am_fr h 185 r0)))) (am_fi h 186 r0)) (am_fi h 186 r0)))) (am_sz h + 1) (am_cpy (am_ai h (am_fr h 185 r0)) (fun _ => 0) 0 0 (am_ln h (am_fr h 185 r0)))) 185 r0 (am_sz h + 1)))))))) ∧ ((am_shlz (am_shrz ((am_ln h (am_fr h 185 r0)) + ((am_shlz x1 (am_fi h 186 r0)) - (am_ln h (am_fr h 185 r0)))) (am_fi h 186 r0)) (am_fi h 186 r0) : Int) = am_ln h (am_fr h 185 r0) → (am_ty h (am_fr h 185 r0) = 102) ∧ ((r0 ≤ am_sz h) ∧ (Q (.inl none) (am_sfr (am_wai (am_new h 102 (Int.toNat (am_ln h (am_fr h 185 r0)))) (am_sz h + 1) (am_ai h (am_fr h 185 r0))) 185 r0 (am_sz h + 1)))))) ∧ (((am_ln h (am_fr h 185 r0)) + ((am_shlz x1 (am_fi h 186 r0)) - (am_ln h (am_fr h 185 r0))) : Int) = 2147483647 → False))))))))) : am_W m_J0_ensureCapacityInternal (am_ev am_prog (d + 5)) Q 0 [some (.inr (.inl r0)), some (.inl x1), o2] [] h := by
  obtain ⟨⟨a247, a248, a249⟩, H⟩ := H
  refine r_J0_ensureCapacityInternal_0 ?_
  refine ⟨a247, a248, a247, a249, ⟨fun c => ?_, fun c => ?_⟩⟩
  · replace H := H.1 c
    refine r_J0_ensureCapacityInternal_22 ?_
    exact H
  · replace H := H.2 c
    refine r_J0_ensureCapacityInternal_11 ?_
    refine ⟨a247, a247, ?_⟩
    refine am_en p_J0_newCapacity rfl rfl ?_
    obtain ⟨⟨a250, a251⟩, H⟩ := H
    refine r_J0_newCapacity_0 ?_
    refine ⟨a247, a248, a247, a250, a247, a251, ?_⟩
    refine am_en p_J14_newLength rfl rfl ?_
    refine r_J14_newLength_0 ?_
    refine am_en p_J15_max rfl rfl ?_
    refine r_J15_max_0 ?_
    refine ⟨fun c => ?_, fun c => ?_⟩
    · replace H := H.1 c
      refine r_J15_max_5 ?_
      refine r_J15_max_6 ?_
      refine am_av ?_
      obtain ⟨a252, H⟩ := H
      refine r_J14_newLength_4 ?_
      refine ⟨a252, ⟨fun c => ?_, fun c => ?_⟩⟩
      · replace H := H.1 c
        exact H.elim
      · replace H := H.2 c
        refine r_J14_newLength_9 ?_
        refine ⟨fun c => ?_, fun c => ?_⟩
        · replace H := H.1 c
          exact H.elim
        · replace H := H.2 c
          refine r_J14_newLength_12 ?_
          refine am_av ?_
          refine r_J0_newCapacity_22 ?_
          refine ⟨fun c => ?_, fun c => ?_⟩
          · replace H := H.1 c
            refine r_J0_newCapacity_31 ?_
            refine ⟨a247, ?_⟩
            refine am_av ?_
            refine r_J0_ensureCapacityInternal_17 ?_
            refine ⟨a247, ?_⟩
            refine am_en p_J16_copyOf_3 rfl rfl ?_
            refine r_J16_copyOf_3_0 ?_
            refine ⟨a248, ⟨fun c => ?_, fun c => ?_⟩⟩
            · replace H := H.1 c
              obtain ⟨a253, H⟩ := H
              refine r_J16_copyOf_3_8 ?_
              refine ⟨a253, ?_⟩
              obtain ⟨a254, H⟩ := H
              refine r_J16_copyOf_3_10 ?_
              simp only [x_tyn (h := h) (q := am_fr h 185 r0) (show am_fr h 185 r0 ≤ am_sz h by omega), x_lnn (h := h) (q := am_fr h 185 r0) (show am_fr h 185 r0 ≤ am_sz h by omega), true_and]
              refine ⟨a248, ?_⟩
              refine am_en p_J15_min rfl rfl ?_
              refine r_J15_min_0 ?_
              refine ⟨fun c => ?_, fun c => ?_⟩
              · replace H := H.1 c
                refine r_J15_min_5 ?_
                refine r_J15_min_6 ?_
                refine am_av ?_
                obtain ⟨a255, H⟩ := H
                refine r_J16_copyOf_3_19 ?_
                simp only [x_tyn (h := h) (q := am_fr h 185 r0) (show am_fr h 185 r0 ≤ am_sz h by omega), x_tyn0 (h := h) (q := am_sz h + 1) rfl, true_or, or_true, Nat.reduceEqDiff, x_lnn (h := h) (q := am_fr h 185 r0) (show am_fr h 185 r0 ≤ am_sz h by omega), x_lnn0 (h := h) (q := am_sz h + 1) rfl, x_ain (h := h) (q := am_fr h 185 r0) (show am_fr h 185 r0 ≤ am_sz h by omega), x_ain0 (h := h) (q := am_sz h + 1) rfl, true_and]
                refine ⟨a248, a255, ?_⟩
                refine r_J16_copyOf_3_20 ?_
                refine am_av ?_
                obtain ⟨a256, H⟩ := H
                refine r_J0_ensureCapacityInternal_21 ?_
                simp only [x_ty_wai, x_tyn (h := h) (q := r0) (show r0 ≤ am_sz h by omega), true_and]
                refine ⟨a247, ?_⟩
                refine r_J0_ensureCapacityInternal_22 ?_
                exact H
              · replace H := H.2 c
                refine r_J15_min_3 ?_
                refine r_J15_min_6 ?_
                refine am_av ?_
                obtain ⟨a257, H⟩ := H
                refine r_J16_copyOf_3_19 ?_
                simp only [x_tyn (h := h) (q := am_fr h 185 r0) (show am_fr h 185 r0 ≤ am_sz h by omega), x_tyn0 (h := h) (q := am_sz h + 1) rfl, true_or, or_true, Nat.reduceEqDiff, x_lnn (h := h) (q := am_fr h 185 r0) (show am_fr h 185 r0 ≤ am_sz h by omega), x_lnn0 (h := h) (q := am_sz h + 1) rfl, x_ain (h := h) (q := am_fr h 185 r0) (show am_fr h 185 r0 ≤ am_sz h by omega), x_ain0 (h := h) (q := am_sz h + 1) rfl, true_and]
                refine ⟨a248, a257, ?_⟩
                refine r_J16_copyOf_3_20 ?_
                refine am_av ?_
                obtain ⟨a258, H⟩ := H
                refine r_J0_ensureCapacityInternal_21 ?_
                simp only [x_ty_wai, x_tyn (h := h) (q := r0) (show r0 ≤ am_sz h by omega), true_and]
                refine ⟨a247, ?_⟩
                refine r_J0_ensureCapacityInternal_22 ?_
                exact H
            · replace H := H.2 c
              obtain ⟨a259, H⟩ := H
              refine r_J16_copyOf_3_4 ?_
              refine ⟨a259, ?_⟩
              refine r_J16_copyOf_3_6 ?_
              simp only [x_ty_wai, x_tyn0 (h := h) (q := am_sz h + 1) rfl, or_true, true_or, Nat.reduceEqDiff, true_and]
              refine am_av ?_
              obtain ⟨a260, H⟩ := H
              refine r_J0_ensureCapacityInternal_21 ?_
              simp only [x_ty_wai, x_tyn (h := h) (q := r0) (show r0 ≤ am_sz h by omega), true_and]
              refine ⟨a247, ?_⟩
              refine r_J0_ensureCapacityInternal_22 ?_
              exact H
          · replace H := H.2 c
            exact H.elim
    · replace H := H.2 c
      refine r_J15_max_3 ?_
      refine r_J15_max_6 ?_
      refine am_av ?_
      obtain ⟨a261, H⟩ := H
      refine r_J14_newLength_4 ?_
      refine ⟨a261, ⟨fun c => ?_, fun c => ?_⟩⟩
      · replace H := H.1 c
        exact H.elim
      · replace H := H.2 c
        refine r_J14_newLength_9 ?_
        refine ⟨fun c => ?_, fun c => ?_⟩
        · replace H := H.1 c
          exact H.elim
        · replace H := H.2 c
          refine r_J14_newLength_12 ?_
          refine am_av ?_
          refine r_J0_newCapacity_22 ?_
          refine ⟨fun c => ?_, fun c => ?_⟩
          · replace H := H.1 c
            refine r_J0_newCapacity_31 ?_
            refine ⟨a247, ?_⟩
            refine am_av ?_
            refine r_J0_ensureCapacityInternal_17 ?_
            refine ⟨a247, ?_⟩
            refine am_en p_J16_copyOf_3 rfl rfl ?_
            refine r_J16_copyOf_3_0 ?_
            refine ⟨a248, ⟨fun c => ?_, fun c => ?_⟩⟩
            · replace H := H.1 c
              obtain ⟨a262, H⟩ := H
              refine r_J16_copyOf_3_8 ?_
              refine ⟨a262, ?_⟩
              obtain ⟨a263, H⟩ := H
              refine r_J16_copyOf_3_10 ?_
              simp only [x_tyn (h := h) (q := am_fr h 185 r0) (show am_fr h 185 r0 ≤ am_sz h by omega), x_lnn (h := h) (q := am_fr h 185 r0) (show am_fr h 185 r0 ≤ am_sz h by omega), true_and]
              refine ⟨a248, ?_⟩
              refine am_en p_J15_min rfl rfl ?_
              refine r_J15_min_0 ?_
              refine ⟨fun c => ?_, fun c => ?_⟩
              · replace H := H.1 c
                refine r_J15_min_5 ?_
                refine r_J15_min_6 ?_
                refine am_av ?_
                obtain ⟨a264, H⟩ := H
                refine r_J16_copyOf_3_19 ?_
                simp only [x_tyn (h := h) (q := am_fr h 185 r0) (show am_fr h 185 r0 ≤ am_sz h by omega), x_tyn0 (h := h) (q := am_sz h + 1) rfl, true_or, or_true, Nat.reduceEqDiff, x_lnn (h := h) (q := am_fr h 185 r0) (show am_fr h 185 r0 ≤ am_sz h by omega), x_lnn0 (h := h) (q := am_sz h + 1) rfl, x_ain (h := h) (q := am_fr h 185 r0) (show am_fr h 185 r0 ≤ am_sz h by omega), x_ain0 (h := h) (q := am_sz h + 1) rfl, true_and]
                refine ⟨a248, a264, ?_⟩
                refine r_J16_copyOf_3_20 ?_
                refine am_av ?_
                obtain ⟨a265, H⟩ := H
                refine r_J0_ensureCapacityInternal_21 ?_
                simp only [x_ty_wai, x_tyn (h := h) (q := r0) (show r0 ≤ am_sz h by omega), true_and]
                refine ⟨a247, ?_⟩
                refine r_J0_ensureCapacityInternal_22 ?_
                exact H
              · replace H := H.2 c
                refine r_J15_min_3 ?_
                refine r_J15_min_6 ?_
                refine am_av ?_
                obtain ⟨a266, H⟩ := H
                refine r_J16_copyOf_3_19 ?_
                simp only [x_tyn (h := h) (q := am_fr h 185 r0) (show am_fr h 185 r0 ≤ am_sz h by omega), x_tyn0 (h := h) (q := am_sz h + 1) rfl, true_or, or_true, Nat.reduceEqDiff, x_lnn (h := h) (q := am_fr h 185 r0) (show am_fr h 185 r0 ≤ am_sz h by omega), x_lnn0 (h := h) (q := am_sz h + 1) rfl, x_ain (h := h) (q := am_fr h 185 r0) (show am_fr h 185 r0 ≤ am_sz h by omega), x_ain0 (h := h) (q := am_sz h + 1) rfl, true_and]
                refine ⟨a248, a266, ?_⟩
                refine r_J16_copyOf_3_20 ?_
                refine am_av ?_
                obtain ⟨a267, H⟩ := H
                refine r_J0_ensureCapacityInternal_21 ?_
                simp only [x_ty_wai, x_tyn (h := h) (q := r0) (show r0 ≤ am_sz h by omega), true_and]
                refine ⟨a247, ?_⟩
                refine r_J0_ensureCapacityInternal_22 ?_
                exact H
            · replace H := H.2 c
              obtain ⟨a268, H⟩ := H
              refine r_J16_copyOf_3_4 ?_
              refine ⟨a268, ?_⟩
              refine r_J16_copyOf_3_6 ?_
              simp only [x_ty_wai, x_tyn0 (h := h) (q := am_sz h + 1) rfl, or_true, true_or, Nat.reduceEqDiff, true_and]
              refine am_av ?_
              obtain ⟨a269, H⟩ := H
              refine r_J0_ensureCapacityInternal_21 ?_
              simp only [x_ty_wai, x_tyn (h := h) (q := r0) (show r0 ≤ am_sz h by omega), true_and]
              refine ⟨a247, ?_⟩
              refine r_J0_ensureCapacityInternal_22 ?_
              exact H
          · replace H := H.2 c
            exact H.elim
theorem v_J13_init_0 {d : Nat} {Q : am_K} {h : am_H} {r0 : Nat} {x1 : Int} (H : am_ev am_prog (d + 5) 395 [.inr (.inl (am_sz h + 1)), .inr (.inl (am_cs h 47))] (am_sfi (am_sfr (am_new (am_new h 29 4) 102 16) 185 (am_sz h + 1) (am_sz h + 1 + 1)) 186 (am_sz h + 1) 0) (am_aft (am_hand m_J13_init Q (am_W m_J13_init (am_ev am_prog (d + 5)) Q) 5) (am_W m_J13_init (am_ev am_prog (d + 5)) Q) 5 [some (.inr (.inl r0)), some (.inl x1)] [.inr (.inl r0)])) : am_W m_J13_init (am_ev am_prog (d + 5)) Q 0 [some (.inr (.inl r0)), some (.inl x1)] [] h := by
  refine r_J13_init_0 ?_
  refine r_J13_init_2 ?_
  simp only [x_tyn0 (h := h) (q := am_sz h + 1) rfl, true_or, or_true, Nat.reduceEqDiff, true_and]
  refine am_en p_J1_init rfl rfl ?_
  refine r_J1_init_0 ?_
  simp only [x_tyn0 (h := h) (q := am_sz h + 1) rfl, true_or, or_true, Nat.reduceEqDiff, true_and]
  refine am_en p_J0_init rfl rfl ?_
  refine r_J0_init_0 ?_
  simp only [x_tyn0 (h := h) (q := am_sz h + 1) rfl, true_or, or_true, Nat.reduceEqDiff, true_and]
  refine ⟨fun c => absurd c (by decide), fun c => ?_⟩
  refine r_J0_init_4 ?_
  simp only [Int.reduceToNat, x_sz_new, true_and]
  refine ⟨(by decide), ?_⟩
  refine r_J0_init_7 ?_
  simp only [x_tyn (h := am_new h 29 4) (q := am_sz h + 1) (show am_sz h + 1 ≤ am_sz h + 1 by omega), x_tyn0 (h := h) (q := am_sz h + 1) rfl, true_or, or_true, Nat.reduceEqDiff, true_and]
  refine r_J0_init_8 ?_
  simp only [x_ty_sfr, x_tyn (h := am_new h 29 4) (q := am_sz h + 1) (show am_sz h + 1 ≤ am_sz h + 1 by omega), x_tyn0 (h := h) (q := am_sz h + 1) rfl, true_or, or_true, Nat.reduceEqDiff, true_and]
  refine ⟨(by decide), ?_⟩
  refine r_J0_init_11 ?_
  refine r_J0_init_19 ?_
  refine am_an ?_
  refine r_J1_init_3 ?_
  refine am_an ?_
  refine r_J13_init_4 ?_
  simp only [x_cs_new, x_cs_sfi, x_cs_sfr, x_ty_sfi, x_ty_sfr, x_tyn (h := am_new h 29 4) (q := am_sz h + 1) (show am_sz h + 1 ≤ am_sz h + 1 by omega), x_tyn0 (h := h) (q := am_sz h + 1) rfl, true_or, or_true, Nat.reduceEqDiff, true_and]
  exact H
theorem v_J13_init_6 {d : Nat} {Q : am_K} {h : am_H} {r0 : Nat} {x1 : Int} {q1 : Nat} {q0 : Nat} (H : False) : am_W m_J13_init (am_ev am_prog (d + 5)) Q 6 [some (.inr (.inl r0)), some (.inl x1)] [.inr (.inl q1), .inr (.inl q0)] h := by
  exact H.elim
theorem v_J18_fillNull_0 {d : Nat} {Q : am_K} {h : am_H} {r0 : Nat} {x1 : Int} {x2 : Int} (H : am_ev am_prog (d + 5) 430 [.inr (.inl r0), .inl x1, .inl x2, .inl 0] h (am_aft (am_hand m_J18_fillNull Q (am_W m_J18_fillNull (am_ev am_prog (d + 5)) Q) 4) (am_W m_J18_fillNull (am_ev am_prog (d + 5)) Q) 4 [some (.inr (.inl r0)), some (.inl x1), some (.inl x2)] [])) : am_W m_J18_fillNull (am_ev am_prog (d + 5)) Q 0 [some (.inr (.inl r0)), some (.inl x1), some (.inl x2)] [] h := by
  refine r_J18_fillNull_0 ?_
  exact H
theorem v_J18_fillNull_5 {d : Nat} {Q : am_K} {h : am_H} {r0 : Nat} {x1 : Int} {x2 : Int} (H : Q (.inl none) h) : am_W m_J18_fillNull (am_ev am_prog (d + 5)) Q 5 [some (.inr (.inl r0)), some (.inl x1), some (.inl x2)] [] h := by
  refine r_J18_fillNull_5 ?_
  exact H
theorem v_J0_putStringAt_0 {d : Nat} {Q : am_K} {h : am_H} {r0 : Nat} {x1 : Int} {r2 : Nat} (H : (am_ty h r0 = 29) ∧ (((am_ty h r2 = 30 ∨ am_ty h r2 = 90)) ∧ ((((-128 : Int) ≤ am_fi h 190 r2 ∧ am_fi h 190 r2 ≤ 127)) ∧ (((am_fi h 186 r0 : Int) = am_fi h 190 r2 → ((am_fi h 190 r2 : Int) ≠ am_fi h 186 r0 → ((am_ty h (am_fr h 189 r2) = 102 ∨ am_ty h (am_fr h 189 r2) = 122)) ∧ (False)) ∧ ((am_fi h 190 r2 : Int) = am_fi h 186 r0 → ((am_ty h (am_fr h 189 r2) = 102 ∨ am_ty h (am_fr h 189 r2) = 122) ∧ am_ty h (am_fr h 185 r0) = 102 ∧ ((0 : Int) ≤ am_ln h (am_fr h 189 r2) ∧ (0 : Int) ≤ 0 ∧ (0 : Int) ≤ am_shlz x1 (am_fi h 186 r0) ∧ (0 : Int) + (am_ln h (am_fr h 189 r2)) ≤ am_ln h (am_fr h 189 r2) ∧ ((am_shlz x1 (am_fi h 186 r0)) : Int) + (am_ln h (am_fr h 189 r2)) ≤ am_ln h (am_fr h 185 r0))) ∧ (Q (.inl none) (am_wai h (am_fr h 185 r0) (am_cpy (am_ai h (am_fr h 189 r2)) (am_ai h (am_fr h 185 r0)) 0 (am_shlz x1 (am_fi h 186 r0)) (am_ln h (am_fr h 189 r2))))))) ∧ ((am_fi h 186 r0 : Int) ≠ am_fi h 190 r2 → False))))) : am_W m_J0_putStringAt (am_ev am_prog (d + 5)) Q 0 [some (.inr (.inl r0)), some (.inl x1), some (.inr (.inl r2))] [] h := by
  obtain ⟨a270, H⟩ := H
  refine r_J0_putStringAt_0 ?_
  refine ⟨a270, ?_⟩
  refine am_en p_J0_inflateIfNeededFor rfl rfl ?_
  refine r_J0_inflateIfNeededFor_0 ?_
  refine ⟨fun c => absurd c (by decide), fun c => ?_⟩
  obtain ⟨a271, H⟩ := H
  refine r_J0_inflateIfNeededFor_2 ?_
  refine ⟨a270, a271, ?_⟩
  refine am_en p_J2_coder rfl rfl ?_
  refine r_J2_coder_0 ?_
  refine ⟨fun c => absurd c (by decide), fun c => ?_⟩
  refine r_J2_coder_2 ?_
  refine ⟨a271, ?_⟩
  obtain ⟨a272, H⟩ := H
  refine r_J2_coder_6 ?_
  refine ⟨a272, ?_⟩
  refine am_av ?_
  refine r_J0_inflateIfNeededFor_6 ?_
  refine ⟨fun c => ?_, fun c => ?_⟩
  · replace H := H.1 c
    refine r_J0_inflateIfNeededFor_9 ?_
    refine am_an ?_
    refine r_J0_putStringAt_3 ?_
    refine ⟨a270, a270, a271, ?_⟩
    refine am_en p_J2_getBytes rfl rfl ?_
    refine r_J2_getBytes_0 ?_
    refine ⟨a271, ?_⟩
    refine am_en p_J2_coder rfl rfl ?_
    refine r_J2_coder_0 ?_
    refine ⟨fun c => absurd c (by decide), fun c => ?_⟩
    refine r_J2_coder_2 ?_
    refine ⟨a271, ?_⟩
    refine r_J2_coder_6 ?_
    refine ⟨a272, ?_⟩
    refine am_av ?_
    refine r_J2_getBytes_2 ?_
    refine ⟨fun c => ?_, fun c => ?_⟩
    · replace H := H.1 c
      obtain ⟨a273, H⟩ := H
      exact H.elim
    · replace H := H.2 c
      obtain ⟨⟨a274, a275, a276⟩, H⟩ := H
      refine r_J2_getBytes_4 ?_
      refine ⟨a271, a271, a274, a274, a275, a276, ?_⟩
      refine r_J2_getBytes_15 ?_
      refine r_J2_getBytes_25 ?_
      refine am_an ?_
      refine r_J0_putStringAt_10 ?_
      exact H
  · replace H := H.2 c
    exact H.elim
theorem v_J16_checkLength_0 {d : Nat} {Q : am_K} {h : am_H} {x0 : Int} {x1 : Int} (H : (x0 ≤ (x1 : Int) → Q (.inl none) h) ∧ ((x1 : Int) < x0 → False)) : am_W m_J16_checkLength (am_ev am_prog (d + 5)) Q 0 [some (.inl x0), some (.inl x1)] [] h := by
  refine r_J16_checkLength_0 ?_
  refine ⟨fun c => ?_, fun c => ?_⟩
  · replace H := H.1 c
    refine r_J16_checkLength_17 ?_
    exact H
  · replace H := H.2 c
    exact H.elim
theorem v_J0_newCapacity_0 {d : Nat} {Q : am_K} {h : am_H} {r0 : Nat} {x1 : Int} {o2 : Option am_V} {o3 : Option am_V} {o4 : Option am_V} {o5 : Option am_V} (H : (am_ty h r0 = 29 ∧ (am_ty h (am_fr h 185 r0) = 102 ∨ am_ty h (am_fr h 185 r0) = 122) ∧ (-2147483648 ≤ (am_shlz x1 (am_fi h 186 r0)) - (am_ln h (am_fr h 185 r0)) ∧ (am_shlz x1 (am_fi h 186 r0)) - (am_ln h (am_fr h 185 r0)) ≤ 2147483647) ∧ (-2147483648 ≤ (am_ln h (am_fr h 185 r0)) + (am_shlz 2 (am_fi h 186 r0)) ∧ (am_ln h (am_fr h 185 r0)) + (am_shlz 2 (am_fi h 186 r0)) ≤ 2147483647)) ∧ ((((am_shlz x1 (am_fi h 186 r0)) - (am_ln h (am_fr h 185 r0)) : Int) < (am_ln h (am_fr h 185 r0)) + (am_shlz 2 (am_fi h 186 r0)) → ((-2147483648 ≤ (am_ln h (am_fr h 185 r0)) + ((am_ln h (am_fr h 185 r0)) + (am_shlz 2 (am_fi h 186 r0))) ∧ (am_ln h (am_fr h 185 r0)) + ((am_ln h (am_fr h 185 r0)) + (am_shlz 2 (am_fi h 186 r0))) ≤ 2147483647)) ∧ (((am_ln h (am_fr h 185 r0)) + ((am_ln h (am_fr h 185 r0)) + (am_shlz 2 (am_fi h 186 r0))) ≤ (0 : Int) → False) ∧ ((0 : Int) < (am_ln h (am_fr h 185 r0)) + ((am_ln h (am_fr h 185 r0)) + (am_shlz 2 (am_fi h 186 r0))) → (2147483639 < ((am_ln h (am_fr h 185 r0)) + ((am_ln h (am_fr h 185 r0)) + (am_shlz 2 (am_fi h 186 r0))) : Int) → False) ∧ (((am_ln h (am_fr h 185 r0)) + ((am_ln h (am_fr h 185 r0)) + (am_shlz 2 (am_fi h 186 r0))) : Int) ≤ 2147483639 → (((am_ln h (am_fr h 185 r0)) + ((am_ln h (am_fr h 185 r0)) + (am_shlz 2 (am_fi h 186 r0))) : Int) ≠ 2147483647 → Q (.inl (some (.inl (am_shrz ((am_ln h (am_fr h 185 r0)) + ((am_ln h (am_fr h 185 r0)) + (am_shlz 2 (am_fi h 186 r0)))) (am_fi h 186 r0))))) h) ∧ (((am_ln h (am_fr h 185 r0)) + ((am_ln h (am_fr h 185 r0)) + (am_shlz 2 (am_fi h 186 r0))) : Int) = 2147483647 → False))))) ∧ ((am_ln h (am_fr h 185 r0)) + (am_shlz 2 (am_fi h 186 r0)) ≤ ((am_shlz x1 (am_fi h 186 r0)) - (am_ln h (am_fr h 185 r0)) : Int) → ((-2147483648 ≤ (am_ln h (am_fr h 185 r0)) + ((am_shlz x1 (am_fi h 186 r0)) - (am_ln h (am_fr h 185 r0))) ∧ (am_ln h (am_fr h 185 r0)) + ((am_shlz x1 (am_fi h 186 r0)) - (am_ln h (am_fr h 185 r0))) ≤ 2147483647)) ∧ (((am_ln h (am_fr h 185 r0)) + ((am_shlz x1 (am_fi h 186 r0)) - (am_ln h (am_fr h 185 r0))) ≤ (0 : Int) → False) ∧ ((0 : Int) < (am_ln h (am_fr h 185 r0)) + ((am_shlz x1 (am_fi h 186 r0)) - (am_ln h (am_fr h 185 r0))) → (2147483639 < ((am_ln h (am_fr h 185 r0)) + ((am_shlz x1 (am_fi h 186 r0)) - (am_ln h (am_fr h 185 r0))) : Int) → False) ∧ (((am_ln h (am_fr h 185 r0)) + ((am_shlz x1 (am_fi h 186 r0)) - (am_ln h (am_fr h 185 r0))) : Int) ≤ 2147483639 → (((am_ln h (am_fr h 185 r0)) + ((am_shlz x1 (am_fi h 186 r0)) - (am_ln h (am_fr h 185 r0))) : Int) ≠ 2147483647 → Q (.inl (some (.inl (am_shrz ((am_ln h (am_fr h 185 r0)) + ((am_shlz x1 (am_fi h 186 r0)) - (am_ln h (am_fr h 185 r0)))) (am_fi h 186 r0))))) h) ∧ (((am_ln h (am_fr h 185 r0)) + ((am_shlz x1 (am_fi h 186 r0)) - (am_ln h (am_fr h 185 r0))) : Int) = 2147483647 → False))))))) : am_W m_J0_newCapacity (am_ev am_prog (d + 5)) Q 0 [some (.inr (.inl r0)), some (.inl x1), o2, o3, o4, o5] [] h := by
  obtain ⟨⟨a277, a278, a279, a280⟩, H⟩ := H
  refine r_J0_newCapacity_0 ?_
  refine ⟨a277, a278, a277, a279, a277, a280, ?_⟩
  refine am_en p_J14_newLength rfl rfl ?_
  refine r_J14_newLength_0 ?_
  refine am_en p_J15_max rfl rfl ?_
  refine r_J15_max_0 ?_
  refine ⟨fun c => ?_, fun c => ?_⟩
  · replace H := H.1 c
    refine r_J15_max_5 ?_
    refine r_J15_max_6 ?_
    refine am_av ?_
    obtain ⟨a281, H⟩ := H
    refine r_J14_newLength_4 ?_
    refine ⟨a281, ⟨fun c => ?_, fun c => ?_⟩⟩
    · replace H := H.1 c
      exact H.elim
    · replace H := H.2 c
      refine r_J14_newLength_9 ?_
      refine ⟨fun c => ?_, fun c => ?_⟩
      · replace H := H.1 c
        exact H.elim
      · replace H := H.2 c
        refine r_J14_newLength_12 ?_
        refine am_av ?_
        refine r_J0_newCapacity_22 ?_
        refine ⟨fun c => ?_, fun c => ?_⟩
        · replace H := H.1 c
          refine r_J0_newCapacity_31 ?_
          refine ⟨a277, ?_⟩
          exact H
        · replace H := H.2 c
          exact H.elim
  · replace H := H.2 c
    refine r_J15_max_3 ?_
    refine r_J15_max_6 ?_
    refine am_av ?_
    obtain ⟨a282, H⟩ := H
    refine r_J14_newLength_4 ?_
    refine ⟨a282, ⟨fun c => ?_, fun c => ?_⟩⟩
    · replace H := H.1 c
      exact H.elim
    · replace H := H.2 c
      refine r_J14_newLength_9 ?_
      refine ⟨fun c => ?_, fun c => ?_⟩
      · replace H := H.1 c
        exact H.elim
      · replace H := H.2 c
        refine r_J14_newLength_12 ?_
        refine am_av ?_
        refine r_J0_newCapacity_22 ?_
        refine ⟨fun c => ?_, fun c => ?_⟩
        · replace H := H.1 c
          refine r_J0_newCapacity_31 ?_
          refine ⟨a277, ?_⟩
          exact H
        · replace H := H.2 c
          exact H.elim
theorem v_J16_copyOf_3_0 {d : Nat} {Q : am_K} {h : am_H} {r0 : Nat} {x1 : Int} {o2 : Option am_V} (H : ((am_ty h r0 = 102 ∨ am_ty h r0 = 122)) ∧ (((x1 : Int) ≠ am_ln h r0 → (((0 : Int) ≤ x1 ∧ x1 ≤ 1000000)) ∧ ((r0 ≤ am_sz h) ∧ ((x1 < (am_ln h r0 : Int) → (((0 : Int) ≤ x1 ∧ (0 : Int) ≤ 0 ∧ (0 : Int) ≤ 0 ∧ (0 : Int) + x1 ≤ am_ln h r0 ∧ (0 : Int) + x1 ≤ ((Int.toNat x1 : Nat) : Int))) ∧ (Q (.inl (some (.inr (.inl (am_sz h + 1))))) (am_wai (am_new h 102 (Int.toNat x1)) (am_sz h + 1) (am_cpy (am_ai h r0) (fun _ => 0) 0 0 x1)))) ∧ ((am_ln h r0 : Int) ≤ x1 → (((0 : Int) ≤ am_ln h r0 ∧ (0 : Int) ≤ 0 ∧ (0 : Int) ≤ 0 ∧ (0 : Int) + (am_ln h r0) ≤ am_ln h r0 ∧ (0 : Int) + (am_ln h r0) ≤ ((Int.toNat x1 : Nat) : Int))) ∧ (Q (.inl (some (.inr (.inl (am_sz h + 1))))) (am_wai (am_new h 102 (Int.toNat x1)) (am_sz h + 1) (am_cpy (am_ai h r0) (fun _ => 0) 0 0 (am_ln h r0)))))))) ∧ ((x1 : Int) = am_ln h r0 → (am_ty h r0 = 102) ∧ (Q (.inl (some (.inr (.inl (am_sz h + 1))))) (am_wai (am_new h 102 (Int.toNat (am_ln h r0))) (am_sz h + 1) (am_ai h r0)))))) : am_W m_J16_copyOf_3 (am_ev am_prog (d + 5)) Q 0 [some (.inr (.inl r0)), some (.inl x1), o2] [] h := by
  obtain ⟨a283, H⟩ := H
  refine r_J16_copyOf_3_0 ?_
  refine ⟨a283, ⟨fun c => ?_, fun c => ?_⟩⟩
  · replace H := H.1 c
    obtain ⟨a284, H⟩ := H
    refine r_J16_copyOf_3_8 ?_
    refine ⟨a284, ?_⟩
    obtain ⟨a285, H⟩ := H
    refine r_J16_copyOf_3_10 ?_
    simp only [x_tyn (h := h) (q := r0) (show r0 ≤ am_sz h by omega), x_lnn (h := h) (q := r0) (show r0 ≤ am_sz h by omega), true_and]
    refine ⟨a283, ?_⟩
    refine am_en p_J15_min rfl rfl ?_
    refine r_J15_min_0 ?_
    refine ⟨fun c => ?_, fun c => ?_⟩
    · replace H := H.1 c
      refine r_J15_min_5 ?_
      refine r_J15_min_6 ?_
      refine am_av ?_
      obtain ⟨a286, H⟩ := H
      refine r_J16_copyOf_3_19 ?_
      simp only [x_tyn (h := h) (q := r0) (show r0 ≤ am_sz h by omega), x_tyn0 (h := h) (q := am_sz h + 1) rfl, true_or, or_true, Nat.reduceEqDiff, x_lnn (h := h) (q := r0) (show r0 ≤ am_sz h by omega), x_lnn0 (h := h) (q := am_sz h + 1) rfl, x_ain (h := h) (q := r0) (show r0 ≤ am_sz h by omega), x_ain0 (h := h) (q := am_sz h + 1) rfl, true_and]
      refine ⟨a283, a286, ?_⟩
      refine r_J16_copyOf_3_20 ?_
      exact H
    · replace H := H.2 c
      refine r_J15_min_3 ?_
      refine r_J15_min_6 ?_
      refine am_av ?_
      obtain ⟨a287, H⟩ := H
      refine r_J16_copyOf_3_19 ?_
      simp only [x_tyn (h := h) (q := r0) (show r0 ≤ am_sz h by omega), x_tyn0 (h := h) (q := am_sz h + 1) rfl, true_or, or_true, Nat.reduceEqDiff, x_lnn (h := h) (q := r0) (show r0 ≤ am_sz h by omega), x_lnn0 (h := h) (q := am_sz h + 1) rfl, x_ain (h := h) (q := r0) (show r0 ≤ am_sz h by omega), x_ain0 (h := h) (q := am_sz h + 1) rfl, true_and]
      refine ⟨a283, a287, ?_⟩
      refine r_J16_copyOf_3_20 ?_
      exact H
  · replace H := H.2 c
    obtain ⟨a288, H⟩ := H
    refine r_J16_copyOf_3_4 ?_
    refine ⟨a288, ?_⟩
    refine r_J16_copyOf_3_6 ?_
    simp only [x_ty_wai, x_tyn0 (h := h) (q := am_sz h + 1) rfl, or_true, true_or, Nat.reduceEqDiff, true_and]
    exact H
theorem v_J16_fill_0 {d : Nat} {Q : am_K} {h : am_H} {r0 : Nat} {x1 : Int} {x2 : Int} {x3 : Int} {o4 : Option am_V} (H : ((am_ty h r0 = 102 ∨ am_ty h r0 = 122)) ∧ (am_ev am_prog (d + 5) 433 [.inl (am_ln h r0), .inl x1, .inl x2] h (am_aft (am_hand m_J16_fill Q (am_W m_J16_fill (am_ev am_prog (d + 5)) Q) 4) (am_W m_J16_fill (am_ev am_prog (d + 5)) Q) 4 [some (.inr (.inl r0)), some (.inl x1), some (.inl x2), some (.inl x3), o4] []))) : am_W m_J16_fill (am_ev am_prog (d + 5)) Q 0 [some (.inr (.inl r0)), some (.inl x1), some (.inl x2), some (.inl x3), o4] [] h := by
  obtain ⟨a289, H⟩ := H
  refine r_J16_fill_0 ?_
  refine ⟨a289, ?_⟩
  exact H
theorem v_J16_fill_5 {d : Nat} {Q : am_K} {h : am_H} {r0 : Nat} {x1 : Int} {x2 : Int} {x3 : Int} {o4 : Option am_V} (H : am_W m_J16_fill (am_ev am_prog (d + 5)) Q 7 [some (.inr (.inl r0)), some (.inl x1), some (.inl x2), some (.inl x3), some (.inl x1)] [] h) : am_W m_J16_fill (am_ev am_prog (d + 5)) Q 5 [some (.inr (.inl r0)), some (.inl x1), some (.inl x2), some (.inl x3), o4] [] h := by
  refine r_J16_fill_5 ?_
  exact H
theorem v_J16_fill_7 {d : Nat} {Q : am_K} {h : am_H} {r0 : Nat} {x1 : Int} {x2 : Int} {x3 : Int} {x4 : Int} (H : (x2 ≤ (x4 : Int) → Q (.inl none) h) ∧ ((x4 : Int) < x2 → (am_ty h r0 = 102 ∧ ((0 : Int) ≤ x4 ∧ x4 < am_ln h r0)) ∧ (((-2147483648 ≤ x4 + 1 ∧ x4 + 1 ≤ 2147483647)) ∧ (am_W m_J16_fill (am_ev am_prog (d + 5)) Q 7 [some (.inr (.inl r0)), some (.inl x1), some (.inl x2), some (.inl x3), some (.inl (x4 + 1))] [] (am_sai h r0 x4 (am_i2bz x3)))))) : am_W m_J16_fill (am_ev am_prog (d + 5)) Q 7 [some (.inr (.inl r0)), some (.inl x1), some (.inl x2), some (.inl x3), some (.inl x4)] [] h := by
  refine r_J16_fill_7 ?_
  refine ⟨fun c => ?_, fun c => ?_⟩
  · replace H := H.1 c
    refine r_J16_fill_16 ?_
    exact H
  · replace H := H.2 c
    obtain ⟨⟨a290, a291⟩, H⟩ := H
    refine r_J16_fill_10 ?_
    refine ⟨a290, a291, ?_⟩
    obtain ⟨a292, H⟩ := H
    refine r_J16_fill_14 ?_
    refine ⟨a292, ?_⟩
    exact H
theorem v_J0_inflateIfNeededFor_0 {d : Nat} {Q : am_K} {h : am_H} {r0 : Nat} {r1 : Nat} (H : (am_ty h r0 = 29) ∧ (((am_ty h r1 = 30 ∨ am_ty h r1 = 90)) ∧ ((((-128 : Int) ≤ am_fi h 190 r1 ∧ am_fi h 190 r1 ≤ 127)) ∧ (((am_fi h 186 r0 : Int) = am_fi h 190 r1 → Q (.inl none) h) ∧ ((am_fi h 186 r0 : Int) ≠ am_fi h 190 r1 → False))))) : am_W m_J0_inflateIfNeededFor (am_ev am_prog (d + 5)) Q 0 [some (.inr (.inl r0)), some (.inr (.inl r1))] [] h := by
  refine r_J0_inflateIfNeededFor_0 ?_
  refine ⟨fun c => absurd c (by decide), fun c => ?_⟩
  obtain ⟨a293, H⟩ := H
  obtain ⟨a294, H⟩ := H
  refine r_J0_inflateIfNeededFor_2 ?_
  refine ⟨a293, a294, ?_⟩
  refine am_en p_J2_coder rfl rfl ?_
  refine r_J2_coder_0 ?_
  refine ⟨fun c => absurd c (by decide), fun c => ?_⟩
  refine r_J2_coder_2 ?_
  refine ⟨a294, ?_⟩
  obtain ⟨a295, H⟩ := H
  refine r_J2_coder_6 ?_
  refine ⟨a295, ?_⟩
  refine am_av ?_
  refine r_J0_inflateIfNeededFor_6 ?_
  refine ⟨fun c => ?_, fun c => ?_⟩
  · replace H := H.1 c
    refine r_J0_inflateIfNeededFor_9 ?_
    exact H
  · replace H := H.2 c
    exact H.elim
theorem v_J2_getBytes_0 {d : Nat} {Q : am_K} {h : am_H} {r0 : Nat} {r1 : Nat} {x2 : Int} {x3 : Int} (H : ((am_ty h r0 = 30 ∨ am_ty h r0 = 90)) ∧ ((((-128 : Int) ≤ am_fi h 190 r0 ∧ am_fi h 190 r0 ≤ 127)) ∧ (((am_fi h 190 r0 : Int) ≠ x3 → ((am_ty h (am_fr h 189 r0) = 102 ∨ am_ty h (am_fr h 189 r0) = 122)) ∧ (False)) ∧ ((am_fi h 190 r0 : Int) = x3 → ((am_ty h (am_fr h 189 r0) = 102 ∨ am_ty h (am_fr h 189 r0) = 122) ∧ am_ty h r1 = 102 ∧ ((0 : Int) ≤ am_ln h (am_fr h 189 r0) ∧ (0 : Int) ≤ 0 ∧ (0 : Int) ≤ am_shlz x2 x3 ∧ (0 : Int) + (am_ln h (am_fr h 189 r0)) ≤ am_ln h (am_fr h 189 r0) ∧ ((am_shlz x2 x3) : Int) + (am_ln h (am_fr h 189 r0)) ≤ am_ln h r1)) ∧ (Q (.inl none) (am_wai h r1 (am_cpy (am_ai h (am_fr h 189 r0)) (am_ai h r1) 0 (am_shlz x2 x3) (am_ln h (am_fr h 189 r0))))))))) : am_W m_J2_getBytes (am_ev am_prog (d + 5)) Q 0 [some (.inr (.inl r0)), some (.inr (.inl r1)), some (.inl x2), some (.inl x3)] [] h := by
  obtain ⟨a296, H⟩ := H
  refine r_J2_getBytes_0 ?_
  refine ⟨a296, ?_⟩
  refine am_en p_J2_coder rfl rfl ?_
  refine r_J2_coder_0 ?_
  refine ⟨fun c => absurd c (by decide), fun c => ?_⟩
  refine r_J2_coder_2 ?_
  refine ⟨a296, ?_⟩
  obtain ⟨a297, H⟩ := H
  refine r_J2_coder_6 ?_
  refine ⟨a297, ?_⟩
  refine am_av ?_
  refine r_J2_getBytes_2 ?_
  refine ⟨fun c => ?_, fun c => ?_⟩
  · replace H := H.1 c
    obtain ⟨a298, H⟩ := H
    exact H.elim
  · replace H := H.2 c
    obtain ⟨⟨a299, a300, a301⟩, H⟩ := H
    refine r_J2_getBytes_4 ?_
    refine ⟨a296, a296, a299, a299, a300, a301, ?_⟩
    refine r_J2_getBytes_15 ?_
    refine r_J2_getBytes_25 ?_
    exact H
theorem v_J16_rangeCheck_0 {d : Nat} {Q : am_K} {h : am_H} {x0 : Int} {x1 : Int} {x2 : Int} (H : ((x1 : Int) ≤ x2 → (0 ≤ (x1 : Int) → ((x2 : Int) ≤ x0 → Q (.inl none) h) ∧ (x0 < (x2 : Int) → am_ev am_prog (d + 5) 434 [.inr (.inl (am_sz h + 1)), .inl x2] (am_new h 34 6) (am_aft (am_hand m_J16_rangeCheck Q (am_W m_J16_rangeCheck (am_ev am_prog (d + 5)) Q) 34) (am_W m_J16_rangeCheck (am_ev am_prog (d + 5)) Q) 34 [some (.inl x0), some (.inl x1), some (.inl x2)] [.inr (.inl (am_sz h + 1))]))) ∧ ((x1 : Int) < 0 → am_ev am_prog (d + 5) 434 [.inr (.inl (am_sz h + 1)), .inl x1] (am_new h 34 6) (am_aft (am_hand m_J16_rangeCheck Q (am_W m_J16_rangeCheck (am_ev am_prog (d + 5)) Q) 26) (am_W m_J16_rangeCheck (am_ev am_prog (d + 5)) Q) 26 [some (.inl x0), some (.inl x1), some (.inl x2)] [.inr (.inl (am_sz h + 1))]))) ∧ (x2 < (x1 : Int) → False)) : am_W m_J16_rangeCheck (am_ev am_prog (d + 5)) Q 0 [some (.inl x0), some (.inl x1), some (.inl x2)] [] h := by
  refine r_J16_rangeCheck_0 ?_
  refine ⟨fun c => ?_, fun c => ?_⟩
  · replace H := H.1 c
    refine r_J16_rangeCheck_21 ?_
    refine ⟨fun c => ?_, fun c => ?_⟩
    · replace H := H.1 c
      refine r_J16_rangeCheck_28 ?_
      refine ⟨fun c => ?_, fun c => ?_⟩
      · replace H := H.1 c
        refine r_J16_rangeCheck_36 ?_
        exact H
      · replace H := H.2 c
        refine r_J16_rangeCheck_31 ?_
        refine r_J16_rangeCheck_32 ?_
        simp only [x_tyn0 (h := h) (q := am_sz h + 1) rfl, true_or, or_true, Nat.reduceEqDiff, true_and]
        exact H
    · replace H := H.2 c
      refine r_J16_rangeCheck_23 ?_
      refine r_J16_rangeCheck_24 ?_
      simp only [x_tyn0 (h := h) (q := am_sz h + 1) rfl, true_or, or_true, Nat.reduceEqDiff, true_and]
      exact H
  · replace H := H.2 c
    exact H.elim
theorem v_J16_rangeCheck_27 {d : Nat} {Q : am_K} {h : am_H} {x0 : Int} {x1 : Int} {x2 : Int} {q0 : Nat} (H : (q0 ≠ 0) ∧ (Q (.inr q0) h)) : am_W m_J16_rangeCheck (am_ev am_prog (d + 5)) Q 27 [some (.inl x0), some (.inl x1), some (.inl x2)] [.inr (.inl q0)] h := by
  obtain ⟨a302, H⟩ := H
  refine r_J16_rangeCheck_27 ?_
  refine ⟨a302, ?_⟩
  refine am_hx rfl ?_
  exact H
theorem v_J16_rangeCheck_35 {d : Nat} {Q : am_K} {h : am_H} {x0 : Int} {x1 : Int} {x2 : Int} {q0 : Nat} (H : (q0 ≠ 0) ∧ (Q (.inr q0) h)) : am_W m_J16_rangeCheck (am_ev am_prog (d + 5)) Q 35 [some (.inl x0), some (.inl x1), some (.inl x2)] [.inr (.inl q0)] h := by
  obtain ⟨a303, H⟩ := H
  refine r_J16_rangeCheck_35 ?_
  refine ⟨a303, ?_⟩
  refine am_hx rfl ?_
  exact H
theorem v_J11_init_2_0 {d : Nat} {Q : am_K} {h : am_H} {r0 : Nat} {x1 : Int} (H : am_ev am_prog (d + 5) 395 [.inr (.inl (am_sz h + 1)), .inr (.inl (am_cs h 48))] (am_sfi (am_sfr (am_new (am_new h 29 4) 102 16) 185 (am_sz h + 1) (am_sz h + 1 + 1)) 186 (am_sz h + 1) 0) (am_aft (am_hand m_J11_init_2 Q (am_W m_J11_init_2 (am_ev am_prog (d + 5)) Q) 5) (am_W m_J11_init_2 (am_ev am_prog (d + 5)) Q) 5 [some (.inr (.inl r0)), some (.inl x1)] [.inr (.inl r0)])) : am_W m_J11_init_2 (am_ev am_prog (d + 5)) Q 0 [some (.inr (.inl r0)), some (.inl x1)] [] h := by
  refine r_J11_init_2_0 ?_
  refine r_J11_init_2_2 ?_
  simp only [x_tyn0 (h := h) (q := am_sz h + 1) rfl, true_or, or_true, Nat.reduceEqDiff, true_and]
  refine am_en p_J1_init rfl rfl ?_
  refine r_J1_init_0 ?_
  simp only [x_tyn0 (h := h) (q := am_sz h + 1) rfl, true_or, or_true, Nat.reduceEqDiff, true_and]
  refine am_en p_J0_init rfl rfl ?_
  refine r_J0_init_0 ?_
  simp only [x_tyn0 (h := h) (q := am_sz h + 1) rfl, true_or, or_true, Nat.reduceEqDiff, true_and]
  refine ⟨fun c => absurd c (by decide), fun c => ?_⟩
  refine r_J0_init_4 ?_
  simp only [Int.reduceToNat, x_sz_new, true_and]
  refine ⟨(by decide), ?_⟩
  refine r_J0_init_7 ?_
  simp only [x_tyn (h := am_new h 29 4) (q := am_sz h + 1) (show am_sz h + 1 ≤ am_sz h + 1 by omega), x_tyn0 (h := h) (q := am_sz h + 1) rfl, true_or, or_true, Nat.reduceEqDiff, true_and]
  refine r_J0_init_8 ?_
  simp only [x_ty_sfr, x_tyn (h := am_new h 29 4) (q := am_sz h + 1) (show am_sz h + 1 ≤ am_sz h + 1 by omega), x_tyn0 (h := h) (q := am_sz h + 1) rfl, true_or, or_true, Nat.reduceEqDiff, true_and]
  refine ⟨(by decide), ?_⟩
  refine r_J0_init_11 ?_
  refine r_J0_init_19 ?_
  refine am_an ?_
  refine r_J1_init_3 ?_
  refine am_an ?_
  refine r_J11_init_2_4 ?_
  simp only [x_cs_new, x_cs_sfi, x_cs_sfr, x_ty_sfi, x_ty_sfr, x_tyn (h := am_new h 29 4) (q := am_sz h + 1) (show am_sz h + 1 ≤ am_sz h + 1 by omega), x_tyn0 (h := h) (q := am_sz h + 1) rfl, true_or, or_true, Nat.reduceEqDiff, true_and]
  exact H
theorem v_J11_init_2_6 {d : Nat} {Q : am_K} {h : am_H} {r0 : Nat} {x1 : Int} {q1 : Nat} {q0 : Nat} (H : False) : am_W m_J11_init_2 (am_ev am_prog (d + 5)) Q 6 [some (.inr (.inl r0)), some (.inl x1)] [.inr (.inl q1), .inr (.inl q0)] h := by
  exact H.elim
