set_option maxRecDepth 100000
section
variable {h h' : am_H} {L L' : am_Lb} {x P r o s : Nat} {sc : Int → Int} {ns : Int} {N I : Nat} {S S' SI : am_G} {B B' BI : Int} {t : Int → Int} {n : Int} {V : Nat → Int → Int} {W : Nat → Int} {Z U c : Nat}
/-- the room threw, nothing else -/
theorem JE_t {y : Nat} {as : List am_V} {k a : Int} {dz du : Nat} (u : (JH x P r o s sc ns L N I S S SI B BI t n (W 47) V W h ∧ okI S ∧ (tpR t (V 4) n ∧ W 44 = n) ∧ okVs V ∧ (B ≤ 1000 * c + 400 ∧ unT S ≤ c ∧ unT SI ≤ c) ∧ (am_sz h ≤ Z + 9400 * c ∧ am_us h ≤ U + 96000 * c))) (nt : Nt h' L x P N S B) (ot : Out h L x N h' L dz du) (zz : dz ≤ 9400) (uu : du ≤ 96000) (k0 : k ≠ 0) (hm : ∀ (b : am_H) (K2 : am_K) (D : Nat), 90 ≤ D → MR b r K2 S V W k a → am_ev am_prog D y (.inr (.inl r) :: as) (mo b r (ms S) V W) K2) : JM x P r o s sc ns Z U c y as k h' := by
  obtain ⟨j, oi, tp, okv, ⟨b1, b2, b3⟩, z1, z2⟩ := u
  have o3 := ot.2.2.1
  exact JM_pS (JH_X j ot nt) oi tp okv (by omega) (by omega) (by omega) (by omega) (by omega) (fun z => absurd z k0) hm
/-- the room answered -/
theorem JE_a {y : Nat} {as : List am_V} {a : Int} {dz du : Nat} (u : (JH x P r o s sc ns L N I S S SI B BI t n (W 47) V W h ∧ okI S ∧ (tpR t (V 4) n ∧ W 44 = n) ∧ okVs V ∧ (B ≤ 1000 * c + 400 ∧ unT S ≤ c ∧ unT SI ≤ c) ∧ (am_sz h ≤ Z + 9400 * c ∧ am_us h ≤ U + 96000 * c))) (nt : Nt h' L' x P N S' B') (ot : Out h L x N h' L' dz du) (zz : dz ≤ 9400) (uu : du ≤ 96000) (hB : B' ≤ B + 1000) (oi' : okI S') (un : unT S' ≤ unT S + 1) (hm : ∀ (b : am_H) (K2 : am_K) (D : Nat), 90 ≤ D → MR b r K2 S' V W 0 a → am_ev am_prog D y (.inr (.inl r) :: as) (mo b r (ms S) V W) K2) : (am_ty h' o = 104 ∧ ((0 : Int) ≤ 0 ∧ 0 < am_ln h' o)) ∧ JM x P r o s sc ns Z U c y as 0 (am_sai h' o 0 a) := by
  obtain ⟨j, oi, tp, okv, ⟨b1, b2, b3⟩, z1, z2⟩ := u
  have o3 := ot.2.2.1
  have j' := JH_X j ot nt
  have jo := j'.1.2.2.2.1
  refine ⟨⟨jo.1, by decide, by rw [jo.2.1]; decide⟩, JM_pS (JH_o j') oi' tp okv (by omega) (by omega) (by omega) ?_ ?_ (fun _ => ?_) hm⟩
  · show am_sz h' ≤ _
    omega
  · show am_us h' ≤ _
    omega
  · rw [x_aise, am_uz_eq]
theorem J_row {K : am_K} {i k : Int} {D : Nat} (hD : 110 ≤ D) (js : JS x P r o s sc ns Z U c h) (H : ∀ kk h1, JM x P r o s sc ns Z U c 69 [.inl i, .inl k] kk h1 → K (.inl (some (.inl (kk)))) h1) : am_ev am_prog D 29 [.inr (.inl x), .inl i, .inl k, .inr (.inl o)] h K := by
  obtain ⟨L, N, I, S, SI, B, BI, t, n, V, W, u⟩ := js
  have j1 := u.1.1
  have nt := u.1.2.1
  have hC := u.2.1.1.1.1
  obtain ⟨d, rfl⟩ : ∃ d, D = d + 13 := ⟨D - 13, by omega⟩
  refine am_en p_X0_row rfl rfl ?_
  refine v_X0_row_0 ⟨j1.1.1, X_row (by omega) nt j1.1.1 j1.2.1.2.1 hC (fun g h' q nt' ot ty => am_ah (by rw [ty]; rfl) (v_X0_row_9 (H _ _ ?_))) (fun g h' L' nt' ot => am_av (v_X0_row_6 ?_))⟩
  · exact JE_t (a := 0) u nt' ot (by decide) (by decide) (by decide) (fun b K2 D hD hm => M_row hD hC (fun _ => hm) (fun y => absurd y g))
  · have e := JE_a (y := 69) (as := [.inl i, .inl k]) (a := S 10 0 (1 + 5 * i + k)) u nt' ot (by decide) (by decide) (by omega) u.2.1 (by omega) (fun b K2 D hD hm => M_row hD hC (fun y => absurd g y) (fun _ => hm))
    exact ⟨e.1, H _ _ e.2⟩
end
