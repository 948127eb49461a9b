set_option maxRecDepth 100000
section
variable {h h' : am_H} {x P r o s : Nat} {sc : Int → Int} {ns : Int} {Z U c : Nat}
theorem J_tear {K : am_K} {i k w : Int} {D : Nat} (hD : 110 ≤ D) (js : JS x P r o s sc ns Z U c h) (H : ∀ kk h1, JM x P r o s sc ns Z U c 93 [.inl i, .inl k, .inl w] kk h1 → K (.inl (some (.inl (kk)))) h1) : am_ev am_prog D 60 [.inr (.inl x), .inl i, .inl k, .inl w, .inr (.inl o)] h K := by
  obtain ⟨L, N, I, S, SI, B, BI, t, n, V, W, u⟩ := js
  have j1 := u.1.1
  have nt := u.1.2.1
  have oi := u.2.1
  have hC := oi.1.1.1
  obtain ⟨d, rfl⟩ : ∃ d, D = d + 13 := ⟨D - 13, by omega⟩
  refine am_en p_X0_tear rfl rfl ?_
  refine v_X0_tear_0 ⟨j1.1.1, X_tear (by omega) nt j1.1.1 j1.2.1.2.1 hC (fun g h' q nt' ot ty => am_ah (by rw [ty]; rfl) (v_X0_tear_10 (H _ _ ?_))) (fun g h' L' nt' ot => am_av (v_X0_tear_7 ?_))⟩
  · exact JE_t (a := 0) u nt' ot (by decide) (by decide) (by decide) (fun b K2 D hD hm => M_tear hD hC (by intros; first | exact hm | contradiction) (by intros; first | exact hm | contradiction))
  · have e := JE_a (y := 93) (as := [.inl i, .inl k, .inl w]) (a := am_xorz (S 10 0 (1 + 5 * i + k)) w) u nt' ot (by decide) (by decide) (by omega) (I_tear g.2 oi) (Int.le_trans (unT_c5 (u3_r (by decide)) (u3_r (by decide))) (by omega)) (fun b K2 D hD hm => M_tear hD hC (by intros; first | exact hm | contradiction) (by intros; first | exact hm | contradiction))
    exact ⟨e.1, H _ _ e.2⟩
end
