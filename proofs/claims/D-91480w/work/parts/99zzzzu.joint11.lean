set_option maxRecDepth 100000
section
variable {h : am_H} {x P r o s : Nat} {sc : Int → Int} {ns : Int} {Z U c : Nat}
theorem J_correct {K : am_K} {a1 a2 a3 : Int} {D : Nat} (hD : 110 ≤ D) (hc : c ≤ 64) (hi1 : (-2147483648 ≤ a1 ∧ a1 ≤ 2147483647)) (hi2 : (-2147483648 ≤ a2 ∧ a2 ≤ 2147483647)) (hi3 : (-2147483648 ≤ a3 ∧ a3 ≤ 2147483647)) (js : JS x P r o s sc ns Z U c h) (H : ∀ kk h1, JG x P r o s sc ns Z U c 90 [.inl a1, .inl a2, .inl a3] (PI r o kk) h1 → K (.inl (some (.inl (kk)))) h1) : am_ev am_prog D 57 [.inr (.inl x), .inl a1, .inl a2, .inl a3, .inr (.inl o)] h K := by
  obtain ⟨L, N, I, S, SI, B, BI, t, n, V, W, u⟩ := js
  have j1 := u.1.1
  have nt := u.1.2.1
  have oi := u.2.1
  have hC := oi.1.1.1
  obtain rfl := u.2.2.1.2
  have tpx := u.1.2.2.2.2.1
  have f5 := u.1.2.2.2.2.2.1
  have h44 := tpx.2.2.2.1
  have tpv := u.2.2.1.1
  have okv := u.2.2.2.1
  have bB : B ≤ 1000000 := by have := u.2.2.2.2.1.1; omega
  have hF := oi.1.1.2.1
  have hG := oi.1.1.2.2.1
  have hA := oi.1.1.2.2.2.1
  have hY := oi.1.1.2.2.2.2.1
  have hY1 := oi.1.1.2.2.2.2.2.1
  have hW := oi.1.1.2.2.2.2.2.2.1
  have hX := oi.1.1.2.2.2.2.2.2.2.2.2
  have hM := oi.1.2.1.1
  obtain ⟨d, rfl⟩ : ∃ d, D = d + 13 := ⟨D - 13, by omega⟩
  refine am_en p_X0_correct rfl rfl ?_
  refine v_X0_correct_0 ⟨j1.1.1, X_correct (by omega) nt j1.1.1 j1.2.1.2.1 j1.2.1.1 j1.1.2.1 j1.1.2.2 bB hC hF hA hY hY1 hW hM hG hX tpx ?_ ?_ ?_ ?_ ?_⟩
  · intro g0 h' q nt' ox ty f4 f5'
    exact am_ah (by rw [ty]; rfl) (v_X0_correct_10 (H _ _ (JG_R (R := fun S' => S' = S) (v := .inl (some (.inl (0)))) u ox f4 (f5'.trans f5) (by decide) (by decide) (by omega) (fun S' e => by subst e; exact ⟨nt', oi, by omega⟩) (fun h2 e => PI_t (by decide) h2 e) (fun b K2 D hD _ hm => M_correct hD hC hF hA hY hY1 hW hM hG hi1 okv h44 tpv (fun _ => fun V' W' p w => hm S V' W' rfl p w) (fun g => absurd g g0) (fun g => absurd g g0) (fun g => absurd g g0) (fun g => absurd g g0) (fun g => absurd g g0) (fun g => absurd g g0)))))
  · intro g0 p gp h' q nt' ox ty f4 f5'
    exact am_ah (by rw [ty]; rfl) (v_X0_correct_13 (H _ _ (JG_R (R := fun S' => S' = S) (v := .inl (some (.inl (0)))) u ox f4 f5' (by decide) (by decide) (by omega) (fun S' e => by subst e; exact ⟨nt', oi, by omega⟩) (fun h2 e => PI_t (by decide) h2 e) (fun b K2 D hD _ hm => M_correct hD hC hF hA hY hY1 hW hM hG hi1 okv h44 tpv (fun g => absurd g0 g) (fun _ x' e => by rw [ll_f gp e]; exact fun V' W' p w => hm S V' W' rfl p w) (fun _ l e => lr_f gp e) (fun _ l e => lr_f gp e) (fun _ l e => lr_f gp e) (fun _ l e => lr_f gp e) (fun _ l e => lr_f gp e)))))
  · intro g0 l gl s3 hj h' q nt' ox ty f4 f5'
    exact am_ah (by rw [ty]; rfl) (v_X0_correct_16 (H _ _ (JG_R (R := fun S' => S' = S) (v := .inl (some (.inl (0)))) u ox f4 f5' (by decide) (by decide) (by omega) (fun S' e => by subst e; exact ⟨nt', oi, by omega⟩) (fun h2 e => PI_t (by decide) h2 e) (fun b K2 D hD _ hm => M_correct hD hC hF hA hY hY1 hW hM hG hi1 okv h44 tpv (fun g => absurd g0 g) (fun _ x' e => lr_f e gl) (fun _ l' e _ _ => fun V' W' p w => hm S V' W' rfl p w) (fun _ l' e y => absurd ⟨s3, hj⟩ y) (fun _ l' e _ y => absurd y s3) (fun _ l' e y => absurd hj y) (fun _ l' e y => absurd hj y)))))
  · intro g0 l gl y j30 h' q nt' ox ty f4 f5'
    exact am_ah (by rw [ty]; rfl) (v_X0_correct_19 (H _ _ (JG_R (R := fun S' => S' = S) (v := .inl (some (.inl (0)))) u ox f4 f5' (by decide) (by decide) (by omega) (fun S' e => by subst e; exact ⟨nt', oi, by omega⟩) (fun h2 e => PI_t (by decide) h2 e) (fun b K2 D hD _ hm => M_correct hD hC hF hA hY hY1 hW hM hG hi1 okv h44 tpv (fun g => absurd g0 g) (fun _ x' e => lr_f e gl) (fun _ l' e s3 hj => absurd ⟨s3, hj⟩ y) (fun _ l' e _ _ => fun V' W' p w => hm S V' W' rfl p w) (fun _ l' e z => absurd j30 z) (fun _ l' e _ z => absurd j30 z) (fun _ l' e _ z => absurd j30 z)))))
  · intro g0 l gl j30 y
    have ap := hA a1 g0.1
    have p1 := ap.1.1
    have wf := wf_v ap.2.1 (by omega) ap.2.2.1 g0.2.2
    have c40 : (S 3 a1 1 - (wfR (S 3 a1) a2 (S 3 a1 1).toNat).2) ≤ 40 := by
      have q := wf.1
      omega
    have ov := onR_v c40 gl
    have dl := ov.2.2.2
    have d40 := ov.2.2.1
    obtain ⟨row, cw⟩ := chW_ex ov.1 wf (by omega) ⟨by omega, d40⟩
    refine ⟨row, cw, fun s3 => ?_, fun s3 z => ?_, fun s3 z => ?_⟩
    · intro h' L' nt' ox f4 f5'
      have e := JG_Rs (c := c) (R := fun S' => ∃ ro, chW t (S 3 a1) a2 l ro ∧ S' = setR S a1 ro) (Ψ := PI r o 0) (v := .inl (some (.inl (0)))) (y := 90) (as := [.inl a1, .inl a2, .inl a3]) u ox f4 f5' (by decide) (by decide) (by omega) (fun S' z => by
        obtain ⟨ro, c2, e⟩ := z
        subst e
        exact ⟨cor_Nt0 hC hF hA g0.1 g0.2.2 s3 dl d40 cw c2 nt', I_cor0 g0.1 g0.2.2 s3 dl d40 c2 oi, by have := unT_cor0 c2; omega⟩) (fun h2 a b => ⟨_, rfl, a, fun _ => b⟩) (fun b K2 D hD _ hm => M_correct hD hC hF hA hY hY1 hW hM hG hi1 okv h44 tpv (fun g => absurd g0 g) (fun _ x' e => lr_f e gl) (fun _ l' e s => absurd s3 s) (fun _ l' e _ z => absurd z j30) (fun _ l' e _ _ ro c2 V' W' p w => hm _ V' W' ⟨ro, by rw [rr_f gl e] at c2; exact c2, rfl⟩ p w) (fun _ l' e _ _ s => absurd s3 s) (fun _ l' e _ _ s => absurd s3 s))
      exact am_av (v_X0_correct_7 ⟨e.1, H _ _ e.2⟩)
    · intro h' L' nt' ox f4 f5'
      have s31 : (S 3 a1) 3 = 1 := by have := ap.2.2.2.2.1; omega
      have e := JG_Rs (c := c) (R := fun S' => S' = S) (Ψ := PI r o 0) (v := .inl (some (.inl (-1)))) (y := 90) (as := [.inl a1, .inl a2, .inl a3]) u ox f4 f5' (by decide) (by decide) (by omega) (fun S' e => by subst e; exact ⟨nt', oi, by omega⟩) (fun h2 a b => ⟨_, rfl, a, fun _ => b⟩) (fun b K2 D hD _ hm => M_correct hD hC hF hA hY hY1 hW hM hG hi1 okv h44 tpv (fun g => absurd g0 g) (fun _ x' e => lr_f e gl) (fun _ l' e s hj => absurd ⟨s, hj⟩ y) (fun _ l' e _ z => absurd z j30) (fun _ l' e _ s => absurd s s3) (fun _ l' e _ _ _ ro c2 _ => fun V' W' p w => hm S V' W' rfl p w) (fun _ l' e _ _ _ ro c2 z' => by
        rw [rr_f gl e] at c2
        rw [(cor_eq (k := a3) hC hF hA hY hY1 hW g0.1 g0.2.2 s31 dl d40 cw c2).1] at z'
        exact absurd z z'))
      exact am_av (v_X0_correct_7 ⟨e.1, H _ _ e.2⟩)
    · intro h' L' nt' ox f4 f5'
      have s31 : (S 3 a1) 3 = 1 := by have := ap.2.2.2.2.1; omega
      have nj : ¬ hsJ S a1 := fun q => y ⟨s3, q⟩
      have e := JG_Rs (c := c) (R := fun S' => ∃ ro, chW t (S 3 a1) a2 l ro ∧ S' = cF S a1 a2 a3 ro) (Ψ := PI r o 0) (v := .inl (some (.inl (cC S a1 a2 row)))) (y := 90) (as := [.inl a1, .inl a2, .inl a3]) u ox f4 f5' (by decide) (by decide) (by omega) (fun S' zz => by
        obtain ⟨ro, c2, e⟩ := zz
        subst e
        have z2 : (cT S a1 ro (cA S a1 a2)).1 ≠ -1 := by
          rw [(cor_eq (k := a3) hC hF hA hY hY1 hW g0.1 g0.2.2 s31 dl d40 cw c2).1]
          exact z
        exact ⟨cor_Nt hC hF hA hY hY1 hW g0.1 g0.2.2 s31 dl d40 cw c2 z nt', I_cor g0.1 g0.2.1 g0.2.2 s31 nj j30 dl d40 c2 z2 oi, by have := unT_cor (k := a3) g0.1 g0.2.1 g0.2.2 s31 nj dl d40 c2 z2 oi; omega⟩) (fun h2 a b => ⟨_, rfl, a, fun _ => b⟩) (fun b K2 D hD _ hm => M_correct hD hC hF hA hY hY1 hW hM hG hi1 okv h44 tpv (fun g => absurd g0 g) (fun _ x' e => lr_f e gl) (fun _ l' e s hj => absurd hj nj) (fun _ l' e _ z => absurd z j30) (fun _ l' e _ s => absurd s s3) (fun _ l' e _ _ _ ro c2 z' => by
        rw [rr_f gl e] at c2
        rw [(cor_eq (k := a3) hC hF hA hY hY1 hW g0.1 g0.2.2 s31 dl d40 cw c2).1] at z'
        exact absurd z' z) (fun _ l' e _ _ _ ro c2 _ => by
        rw [rr_f gl e] at c2
        rw [((cor_eq (k := a3) hC hF hA hY hY1 hW g0.1 g0.2.2 s31 dl d40 cw c2).2 z).1]
        exact fun V' W' p w => hm _ V' W' ⟨ro, c2, rfl⟩ p w))
      exact am_av (v_X0_correct_7 ⟨e.1, H _ _ e.2⟩)
end
