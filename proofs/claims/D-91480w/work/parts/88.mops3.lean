set_option maxRecDepth 100000
section
variable {K : am_K} {b : am_H} {r : Nat} {S : am_G} {V : Nat → Int → Int} {W : Nat → Int}
theorem c_slugsOn {p e : Int} {D : Nat} (hD : 4 ≤ D) (hp : 0 ≤ p ∧ p < 6) (he : -1 ≤ e ∧ e < 8) (H : K (.inl (some (.inl (sdN S p e)))) (mo b r (ms S) V W)) : am_ev am_prog D 187 [.inr (.inl r), .inl p, .inl e] (mo b r (ms S) V W) K := by
  obtain ⟨d, rfl⟩ : ∃ d, D = d + 4 := ⟨D - 4, by omega⟩
  refine am_en p_X5_slugsOn rfl rfl ?_
  unfold sdN at H
  refine w_slugsOn_0 ⟨fun c => ⟨by omega, by omega, ?_⟩, fun c => ⟨by omega, ?_⟩⟩
  · rw [if_neg c] at H
    exact H
  · rw [if_pos c] at H
    exact H
theorem c_slugOn {p e i : Int} {D : Nat} (hD : 4 ≤ D) (hp : 0 ≤ p ∧ p < 6) (he : -1 ≤ e ∧ e < 8) (hi : 0 ≤ i ∧ i < 180) (H : K (.inl (some (.inl (sdE S p e i)))) (mo b r (ms S) V W)) : am_ev am_prog D 188 [.inr (.inl r), .inl p, .inl e, .inl i] (mo b r (ms S) V W) K := by
  obtain ⟨d, rfl⟩ : ∃ d, D = d + 4 := ⟨D - 4, by omega⟩
  refine am_en p_X5_slugOn rfl rfl ?_
  unfold sdE at H
  refine w_slugOn_0 ⟨fun c => ⟨by omega, by omega, ?_⟩, fun c => ⟨by omega, ?_⟩⟩
  · rw [if_neg c] at H
    exact H
  · rw [if_pos c] at H
    exact H
theorem sd_bd {p e : Int} (hH : okH S) (hE : okE S) (hp : 0 ≤ p ∧ p < 6) (he : -1 ≤ e ∧ e < S 0 0 6) : 0 ≤ sdN S p e ∧ sdN S p e ≤ 180 := by
  unfold sdN
  by_cases c : e = -1
  · rw [if_pos c]
    exact (hH p hp.1 hp.2).2.2
  · rw [if_neg c]
    exact hE e p (by omega) he.2 hp.1 hp.2
theorem sdR_e {p e j : Int} : sdR S p e j = if 0 ≤ j ∧ j < sdN S p e then sdE S p e j else -1 := by
  unfold sdR sdN sdE
  by_cases c : e = -1
  · simp only [if_pos c]
  · simp only [if_neg c]
theorem M_stands {p e j : Int} {D : Nat} (hD : 90 ≤ D) (hC : okC S) (hH : okH S) (hE : okE S) (H0 : ¬ ((0 ≤ p ∧ p < 6) ∧ (-1 ≤ e ∧ e < S 0 0 6)) → MR b r K S V W 1 (0)) (H1 : (0 ≤ p ∧ p < 6) ∧ (-1 ≤ e ∧ e < S 0 0 6) → MR b r K S V W 0 (sdR S p e j)) : am_ev am_prog D 91 [.inr (.inl r), .inl p, .inl e, .inl j] (mo b r (ms S) V W) K := by
  have c6 := hC.2.2.2.2.1
  obtain ⟨d, rfl⟩ : ∃ d, D = d + 4 := ⟨D - 4, by omega⟩
  refine am_en p_X5_stands rfl rfl ?_
  refine w_stands_0 ⟨fun c => MR_up (H0 (by omega)), fun c => ⟨by omega, fun d => ?_, fun d => MR_up (H0 (by omega))⟩⟩
  have bd := sd_bd (S := S) hH hE c (e := e) (by omega)
  have HH := H1 ⟨c, by omega⟩
  rw [sdR_e] at HH
  refine c_slugsOn (by omega) c (by omega) (am_av (w_stands_23 ⟨by omega, fun z => ?_, fun z => c_slugOn (by omega) c (by omega) (by omega) (am_av (w_stands_32 ?_))⟩))
  · rw [if_neg (by omega)] at HH
    exact MR_up HH
  · rw [if_pos (by omega)] at HH
    exact MR_up HH
theorem M_changed {p a b' : Int} {D : Nat} (hD : 90 ≤ D) (hC : okC S) (hH : okH S) (hE : okE S) (H0 : ¬ ((0 ≤ p ∧ p < 6) ∧ (-1 ≤ a ∧ a < S 0 0 6) ∧ (-1 ≤ b' ∧ b' < S 0 0 6)) → MR b r K S V W 1 (0)) (H1 : (0 ≤ p ∧ p < 6) ∧ (-1 ≤ a ∧ a < S 0 0 6) ∧ (-1 ≤ b' ∧ b' < S 0 0 6) → MR b r K S V W 0 (chR S p a b')) : am_ev am_prog D 89 [.inr (.inl r), .inl p, .inl a, .inl b'] (mo b r (ms S) V W) K := by
  have c6 := hC.2.2.2.2.1
  obtain ⟨d, rfl⟩ : ∃ d, D = d + 4 := ⟨D - 4, by omega⟩
  refine am_en p_X5_changed rfl rfl ?_
  refine w_changed_0 ⟨fun c => MR_up (H0 (by omega)), fun c => ⟨by omega, fun dd => MR_up (H0 (by omega)), fun dd => ⟨by omega, fun e => ?_, fun e => MR_up (H0 (by omega))⟩⟩⟩
  have na := sd_bd (S := S) hH hE c (e := a) (by omega)
  have nb := sd_bd (S := S) hH hE c (e := b') (by omega)
  have HH := H1 ⟨c, by omega, by omega⟩
  have main : ∀ i, 0 ≤ i → i ≤ sdN S p b' → ∀ o6 o7, am_W m_X5_changed (am_ev am_prog (d + 3)) K 25 [some (.inr (.inl r)), some (.inl (p)), some (.inl (a)), some (.inl (b')), some (.inl (sg (chF S p a b') 0 i.toNat)), some (.inl (i)), o6, o7] [] (mo b r (ms S) V (am_up W 38 0)) := by
    refine lp_z ?_ ?_
    · intro i i1 i2 hL o6 o7
      have bd := sg_bd (c := 1) (f := chF S p a b') i.toNat 0 (fun j _ _ => chF_01)
      rw [sg_s i1] at hL
      refine w_changed_25 (c_slugsOn (by omega) c (by omega) (am_av (w_changed_30 ⟨fun z => absurd z (by omega), fun _ => ?_⟩)))
      have inn : ∀ j, 0 ≤ j → j ≤ sdN S p a → am_W m_X5_changed (am_ev am_prog (d + 3)) K 35 [some (.inr (.inl r)), some (.inl (p)), some (.inl (a)), some (.inl (b')), some (.inl (sg (chF S p a b') 0 i.toNat)), some (.inl (i)), some (.inl (hsE (sdE S p a) (sdE S p b' i) j.toNat)), some (.inl (j))] [] (mo b r (ms S) V (am_up W 38 0)) := by
        refine lp_z ?_ ?_
        · intro j j1 j2 hL2
          have e1 : (j + 1).toNat = j.toNat + 1 := by omega
          have e2 : ((j.toNat : Nat) : Int) = j := by omega
          have es : hsE (sdE S p a) (sdE S p b' i) (j.toNat + 1) = if hsE (sdE S p a) (sdE S p b' i) j.toNat = 0 then am_b (sdE S p b' i = sdE S p a j) else 1 := by
            show (if hsE (sdE S p a) (sdE S p b' i) j.toNat = 0 then am_b (sdE S p b' i = sdE S p a ((j.toNat : Nat) : Int)) else 1) = _
            rw [e2]
          rw [e1, es] at hL2
          refine w_changed_35 (c_slugsOn (by omega) c (by omega) (am_av (w_changed_40 ⟨fun z => absurd z (by omega), fun _ => ⟨fun u => ⟨by omega, ?_⟩, fun u => c_slugOn (by omega) c (by omega) (by omega) (am_av (w_changed_48 (c_slugOn (by omega) c (by omega) (by omega) (am_av (w_changed_53 ⟨by omega, ?_⟩)))))⟩⟩)))
          · rw [if_neg u] at hL2
            exact hL2
          · rw [if_pos u] at hL2
            rw [am_bc (q := sdE S p b' i = sdE S p a j) ⟨fun y => y.symm, fun y => y.symm⟩]
            exact hL2
        · have bz : am_b (hsE (sdE S p a) (sdE S p b' i) (sdN S p a).toNat = 0) = chF S p a b' i := rfl
          have b01 := chF_01 (S := S) (p := p) (a := a) (b := b') (i := i)
          refine w_changed_35 (c_slugsOn (by omega) c (by omega) (am_av (w_changed_40 ⟨fun _ => ?_, fun z => absurd z (by omega)⟩)))
          rw [bz]
          exact ⟨by omega, hL _ _⟩
      exact inn 0 (by omega) na.1
    · intro o6 o7
      exact w_changed_25 (c_slugsOn (by omega) c (by omega) (am_av (w_changed_30 ⟨fun _ => MR_up HH, fun z => absurd z (by omega)⟩)))
  exact main 0 (by omega) nb.1 _ _
theorem M_carry {s w m : Int} {D : Nat} (hD : 90 ≤ D) (hC : okC S) (hG : okG S) (H0 : ¬ (0 ≤ s ∧ s < S 0 0 4) → MR b r K S V W 1 (0)) (H2 : 0 ≤ s ∧ s < S 0 0 4 → ¬ ((0 ≤ w ∧ w ≤ 9) ∧ (S 4 s 2 ≤ m ∧ m ≤ S 0 0 0)) → MR b r K S V W 2 (0)) (H3 : 0 ≤ s ∧ s < S 0 0 4 → (0 ≤ w ∧ w ≤ 9) ∧ (S 4 s 2 ≤ m ∧ m ≤ S 0 0 0) → S 0 0 5 = 200 → MR b r K S V W 0 (-1)) (H1 : 0 ≤ s ∧ s < S 0 0 4 → (0 ≤ w ∧ w ≤ 9) ∧ (S 4 s 2 ≤ m ∧ m ≤ S 0 0 0) → S 0 0 5 ≠ 200 → MR b r K (u3 (u3 (u3 (u3 (u3 S 7 (S 0 0 5) 0 s) 7 (S 0 0 5) 1 w) 7 (S 0 0 5) 2 m) 7 (S 0 0 5) 3 (S 0 0 0)) 0 0 5 (S 0 0 5 + 1)) V W 0 (S 0 0 5 + 1)) : am_ev am_prog D 94 [.inr (.inl r), .inl s, .inl w, .inl m] (mo b r (ms S) V W) K := by
  have c4 := hG.1
  have c5 := hC.2.2.2.1
  obtain ⟨d, rfl⟩ : ∃ d, D = d + 4 := ⟨D - 4, by omega⟩
  refine am_en p_X5_carry rfl rfl ?_
  exact w_carry_0 ⟨fun c => ⟨fun e => MR_up (H2 c (by omega)), fun e => ⟨by omega, by omega, fun f => ⟨fun g => ⟨by omega, by omega, by omega, by omega, by omega, MR_up (H1 c ⟨e, f⟩ g)⟩, fun g => MR_up (H3 c ⟨e, f⟩ g)⟩, fun f => MR_up (H2 c (by omega))⟩⟩, fun c => MR_up (H0 c)⟩
theorem c_queues {k p nx bh co wh : Int} {D : Nat} (hD : 4 ≤ D) (hk : 0 ≤ k ∧ k < 4) (hn : 0 ≤ (S 5 k 29) ∧ (S 5 k 29) < 30) (H : K (.inl (some (.inl ((S 5 k 29) + 1)))) (mo b r (ms (jbS S k p nx bh co wh)) V W)) : am_ev am_prog D 176 [.inr (.inl r), .inl k, .inl p, .inl nx, .inl bh, .inl co, .inl wh] (mo b r (ms S) V W) K := by
  obtain ⟨d, rfl⟩ : ∃ d, D = d + 4 := ⟨D - 4, by omega⟩
  refine am_en p_X5_queues rfl rfl ?_
  refine w_queues_0 ?_
  have e : u3 (u3 (u3 (u3 (u3 S 5 k (33 + 5 * (S 5 k 29)) p) 5 k (34 + 5 * (S 5 k 29)) nx) 5 k (35 + 5 * (S 5 k 29)) bh) 5 k (36 + 5 * (S 5 k 29)) co) 5 k (37 + 5 * (S 5 k 29)) wh 5 k 29 = (S 5 k 29) := by
    rw [u3_no (by omega), u3_no (by omega), u3_no (by omega), u3_no (by omega), u3_no (by omega)]
  rw [e]
  exact ⟨by omega, by omega, by omega, by omega, by omega, by omega, by omega, by omega, H⟩
theorem M_give {p k : Int} {D : Nat} (hD : 90 ≤ D) (hC : okC S) (hi : -2147483648 ≤ p ∧ p ≤ 2147483647) (hF : okF S) (hM : okM S) (hA : okA S) (H0 : ¬ (isP S p ∧ (0 ≤ k ∧ k < S 0 0 3)) → MR b r K S V W 1 (0)) (H2 : isP S p → 0 ≤ k ∧ k < S 0 0 3 → ¬ (S 5 k 29) < 30 → MR b r K S V W 2 (0)) (H3 : isP S p → 0 ≤ k ∧ k < S 0 0 3 → (S 5 k 29) < 30 → S 3 p 2 = 1 → MR b r K S V W 0 (-1)) (H1 : isP S p → 0 ≤ k ∧ k < S 0 0 3 → (S 5 k 29) < 30 → S 3 p 2 ≠ 1 → MR b r K (jbS (u3 S 3 p 2 1) k p 0 0 0 1) V W 0 ((S 5 k 29) + 1)) : am_ev am_prog D 77 [.inr (.inl r), .inl p, .inl k] (mo b r (ms S) V W) K := by
  have c1 := hC.2.1
  have c3 := hC.2.2.1
  obtain ⟨d, rfl⟩ : ∃ d, D = d + 4 := ⟨D - 4, by omega⟩
  refine am_en p_X5_give rfl rfl ?_
  refine w_give_0 ⟨by omega, fun c => MR_up (H0 (fun z => c z.1)), fun ip => ⟨fun c => ?_, fun c => MR_up (H0 (fun z => c z.2))⟩⟩
  have pb := isP_bd hC hF ip
  have mk := (hM k c.1 (by omega)).2.2.2.1
  have e29 : u3 S 3 p 2 1 5 = S 5 := u3_r (by decide)
  have uu : ∀ x : Int, am_up (am_up W 38 0) 38 x = am_up W 38 x := fun x => by
    funext j
    unfold am_up
    split <;> rfl
  refine ⟨by omega, by omega, by omega, by omega, fun d => ⟨fun e => ⟨by omega, ?_⟩, fun e => ?_⟩, fun d => ?_⟩
  · rw [uu]
    refine c_queues (S := u3 S 3 p 2 1) (by omega) (by omega) (by rw [e29]; omega) (am_av (w_give_77 ?_))
    rw [e29]
    exact MR_up (H1 ip c d e)
  · rw [uu]
    exact MR_up (H3 ip c d e)
  · rw [uu]
    exact MR_up (H2 ip c (by omega))
theorem M_again {p l k : Int} {D : Nat} (hD : 90 ≤ D) (hC : okC S) (hi : -2147483648 ≤ p ∧ p ≤ 2147483647) (hF : okF S) (hM : okM S) (hA : okA S) (H0 : ¬ (isP S p ∧ (0 ≤ k ∧ k < S 0 0 3)) → MR b r K S V W 1 (0)) (H4 : isP S p → 0 ≤ k ∧ k < S 0 0 3 → S 3 p 3 = 0 → MR b r K S V W 2 (0)) (H5 : isP S p → 0 ≤ k ∧ k < S 0 0 3 → S 3 p 3 ≠ 0 → ¬ (0 ≤ l ∧ l < S 3 p 4) → MR b r K S V W 1 (0)) (H2 : isP S p → 0 ≤ k ∧ k < S 0 0 3 → S 3 p 3 ≠ 0 → 0 ≤ l ∧ l < S 3 p 4 → ¬ (S 5 k 29) < 30 → MR b r K S V W 3 (0)) (H3 : isP S p → 0 ≤ k ∧ k < S 0 0 3 → S 3 p 3 ≠ 0 → 0 ≤ l ∧ l < S 3 p 4 → (S 5 k 29) < 30 → 0 < S 3 p (45 + l) → MR b r K S V W 0 (-1)) (H1 : isP S p → 0 ≤ k ∧ k < S 0 0 3 → S 3 p 3 ≠ 0 → 0 ≤ l ∧ l < S 3 p 4 → (S 5 k 29) < 30 → S 3 p (45 + l) ≤ 0 → MR b r K (jbS S k p l (l + 1) 0 0) V W 0 ((S 5 k 29) + 1)) : am_ev am_prog D 95 [.inr (.inl r), .inl p, .inl l, .inl k] (mo b r (ms S) V W) K := by
  have c1 := hC.2.1
  have c3 := hC.2.2.1
  obtain ⟨d, rfl⟩ : ∃ d, D = d + 4 := ⟨D - 4, by omega⟩
  refine am_en p_X5_again rfl rfl ?_
  have uu : ∀ y x : Int, am_up (am_up W 38 y) 38 x = am_up W 38 x := fun y x => by
    funext j
    unfold am_up
    split <;> rfl
  refine w_again_0 ⟨by omega, fun c => w_again_15 ⟨fun z => absurd z (by omega), fun _ => MR_up (H0 (fun z => c z.1))⟩, fun ip => ⟨fun c => ?_, fun c => w_again_15 ⟨fun z => absurd z (by omega), fun _ => MR_up (H0 (fun z => c z.2))⟩⟩⟩
  have pb := isP_bd hC hF ip
  have ap := (hA p ip).2.2.2.2.2.2.2
  have mk := (hM k c.1 (by omega)).2.2.2.1
  refine c_noPlace (by omega) pb.1 ap (am_av (w_again_15 ?_))
  by_cases s3 : S 3 p 3 = 0
  · rw [if_pos s3]
    exact ⟨fun z => absurd z (by omega), fun _ => MR_up (H4 ip c s3)⟩
  · rw [if_neg s3]
    by_cases cl : 0 ≤ l ∧ l < S 3 p 4
    · rw [am_bf (fun z => z cl), uu, uu]
      refine ⟨fun _ => ⟨by omega, by omega, fun d => ⟨by omega, by omega, fun e => ⟨by omega, c_queues (by omega) (by omega) (by omega) (am_av (w_again_68 (MR_up (H1 ip c s3 cl d e))))⟩, fun e => w_again_68 (MR_up (H3 ip c s3 cl d e))⟩, fun d => MR_up (H2 ip c s3 cl (by omega))⟩, fun z => absurd z (by omega)⟩
    · rw [am_bt cl]
      exact ⟨fun z => absurd z (by omega), fun _ => MR_up (H5 ip c s3 cl)⟩
end
