set_option maxRecDepth 100000
/-! a page's stories: the mask -/
def bt (x j : Int) : Int := ((x.toNat / 2 ^ j.toNat % 2 : Nat) : Int)
theorem bt_01 {x j : Int} : bt x j = 0 ∨ bt x j = 1 := by
  unfold bt
  omega
theorem bt_s {x j : Int} (hj : 0 ≤ j) : ((bcn x.toNat (j + 1).toNat : Nat) : Int) = (bcn x.toNat j.toNat : Nat) + bt x j := by
  have e : (j + 1).toNat = j.toNat + 1 := by omega
  rw [e]
  show ((bcn x.toNat j.toNat + x.toNat / 2 ^ j.toNat % 2 : Nat) : Int) = _
  unfold bt
  omega
theorem bcn_m (x : Nat) : ∀ (k m : Nat), bcn x m ≤ bcn x (m + k)
  | 0, _ => Nat.le_refl _
  | k + 1, m => Nat.le_trans (bcn_m x k m) (Nat.le_add_right _ _)
theorem bcn_le {x i j : Nat} (h : i ≤ j) : bcn x i ≤ bcn x j := by
  obtain ⟨k, rfl⟩ : ∃ k, j = i + k := ⟨j - i, by omega⟩
  exact bcn_m x k i
/-- the stories of a mask -/
def skL (x : Nat) : Nat → Int → Int
  | 0 => fun _ => 0
  | m + 1 => if x / 2 ^ m % 2 = 1 then am_uz (skL x m) (bcn x m : Nat) (m : Nat) else skL x m
theorem skL_v (x : Nat) : ∀ (m : Nat) (i : Int), 0 ≤ i → i < (bcn x m : Nat) → (0 ≤ skL x m i ∧ skL x m i < (m : Int)) ∧ bt (x : Int) (skL x m i) = 1
  | 0, i, h1, h2 => absurd h2 (by show ¬ i < ((0 : Nat) : Int); omega)
  | m + 1, i, h1, h2 => by
    have e : bcn x (m + 1) = bcn x m + x / 2 ^ m % 2 := rfl
    rw [e] at h2
    have es : skL x (m + 1) i = (if x / 2 ^ m % 2 = 1 then am_uz (skL x m) (bcn x m : Nat) (m : Nat) else skL x m) i := rfl
    rw [es]
    by_cases c : x / 2 ^ m % 2 = 1
    · rw [if_pos c]
      by_cases ei : i = (bcn x m : Nat)
      · rw [ei, am_uz_eq]
        refine ⟨by omega, ?_⟩
        unfold bt
        have e1 : ((x : Int)).toNat = x := by omega
        have e2 : ((m : Int)).toNat = m := by omega
        rw [e1, e2, c]
        rfl
      · rw [am_uz_ne ei]
        have q := skL_v x m i h1 (by omega)
        exact ⟨by omega, q.2⟩
    · rw [if_neg c]
      have q := skL_v x m i h1 (by omega)
      exact ⟨by omega, q.2⟩
/-- a part of each story of the mask is set -/
def stS (S : am_G) (x : Int) : Prop := ∀ s, 0 ≤ s → s < (S 0 0 1) → bt x s = 1 → ∀ p, 0 ≤ p → p < S 2 2 s → S 3 (5 * s + p) 3 ≠ 0
theorem isP_5 {S : am_G} {s p : Int} (h1 : 0 ≤ s ∧ s < (S 0 0 1)) (h2 : 0 ≤ p ∧ p < S 2 2 s) (h5 : S 2 2 s ≤ 5) : isP S (5 * s + p) := by
  have e1 : (5 * s + p) / 5 = s := by omega
  have e2 : (5 * s + p) % 5 = p := by omega
  unfold isP
  rw [e1, e2]
  omega
theorem st_SB {S : am_G} (hC : okC S) (hF : okF S) (hA : okA S) {x : Int} (hx : 0 ≤ x) : ∀ j, 0 ≤ j → j < (bcn x.toNat (S 0 0 1).toNat : Int) → (0 ≤ (skL x.toNat (S 0 0 1).toNat) j ∧ (skL x.toNat (S 0 0 1).toNat) j < 20) ∧ (0 ≤ S 2 2 ((skL x.toNat (S 0 0 1).toNat) j) ∧ S 2 2 ((skL x.toNat (S 0 0 1).toNat) j) ≤ 5) ∧ ∀ k, 0 ≤ k → k < S 2 2 ((skL x.toNat (S 0 0 1).toNat) j) → 0 ≤ S 3 (5 * (skL x.toNat (S 0 0 1).toNat) j + k) 4 ∧ S 3 (5 * (skL x.toNat (S 0 0 1).toNat) j + k) 4 ≤ 40 := by
  intro j j0 j1
  have c1 := hC.2.1
  have q := skL_v x.toNat (S 0 0 1).toNat j j0 j1
  have f := hF ((skL x.toNat (S 0 0 1).toNat) j) q.1.1 (by omega)
  refine ⟨by omega, by omega, fun k k0 k1 => ?_⟩
  have ip := isP_5 (S := S) (s := (skL x.toNat (S 0 0 1).toNat) j) (p := k) ⟨q.1.1, by omega⟩ ⟨k0, k1⟩ f.2.2.2
  exact (hA _ ip).2.2.2.2.2.2.2
section
variable {K : am_K} {b : am_H} {r : Nat} {S : am_G} {V : Nat → Int → Int} {W : Nat → Int}
theorem c_notFit {pg x : Int} {D : Nat} (hD : 10 ≤ D) (hC : okC S) (hF : okF S) (hx : -2147483648 ≤ x ∧ x ≤ 2147483647) (H1 : ¬ ((0 ≤ pg ∧ pg < 6) ∧ (0 ≤ x ∧ x < am_shlz 1 (S 0 0 1))) → K (.inl (some (.inl (1)))) (mo b r (ms S) V W)) (H2 : (0 ≤ pg ∧ pg < 6) ∧ (0 ≤ x ∧ x < am_shlz 1 (S 0 0 1)) → ¬ (1 ≤ (bcn x.toNat (S 0 0 1).toNat : Int) ∧ (bcn x.toNat (S 0 0 1).toNat : Int) ≤ 4) → K (.inl (some (.inl (2)))) (mo b r (ms S) V W)) (H3 : (0 ≤ pg ∧ pg < 6) ∧ (0 ≤ x ∧ x < am_shlz 1 (S 0 0 1)) → 1 ≤ (bcn x.toNat (S 0 0 1).toNat : Int) ∧ (bcn x.toNat (S 0 0 1).toNat : Int) ≤ 4 → ¬ stS S x → K (.inl (some (.inl (3)))) (mo b r (ms S) V W)) (H0 : (0 ≤ pg ∧ pg < 6) ∧ (0 ≤ x ∧ x < am_shlz 1 (S 0 0 1)) → 1 ≤ (bcn x.toNat (S 0 0 1).toNat : Int) ∧ (bcn x.toNat (S 0 0 1).toNat : Int) ≤ 4 → stS S x → K (.inl (some (.inl (0)))) (mo b r (ms S) V W)) : am_ev am_prog D 168 [.inr (.inl r), .inl pg, .inl x] (mo b r (ms S) V W) K := by
  have c1 := hC.2.1
  obtain ⟨d, rfl⟩ : ∃ d, D = d + 4 := ⟨D - 4, by omega⟩
  refine am_en p_X5_notFit rfl rfl ?_
  refine w_notFit_0 ⟨fun c => H1 (fun z => c z.1), fun c => ⟨fun c2 => H1 (fun z => absurd z.2.1 (by omega)), fun c2 => ⟨fun c3 => ?_, fun c3 => H1 (fun z => absurd z.2.2 (by omega))⟩⟩⟩
  have pg' : (0 ≤ pg ∧ pg < 6) ∧ (0 ≤ x ∧ x < am_shlz 1 (S 0 0 1)) := ⟨c, c2, c3⟩
  have l1 : ∀ j, 0 ≤ j → j ≤ (S 0 0 1) → am_W m_X5_notFit (am_ev am_prog (d + 3)) K 19 [some (.inr (.inl r)), some (.inl (pg)), some (.inl (x)), some (.inl ((bcn x.toNat j.toNat : Nat))), some (.inl (j)), none] [] (mo b r (ms S) V W) := by
    refine lp_z ?_ ?_
    · intro j j0 j1 hL
      have hb := bit_z (x := x) (j := j) ⟨c2, hx.2⟩ (by omega)
      have hs := bt_s (x := x) j0
      have b01 := bt_01 (x := x) (j := j)
      have hb' : am_andz (am_shrz x j) 1 = bt x j := hb
      have le := bcn_le (x := x.toNat) (i := j.toNat) (j := 32) (by omega)
      have le2 : ∀ m : Nat, bcn x.toNat m ≤ m := fun m => by
        induction m with
        | zero => exact Nat.le_refl _
        | succ m ih =>
          show bcn x.toNat m + x.toNat / 2 ^ m % 2 ≤ m + 1
          omega
      have l32 := le2 32
      refine w_notFit_19 ⟨fun z => absurd z (by omega), fun _ => ?_⟩
      rw [hb', ← hs]
      exact ⟨by omega, hL⟩
    · refine w_notFit_19 ⟨fun _ => ⟨fun z => H2 pg' (by omega), fun z => ⟨fun z2 => ?_, fun z2 => H2 pg' (by omega)⟩⟩, fun z => absurd z (by omega)⟩
      have nn : 1 ≤ (bcn x.toNat (S 0 0 1).toNat : Int) ∧ (bcn x.toNat (S 0 0 1).toNat : Int) ≤ 4 := ⟨z, z2⟩
      have l2 : ∀ j, 0 ≤ j → j ≤ (S 0 0 1) → (∀ s, 0 ≤ s → s < j → bt x s = 1 → ∀ p, 0 ≤ p → p < S 2 2 s → S 3 (5 * s + p) 3 ≠ 0) → ∀ o5, am_W m_X5_notFit (am_ev am_prog (d + 3)) K 45 [some (.inr (.inl r)), some (.inl (pg)), some (.inl (x)), some (.inl ((bcn x.toNat ((S 0 0 1)).toNat : Nat))), some (.inl (j)), o5] [] (mo b r (ms S) V W) := by
        refine lp_z ?_ ?_
        · intro j j0 j1 hL hj o5
          have hb' : am_andz (am_shrz x j) 1 = bt x j := bit_z (x := x) (j := j) ⟨c2, hx.2⟩ (by omega)
          have f := (hF j j0 j1).2.2
          refine w_notFit_45 ⟨fun z => absurd z (by omega), fun _ => ?_⟩
          have l3 : ∀ p, 0 ≤ p → p ≤ S 2 2 j → (bt x j = 1 → ∀ q, 0 ≤ q → q < p → S 3 (5 * j + q) 3 ≠ 0) → am_W m_X5_notFit (am_ev am_prog (d + 3)) K 53 [some (.inr (.inl r)), some (.inl (pg)), some (.inl (x)), some (.inl ((bcn x.toNat ((S 0 0 1)).toNat : Nat))), some (.inl (j)), some (.inl (p))] [] (mo b r (ms S) V W) := by
            refine lp_z ?_ ?_
            · intro p p0 p1 hL3 hp
              refine w_notFit_53 ⟨by omega, fun z => absurd z (by omega), fun _ => ?_⟩
              rw [hb']
              refine ⟨fun z => ⟨by omega, hL (fun s s0 s1 => ?_) _⟩, fun z => ⟨by omega, by omega, by omega, fun y => ⟨by omega, hL3 (fun _ q q0 q1 => ?_)⟩, fun y => H3 pg' nn (fun w => w j j0 j1 z p p0 p1 y)⟩⟩
              · by_cases e : s = j
                · rw [e]
                  exact fun w => absurd w z
                · exact hj s s0 (by omega)
              · by_cases e : q = p
                · rw [e]
                  exact y
                · exact hp z q q0 (by omega)
            · intro hp
              refine w_notFit_53 ⟨by omega, fun _ => ⟨by omega, hL (fun s s0 s1 => ?_) _⟩, fun z => absurd z (by omega)⟩
              by_cases e : s = j
              · rw [e]
                exact hp
              · exact hj s s0 (by omega)
          exact l3 0 (by omega) (by omega) (fun _ q q0 q1 => absurd q1 (by omega))
        · intro hj o5
          exact w_notFit_45 ⟨fun _ => H0 pg' nn hj, fun z => absurd z (by omega)⟩
      exact l2 0 (by omega) c1.1 (fun s s0 s1 => absurd s1 (by omega)) _
  exact l1 0 (by omega) c1.1
theorem c_fitting {pg x : Int} {D : Nat} (hD : 25 ≤ D) (hC : okC S) (hF : okF S) (hA : okA S) (hH : okH S) (hx : x ≤ 2147483647) (hp : (0 ≤ pg ∧ pg < 6) ∧ (0 ≤ x ∧ x < am_shlz 1 (S 0 0 1))) (hn : 1 ≤ (bcn x.toNat (S 0 0 1).toNat : Int) ∧ (bcn x.toNat (S 0 0 1).toNat : Int) ≤ 4) (H : ∀ V' W', fa [27, 28, 29, 30, 31, 32] V V' → fa [89, 90] W W' → W' 89 = (bcn x.toNat (S 0 0 1).toNat : Int) → (∀ j, 0 ≤ j → j < (bcn x.toNat (S 0 0 1).toNat : Int) → V' 27 j = (skL x.toNat (S 0 0 1).toNat) j) → FtR (bcn x.toNat (S 0 0 1).toNat : Int) V' W' (fiR S pg (skL x.toNat (S 0 0 1).toNat) (bcn x.toNat ((S 0 0 1)).toNat)) → K (.inl none) (mo b r (ms S) V' W')) : am_ev am_prog D 169 [.inr (.inl r), .inl pg, .inl x] (mo b r (ms S) V W) K := by
  have c1 := hC.2.1
  obtain ⟨d, rfl⟩ : ∃ d, D = d + 4 := ⟨D - 4, by omega⟩
  refine am_en p_X5_fitting rfl rfl ?_
  refine w_fitting_0 ?_
  have loop : ∀ j, 0 ≤ j → j ≤ (S 0 0 1) → ∀ V' W', fa [27] V V' → fa [89] W W' → W' 89 = (bcn x.toNat j.toNat : Nat) → (∀ i : Int, 0 ≤ i → i < ((bcn x.toNat j.toNat : Nat) : Int) → V' 27 i = skL x.toNat j.toNat i) → am_W m_X5_fitting (am_ev am_prog (d + 3)) K 5 [some (.inr (.inl r)), some (.inl (pg)), some (.inl (x)), some (.inl (j))] [] (mo b r (ms S) V' W') := by
    refine lp_z ?_ ?_
    · intro j j0 j1 hL V' W' fV fW e89 e27
      have hb' : am_andz (am_shrz x j) 1 = bt x j := bit_z (x := x) (j := j) ⟨hp.2.1, hx⟩ (by omega)
      have hs := bt_s (x := x) j0
      have b01 := bt_01 (x := x) (j := j)
      have le := bcn_le (x := x.toNat) (i := (j + 1).toNat) (j := ((S 0 0 1)).toNat) (by omega)
      have ej : (j + 1).toNat = j.toNat + 1 := by omega
      have ejj : ((j.toNat : Nat) : Int) = j := by omega
      refine w_fitting_5 ⟨fun z => absurd z (by omega), fun _ => ?_⟩
      rw [hb', e89]
      refine ⟨fun z => ⟨by omega, by omega, by omega, hL _ _ (fa_up fV rfl) (fa_up fW rfl) ?_ (fun i i0 i1 => ?_)⟩, fun z => ⟨by omega, hL V' W' fV fW ?_ (fun i i0 i1 => ?_)⟩⟩
      · rw [am_up_eq, hs]
        have := bt_01 (x := x) (j := j)
        omega
      · have b1 : x.toNat / 2 ^ j.toNat % 2 = 1 := by
          have := bt_01 (x := x) (j := j)
          have w : bt x j = 1 := by omega
          unfold bt at w
          omega
        have u : am_up V' 27 (am_uz (V' 27) ((bcn x.toNat j.toNat : Nat) : Int) j) 27 = am_uz (V' 27) ((bcn x.toNat j.toNat : Nat) : Int) j := am_up_eq
        have es : skL x.toNat (j.toNat + 1) = am_uz (skL x.toNat j.toNat) (bcn x.toNat j.toNat : Nat) (j.toNat : Nat) := if_pos b1
        rw [u, ej, es, ejj]
        by_cases e : i = ((bcn x.toNat j.toNat : Nat) : Int)
        · rw [e, am_uz_eq, am_uz_eq]
        · rw [am_uz_ne e, am_uz_ne e]
          have := bt_01 (x := x) (j := j)
          exact e27 i i0 (by omega)
      · rw [hs, z, e89]
        omega
      · have b0 : ¬ x.toNat / 2 ^ j.toNat % 2 = 1 := by
          unfold bt at z
          omega
        have es : skL x.toNat (j.toNat + 1) = skL x.toNat j.toNat := if_neg b0
        rw [ej, es]
        exact e27 i i0 (by omega)
    · intro V' W' fV fW e89 e27
      refine w_fitting_5 ⟨fun _ => ?_, fun z => absurd z (by omega)⟩
      refine c_columns (n := (bcn x.toNat (S 0 0 1).toNat : Int)) (st := (skL x.toNat (S 0 0 1).toNat)) (col := fun _ => 0) (s := (-1, fun _ => 0, fun _ => 0)) hp.1 hH (by omega) (st_SB hC hF hA hp.2.1) (bcn x.toNat ((S 0 0 1)).toNat) (by omega) (by omega) (by omega) ((am_up_ne (by decide)).trans e89) e27 (fun j a c => absurd c (by omega)) ⟨am_up_eq, by show (-1 : Int) ≤ -1; omega, fun z => absurd rfl z⟩ (fun V2 W2 f2 fw2 q28 qF => am_an (w_fitting_39 ?_))
      have en : ((bcn x.toNat (S 0 0 1).toNat : Int)).toNat = bcn x.toNat ((S 0 0 1)).toNat := by omega
      rw [en] at qF
      exact H V2 W2 (fa_trans (fa_sub fV rfl) (fa_sub f2 rfl)) (fa_trans (fa_sub fW rfl) (fa_trans (fa_up fa_refl rfl) (fa_sub fw2 rfl))) ((fw2 89 rfl).trans ((am_up_ne (by decide)).trans e89)) (fun j a c => by rw [f2 27 rfl]; exact e27 j a c) qF
  exact loop 0 (by omega) c1.1 V _ fa_refl (fa_up fa_refl rfl) am_up_eq (fun i i0 i1 => absurd i1 (by show ¬ i < ((0 : Nat) : Int); omega))
/-- what a page would take -/
theorem M_fit {pg x : Int} {D : Nat} (hD : 90 ≤ D) (hC : okC S) (hF : okF S) (hA : okA S) (hH : okH S) (hx : -2147483648 ≤ x ∧ x ≤ 2147483647) (H1 : ¬ ((0 ≤ pg ∧ pg < 6) ∧ (0 ≤ x ∧ x < am_shlz 1 (S 0 0 1))) → MR b r K S V W 1 (0)) (H2 : (0 ≤ pg ∧ pg < 6) ∧ (0 ≤ x ∧ x < am_shlz 1 (S 0 0 1)) → ¬ (1 ≤ (bcn x.toNat (S 0 0 1).toNat : Int) ∧ (bcn x.toNat (S 0 0 1).toNat : Int) ≤ 4) → MR b r K S V W 2 (0)) (H3 : (0 ≤ pg ∧ pg < 6) ∧ (0 ≤ x ∧ x < am_shlz 1 (S 0 0 1)) → 1 ≤ (bcn x.toNat (S 0 0 1).toNat : Int) ∧ (bcn x.toNat (S 0 0 1).toNat : Int) ≤ 4 → ¬ stS S x → MR b r K S V W 3 (0)) (H0 : (0 ≤ pg ∧ pg < 6) ∧ (0 ≤ x ∧ x < am_shlz 1 (S 0 0 1)) → 1 ≤ (bcn x.toNat (S 0 0 1).toNat : Int) ∧ (bcn x.toNat (S 0 0 1).toNat : Int) ≤ 4 → stS S x → MR b r K S V W 0 ((fiR S pg (skL x.toNat (S 0 0 1).toNat) (bcn x.toNat ((S 0 0 1)).toNat)).1)) : am_ev am_prog D 64 [.inr (.inl r), .inl pg, .inl x] (mo b r (ms S) V W) K := by
  obtain ⟨d, rfl⟩ : ∃ d, D = d + 4 := ⟨D - 4, by omega⟩
  refine am_en p_X5_fit rfl rfl ?_
  refine w_fit_0 (c_notFit (by omega) hC hF hx (fun c => am_av (w_fit_5 ⟨fun z => absurd z (by omega), fun _ => MR_up (H1 c)⟩)) (fun c c2 => am_av (w_fit_5 ⟨fun z => absurd z (by omega), fun _ => MR_up (H2 c c2)⟩)) (fun c c2 c3 => am_av (w_fit_5 ⟨fun z => absurd z (by omega), fun _ => MR_up (H3 c c2 c3)⟩)) (fun c c2 c3 => am_av (w_fit_5 ⟨fun _ => ?_, fun z => absurd z (by omega)⟩)))
  refine c_fitting (by omega) hC hF hA hH hx.2 c c2 (fun V' W' fV fW e89 e27 eF => am_an (w_fit_15 ?_))
  rw [eF.1]
  exact MR_f (H0 c c2 c3) fV fW rfl rfl rfl rfl rfl rfl
end
