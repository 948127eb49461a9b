set_option maxRecDepth 100000
/-! the model changes the pieces of a word -/
section
variable {K : am_K} {b : am_H} {r : Nat} {S : am_G} {V : Nat → Int → Int} {W : Nat → Int}
theorem c_changes {p w f o d0 : Int} {D : Nat} (hD : 5 ≤ D) (hp : 0 ≤ p ∧ p < 100) (h8 : V 8 0 = d0) (hf : 0 ≤ f ∧ 0 ≤ o ∧ f + o ≤ (S 3 p) 1) (h1 : (S 3 p) 1 ≤ 40) (hd : 0 ≤ d0 ∧ (S 3 p) 1 - o + d0 ≤ 40) (H : ∀ V' row, fa [24, 25, 26] V V' → chg (S 3 p) row (V 6) (V 7) w f o d0 → K (.inl none) (mo b r (ms (setR S p row)) V' W)) : am_ev am_prog D 191 [.inr (.inl r), .inl (130 + 645 * p), .inl w, .inl f, .inl o] (mo b r (ms S) V W) K := by
  obtain ⟨d, rfl⟩ : ∃ d, D = d + 4 := ⟨D - 4, by omega⟩
  refine am_en p_X5_changes rfl rfl ?_
  refine w_changes_0 ?_
  rw [h8]
  refine ⟨by omega, ?_⟩
  -- the new pieces
  have phC : ∀ V', fa [24, 25, 26] V V' → ∀ rB : Int → Int, (∀ j, ¬ (85 + (f + o) + (d0 - o) ≤ j ∧ j < 85 + ((S 3 p) 1) + (d0 - o)) → ¬ (125 + (f + o) + (d0 - o) ≤ j ∧ j < 125 + ((S 3 p) 1) + (d0 - o)) → ¬ (165 + 12 * ((f + o) + (d0 - o)) ≤ j ∧ j < 165 + 12 * ((S 3 p) 1 + (d0 - o))) → rB j = (S 3 p) j) → (∀ j, (f + o) ≤ j → j < (S 3 p) 1 → (rB (85 + j + (d0 - o)) = (S 3 p) (85 + j) ∧ rB (125 + j + (d0 - o)) = (S 3 p) (125 + j) ∧ ∀ i, 0 ≤ i → i < 12 → rB (165 + 12 * (j + (d0 - o)) + i) = (S 3 p) (165 + 12 * j + i))) → ∀ k, 0 ≤ k → k ≤ d0 → ∀ row : Int → Int, (∀ j, ¬ (85 + f ≤ j ∧ j < 85 + f + k) → ¬ (125 + f ≤ j ∧ j < 125 + f + k) → ¬ (165 + 12 * f ≤ j ∧ j < 165 + 12 * (f + k)) → row j = rB j) → (∀ j, 0 ≤ j → j < k → (row (85 + f + j) = w ∧ row (125 + f + j) = V 6 j ∧ ∀ i, 0 ≤ i → i < 12 → row (165 + 12 * (f + j) + i) = V 7 (12 * j + i))) → ∀ o8, am_W m_X5_changes (am_ev am_prog (d + 3)) K 142 [some (.inr (.inl r)), some (.inl (130 + 645 * p)), some (.inl (w)), some (.inl (f)), some (.inl (o)), some (.inl ((S 3 p) 1)), some (.inl ((d0 - o))), some (.inl (k)), o8] [] (mo b r (ms (setR S p row)) V' W) := by
    intro V' fV rB b1 b2
    have e8 : V' 8 0 = d0 := by
      rw [fV 8 rfl]
      exact h8
    refine lp_z ?_ ?_
    · intro k k0 k1 hL row c1 c2 o8
      refine w_changes_142 ⟨fun z => absurd z (by omega), fun _ => ⟨by omega, by omega, ?_⟩⟩
      rw [setR_u, setR_u, fV 6 rfl]
      have lp : ∀ i, 0 ≤ i → i ≤ 12 → ∀ row : Int → Int, (∀ j, ¬ (85 + f ≤ j ∧ j < 85 + f + (k + 1)) → ¬ (125 + f ≤ j ∧ j < 125 + f + (k + 1)) → ¬ (165 + 12 * f ≤ j ∧ j < 165 + 12 * (f + k) + i) → row j = rB j) → (∀ j, 0 ≤ j → j < k → (row (85 + f + j) = w ∧ row (125 + f + j) = V 6 j ∧ ∀ i, 0 ≤ i → i < 12 → row (165 + 12 * (f + j) + i) = V 7 (12 * j + i))) → row (85 + f + k) = w → row (125 + f + k) = V 6 k → (∀ i', 0 ≤ i' → i' < i → row (165 + 12 * (f + k) + i') = V 7 (12 * k + i')) → am_W m_X5_changes (am_ev am_prog (d + 3)) K 175 [some (.inr (.inl r)), some (.inl (130 + 645 * p)), some (.inl (w)), some (.inl (f)), some (.inl (o)), some (.inl ((S 3 p) 1)), some (.inl ((d0 - o))), some (.inl (k)), some (.inl (i))] [] (mo b r (ms (setR S p row)) V' W) := by
        refine lp_z ?_ ?_
        · intro i i0 i1 hLi row q1 q2 q3 q4 q5
          refine w_changes_175 ⟨fun z => absurd z (by omega), fun _ => ⟨by omega, by omega, ?_⟩⟩
          rw [setR_u, fV 7 rfl]
          refine hLi _ (fun j n1 n2 n3 => ?_) (fun j j0 j1 => ?_) ?_ ?_ (fun i' a c => ?_)
          · rw [am_uz_ne (by omega)]
            exact q1 j n1 n2 (by omega)
          · obtain ⟨g1, g2, g3⟩ := q2 j j0 j1
            refine ⟨?_, ?_, fun x x0 x1 => ?_⟩
            · rw [am_uz_ne (by omega)]
              exact g1
            · rw [am_uz_ne (by omega)]
              exact g2
            · rw [am_uz_ne (by omega)]
              exact g3 x x0 x1
          · rw [am_uz_ne (by omega)]
            exact q3
          · rw [am_uz_ne (by omega)]
            exact q4
          · by_cases e : i' = i
            · rw [e, am_uz_eq]
            · rw [am_uz_ne (by omega)]
              exact q5 i' a (by omega)
        · intro row q1 q2 q3 q4 q5
          refine w_changes_175 ⟨fun _ => ⟨by omega, hL row (fun j n1 n2 n3 => q1 j (by omega) (by omega) (by omega)) (fun j j0 j1 => ?_) _⟩, fun z => absurd z (by omega)⟩
          by_cases e : j = k
          · rw [e]
            exact ⟨q3, q4, q5⟩
          · exact q2 j j0 (by omega)
      refine lp 0 (by omega) (by omega) _ (fun j n1 n2 n3 => ?_) (fun j j0 j1 => ?_) ?_ ?_ (fun i' a c => absurd c (by omega))
      · rw [am_uz_ne (by omega), am_uz_ne (by omega)]
        exact c1 j (by omega) (by omega) (by omega)
      · obtain ⟨g1, g2, g3⟩ := c2 j j0 j1
        refine ⟨?_, ?_, fun x x0 x1 => ?_⟩
        · rw [am_uz_ne (by omega), am_uz_ne (by omega)]
          exact g1
        · rw [am_uz_ne (by omega), am_uz_ne (by omega)]
          exact g2
        · rw [am_uz_ne (by omega), am_uz_ne (by omega)]
          exact g3 x x0 x1
      · rw [am_uz_ne (by omega), am_uz_eq]
      · rw [am_uz_eq]
    · intro row c1 c2 o8
      refine w_changes_142 ⟨fun _ => ⟨by omega, ?_⟩, fun z => absurd z (by omega)⟩
      rw [setR_u]
      refine H V' _ fV ⟨?_, fun j j2 j85 => ?_, am_uz_eq, fun k k0 k1 => ?_, fun k k0 k1 => ?_, fun k k0 k1 => ?_, fun k k0 k1 => ?_, fun j hj => ?_⟩
      · rw [am_uz_ne (by omega), c1 0 (by omega) (by omega) (by omega), b1 0 (by omega) (by omega) (by omega)]
      · rw [am_uz_ne (by omega), c1 j (by omega) (by omega) (by omega), b1 j (by omega) (by omega) (by omega)]
      · refine ⟨?_, ?_, fun i i0 i1 => ?_⟩
        · rw [am_uz_ne (by omega), c1 (85 + k) (by omega) (by omega) (by omega), b1 (85 + k) (by omega) (by omega) (by omega)]
        · rw [am_uz_ne (by omega), c1 (125 + k) (by omega) (by omega) (by omega), b1 (125 + k) (by omega) (by omega) (by omega)]
        · rw [am_uz_ne (by omega), c1 (165 + 12 * k + i) (by omega) (by omega) (by omega), b1 (165 + 12 * k + i) (by omega) (by omega) (by omega)]
      · obtain ⟨g1, g2, g3⟩ := c2 k k0 k1
        refine ⟨?_, ?_, fun i i0 i1 => ?_⟩
        · rw [am_uz_ne (by omega)]
          exact g1
        · rw [am_uz_ne (by omega)]
          exact g2
        · rw [am_uz_ne (by omega)]
          exact g3 i i0 i1
      · obtain ⟨g1, g2, g3⟩ := b2 k k0 k1
        refine ⟨?_, ?_, fun i i0 i1 => ?_⟩
        · rw [am_uz_ne (by omega), c1 (85 + k + (d0 - o)) (by omega) (by omega) (by omega)]
          exact g1
        · rw [am_uz_ne (by omega), c1 (125 + k + (d0 - o)) (by omega) (by omega) (by omega)]
          exact g2
        · rw [am_uz_ne (by omega), c1 (165 + 12 * (k + (d0 - o)) + i) (by omega) (by omega) (by omega)]
          exact g3 i i0 i1
      · refine ⟨?_, ?_, fun i i0 i1 => ?_⟩
        · rw [am_uz_ne (by omega), c1 (85 + k) (by omega) (by omega) (by omega), b1 (85 + k) (by omega) (by omega) (by omega)]
        · rw [am_uz_ne (by omega), c1 (125 + k) (by omega) (by omega) (by omega), b1 (125 + k) (by omega) (by omega) (by omega)]
        · rw [am_uz_ne (by omega), c1 (165 + 12 * k + i) (by omega) (by omega) (by omega), b1 (165 + 12 * k + i) (by omega) (by omega) (by omega)]
      · rw [am_uz_ne (by omega), c1 j (by omega) (by omega) (by omega), b1 j (by omega) (by omega) (by omega)]
  -- the pieces behind are put
  have phB : ∀ V', fa [24, 25, 26] V V' → (∀ j, (f + o) ≤ j → j < (S 3 p) 1 → (V' 24 j = (S 3 p) (85 + j) ∧ V' 25 j = (S 3 p) (125 + j) ∧ ∀ i, 0 ≤ i → i < 12 → V' 26 (12 * j + i) = (S 3 p) (165 + 12 * j + i))) → ∀ k, (f + o) ≤ k → k ≤ (S 3 p) 1 → ∀ row : Int → Int, (∀ j, ¬ (85 + (f + o) + (d0 - o) ≤ j ∧ j < 85 + k + (d0 - o)) → ¬ (125 + (f + o) + (d0 - o) ≤ j ∧ j < 125 + k + (d0 - o)) → ¬ (165 + 12 * ((f + o) + (d0 - o)) ≤ j ∧ j < 165 + 12 * (k + (d0 - o))) → row j = (S 3 p) j) → (∀ j, (f + o) ≤ j → j < k → (row (85 + j + (d0 - o)) = (S 3 p) (85 + j) ∧ row (125 + j + (d0 - o)) = (S 3 p) (125 + j) ∧ ∀ i, 0 ≤ i → i < 12 → row (165 + 12 * (j + (d0 - o)) + i) = (S 3 p) (165 + 12 * j + i))) → ∀ o8, am_W m_X5_changes (am_ev am_prog (d + 3)) K 78 [some (.inr (.inl r)), some (.inl (130 + 645 * p)), some (.inl (w)), some (.inl (f)), some (.inl (o)), some (.inl ((S 3 p) 1)), some (.inl ((d0 - o))), some (.inl (k)), o8] [] (mo b r (ms (setR S p row)) V' W) := by
    intro V' fV va
    refine lp_z ?_ ?_
    · intro k k0 k1 hL row c1 c2 o8
      obtain ⟨va1, va2, va3⟩ := va k k0 k1
      refine w_changes_78 ⟨fun z => absurd z (by omega), fun _ => ⟨by omega, by omega, ?_⟩⟩
      rw [setR_u, setR_u, va1, va2]
      have lp : ∀ i, 0 ≤ i → i ≤ 12 → ∀ row : Int → Int, (∀ j, ¬ (85 + (f + o) + (d0 - o) ≤ j ∧ j < 85 + (k + 1) + (d0 - o)) → ¬ (125 + (f + o) + (d0 - o) ≤ j ∧ j < 125 + (k + 1) + (d0 - o)) → ¬ (165 + 12 * ((f + o) + (d0 - o)) ≤ j ∧ j < 165 + 12 * (k + (d0 - o)) + i) → row j = (S 3 p) j) → (∀ j, (f + o) ≤ j → j < k → (row (85 + j + (d0 - o)) = (S 3 p) (85 + j) ∧ row (125 + j + (d0 - o)) = (S 3 p) (125 + j) ∧ ∀ i, 0 ≤ i → i < 12 → row (165 + 12 * (j + (d0 - o)) + i) = (S 3 p) (165 + 12 * j + i))) → row (85 + k + (d0 - o)) = (S 3 p) (85 + k) → row (125 + k + (d0 - o)) = (S 3 p) (125 + k) → (∀ i', 0 ≤ i' → i' < i → row (165 + 12 * (k + (d0 - o)) + i') = (S 3 p) (165 + 12 * k + i')) → am_W m_X5_changes (am_ev am_prog (d + 3)) K 111 [some (.inr (.inl r)), some (.inl (130 + 645 * p)), some (.inl (w)), some (.inl (f)), some (.inl (o)), some (.inl ((S 3 p) 1)), some (.inl ((d0 - o))), some (.inl (k)), some (.inl (i))] [] (mo b r (ms (setR S p row)) V' W) := by
        refine lp_z ?_ ?_
        · intro i i0 i1 hLi row q1 q2 q3 q4 q5
          refine w_changes_111 ⟨fun z => absurd z (by omega), fun _ => ⟨by omega, by omega, ?_⟩⟩
          rw [setR_u, va3 i i0 i1]
          refine hLi _ (fun j n1 n2 n3 => ?_) (fun j j0 j1 => ?_) ?_ ?_ (fun i' a c => ?_)
          · rw [am_uz_ne (by omega)]
            exact q1 j n1 n2 (by omega)
          · obtain ⟨g1, g2, g3⟩ := q2 j j0 j1
            refine ⟨?_, ?_, fun x x0 x1 => ?_⟩
            · rw [am_uz_ne (by omega)]
              exact g1
            · rw [am_uz_ne (by omega)]
              exact g2
            · rw [am_uz_ne (by omega)]
              exact g3 x x0 x1
          · rw [am_uz_ne (by omega)]
            exact q3
          · rw [am_uz_ne (by omega)]
            exact q4
          · by_cases e : i' = i
            · rw [e, am_uz_eq]
            · rw [am_uz_ne (by omega)]
              exact q5 i' a (by omega)
        · intro row q1 q2 q3 q4 q5
          refine w_changes_111 ⟨fun _ => ⟨by omega, hL row (fun j n1 n2 n3 => q1 j (by omega) (by omega) (by omega)) (fun j j0 j1 => ?_) _⟩, fun z => absurd z (by omega)⟩
          by_cases e : j = k
          · rw [e]
            exact ⟨q3, q4, q5⟩
          · exact q2 j j0 (by omega)
      refine lp 0 (by omega) (by omega) _ (fun j n1 n2 n3 => ?_) (fun j j0 j1 => ?_) ?_ ?_ (fun i' a c => absurd c (by omega))
      · rw [am_uz_ne (by omega), am_uz_ne (by omega)]
        exact c1 j (by omega) (by omega) (by omega)
      · obtain ⟨g1, g2, g3⟩ := c2 j j0 j1
        refine ⟨?_, ?_, fun x x0 x1 => ?_⟩
        · rw [am_uz_ne (by omega), am_uz_ne (by omega)]
          exact g1
        · rw [am_uz_ne (by omega), am_uz_ne (by omega)]
          exact g2
        · rw [am_uz_ne (by omega), am_uz_ne (by omega)]
          exact g3 x x0 x1
      · rw [am_uz_ne (by omega), am_uz_eq]
      · rw [am_uz_eq]
    · intro row c1 c2 o8
      exact w_changes_78 ⟨fun _ => phC V' fV row c1 c2 0 (by omega) (by omega) row (fun _ _ _ _ => rfl) (fun j a c => absurd c (by omega)) _, fun z => absurd z (by omega)⟩
  -- they are kept aside
  have phA : ∀ k, (f + o) ≤ k → k ≤ (S 3 p) 1 → ∀ V', fa [24, 25, 26] V V' → (∀ j, (f + o) ≤ j → j < k → (V' 24 j = (S 3 p) (85 + j) ∧ V' 25 j = (S 3 p) (125 + j) ∧ ∀ i, 0 ≤ i → i < 12 → V' 26 (12 * j + i) = (S 3 p) (165 + 12 * j + i))) → ∀ o8, am_W m_X5_changes (am_ev am_prog (d + 3)) K 18 [some (.inr (.inl r)), some (.inl (130 + 645 * p)), some (.inl (w)), some (.inl (f)), some (.inl (o)), some (.inl ((S 3 p) 1)), some (.inl ((d0 - o))), some (.inl (k)), o8] [] (mo b r (ms S) V' W) := by
    refine lp_z ?_ ?_
    · intro k k0 k1 hL V' fV va o8
      refine w_changes_18 ⟨fun z => absurd z (by omega), fun _ => ⟨by omega, by omega, ?_⟩⟩
      have lp : ∀ i, 0 ≤ i → i ≤ 12 → ∀ V', fa [24, 25, 26] V V' → (∀ j, (f + o) ≤ j → j < k → (V' 24 j = (S 3 p) (85 + j) ∧ V' 25 j = (S 3 p) (125 + j) ∧ ∀ i, 0 ≤ i → i < 12 → V' 26 (12 * j + i) = (S 3 p) (165 + 12 * j + i))) → V' 24 k = (S 3 p) (85 + k) → V' 25 k = (S 3 p) (125 + k) → (∀ i', 0 ≤ i' → i' < i → V' 26 (12 * k + i') = (S 3 p) (165 + 12 * k + i')) → am_W m_X5_changes (am_ev am_prog (d + 3)) K 47 [some (.inr (.inl r)), some (.inl (130 + 645 * p)), some (.inl (w)), some (.inl (f)), some (.inl (o)), some (.inl ((S 3 p) 1)), some (.inl ((d0 - o))), some (.inl (k)), some (.inl (i))] [] (mo b r (ms S) V' W) := by
        refine lp_z ?_ ?_
        · intro i i0 i1 hLi V' fV va q3 q4 q5
          refine w_changes_47 ⟨fun z => absurd z (by omega), fun _ => ⟨by omega, by omega, ?_⟩⟩
          have u26 : am_up V' 26 (am_uz (V' 26) (12 * k + i) ((S 3 p) (165 + 12 * k + i))) 26 = am_uz (V' 26) (12 * k + i) ((S 3 p) (165 + 12 * k + i)) := am_up_eq
          have u24 : am_up V' 26 (am_uz (V' 26) (12 * k + i) ((S 3 p) (165 + 12 * k + i))) 24 = V' 24 := am_up_ne (by decide)
          have u25 : am_up V' 26 (am_uz (V' 26) (12 * k + i) ((S 3 p) (165 + 12 * k + i))) 25 = V' 25 := am_up_ne (by decide)
          refine hLi _ (fa_up fV rfl) (fun j j0 j1 => ?_) ?_ ?_ (fun i' a c => ?_)
          · obtain ⟨g1, g2, g3⟩ := va j j0 j1
            rw [u24, u25, u26]
            refine ⟨g1, g2, fun x x0 x1 => ?_⟩
            rw [am_uz_ne (by omega)]
            exact g3 x x0 x1
          · rw [u24]
            exact q3
          · rw [u25]
            exact q4
          · rw [u26]
            by_cases e : i' = i
            · rw [e, am_uz_eq]
            · rw [am_uz_ne (by omega)]
              exact q5 i' a (by omega)
        · intro V' fV va q3 q4 q5
          refine w_changes_47 ⟨fun _ => ⟨by omega, hL V' fV (fun j j0 j1 => ?_) _⟩, fun z => absurd z (by omega)⟩
          by_cases e : j = k
          · rw [e]
            exact ⟨q3, q4, q5⟩
          · exact va j j0 (by omega)
      have u24 : am_up (am_up V' 24 (am_uz (V' 24) k ((S 3 p) (85 + k)))) 25 (am_uz (V' 25) k ((S 3 p) (125 + k))) 24 = am_uz (V' 24) k ((S 3 p) (85 + k)) := (am_up_ne (by decide)).trans am_up_eq
      have u25 : am_up (am_up V' 24 (am_uz (V' 24) k ((S 3 p) (85 + k)))) 25 (am_uz (V' 25) k ((S 3 p) (125 + k))) 25 = am_uz (V' 25) k ((S 3 p) (125 + k)) := am_up_eq
      have u26 : am_up (am_up V' 24 (am_uz (V' 24) k ((S 3 p) (85 + k)))) 25 (am_uz (V' 25) k ((S 3 p) (125 + k))) 26 = V' 26 := (am_up_ne (by decide)).trans (am_up_ne (by decide))
      refine lp 0 (by omega) (by omega) _ (fa_up (fa_up fV rfl) rfl) (fun j j0 j1 => ?_) ?_ ?_ (fun i' a c => absurd c (by omega))
      · rw [u24, u25, u26, am_uz_ne (by omega), am_uz_ne (by omega)]
        exact va j j0 j1
      · rw [u24, am_uz_eq]
      · rw [u25, am_uz_eq]
    · intro V' fV va o8
      have q := phB V' fV va (f + o) (by omega) (by omega) (S 3 p) (fun _ _ _ _ => rfl) (fun j a c => absurd c (by omega))
      rw [setR_id] at q
      exact w_changes_18 ⟨fun _ => ⟨by omega, q _⟩, fun z => absurd z (by omega)⟩
  exact phA (f + o) (by omega) (by omega) V fa_refl (fun j a c => absurd c (by omega)) _
end
