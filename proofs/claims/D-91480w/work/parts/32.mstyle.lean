set_option maxRecDepth 100000
theorem nn {α : Type} {x : α} {P : Prop} (h : none = some x) : P := nomatch h
section
variable {K : am_K} {b : am_H} {r : Nat} {S : am_G} {V : Nat → Int → Int} {W : Nat → Int}
theorem c_holds_lp {p q f n : Int} {d : Nat} (hp : 0 ≤ p ∧ p < 10) (hf : 0 ≤ f ∧ 0 ≤ n ∧ f + n ≤ 562) (ht : ∀ i, 0 ≤ i → i < 3 → V 11 i = 0 ∨ V 11 i = 1) {x0 : Int} (H : ∀ V' W', fa [13] V V' → fa [62] W W' → K (.inl (some (.inl (x0)))) (mo b r (ms S) V' W')) : ∀ (t : Nat) (k : Int) (st : List Int) (V' : Nat → Int → Int) (W' : Nat → Int) (o6 o7 o8 : Option am_V), 0 ≤ k → rn (S 6 p) (V 11) (V 12) f n t k st = some [x0] → fa [13] V V' → fa [62] W W' → pl (V' 13) st → W' 62 = (st.length : Int) → am_W m_X5_holds (am_ev am_prog (d + 3)) K 35 [some (.inr (.inl r)), some (.inl (320962 + 562 * p)), some (.inl (q)), some (.inl (f)), some (.inl (n)), some (.inl (k)), o6, o7, o8] [] (mo b r (ms S) V' W') := by
  intro t
  induction t with
  | zero => exact fun k st V' W' o6 o7 o8 hk h => nn h
  | succ t ih =>
    intro k st V' W' o6 o7 o8 hk h hV hW hl hh
    have e11 : V' 11 = V 11 := hV 11 rfl
    have e12 : V' 12 = V 12 := hV 12 rfl
    unfold rn at h
    by_cases c0 : n ≤ k
    · rw [if_pos c0] at h
      injection h with h
      subst h
      obtain ⟨h1, h2, _⟩ := hl
      have h1' : V' 13 0 = x0 := h1
      refine w_holds_35 ⟨fun _ => ⟨by omega, ?_⟩, fun c => absurd c (by omega)⟩
      rw [h1']
      exact H V' W' hV hW
    rw [if_neg c0] at h
    refine w_holds_35 ⟨fun c => absurd c (by omega), fun _ => ⟨by omega, ?_, ?_⟩⟩
    · intro c1
      rw [if_neg c1] at h
      have tst : (S 6 p (f + k) = 2 ∨ S 6 p (f + k) = 3) → ((0 ≤ S 6 p (1 + f + k) ∧ S 6 p (1 + f + k) < 6) ∧ st.length < 100 ∧ k + 3 ≤ n) ∧ rn (S 6 p) (V 11) (V 12) f n t (k + 3) ((if S 6 p (f + k) = 2 then am_b (V 12 (S 6 p (1 + f + k)) < S 6 p (2 + f + k)) else am_b (S 6 p (2 + f + k) < V 12 (S 6 p (1 + f + k)))) :: st) = some [x0] := by
        intro c2
        rw [if_pos c2] at h
        by_cases c3 : (0 ≤ S 6 p (1 + f + k) ∧ S 6 p (1 + f + k) < 6) ∧ st.length < 100 ∧ k + 3 ≤ n
        · rw [if_pos c3] at h
          exact ⟨c3, h⟩
        · rw [if_neg c3] at h
          exact nn h
      have nst : ∀ c2 : S 6 p (f + k) = 3, S 6 p (f + k) ≠ 2 → am_W m_X5_holds (am_ev am_prog (d + 3)) K 35 [some (.inr (.inl r)), some (.inl (320962 + 562 * p)), some (.inl (q)), some (.inl (f)), some (.inl (n)), some (.inl (k + 3)), some (.inl (S 6 p (f + k))), some (.inl (V' 12 (S 6 p (1 + f + k)))), some (.inl (S 6 p (2 + f + k)))] [] (mo b r (ms S) (am_up V' 13 (am_uz (V' 13) (W' 62) (am_b (S 6 p (2 + f + k) < V' 12 (S 6 p (1 + f + k)))))) (am_up W' 62 (W' 62 + 1))) := by
        intro c2 c3
        obtain ⟨q1, q2⟩ := tst (Or.inr c2)
        rw [if_neg c3] at q2
        rw [e12]
        refine ih _ _ _ _ _ _ _ (by omega) q2 (fa_up hV rfl) (fa_up hW rfl) ?_ ?_
        · rw [am_up_eq, hh]
          exact pl_cons hl (am_bz _)
        · rw [am_up_eq, hh]
          rfl
      have yst : S 6 p (f + k) = 2 → am_W m_X5_holds (am_ev am_prog (d + 3)) K 35 [some (.inr (.inl r)), some (.inl (320962 + 562 * p)), some (.inl (q)), some (.inl (f)), some (.inl (n)), some (.inl (k + 3)), some (.inl (S 6 p (f + k))), some (.inl (V' 12 (S 6 p (1 + f + k)))), some (.inl (S 6 p (2 + f + k)))] [] (mo b r (ms S) (am_up V' 13 (am_uz (V' 13) (W' 62) (am_b (V' 12 (S 6 p (1 + f + k)) < S 6 p (2 + f + k))))) (am_up W' 62 (W' 62 + 1))) := by
        intro c2
        obtain ⟨q1, q2⟩ := tst (Or.inl c2)
        rw [if_pos c2] at q2
        rw [e12]
        refine ih _ _ _ _ _ _ _ (by omega) q2 (fa_up hV rfl) (fa_up hW rfl) ?_ ?_
        · rw [am_up_eq, hh]
          exact pl_cons hl (am_bz _)
        · rw [am_up_eq, hh]
          rfl
      refine ⟨fun c2 => ?_, fun c2 => ⟨fun c3 => ?_, fun c3 => ?_⟩⟩
      · obtain ⟨q1, q2⟩ := tst (Or.inl c2)
        exact ⟨by omega, fun c3 => absurd c2 c3, fun c3 => ⟨by omega, by omega, by omega, yst c2⟩⟩
      · rw [if_neg (by omega)] at h
        refine ⟨fun c4 => ?_, fun c4 => ?_⟩
        · rw [if_neg c4] at h
          match st, h, hl, hh with
          | [], h, hl, hh => exact nn h
          | [_], h, hl, hh => exact nn h
          | x :: z :: s, h, hl, hh =>
            have hh' : W' 62 = (s.length : Int) + 2 := by
              rw [hh]
              show ((s.length + 1 + 1 : Nat) : Int) = _
              omega
            have h' : (if s.length < 99 then rn (S 6 p) (V 11) (V 12) f n t (k + 1) ((if S 6 p (f + k) = 5 then (if z = 0 then 0 else am_b (x ≠ 0)) else (if z ≠ 0 then 1 else am_b (x ≠ 0))) :: s) else none) = some [x0] := h
            by_cases c5 : s.length < 99
            · rw [if_pos c5] at h'
              obtain ⟨g1, g2, g3, g4, g5⟩ := hl
              have g1' : V' 13 (W' 62 - 1) = x := by
                rw [hh', ← g1]
                congr 1
                simp
                omega
              have g3' : V' 13 (W' 62 - 1 - 1) = z := by
                rw [hh', ← g3]
                congr 1
                omega
              have ge : W' 62 - 1 - 1 = (s.length : Int) := by omega
              have fin : ∀ x1, (x1 = 0 ∨ x1 = 1) → rn (S 6 p) (V 11) (V 12) f n t (k + 1) (x1 :: s) = some [x0] → am_W m_X5_holds (am_ev am_prog (d + 3)) K 35 [some (.inr (.inl r)), some (.inl (320962 + 562 * p)), some (.inl (q)), some (.inl (f)), some (.inl (n)), some (.inl (k + 1)), some (.inl (S 6 p (f + k))), o7, o8] [] (mo b r (ms S) (am_up V' 13 (am_uz (V' 13) (W' 62 - 1 - 1) x1)) (am_up W' 62 (W' 62 - 1))) := by
                intro x1 hx1 q2
                refine ih _ _ _ _ _ _ _ (by omega) q2 (fa_up hV rfl) (fa_up hW rfl) ?_ ?_
                · rw [am_up_eq, ge]
                  exact pl_cons g5 hx1
                · rw [am_up_eq, hh']
                  simp
                  omega
              refine ⟨by omega, by omega, fun c6 => ⟨by omega, fun c7 => ⟨by omega, by omega, ?_⟩, fun c7 => ⟨by omega, by omega, by omega, ?_⟩⟩, fun c6 => ⟨by omega, fun c7 => ⟨by omega, by omega, ?_⟩, fun c7 => ⟨by omega, by omega, by omega, ?_⟩⟩⟩
              · rw [if_neg c6, if_pos (by rw [g3'] at c7; exact c7)] at h'
                exact fin 1 (Or.inr rfl) h'
              · rw [if_neg c6, if_neg (by rw [g3'] at c7; omega)] at h'
                rw [g1']
                exact fin _ (am_bz _) h'
              · rw [if_pos c6, if_pos (by rw [g3'] at c7; exact c7)] at h'
                exact fin 0 (Or.inl rfl) h'
              · rw [if_pos c6, if_neg (by rw [g3'] at c7; exact c7)] at h'
                rw [g1']
                exact fin _ (am_bz _) h'
            · rw [if_neg c5] at h'
              exact nn h'
        · rw [if_pos c4] at h
          match st, h, hl, hh with
          | [], h, hl, hh => exact nn h
          | x :: s, h, hl, hh =>
            have hh' : W' 62 = (s.length : Int) + 1 := by
              rw [hh]
              rfl
            have h' : (if s.length < 100 then rn (S 6 p) (V 11) (V 12) f n t (k + 1) (am_b (x = 0) :: s) else none) = some [x0] := h
            by_cases c5 : s.length < 100
            · rw [if_pos c5] at h'
              obtain ⟨g1, g2, g5⟩ := hl
              have g1' : V' 13 (W' 62 - 1) = x := by
                rw [hh', ← g1]
                congr 1
                omega
              have ge : W' 62 - 1 = (s.length : Int) := by omega
              refine ⟨by omega, by omega, by omega, ?_⟩
              rw [g1']
              refine ih _ _ _ _ _ _ _ (by omega) h' (fa_up hV rfl) hW ?_ ?_
              · rw [am_up_eq, ge]
                exact pl_cons g5 (am_bz _)
              · rw [hh']
                simp
            · rw [if_neg c5] at h'
              exact nn h'
      · obtain ⟨q1, q2⟩ := tst (Or.inr c3)
        exact ⟨by omega, fun c4 => ⟨by omega, by omega, by omega, nst c3 c4⟩, fun c4 => absurd c4 c2⟩
    · intro c1
      rw [if_pos c1] at h
      by_cases c3 : (0 ≤ S 6 p (1 + f + k) ∧ S 6 p (1 + f + k) < 3) ∧ st.length < 100 ∧ k + 2 ≤ n
      · rw [if_pos c3] at h
        have t1 := ht _ c3.1.1 c3.1.2
        refine ⟨?_, by omega, by omega, ?_⟩
        · rw [e11]
          omega
        · rw [e11]
          refine ih _ _ _ _ _ _ _ (by omega) h (fa_up hV rfl) (fa_up hW rfl) ?_ ?_
          · rw [am_up_eq, hh]
            exact pl_cons hl t1
          · rw [am_up_eq, hh]
            rfl
      · rw [if_neg c3] at h
        exact nn h
theorem c_holds {p q : Int} {D : Nat} (hD : 4 ≤ D) (hp : 0 ≤ p ∧ p < 10) (hq : 0 ≤ q ∧ q < 12) (hR : okR (S 6 p) q) (ht : ∀ i, 0 ≤ i → i < 3 → V 11 i = 0 ∨ V 11 i = 1) (H : ∀ V' W', fa [13] V V' → fa [62] W W' → K (.inl (some (.inl (hv (S 6 p) (V 11) (V 12) q)))) (mo b r (ms S) V' W')) : am_ev am_prog D 286 [.inr (.inl r), .inl (320962 + 562 * p), .inl q] (mo b r (ms S) V W) K := by
  obtain ⟨d, rfl⟩ : ∃ d, D = d + 4 := ⟨D - 4, by omega⟩
  refine am_en p_X5_holds rfl rfl ?_
  refine w_holds_0 ⟨by omega, fun c => ?_, fun c => ?_⟩
  · rcases hR with hR | hR
    · exact absurd hR c
    · obtain ⟨x, hx, e⟩ := hR.2 (V 11) (V 12) ht
      have e2 : hv (S 6 p) (V 11) (V 12) q = x := by
        unfold hv
        rw [if_neg c, e]
      rw [e2] at H
      exact c_holds_lp hp hR.1 ht H 600 0 [] _ _ _ _ _ (by omega) e fa_refl (fa_up fa_refl rfl) True.intro am_up_eq
  · have e2 : hv (S 6 p) (V 11) (V 12) q = 1 := if_pos c
    rw [e2] at H
    exact H V W fa_refl fa_refl
end
