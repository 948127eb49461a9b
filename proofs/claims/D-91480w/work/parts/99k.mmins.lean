set_option maxRecDepth 100000
/-! one state follows another: there is but one -/
theorem runR_f {S S1 S2 : am_G} {k a1 a2 : Int} (h1 : runR S k S1 a1) (h2 : runR S k S2 a2) : S1 = S2 ∧ a1 = a2 := by
  rcases h1 with ⟨m1, e1, b1⟩ | ⟨m1, w1, e1, b1⟩ | ⟨m1, w1, e1, b1⟩ <;> rcases h2 with ⟨m2, e2, b2⟩ | ⟨m2, w2, e2, b2⟩ | ⟨m2, w2, e2, b2⟩
  · exact ⟨e1.trans e2.symm, b1.trans b2.symm⟩
  · exact absurd m1 m2
  · exact absurd m1 m2
  · exact absurd m2 m1
  · exact ⟨e1.trans e2.symm, b1.trans b2.symm⟩
  · exact absurd w2 w1
  · exact absurd m2 m1
  · exact absurd w1 w2
  · exact ⟨e1.trans e2.symm, b1.trans b2.symm⟩
theorem turR_f {S S1 S2 : am_G} {k a1 a2 : Int} (h1 : turR S k S1 a1) (h2 : turR S k S2 a2) : S1 = S2 ∧ a1 = a2 := by
  rcases h1 with ⟨c1, e1, b1⟩ | ⟨c1, d1, f1, g1, e1, b1⟩ | ⟨c1, d1, f1, g1, r1⟩ | ⟨c1, d1, f1, r1⟩ <;> rcases h2 with ⟨c2, e2, b2⟩ | ⟨c2, d2, f2, g2, e2, b2⟩ | ⟨c2, d2, f2, g2, r2⟩ | ⟨c2, d2, f2, r2⟩
  · exact ⟨e1.trans e2.symm, b1.trans b2.symm⟩
  · exact (c1.elim (fun w => w c2) (fun w => d2 w)).elim
  · exact (c1.elim (fun w => w c2) (fun w => d2 w)).elim
  · exact (c1.elim (fun w => w c2) (fun w => d2 w)).elim
  · exact (c2.elim (fun w => w c1) (fun w => d1 w)).elim
  · exact ⟨e1.trans e2.symm, b1.trans b2.symm⟩
  · exact absurd g1 g2
  · exact absurd f1 (by omega)
  · exact (c2.elim (fun w => w c1) (fun w => d1 w)).elim
  · exact absurd g2 g1
  · exact runR_f r1 r2
  · exact absurd f1 (by omega)
  · exact (c2.elim (fun w => w c1) (fun w => d1 w)).elim
  · exact absurd f2 (by omega)
  · exact absurd f2 (by omega)
  · exact runR_f r1 r2
theorem mnR_f {S : am_G} : ∀ (k : Nat) (S1 S2 : am_G), mnR S k S1 → mnR S k S2 → S1 = S2
  | 0, _, _, h1, h2 => h1.trans h2.symm
  | k + 1, _, _, ⟨A, A1, a, h1, h2, h3⟩, ⟨B, B1, b, g1, g2, g3⟩ => by
    have e := mnR_f k A B h1 g1
    subst e
    have f := turR_f h2 g2
    rw [h3, g3, f.1, f.2]
/-- minutes -/
def mnsR (S : am_G) : Nat → am_G → Prop
  | 0, S' => S' = S
  | n + 1, S' => ∃ S1, mnsR S n S1 ∧ ((S1 0 0 0 < 600 ∧ mnR (mnS S1) (S1 0 0 3).toNat S') ∨ (600 ≤ S1 0 0 0 ∧ S' = S1))
theorem mnsR_f {S : am_G} : ∀ (n : Nat) (S1 S2 : am_G), mnsR S n S1 → mnsR S n S2 → S1 = S2
  | 0, _, _, h1, h2 => h1.trans h2.symm
  | n + 1, _, _, ⟨A, h1, h2⟩, ⟨B, g1, g2⟩ => by
    have e := mnsR_f n A B h1 g1
    subst e
    rcases h2 with ⟨c1, m1⟩ | ⟨c1, m1⟩ <;> rcases g2 with ⟨c2, m2⟩ | ⟨c2, m2⟩
    · exact mnR_f _ _ _ m1 m2
    · exact absurd c1 (by omega)
    · exact absurd c2 (by omega)
    · exact m1.trans m2.symm
theorem mnR_ok {S : am_G} (h : okMn S 0) : ∀ k : Nat, (k : Int) ≤ S 0 0 3 → ∀ S', mnR S k S' → okMn S' (k : Int) ∧ ∀ j, j ≠ 4 → S' 0 0 j = S 0 0 j
  | 0, _, S', e => by
    have e' : S' = S := e
    rw [e']
    exact ⟨h, fun _ _ => rfl⟩
  | k + 1, hk, S', ⟨A, A1, a, h1, h2, h3⟩ => by
    have ih := mnR_ok h k (by omega) A h1
    have q := okMn_s (k := (k : Int)) (by rw [ih.2 3 (by decide)]; omega) ih.1 h2
    rw [h3]
    have e : ((k + 1 : Nat) : Int) = (k : Int) + 1 := by omega
    rw [e]
    exact ⟨q.1, fun j hj => (q.2.1 j hj).trans (ih.2 j hj)⟩
/-- what minutes keep -/
def okMs (S : am_G) : Prop := okT0 S ∧ okT5 S ∧ ∀ q, 0 ≤ q → q < 4 → sm3 S q ≤ S 0 0 0
theorem okMs_m {S S' : am_G} (h : okMs S) (hn : S 0 0 0 < 600) (m : mnR (mnS S) (S 0 0 3).toNat S') : okMs S' ∧ S' 0 0 3 = S 0 0 3 := by
  obtain ⟨h0, h5, hs⟩ := h
  have c3 := h0.1.2.2.1
  obtain ⟨v1, v2, v3, v4, v5, v6, v7, v8⟩ := mnS_v (S := S) h0.1.2.2.2.2.2
  have e03 : mnS S 0 0 3 = S 0 0 3 := v4 3 (by decide) (by decide)
  have q := mnR_ok (okMn_0 h0 h5 hn hs) (S 0 0 3).toNat (by rw [e03]; omega) S' m
  refine ⟨⟨q.1.1, q.1.2.1, fun a a1 a2 => ?_⟩, (q.2 3 (by decide)).trans e03⟩
  have w := q.1.2.2 a a1 a2
  split at w <;> omega
section
variable {K : am_K} {b : am_H} {r : Nat} {S : am_G} {V : Nat → Int → Int} {W : Nat → Int}
theorem M_minutes {m : Int} {D : Nat} (hD : 90 ≤ D) (h : okMs S) (H0 : ¬ (0 ≤ m ∧ m ≤ 120) → MR b r K S V W 1 (0)) (H1 : 0 ≤ m ∧ m ≤ 120 → ∀ S', mnsR S m.toNat S' → MR b r K S' V W 0 (S' 0 0 0)) : am_ev am_prog D 45 [.inr (.inl r), .inl m] (mo b r (ms S) V W) K := by
  obtain ⟨d, rfl⟩ : ∃ d, D = d + 4 := ⟨D - 4, by omega⟩
  refine am_en p_X5_minutes rfl rfl ?_
  refine w_minutes_0 ⟨fun c => ?_, fun c => MR_up (H0 c)⟩
  -- when the night is over, the rest of the minutes is nothing
  have over : ∀ (n : Nat) (j : Nat) (S1 : am_G), mnsR S j S1 → 600 ≤ S1 0 0 0 → mnsR S (j + n) S1 := by
    intro n
    induction n with
    | zero => intro j S1 h1 _; exact h1
    | succ n ih => intro j S1 h1 h2; exact ⟨S1, ih j S1 h1 h2, Or.inr ⟨h2, rfl⟩⟩
  have fin : ∀ S' V' W', mnsR S m.toNat S' → fa [11, 12, 13, 14, 15, 16, 17, 18] V V' → fa [62, 63, 64, 65, 66, 67, 68, 73] (am_up W 38 0) W' → K (.inl (some (.inl (S' 0 0 0)))) (mo b r (ms S') V' W') := fun S' V' W' hm hV hW => MR_f (H1 c S' hm) hV hW rfl rfl rfl rfl rfl rfl
  have main : ∀ j, 0 ≤ j → j ≤ m → ∀ Sj V' W', mnsR S j.toNat Sj → okMs Sj → fa [11, 12, 13, 14, 15, 16, 17, 18] V V' → fa [62, 63, 64, 65, 66, 67, 68, 73] (am_up W 38 0) W' → am_W m_X5_minutes (am_ev am_prog (d + 3)) K 17 [some (.inr (.inl r)), some (.inl (m)), some (.inl (j))] [] (mo b r (ms Sj) V' W') := by
    refine lp_z ?_ ?_
    · intro j j1 j2 hL Sj V' W' hm hok hV hW
      have e1 : (j + 1).toNat = j.toNat + 1 := by omega
      refine w_minutes_17 ⟨fun z => absurd z (by omega), fun _ => ⟨fun z => ?_, fun z => ?_⟩⟩
      · have q := over (m.toNat - j.toNat) j.toNat Sj hm z
        have e : j.toNat + (m.toNat - j.toNat) = m.toNat := by omega
        rw [e] at q
        exact fin Sj V' W' q hV hW
      · refine c_minute (by omega) hok.1 hok.2.1 z hok.2.2 (fun S' V2 W2 mm hV2 hW2 => am_an (w_minutes_28 ⟨by omega, hL S' V2 W2 ?_ (okMs_m hok z mm).1 (fa_trans hV hV2) (fa_trans hW hW2)⟩))
        rw [e1]
        exact ⟨Sj, hm, Or.inl ⟨z, mm⟩⟩
    · intro Sj V' W' hm hok hV hW
      exact w_minutes_17 ⟨fun _ => fin Sj V' W' hm hV hW, fun z => absurd z (by omega)⟩
  exact main 0 (by omega) c.1 S V (am_up W 38 0) rfl h fa_refl fa_refl
end
