set_option maxRecDepth 100000
/-! the model's lines -/
section
variable {K : am_K} {b : am_H} {r : Nat} {S : am_G} {V : Nat → Int → Int} {W : Nat → Int}
theorem c_wide {p a z : Int} {D : Nat} (hD : 4 ≤ D) (hp : 0 ≤ p ∧ p < 100) (hf : 0 ≤ S 2 0 (p / 5) ∧ S 2 0 (p / 5) < 2) (ho : okP (S 3 p)) (hw : okW (S 1 (S 2 0 (p / 5)))) (ha : 0 ≤ a) (haz : a ≤ z) (hz : z < 40) (H : K (.inl (some (.inl (wd (S 3 p) (S 1 (S 2 0 (p / 5))) a z)))) (mo b r (ms S) V W)) : am_ev am_prog D 283 [.inr (.inl r), .inl p, .inl a, .inl z] (mo b r (ms S) V W) K := by
  have hn := ho.1
  obtain ⟨d, rfl⟩ : ∃ d, D = d + 4 := ⟨D - 4, by omega⟩
  refine am_en p_X5_wide rfl rfl ?_
  have main : ∀ (x : Int) (o : Option am_V), 0 ≤ x → x ≤ 20 → K (.inl (some (.inl (x + sg (pwd (S 3 p) (S 1 (S 2 0 (p / 5)))) a (z + 1 - a).toNat)))) (mo b r (ms S) V W) → am_W m_X5_wide (am_ev am_prog (d + 3)) K 32 [some (.inr (.inl r)), some (.inl (p)), some (.inl (a)), some (.inl (z)), some (.inl (130 + 645 * p)), some (.inl (16 + 27 * S 2 0 (p / 5))), some (.inl (x)), some (.inl (a)), o] [] (mo b r (ms S) V W) := by
    intro x o hx0 hx1 HK
    refine lp_sg (f := pwd (S 3 p) (S 1 (S 2 0 (p / 5)))) (lo := a) (hi := z + 1) (fun x k => 0 ≤ x ∧ x ≤ 20 + 240 * (k - a)) (fun x k => ∀ o : Option am_V, am_W m_X5_wide (am_ev am_prog (d + 3)) K 32 [some (.inr (.inl r)), some (.inl (p)), some (.inl (a)), some (.inl (z)), some (.inl (130 + 645 * p)), some (.inl (16 + 27 * S 2 0 (p / 5))), some (.inl (x)), some (.inl (k)), o] [] (mo b r (ms S) V W)) ?_ ?_ (z + 1 - a).toNat x a (by omega) (by omega) (by omega) ?_ o
    · intro x k h1 h2 hb
      have e := pwd_bd ho hw (k := k) (by omega)
      show 0 ≤ x + pwd (S 3 p) (S 1 (S 2 0 (p / 5))) k ∧ x + pwd (S 3 p) (S 1 (S 2 0 (p / 5))) k ≤ 20 + 240 * (k + 1 - a)
      omega
    · intro x k h1 h2 hb hL o
      have q1 := ho.2.1 k (by omega) (by omega)
      refine w_wide_32 ⟨fun c => absurd c (by omega), fun c => ?_⟩
      refine lp_sg (f := fun i => (S 1 (S 2 0 (p / 5))) ((S 3 p) (165 + 12 * k + i))) (lo := 0) (hi := (S 3 p) (125 + k)) (fun y i => 0 ≤ y ∧ y ≤ 20 + 240 * (k - a) + 20 * i) (fun y i => am_W m_X5_wide (am_ev am_prog (d + 3)) K 37 [some (.inr (.inl r)), some (.inl (p)), some (.inl (a)), some (.inl (z)), some (.inl (130 + 645 * p)), some (.inl (16 + 27 * S 2 0 (p / 5))), some (.inl (y)), some (.inl (k)), some (.inl (i))] [] (mo b r (ms S) V W)) ?_ ?_ ((S 3 p) (125 + k)).toNat x 0 (by omega) (by omega) (by omega) ?_
      · intro y i g1 g2 gb
        have q2 := ho.2.2 k i (by omega) (by omega) g1 (by omega)
        have q3 := hw _ q2.1 (by omega)
        show 0 ≤ y + (S 1 (S 2 0 (p / 5))) ((S 3 p) (165 + 12 * k + i)) ∧ y + (S 1 (S 2 0 (p / 5))) ((S 3 p) (165 + 12 * k + i)) ≤ 20 + 240 * (k - a) + 20 * (i + 1)
        omega
      · intro y i g1 g2 gb gL
        have q2 := ho.2.2 k i (by omega) (by omega) g1 (by omega)
        have q3 := hw _ q2.1 (by omega)
        exact w_wide_37 ⟨by omega, fun c => absurd c (by omega), fun c => ⟨by omega, gL⟩⟩
      · exact w_wide_37 ⟨by omega, fun c => ⟨by omega, hL _⟩, fun c => absurd c (by omega)⟩
    · intro o
      exact w_wide_32 ⟨fun c => HK, fun c => absurd c (by omega)⟩
  have q0 := hw 26 (by omega) (by omega)
  refine w_wide_0 ⟨by omega, by omega, by omega, fun c => ⟨by omega, ?_⟩, fun c => ?_⟩
  · refine main _ _ (by omega) (by omega) (am_uv H ?_)
    unfold wd
    rw [if_neg c]
  · refine main _ _ (by omega) (by omega) (am_uv H ?_)
    unfold wd
    rw [if_pos c]
theorem c_tight {p a z : Int} {D : Nat} (hD : 5 ≤ D) (hp : 0 ≤ p ∧ p < 100) (hf : 0 ≤ S 2 0 (p / 5) ∧ S 2 0 (p / 5) < 2) (ho : okP (S 3 p)) (hw : okW (S 1 (S 2 0 (p / 5)))) (hl : 0 ≤ W 65 ∧ W 65 ≤ 40) (ha : 0 ≤ a) (haz : a ≤ z) (hz : z < 40) (H : K (.inl (some (.inl (tgt (S 3 p) (S 1 (S 2 0 (p / 5))) (W 65) a z)))) (mo b r (ms S) V W)) : am_ev am_prog D 179 [.inr (.inl r), .inl p, .inl a, .inl z] (mo b r (ms S) V W) K := by
  have e1 := wd_bd ho hw ha hz
  have e2 := (ho.2.1 a ha (by omega)).2
  have e3 := (ho.2.1 z (by omega) hz).2
  have e4 := mul_in (y := (S 3 p) (85 + z) - (S 3 p) (85 + a)) (e := 23) hl (by omega)
  obtain ⟨d, rfl⟩ : ∃ d, D = d + 4 := ⟨D - 4, by omega⟩
  refine am_en p_X5_tight rfl rfl ?_
  refine w_tight_0 (c_wide (by omega) hp hf ho hw ha haz hz (am_av ?_))
  exact w_tight_5 ⟨by omega, by omega, by omega, H⟩
theorem c_isStanding {p a z : Int} {D : Nat} (hD : 6 ≤ D) (hp : 0 ≤ p ∧ p < 100) (hf : 0 ≤ S 2 0 (p / 5) ∧ S 2 0 (p / 5) < 2) (ho : okP (S 3 p)) (hw : okW (S 1 (S 2 0 (p / 5)))) (hl : 0 ≤ W 65 ∧ W 65 ≤ 40) (hm : 0 ≤ W 66 ∧ W 66 ≤ 40) (ha : 0 ≤ a) (haz : a ≤ z) (hz : z < 40) (H : K (.inl (some (.inl (am_b (stn (S 3 p) (S 1 (S 2 0 (p / 5))) (W 63) (W 65) (W 66) a z))))) (mo b r (ms S) V W)) : am_ev am_prog D 180 [.inr (.inl r), .inl p, .inl a, .inl z] (mo b r (ms S) V W) K := by
  have e1 := wd_bd ho hw ha hz
  have e0 := ho.1
  have e2 := (ho.2.1 a ha (by omega)).2
  have e3 := (ho.2.1 z (by omega) hz).2
  have e4 := mul_in (y := (S 3 p) (85 + z) - (S 3 p) (85 + a)) (e := 23) hm (by omega)
  obtain ⟨d, rfl⟩ : ∃ d, D = d + 4 := ⟨D - 4, by omega⟩
  refine am_en p_X5_isStanding rfl rfl ?_
  refine w_isStanding_0 (c_tight (by omega) hp hf ho hw hl ha haz hz (am_av ?_))
  refine w_isStanding_5 ⟨fun c => ⟨by omega, fun c2 => am_ub ⟨c, Or.inl c2⟩ H, fun c2 => ?_⟩, fun c => am_ubn (fun q => absurd q.1 (by omega)) H⟩
  refine c_wide (by omega) hp hf ho hw ha haz hz (am_av ?_)
  refine w_isStanding_20 ⟨by omega, by omega, by omega, am_uc H ⟨fun q => ?_, fun q => ⟨c, Or.inr q⟩⟩⟩
  rcases q.2 with q | q
  · exact absurd q c2
  · exact q
theorem sq_bd {x c : Int} (h : -c ≤ x ∧ x ≤ c) : 0 ≤ x * x ∧ x * x ≤ c * c := by
  by_cases q : 0 ≤ x
  · have h1 := mul_in (x := x) (y := x) (c := c) (e := c) ⟨q, h.2⟩ h
    have h2 := Int.mul_nonneg q q
    omega
  · have h1 := mul_in (x := -x) (y := -x) (c := c) (e := c) ⟨by omega, by omega⟩ ⟨by omega, by omega⟩
    rw [Int.neg_mul_neg] at h1
    have h2 : 0 ≤ (-x) * (-x) := Int.mul_nonneg (by omega) (by omega)
    rw [Int.neg_mul_neg] at h2
    omega
theorem c_badness {p a z : Int} {D : Nat} (hD : 6 ≤ D) (hp : 0 ≤ p ∧ p < 100) (hf : 0 ≤ S 2 0 (p / 5) ∧ S 2 0 (p / 5) < 2) (ho : okP (S 3 p)) (hw : okW (S 1 (S 2 0 (p / 5)))) (hl : 0 ≤ W 65 ∧ W 65 ≤ 40) (hm : 0 ≤ W 63 ∧ W 63 ≤ 400) (hc : 0 ≤ W 67 ∧ W 67 ≤ 999) (ha : 0 ≤ a) (haz : a ≤ z) (hz : z < 40) (H : K (.inl (some (.inl (bdn (S 3 p) (S 1 (S 2 0 (p / 5))) (W 63) (W 65) (W 67) a z)))) (mo b r (ms S) V W)) : am_ev am_prog D 213 [.inr (.inl r), .inl p, .inl a, .inl z] (mo b r (ms S) V W) K := by
  have e0 := ho.1
  have e1 := tgt_bd ho hw hl ha haz hz
  have e2 := sq_bd (x := W 63 - tgt (S 3 p) (S 1 (S 2 0 (p / 5))) (W 65) a z) (c := 12000) (by omega)
  obtain ⟨d, rfl⟩ : ∃ d, D = d + 4 := ⟨D - 4, by omega⟩
  refine am_en p_X5_badness rfl rfl ?_
  refine w_badness_0 ⟨by omega, fun c => ?_, fun c => am_uv H (if_pos c)⟩
  refine c_tight (by omega) hp hf ho hw hl ha haz hz (am_av ?_)
  refine w_badness_14 ⟨by omega, by omega, by omega, ?_⟩
  have q : bdn (S 3 p) (S 1 (S 2 0 (p / 5))) (W 63) (W 65) (W 67) a z = (W 63 - tgt (S 3 p) (S 1 (S 2 0 (p / 5))) (W 65) a z) * (W 63 - tgt (S 3 p) (S 1 (S 2 0 (p / 5))) (W 65) a z) + (if ew (S 3 p) z then 0 else W 67) := if_neg c
  refine ⟨fun c2 => ⟨by omega, am_uv H ?_⟩, fun c2 => ⟨by omega, am_uv H ?_⟩⟩
  · rw [q, if_neg c2]
  · rw [q, if_pos c2]
end
