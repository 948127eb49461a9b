set_option maxRecDepth 100000
/-- a new machine's brasses -/
def brS (S : am_G) (v j : Int) : am_G := fun c q i => if c = 5 ∧ q = (S 0 0 3) ∧ (0 ≤ i ∧ i < j) then v else S c q i
theorem brS_s {S : am_G} {v j : Int} (hj : 0 ≤ j) : u3 (brS S v j) 5 (S 0 0 3) j v = brS S v (j + 1) := by
  funext c q i
  unfold u3 brS
  by_cases h : c = 5 ∧ q = (S 0 0 3) ∧ i = j
  · rw [if_pos h, if_pos ⟨h.1, h.2.1, by omega⟩]
  · rw [if_neg h]
    by_cases g : c = 5 ∧ q = (S 0 0 3) ∧ (0 ≤ i ∧ i < j)
    · rw [if_pos g, if_pos ⟨g.1, g.2.1, by omega⟩]
    · rw [if_neg g, if_neg (fun z => by
        by_cases w : i = j
        · exact h ⟨z.1, z.2.1, w⟩
        · exact g ⟨z.1, z.2.1, by omega⟩)]
def mcS (S : am_G) (v w : Int) : am_G := u3 (u3 (brS S v 27) 5 (S 0 0 3) 27 w) 0 0 3 ((S 0 0 3) + 1)
theorem mcS_v {S : am_G} {v w : Int} : (∀ c, c ≠ 5 → c ≠ 0 → mcS S v w c = S c) ∧ (∀ j, j ≠ 3 → mcS S v w 0 0 j = S 0 0 j) ∧ mcS S v w 0 0 3 = (S 0 0 3) + 1 ∧ (∀ q, q ≠ (S 0 0 3) → mcS S v w 5 q = S 5 q) ∧ (∀ c, 0 ≤ c → c < 27 → mcS S v w 5 (S 0 0 3) c = v) ∧ mcS S v w 5 (S 0 0 3) 27 = w ∧ (∀ o, 28 ≤ o → mcS S v w 5 (S 0 0 3) o = S 5 (S 0 0 3) o) := by
  have b0 : ∀ c q i, c ≠ 5 → brS S v 27 c q i = S c q i := fun c q i hc => if_neg (fun z => hc z.1)
  unfold mcS
  refine ⟨fun c c5 c0 => ?_, fun j hj => ?_, u3_eq, fun q hq => ?_, fun c c1 c2 => ?_, ?_, fun o ho => ?_⟩
  · rw [u3_r c0, u3_r c5]
    funext q i
    exact b0 c q i c5
  · rw [u3_no hj, u3_nc (by decide), b0 0 0 j (by decide)]
  · rw [u3_r (by decide), u3_rp hq]
    funext i
    exact if_neg (fun z => hq z.2.1)
  · rw [u3_nc (by decide), u3_no (by omega)]
    exact if_pos ⟨rfl, rfl, c1, c2⟩
  · rw [u3_nc (by decide), u3_eq]
  · rw [u3_nc (by decide), u3_no (by omega)]
    exact if_neg (fun z => absurd z.2.2.2 (by omega))
section
variable {K : am_K} {b : am_H} {r : Nat} {S : am_G} {V : Nat → Int → Int} {W : Nat → Int}
theorem M_machine {v w : Int} {D : Nat} (hD : 90 ≤ D) (hC : okC S) (H0 : ¬ ((0 ≤ v ∧ v ≤ 40) ∧ (0 ≤ w ∧ w ≤ 9)) → MR b r K S V W 1 (0)) (H2 : (0 ≤ v ∧ v ≤ 40) ∧ (0 ≤ w ∧ w ≤ 9) → (S 0 0 3) = 4 → MR b r K S V W 2 (0)) (H1 : (0 ≤ v ∧ v ≤ 40) ∧ (0 ≤ w ∧ w ≤ 9) → (S 0 0 3) ≠ 4 → MR b r K (mcS S v w) V W 0 (S 0 0 3)) : am_ev am_prog D 74 [.inr (.inl r), .inl v, .inl w] (mo b r (ms S) V W) K := by
  have c3 := hC.2.2.1
  obtain ⟨d, rfl⟩ : ∃ d, D = d + 4 := ⟨D - 4, by omega⟩
  refine am_en p_X5_machine rfl rfl ?_
  refine w_machine_0 ⟨fun c => MR_up (H0 (by omega)), fun c => ⟨fun e => ⟨fun f => ⟨by omega, ?_⟩, fun f => MR_up (H2 ⟨c, e⟩ f)⟩, fun e => MR_up (H0 (by omega))⟩⟩
  have main : ∀ j, 0 ≤ j → j ≤ 27 → am_W m_X5_machine (am_ev am_prog (d + 3)) K 36 [some (.inr (.inl r)), some (.inl (v)), some (.inl (w)), some (.inl (320230 + 183 * (S 0 0 3))), some (.inl (j))] [] (mo b r (ms (brS S v j)) V (am_up W 38 0)) := by
    refine lp_z ?_ ?_
    · intro j j1 j2 hL
      rw [← brS_s j1] at hL
      exact w_machine_36 ⟨fun z => absurd z (by omega), fun _ => ⟨by omega, by omega, hL⟩⟩
    · have e3 : brS S v 27 0 0 3 = (S 0 0 3) := if_neg (fun z => absurd z.1 (by decide))
      refine w_machine_36 ⟨fun _ => ?_, fun z => absurd z (by omega)⟩
      rw [e3]
      have en : (S 0 0 3) + 1 - 1 = (S 0 0 3) := by omega
      rw [en]
      exact ⟨by omega, by omega, by omega, MR_up (H1 ⟨c, e⟩ f)⟩
  have m0 := main 0 (by omega) (by omega)
  have es : brS S v 0 = S := by
    funext a q i
    exact if_neg (fun z => absurd z.2.2 (by omega))
  rw [es] at m0
  exact m0
end
