set_option maxRecDepth 100000
/-! a slip -/
def slB (S : am_G) (s j : Int) : Int := am_b (97 ≤ (S 4 s (432 + (j))))
/-- the k-th letter's place -/
def slP (S : am_G) (s k p : Int) : Prop := (p = -1 ∧ ∀ j, 0 ≤ j → j < (S 4 s 9) → 97 ≤ (S 4 s (432 + (j))) → (sg (slB S s) 0 (j).toNat) ≠ k) ∨ ((0 ≤ p ∧ p < (S 4 s 9)) ∧ 97 ≤ (S 4 s (432 + (p))) ∧ (sg (slB S s) 0 (p).toNat) = k)
/-- what slugs read is made of letters, blanks, hyphens -/
def okTx (S : am_G) : Prop := ∀ s j, 0 ≤ s → s < S 0 0 4 → 0 ≤ j → j < (S 4 s 9) → 0 ≤ (S 4 s (432 + (j))) ∧ (S 4 s (432 + (j))) ≤ 122
theorem cn_mono {S : am_G} {s i : Int} (hi : 0 ≤ i) : ∀ (d : Nat), (sg (slB S s) 0 (i).toNat) ≤ (sg (slB S s) 0 (i + d).toNat)
  | 0 => by
    have e : i + ((0 : Nat) : Int) = i := by omega
    rw [e]
    exact Int.le_refl _
  | d + 1 => by
    have q := cn_mono (S := S) (s := s) hi d
    have e : i + ((d + 1 : Nat) : Int) = i + d + 1 := by omega
    have b : 0 ≤ slB S s (i + d) ∧ slB S s (i + d) ≤ 1 := am_b_01
    rw [e, sg_s (by omega)]
    omega
theorem slP_f {S : am_G} {s k p p' : Int} (h : slP S s k p) (h' : slP S s k p') : p = p' := by
  have key : ∀ i j, (0 ≤ i ∧ i < (S 4 s 9)) ∧ 97 ≤ (S 4 s (432 + (i))) ∧ (sg (slB S s) 0 (i).toNat) = k → (0 ≤ j ∧ j < (S 4 s 9)) ∧ 97 ≤ (S 4 s (432 + (j))) ∧ (sg (slB S s) 0 (j).toNat) = k → ¬ (i < j) := fun i j hi hj c => by
    have q := cn_mono (S := S) (s := s) (i := i + 1) (by omega) (j - (i + 1)).toNat
    have e : i + 1 + (((j - (i + 1)).toNat : Nat) : Int) = j := by omega
    have e1 : slB S s i = 1 := am_bt hi.2.1
    rw [e, sg_s hi.1.1, e1] at q
    have a := hi.2.2
    have b := hj.2.2
    omega
  rcases h with h | h <;> rcases h' with h' | h'
  · rw [h.1, h'.1]
  · exact absurd h'.2.2 (h.2 p' h'.1.1 h'.1.2 h'.2.1)
  · exact absurd h.2.2 (h'.2 p h.1.1 h.1.2 h.2.1)
  · have a := key p p' h h'
    have b := key p' p h' h
    omega
theorem slc_bd {S : am_G} {s j : Int} (hj : 0 ≤ j) : 0 ≤ (sg (slB S s) 0 (j).toNat) ∧ (sg (slB S s) 0 (j).toNat) ≤ j := by
  have q := sg_bd (c := 1) (f := slB S s) j.toNat 0 (fun i _ _ => am_b_01)
  omega
section
variable {K : am_K} {b : am_H} {r : Nat} {S : am_G} {V : Nat → Int → Int} {W : Nat → Int}
theorem M_slip {s k c : Int} {D : Nat} (hD : 90 ≤ D) (hC : okC S) (hG : okG S) (hT : okTx S) (hk : k ≤ 2147483647) (H0 : ¬ (0 ≤ s ∧ s < S 0 0 4) → MR b r K S V W 1 (0)) (H2 : 0 ≤ s ∧ s < S 0 0 4 → ∀ p, slP S s k p → (p = -1 ∨ ¬ (0 ≤ c ∧ c ≤ 25)) → MR b r K S V W 2 (0)) (H1 : 0 ≤ s ∧ s < S 0 0 4 → ∀ p, slP S s k p → p ≠ -1 → 0 ≤ c ∧ c ≤ 25 → MR b r K (u3 S 4 s (432 + p) (97 + c)) V W 0 (am_b ((S 4 s (432 + (p))) ≠ 97 + c))) : am_ev am_prog D 92 [.inr (.inl r), .inl s, .inl k, .inl c] (mo b r (ms S) V W) K := by
  have c4 := hG.1
  obtain ⟨d, rfl⟩ : ∃ d, D = d + 4 := ⟨D - 4, by omega⟩
  refine am_en p_X5_slip rfl rfl ?_
  refine w_slip_0 ⟨fun g => ⟨by omega, ?_⟩, fun g => MR_up (H0 g)⟩
  have HH2 := H2 g
  have HH1 := H1 g
  have bn := (hG.2 s g.1 g.2).2.2.2
  have upW : ∀ v, am_up (am_up W 38 0) 38 v = am_up W 38 v := fun v => am_up_up
  have fin : ∀ p, slP S s k p → (p = -1 → MR b r K S V W 2 0) ∧ (p ≠ -1 → (0 ≤ c ∧ c ≤ 25 → MR b r K (u3 S 4 s (432 + p) (97 + c)) V W 0 (am_b ((S 4 s (432 + (p))) ≠ 97 + c))) ∧ (¬ (0 ≤ c ∧ c ≤ 25) → MR b r K S V W 2 0)) := fun p hp => ⟨fun e => HH2 p hp (Or.inl e), fun e => ⟨fun e2 => HH1 p hp e e2, fun e2 => HH2 p hp (Or.inr e2)⟩⟩
  have stop : ∀ p j x6, slP S s k p → (p = -1 ∨ (0 ≤ p ∧ p < (S 4 s 9))) → (0 ≤ j ∧ j ≤ (S 4 s 9)) → (j = (S 4 s 9) ∨ p ≠ -1 ∨ k < 0) → am_W m_X5_slip (am_ev am_prog (d + 3)) K 23 [some (.inr (.inl r)), some (.inl (s)), some (.inl (k)), some (.inl (c)), some (.inl (64630 + 852 * s)), some (.inl (p)), some (.inl (x6)), some (.inl (j))] [] (mo b r (ms S) V (am_up W 38 0)) := by
    intro p j x6 hp bp bj hj
    have F := fin p hp
    refine w_slip_23 ?_
    rw [upW, upW]
    have A : p = -1 → K (.inl (some (.inl (0)))) (mo b r (ms S) V (am_up W 38 2)) := fun e => MR_up (F.1 e)
    have B : p ≠ -1 → 0 ≤ c ∧ c ≤ 25 → K (.inl (some (.inl (am_b ((S 4 s (432 + (p))) ≠ 97 + c))))) (mo b r (ms (u3 S 4 s (432 + p) (97 + c))) V (am_up W 38 0)) := fun e e2 => MR_up ((F.2 e).1 e2)
    have C : p ≠ -1 → ¬ (0 ≤ c ∧ c ≤ 25) → K (.inl (some (.inl (0)))) (mo b r (ms S) V (am_up W 38 2)) := fun e e2 => MR_up ((F.2 e).2 e2)
    have all : (p = -1 → K (.inl (some (.inl (0)))) (mo b r (ms S) V (am_up W 38 2))) ∧ (p ≠ -1 → (0 ≤ c ∧ c ≤ 25 → ((-2147483648 ≤ (64630 + 852 * s) + 432 ∧ (64630 + 852 * s) + 432 ≤ 2147483647) ∧ (-2147483648 ≤ ((64630 + 852 * s) + 432) + p ∧ ((64630 + 852 * s) + 432) + p ≤ 2147483647) ∧ (0 ≤ s ∧ s < 300) ∧ (0 ≤ 432 + p ∧ 432 + p < 852) ∧ (-2147483648 ≤ 97 + c ∧ 97 + c ≤ 2147483647)) ∧ (((-2147483648 ≤ (64630 + 852 * s) + 432 ∧ (64630 + 852 * s) + 432 ≤ 2147483647) ∧ (-2147483648 ≤ ((64630 + 852 * s) + 432) + p ∧ ((64630 + 852 * s) + 432) + p ≤ 2147483647) ∧ (-2147483648 ≤ 97 + c ∧ 97 + c ≤ 2147483647) ∧ (0 ≤ s ∧ s < 300) ∧ (0 ≤ 432 + p ∧ 432 + p < 852)) ∧ K (.inl (some (.inl (am_b ((S 4 s (432 + (p))) ≠ 97 + c))))) (mo b r (ms (u3 S 4 s (432 + p) (97 + c))) V (am_up W 38 0)))) ∧ (¬ (0 ≤ c ∧ c ≤ 25) → K (.inl (some (.inl (0)))) (mo b r (ms S) V (am_up W 38 2)))) := ⟨A, fun e => ⟨fun e2 => ⟨by omega, by omega, B e e2⟩, fun e2 => C e e2⟩⟩
    refine ⟨by omega, fun _ => all, fun z => ⟨fun _ => all, fun e => ⟨fun _ => all, fun k0 => ?_⟩⟩⟩
    exfalso
    omega
  have main : ∀ j, 0 ≤ j → j ≤ (S 4 s 9) → (∀ i, 0 ≤ i → i < j → 97 ≤ (S 4 s (432 + (i))) → (sg (slB S s) 0 (i).toNat) ≠ k) → am_W m_X5_slip (am_ev am_prog (d + 3)) K 23 [some (.inr (.inl r)), some (.inl (s)), some (.inl (k)), some (.inl (c)), some (.inl (64630 + 852 * s)), some (.inl (-1)), some (.inl (k - (sg (slB S s) 0 (j).toNat))), some (.inl (j))] [] (mo b r (ms S) V (am_up W 38 0)) := by
    refine lp_z ?_ ?_
    · intro j j1 j2 hL hno
      by_cases kn : k < 0
      · refine stop (-1) j _ (Or.inl ⟨rfl, fun i i1 i2 _ e => ?_⟩) (Or.inl rfl) (by omega) (Or.inr (Or.inr kn))
        have := slc_bd (S := S) (s := s) i1
        omega
      · have tx := hT s j g.1 g.2 j1 j2
        have cb := slc_bd (S := S) (s := s) j1
        rw [sg_s j1] at hL
        refine w_slip_23 ⟨by omega, fun z => absurd z (by omega), fun _ => ⟨fun z => absurd rfl z, fun _ => ⟨fun z => absurd z kn, fun _ => ⟨by omega, fun l => ⟨fun e => ⟨?_, by omega, ?_⟩, fun e => ⟨by omega, by omega, ?_⟩⟩, fun l => ⟨by omega, ?_⟩⟩⟩⟩⟩
        · omega
        · have b1 : slB S s j = 1 := am_bt l.1
          rw [b1] at hL
          have e2 : k - (sg (slB S s) 0 (j).toNat) + -1 = k - ((sg (slB S s) 0 (j).toNat) + 1) := by omega
          rw [e2]
          refine hL (fun i i1 i2 fi => ?_)
          by_cases c' : i = j
          · rw [c']
            omega
          · exact hno i i1 (by omega) fi
        · refine stop j (j + 1) _ (Or.inr ⟨⟨j1, j2⟩, l.1, by omega⟩) (Or.inr ⟨j1, j2⟩) (by omega) (Or.inr (Or.inl (by omega)))
        · have b0 : slB S s j = 0 := am_bf (fun z => l ⟨z, tx.2⟩)
          rw [b0, Int.add_zero] at hL
          refine hL (fun i i1 i2 fi => ?_)
          by_cases c' : i = j
          · rw [c'] at fi
            exact absurd ⟨fi, tx.2⟩ l
          · exact hno i i1 (by omega) fi
    · intro hno
      exact stop (-1) (S 4 s 9) _ (Or.inl ⟨rfl, hno⟩) (Or.inl rfl) (by omega) (Or.inl rfl)
  have m0 := main 0 (by omega) bn.1 (fun i i1 i2 => absurd i1 (by omega))
  have e0 : k - (sg (slB S s) 0 ((0 : Int)).toNat) = k := by
    show k - 0 = k
    omega
  rw [e0] at m0
  exact m0
end
