set_option maxRecDepth 100000
/-! the model: jobs go, slugs are cast -/
/-- the numbers 33 .. 33 + j - 1 moved down by five -/
def awj (S : am_G) (k j : Int) : am_G := fun c q i => if c = 5 ∧ q = k ∧ (33 ≤ i ∧ i < 33 + j) then S 5 k (i + 5) else S c q i
theorem awj_s {S : am_G} {k j : Int} (hj : 0 ≤ j) : u3 (awj S k j) 5 k (33 + j) (awj S k j 5 k (38 + j)) = awj S k (j + 1) := by
  have e0 : awj S k j 5 k (38 + j) = S 5 k (38 + j) := if_neg (fun z => absurd z.2.2.2 (by omega))
  rw [e0]
  funext c q i
  unfold u3 awj
  by_cases h : c = 5 ∧ q = k ∧ i = 33 + j
  · rw [if_pos h, if_pos ⟨h.1, h.2.1, by omega⟩, h.2.2]
    congr 1
    omega
  · rw [if_neg h]
    by_cases g : c = 5 ∧ q = k ∧ (33 ≤ i ∧ i < 33 + j)
    · rw [if_pos g, if_pos ⟨g.1, g.2.1, by omega⟩]
    · rw [if_neg g, if_neg (fun z => by
        by_cases w : i = 33 + j
        · exact h ⟨z.1, z.2.1, w⟩
        · exact g ⟨z.1, z.2.1, by omega⟩)]
theorem awj_e {S : am_G} {k : Int} : u3 (awj S k 145) 5 k 29 (awj S k 145 5 k 29 - 1) = awy S k := by
  have e0 : awj S k 145 5 k 29 = S 5 k 29 := if_neg (fun z => absurd z.2.2.1 (by omega))
  rw [e0]
  funext c q i
  unfold u3 awj awy
  by_cases h : c = 5 ∧ q = k
  · obtain ⟨rfl, rfl⟩ := h
    rw [if_pos (⟨rfl, rfl⟩ : (5 : Nat) = 5 ∧ q = q)]
    by_cases i29 : i = 29
    · rw [if_pos ⟨rfl, rfl, i29⟩, if_pos i29]
    · rw [if_neg (fun z => i29 z.2.2), if_neg i29]
      by_cases g : 33 ≤ i ∧ i < 178
      · rw [if_pos ⟨rfl, rfl, by omega⟩, if_pos g]
      · rw [if_neg (fun z => g (by omega)), if_neg g]
  · rw [if_neg (fun z => h ⟨z.1, z.2.1⟩), if_neg (fun z => h ⟨z.1, z.2.1⟩), if_neg h]
section
variable {K : am_K} {b : am_H} {r : Nat} {S : am_G} {V : Nat → Int → Int} {W : Nat → Int}
theorem c_away {k : Int} {D : Nat} (hD : 4 ≤ D) (hk : 0 ≤ k ∧ k < 4) (hn : 0 ≤ S 5 k 29 ∧ S 5 k 29 ≤ 30) (H : K (.inl none) (mo b r (ms (awy S k)) V W)) : am_ev am_prog D 322 [.inr (.inl r), .inl k] (mo b r (ms S) V W) K := by
  obtain ⟨d, rfl⟩ : ∃ d, D = d + 4 := ⟨D - 4, by omega⟩
  refine am_en p_X5_away rfl rfl ?_
  refine w_away_0 ⟨by omega, ?_⟩
  have main : ∀ j, 0 ≤ j → j ≤ 145 → am_W m_X5_away (am_ev am_prog (d + 3)) K 5 [some (.inr (.inl r)), some (.inl (k)), some (.inl (320230 + 183 * k)), some (.inl (j))] [] (mo b r (ms (awj S k j)) V W) := by
    refine lp_z ?_ ?_
    · intro j j1 j2 hL
      rw [← awj_s j1] at hL
      exact w_away_5 ⟨fun z => absurd z (by omega), fun _ => ⟨by omega, by omega, hL⟩⟩
    · have e0 : awj S k 145 5 k 29 = S 5 k 29 := if_neg (fun z => absurd z.2.2.1 (by omega))
      refine w_away_5 ⟨fun _ => ⟨?_, ?_⟩, fun z => absurd z (by omega)⟩
      · rw [e0]
        exact ⟨by omega, by omega, by omega⟩
      · rw [awj_e]
        exact H
  have e : awj S k 0 = S := by
    funext c q i
    exact if_neg (fun z => absurd z.2.2 (by omega))
  have m0 := main 0 (by omega) (by omega)
  rw [e] at m0
  exact m0
theorem c_spikes {k : Int} {D : Nat} (hD : 5 ≤ D) (hk : 0 ≤ k ∧ k < 4) (hn : 0 ≤ S 5 k 29 ∧ S 5 k 29 ≤ 30) (h32 : 0 ≤ S 5 k 32 ∧ S 5 k 32 ≤ 100000) (H : K (.inl none) (mo b r (ms (spk S k)) V W)) : am_ev am_prog D 320 [.inr (.inl r), .inl k] (mo b r (ms S) V W) K := by
  obtain ⟨d, rfl⟩ : ∃ d, D = d + 4 := ⟨D - 4, by omega⟩
  refine am_en p_X5_spikes rfl rfl ?_
  refine w_spikes_0 ⟨by omega, by omega, c_away (S := u3 S 5 k 32 (S 5 k 32 + 1)) (by omega) hk (by rw [u3_no (by decide)]; exact hn) (am_an (w_spikes_14 H))⟩
theorem c_pots {s : Int} {D : Nat} (hD : 4 ≤ D) (hs : -1 ≤ s ∧ s < 300) (H : K (.inl none) (mo b r (ms (if s = -1 then S else u3 (u3 (u3 S 4 s 4 2) 4 s 5 (-1)) 4 s 6 (-1))) V W)) : am_ev am_prog D 195 [.inr (.inl r), .inl s] (mo b r (ms S) V W) K := by
  obtain ⟨d, rfl⟩ : ∃ d, D = d + 4 := ⟨D - 4, by omega⟩
  refine am_en p_X5_pots rfl rfl ?_
  refine w_pots_0 ⟨fun c => ?_, fun c => ?_⟩
  · rw [if_neg c] at H
    exact ⟨by omega, by omega, by omega, by omega, by omega, by omega, H⟩
  · rw [if_pos c] at H
    exact H
end
/-- a list counted -/
theorem nbl_sg {f : Int → Int} : ∀ (ml : List Int) (i : Int), (∀ j : Nat, j < ml.length → f (i + (j : Int)) = gt ml j) → sg (fun j => am_b (f j ≠ 32)) i ml.length = nbl ml
  | [], _, _ => rfl
  | z :: r, i, h => by
    show am_b (f i ≠ 32) + sg (fun j => am_b (f j ≠ 32)) (i + 1) r.length = (if z = 32 then 0 else 1) + nbl r
    have h0 := h 0 (by simp)
    have e0 : i + ((0 : Nat) : Int) = i := by omega
    rw [e0] at h0
    rw [nbl_sg r (i + 1) (fun j hj => by
      have := h (j + 1) (by simp; omega)
      have e : i + ((j + 1 : Nat) : Int) = i + 1 + (j : Int) := by omega
      rw [e] at this
      exact this), h0]
    show am_b (z ≠ 32) + nbl r = _
    congr 1
    by_cases c : z = 32
    · rw [if_pos c, am_bf (fun w => w c)]
    · rw [if_neg c, am_bt c]
/-- the first j letters of a new slug are there -/
def csj (S : am_G) (f : Int → Int) (p k : Int) (j : Int) : am_G := fun c q i => if c = 4 ∧ q = (S 0 0 4) then (if i = 0 then p else if i = 1 then k else if i = 2 then S 0 0 0 else if 12 ≤ i ∧ i < 12 + j then f (i - 12) else if 432 ≤ i ∧ i < 432 + j then f (i - 432) else S 4 (S 0 0 4) i) else S c q i
theorem csj_s {S : am_G} {f : Int → Int} {p k j : Int} (hj : 0 ≤ j ∧ j < 420) : u3 (u3 (csj S f p k j) 4 (S 0 0 4) (12 + j) (f j)) 4 (S 0 0 4) (432 + j) (f j) = csj S f p k (j + 1) := by
  funext c q i
  unfold u3 csj
  by_cases h : c = 4 ∧ q = (S 0 0 4)
  · obtain ⟨rfl, rfl⟩ := h
    simp only [true_and, and_self, if_true]
    by_cases h1 : i = 432 + j
    · subst h1
      rw [if_pos rfl, if_neg (by omega), if_neg (by omega), if_neg (by omega), if_neg (by omega), if_pos (by omega)]
      congr 1
      omega
    · rw [if_neg h1]
      by_cases h2 : i = 12 + j
      · subst h2
        rw [if_pos rfl, if_neg (by omega), if_neg (by omega), if_neg (by omega), if_pos (by omega)]
        congr 1
        omega
      · rw [if_neg h2]
        by_cases g0 : i = 0
        · rw [if_pos g0, if_pos g0]
        · rw [if_neg g0, if_neg g0]
          by_cases g1 : i = 1
          · rw [if_pos g1, if_pos g1]
          · rw [if_neg g1, if_neg g1]
            by_cases g2 : i = 2
            · rw [if_pos g2, if_pos g2]
            · rw [if_neg g2, if_neg g2]
              by_cases g3 : 12 ≤ i ∧ i < 12 + j
              · rw [if_pos g3, if_pos (by omega)]
              · have g3' : ¬ (12 ≤ i ∧ i < 12 + (j + 1)) := by omega
                by_cases g4 : 432 ≤ i ∧ i < 432 + j
                · have g4' : 432 ≤ i ∧ i < 432 + (j + 1) := by omega
                  rw [if_neg g3, if_pos g4, if_neg g3', if_pos g4']
                · have g4' : ¬ (432 ≤ i ∧ i < 432 + (j + 1)) := by omega
                  rw [if_neg g3, if_neg g4, if_neg g3', if_neg g4']
  · have h1 : ¬ (c = 4 ∧ q = (S 0 0 4) ∧ i = 432 + j) := fun z => h ⟨z.1, z.2.1⟩
    have h2 : ¬ (c = 4 ∧ q = (S 0 0 4) ∧ i = 12 + j) := fun z => h ⟨z.1, z.2.1⟩
    rw [if_neg h1, if_neg h2, if_neg h, if_neg h]
theorem csj_0 {S : am_G} {f : Int → Int} {p k : Int} : u3 (u3 (u3 S 4 (S 0 0 4) 0 p) 4 (S 0 0 4) 1 k) 4 (S 0 0 4) 2 (S 0 0 0) = csj S f p k 0 := by
  funext c q i
  unfold u3 csj
  by_cases h : c = 4 ∧ q = (S 0 0 4)
  · obtain ⟨rfl, rfl⟩ := h
    simp only [true_and, and_self, if_true]
    by_cases g2 : i = 2
    · rw [if_pos g2, if_neg (by omega), if_neg (by omega), if_pos g2]
    · rw [if_neg g2]
      by_cases g1 : i = 1
      · rw [if_pos g1, if_neg (by omega), if_pos g1]
      · rw [if_neg g1]
        by_cases g0 : i = 0
        · rw [if_pos g0, if_pos g0]
        · have a : ¬ (12 ≤ i ∧ i < 12 + 0) := by omega
          have b : ¬ (432 ≤ i ∧ i < 432 + 0) := by omega
          rw [if_neg g0, if_neg g0, if_neg g1, if_neg g2, if_neg a, if_neg b]
  · rw [if_neg (fun z => h ⟨z.1, z.2.1⟩), if_neg (fun z => h ⟨z.1, z.2.1⟩), if_neg (fun z => h ⟨z.1, z.2.1⟩), if_neg h]
theorem csj_e {S : am_G} {f : Int → Int} {ml : List Int} {p k l co : Int} (hf : pf f ml) (hm : (ml.length : Int) ≤ 420) : u3 (u3 (u3 (u3 (u3 (u3 (u3 (csj S f p k (ml.length : Int)) 4 (S 0 0 4) 3 (nbl ml)) 4 (S 0 0 4) 9 (ml.length : Int)) 4 (S 0 0 4) 4 0) 4 (S 0 0 4) 7 co) 4 (S 0 0 4) 8 l) 4 (S 0 0 4) 10 0) 4 (S 0 0 4) 11 0 = cs1 S ml p k l co := by
  funext c q i
  unfold u3 csj cs1 nsl
  by_cases h : c = 4 ∧ q = (S 0 0 4)
  · obtain ⟨rfl, rfl⟩ := h
    simp only [true_and, and_self, if_true]
    by_cases g11 : i = 11
    · subst g11
      simp
    · by_cases g10 : i = 10
      · subst g10
        simp
      · by_cases g8 : i = 8
        · subst g8
          simp
        · by_cases g7 : i = 7
          · subst g7
            simp
          · by_cases g4 : i = 4
            · subst g4
              simp
            · by_cases g9 : i = 9
              · subst g9
                simp
              · by_cases g3 : i = 3
                · subst g3
                  simp
                · rw [if_neg g11, if_neg g10, if_neg g8, if_neg g7, if_neg g4, if_neg g9, if_neg g3]
                  by_cases g0 : i = 0
                  · rw [if_pos g0, if_pos g0]
                  · by_cases g1 : i = 1
                    · rw [if_neg g0, if_pos g1, if_neg g0, if_pos g1]
                    · by_cases g2 : i = 2
                      · rw [if_neg g0, if_neg g1, if_pos g2, if_neg g0, if_neg g1, if_pos g2]
                      · have go : ¬ (i = 10 ∨ i = 11) := by omega
                        by_cases ga : 12 ≤ i ∧ i < 12 + (ml.length : Int)
                        · rw [if_neg g0, if_neg g1, if_neg g2, if_pos ga, if_neg g0, if_neg g1, if_neg g2, if_neg g3, if_neg g4, if_neg g7, if_neg g8, if_neg g9, if_neg go, if_pos ga]
                          have q := hf (i - 12).toNat (by omega)
                          have e : (((i - 12).toNat : Nat) : Int) = i - 12 := by omega
                          rw [e] at q
                          exact q
                        · by_cases gb : 432 ≤ i ∧ i < 432 + (ml.length : Int)
                          · rw [if_neg g0, if_neg g1, if_neg g2, if_neg ga, if_pos gb, if_neg g0, if_neg g1, if_neg g2, if_neg g3, if_neg g4, if_neg g7, if_neg g8, if_neg g9, if_neg go, if_neg ga, if_pos gb]
                            have q := hf (i - 432).toNat (by omega)
                            have e : (((i - 432).toNat : Nat) : Int) = i - 432 := by omega
                            rw [e] at q
                            exact q
                          · rw [if_neg g0, if_neg g1, if_neg g2, if_neg ga, if_neg gb, if_neg g0, if_neg g1, if_neg g2, if_neg g3, if_neg g4, if_neg g7, if_neg g8, if_neg g9, if_neg go, if_neg ga, if_neg gb]
  · have hh : ∀ j : Int, ¬ (c = 4 ∧ q = (S 0 0 4) ∧ i = j) := fun j z => h ⟨z.1, z.2.1⟩
    simp only [if_neg (hh _), if_neg h]
theorem u3_uu {S : am_G} {c : Nat} {p i v v' : Int} : u3 (u3 S c p i v) c p i v' = u3 S c p i v' := by
  funext a q j
  unfold u3
  split <;> rfl
theorem ptS_0 {S : am_G} {s p l q j v : Int} : ptS (u3 S 0 q j v) s p l = u3 (ptS S s p l) 0 q j v := by
  have cm : ∀ (S : am_G) (c : Nat) (a i w : Int), c ≠ 0 → u3 (u3 S 0 q j v) c a i w = u3 (u3 S c a i w) 0 q j v := fun S c a i w h => u3_cm (Or.inl (Ne.symm h))
  unfold ptS
  rw [u3_nc (by decide)]
  by_cases c : S 3 p (45 + l) = 0
  · rw [if_pos c, if_pos c, cm _ 4 _ _ _ (by decide), cm _ 4 _ _ _ (by decide), cm _ 3 _ _ _ (by decide)]
  · rw [if_neg c, if_neg c, cm _ 4 _ _ _ (by decide), cm _ 4 _ _ _ (by decide), cm _ 4 _ _ _ (by decide), cm _ 4 _ _ _ (by decide), cm _ 4 _ _ _ (by decide), cm _ 3 _ _ _ (by decide)]
theorem ptS_n {S : am_G} {s p l : Int} (hs : S 3 p (45 + l) - 1 ≠ s) : ptS (u3 (u3 S 4 s 5 0) 4 s 6 0) s p l = ptS S s p l := by
  have ab : ∀ X : am_G, u3 (u3 (u3 (u3 X 4 s 5 0) 4 s 6 0) 4 s 5 l) 4 s 6 p = u3 (u3 X 4 s 5 l) 4 s 6 p := fun X => by
    rw [u3_cm (S := u3 X 4 s 5 0) (c := 4) (c' := 4) (i := 6) (i' := 5) (Or.inr (Or.inr (by decide))), u3_uu, u3_uu]
  unfold ptS
  rw [u3_nc (by decide), u3_nc (by decide)]
  by_cases c : S 3 p (45 + l) = 0
  · rw [if_pos c, if_pos c, ab]
  · rw [if_neg c, if_neg c]
    generalize S 3 p (45 + l) - 1 = q at hs
    have cm : ∀ (X : am_G) (i w i' w' : Int), u3 (u3 X 4 s i w) 4 q i' w' = u3 (u3 X 4 q i' w') 4 s i w := fun X i w i' w' => u3_cm (Or.inr (Or.inl (Ne.symm hs)))
    rw [cm _ 6, cm _ 5, cm _ 6, cm _ 5, cm _ 6, cm _ 5, ab]
theorem csA_e {S : am_G} {ml : List Int} {p k l co : Int} (hs : S 3 p (45 + l) - 1 ≠ (S 0 0 4)) : ptS (csA S ml p k l co) (S 0 0 4) p l = u3 (ptS (cs1 S ml p k l co) (S 0 0 4) p l) 0 0 4 ((S 0 0 4) + 1) := by
  unfold csA
  rw [ptS_0, ptS_n]
  have e : cs1 S ml p k l co 3 p (45 + l) = S 3 p (45 + l) := if_neg (fun z => absurd z.1 (by decide))
  rw [e]
  exact hs
section
variable {K : am_K} {b : am_H} {r : Nat} {S : am_G} {V : Nat → Int → Int} {W : Nat → Int}
/-- the model casts a slug -/
theorem c_casts {k p l co : Int} {ml : List Int} {D : Nat} (hD : 6 ≤ D) (hk : 0 ≤ k ∧ k < 4) (hp : 0 ≤ p ∧ p < 100) (hl : 0 ≤ l ∧ l < 40) (hn : 0 ≤ (S 0 0 4) ∧ (S 0 0 4) < 300) (hm : (ml.length : Int) ≤ 420) (hW : W 73 = (ml.length : Int)) (hf : pf (V 17) ml) (h45 : 0 ≤ S 3 p (45 + l) ∧ S 3 p (45 + l) ≤ (S 0 0 4)) (h7 : 1 ≤ S 0 0 7 ∧ S 0 0 7 ≤ 8) (h30 : 0 ≤ S 5 k 30 ∧ S 5 k 30 ≤ 100000) (H : K (.inl none) (mo b r (ms (u3 (u3 (ptS (csA S ml p k l co) (S 0 0 4) p l) 5 k 30 (S 5 k 30 + 1)) 10 0 (1 + 5 * (S 0 0 7 - 1) + k) (S 0 0 4))) V W)) : am_ev am_prog D 321 [.inr (.inl r), .inl k, .inl p, .inl l, .inl co] (mo b r (ms S) V W) K := by
  rw [csA_e (by omega)] at H
  have e0 : ∀ j, csj S (V 17) p k j 0 0 4 = (S 0 0 4) := fun j => if_neg (fun z => absurd z.1 (by decide))
  obtain ⟨d, rfl⟩ : ∃ d, D = d + 4 := ⟨D - 4, by omega⟩
  refine am_en p_X5_casts rfl rfl ?_
  refine w_casts_0 ⟨by omega, by omega, by omega, by omega, by omega, ?_⟩
  rw [csj_0 (f := V 17)]
  have main : ∀ j, 0 ≤ j → j ≤ (ml.length : Int) → am_W m_X5_casts (am_ev am_prog (d + 3)) K 39 [some (.inr (.inl r)), some (.inl (k)), some (.inl (p)), some (.inl (l)), some (.inl (co)), some (.inl ((S 0 0 4))), some (.inl (64630 + 852 * (S 0 0 4))), some (.inl (130 + 645 * p)), some (.inl (sg (fun j => am_b (V 17 j ≠ 32)) 0 j.toNat)), some (.inl (j))] [] (mo b r (ms (csj S (V 17) p k j)) V W) := by
    refine lp_z ?_ ?_
    · intro j j1 j2 hL
      have bd := sg_bd (c := 1) (f := fun j => am_b (V 17 j ≠ 32)) j.toNat 0 (fun j _ _ => by
        show 0 ≤ am_b (V 17 j ≠ 32) ∧ am_b (V 17 j ≠ 32) ≤ 1
        unfold am_b
        split <;> omega)
      have b1 : 0 ≤ am_b (V 17 j ≠ 32) ∧ am_b (V 17 j ≠ 32) ≤ 1 := by
        unfold am_b
        split <;> omega
      rw [sg_s j1, ← csj_s (by omega)] at hL
      exact w_casts_39 ⟨fun z => absurd z (by omega), fun _ => ⟨by omega, by omega, by omega, by omega, hL⟩⟩
    · have eN : sg (fun j => am_b (V 17 j ≠ 32)) 0 ((ml.length : Int)).toNat = nbl ml := by
        have e1 : ((ml.length : Int)).toNat = ml.length := by omega
        rw [e1]
        exact nbl_sg ml 0 (fun j hj => by
          have e : (0 : Int) + (j : Int) = j := by omega
          rw [e]
          exact hf j hj)
      rw [eN]
      have e3 : csj S (V 17) p k (ml.length : Int) 3 = S 3 := by
        funext q i
        exact if_neg (fun z => absurd z.1 (by decide))
      refine w_casts_39 ⟨fun _ => ?_, fun z => absurd z (by omega)⟩
      rw [hW, csj_e hf hm, e3]
      refine ⟨by omega, by omega, by omega, by omega, by omega, by omega, by omega, ⟨by omega, by omega, by omega, by omega, by omega⟩, c_pots (by omega) (by omega) (am_an (w_casts_145 (c_puts (by omega) (by omega) hp hl (am_an (w_casts_150 ?_)))))⟩
      have ep : (if S 3 p (45 + l) - 1 = -1 then cs1 S ml p k l co else u3 (u3 (u3 (cs1 S ml p k l co) 4 (S 3 p (45 + l) - 1) 4 2) 4 (S 3 p (45 + l) - 1) 5 (-1)) 4 (S 3 p (45 + l) - 1) 6 (-1)) = if cs1 S ml p k l co 3 p (45 + l) = 0 then cs1 S ml p k l co else u3 (u3 (u3 (cs1 S ml p k l co) 4 (cs1 S ml p k l co 3 p (45 + l) - 1) 4 2) 4 (cs1 S ml p k l co 3 p (45 + l) - 1) 5 (-1)) 4 (cs1 S ml p k l co 3 p (45 + l) - 1) 6 (-1) := by
        have e : cs1 S ml p k l co 3 p (45 + l) = S 3 p (45 + l) := if_neg (fun z => absurd z.1 (by decide))
        rw [e]
        by_cases c : S 3 p (45 + l) = 0
        · rw [if_pos (by omega), if_pos c]
        · rw [if_neg (by omega), if_neg c]
      rw [ep]
      have ept : u3 (u3 (u3 (if cs1 S ml p k l co 3 p (45 + l) = 0 then cs1 S ml p k l co else u3 (u3 (u3 (cs1 S ml p k l co) 4 (cs1 S ml p k l co 3 p (45 + l) - 1) 4 2) 4 (cs1 S ml p k l co 3 p (45 + l) - 1) 5 (-1)) 4 (cs1 S ml p k l co 3 p (45 + l) - 1) 6 (-1)) 4 (S 0 0 4) 5 l) 4 (S 0 0 4) 6 p) 3 p (45 + l) ((S 0 0 4) + 1) = ptS (cs1 S ml p k l co) (S 0 0 4) p l := rfl
      rw [ept]
      obtain ⟨w1, w2⟩ := ptS_r (S := cs1 S ml p k l co) (s := (S 0 0 4)) (p := p) (l := l)
      have c0 : cs1 S ml p k l co 0 = S 0 := by
        funext q i
        exact if_neg (fun z => absurd z.1 (by decide))
      have c5 : cs1 S ml p k l co 5 = S 5 := by
        funext q i
        exact if_neg (fun z => absurd z.1 (by decide))
      have s0 : ptS (cs1 S ml p k l co) (S 0 0 4) p l 0 = S 0 := (w1 0 (by decide) (by decide)).trans c0
      have s5 : ptS (cs1 S ml p k l co) (S 0 0 4) p l 5 = S 5 := (w1 5 (by decide) (by decide)).trans c5
      rw [s0, s5]
      exact ⟨by omega, by omega, by omega, by omega, H⟩
  exact main 0 (by omega) (by omega)
end
