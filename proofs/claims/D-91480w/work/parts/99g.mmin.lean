set_option maxRecDepth 100000
/-! a minute -/
/-- the first j numbers of the rows moved down by five -/
def shj (S : am_G) (j : Int) : am_G := fun c q i => if c = 10 ∧ q = 0 ∧ (0 ≤ i ∧ i < j) then S 10 0 (5 + i) else S c q i
theorem shj_s {S : am_G} {j : Int} (hj : 0 ≤ j) : u3 (shj S j) 10 0 j (shj S j 10 0 (5 + j)) = shj S (j + 1) := by
  have e0 : shj S j 10 0 (5 + j) = S 10 0 (5 + j) := if_neg (fun z => absurd z.2.2.2 (by omega))
  rw [e0]
  funext c q i
  unfold u3 shj
  by_cases h : c = 10 ∧ q = 0 ∧ i = j
  · rw [if_pos h, if_pos ⟨h.1, h.2.1, by omega⟩, h.2.2]
  · rw [if_neg h]
    by_cases g : c = 10 ∧ q = 0 ∧ (0 ≤ i ∧ i < j)
    · rw [if_pos g, if_pos ⟨g.1, g.2.1, by omega⟩]
    · rw [if_neg g, if_neg (fun z => by
        by_cases w : i = j
        · exact h ⟨z.1, z.2.1, w⟩
        · exact g ⟨z.1, z.2.1, by omega⟩)]
/-- a row's notes are empty -/
def rj (Z : am_G) (o j : Int) : am_G := fun c q i => if c = 10 ∧ q = 0 ∧ (o < i ∧ i < o + j) then -1 else Z c q i
theorem rj_s {Z : am_G} {o j : Int} (hj : 1 ≤ j) : u3 (rj Z o j) 10 0 (o + j) (-1) = rj Z o (j + 1) := by
  funext c q i
  unfold u3 rj
  by_cases h : c = 10 ∧ q = 0 ∧ i = o + j
  · rw [if_pos h, if_pos ⟨h.1, h.2.1, by omega⟩]
  · rw [if_neg h]
    by_cases g : c = 10 ∧ q = 0 ∧ (o < i ∧ i < o + j)
    · rw [if_pos g, if_pos ⟨g.1, g.2.1, by omega⟩]
    · rw [if_neg g, if_neg (fun z => by
        by_cases w : i = o + j
        · exact h ⟨z.1, z.2.1, w⟩
        · exact g ⟨z.1, z.2.1, by omega⟩)]
theorem rj_1 {Z : am_G} {o : Int} : rj Z o 1 = Z := by
  funext c q i
  exact if_neg (fun z => absurd z.2.2 (by omega))
def mnR0 (S : am_G) : Int := if (S 0 0 7) = 8 then 7 else (S 0 0 7)
def mnZ (S : am_G) : am_G := if (S 0 0 7) = 8 then u3 (u3 (shj (u3 S 0 0 0 ((S 0 0 0) + 1)) 35) 0 0 7 7) 10 0 35 ((S 0 0 0) + 1) else u3 (u3 S 0 0 0 ((S 0 0 0) + 1)) 10 0 (5 * (S 0 0 7)) ((S 0 0 0) + 1)
/-- a minute begins -/
def mnS (S : am_G) : am_G := u3 (rj (mnZ S) (5 * mnR0 S) 5) 0 0 7 (mnR0 S + 1)
theorem mnS_v {S : am_G} (h8 : 0 ≤ (S 0 0 7) ∧ (S 0 0 7) ≤ 8) : (∀ c, c ≠ 0 → c ≠ 10 → mnS S c = S c) ∧ mnS S 0 0 0 = (S 0 0 0) + 1 ∧ mnS S 0 0 7 = mnR0 S + 1 ∧ (∀ j, j ≠ 0 → j ≠ 7 → mnS S 0 0 j = S 0 0 j) ∧ mnS S 10 0 (5 * mnR0 S) = (S 0 0 0) + 1 ∧ (∀ j, 1 ≤ j → j ≤ 4 → mnS S 10 0 (5 * mnR0 S + j) = -1) ∧ (∀ i, 0 ≤ i → i < 5 * mnR0 S → mnS S 10 0 i = if (S 0 0 7) = 8 then S 10 0 (5 + i) else S 10 0 i) ∧ (0 ≤ mnR0 S ∧ mnR0 S ≤ 7) := by
  have z1 : ∀ c, c ≠ 0 → c ≠ 10 → mnZ S c = S c := fun c c0 c10 => by
    unfold mnZ
    split
    · rw [u3_r c10, u3_r c0]
      funext q i
      have e : shj (u3 S 0 0 0 ((S 0 0 0) + 1)) 35 c q i = u3 S 0 0 0 ((S 0 0 0) + 1) c q i := if_neg (fun z => c10 z.1)
      rw [e, u3_nc c0]
    · rw [u3_r c10, u3_r c0]
  have sh0 : ∀ j, shj (u3 S 0 0 0 ((S 0 0 0) + 1)) 35 0 0 j = u3 S 0 0 0 ((S 0 0 0) + 1) 0 0 j := fun j => if_neg (fun z => absurd z.1 (by decide))
  have r0 : ∀ (Z : am_G) o j q i, rj Z o j 0 q i = Z 0 q i := fun Z o j q i => if_neg (fun z => absurd z.1 (by decide))
  have bR : 0 ≤ mnR0 S ∧ mnR0 S ≤ 7 := by
    unfold mnR0
    split <;> omega
  refine ⟨fun c c0 c10 => ?_, ?_, u3_eq, fun j j0 j7 => ?_, ?_, fun j j1 j2 => ?_, fun i i1 i2 => ?_, bR⟩
  · unfold mnS
    rw [u3_r c0]
    funext q i
    have e : rj (mnZ S) (5 * mnR0 S) 5 c q i = mnZ S c q i := if_neg (fun z => c10 z.1)
    rw [e, z1 c c0 c10]
  · unfold mnS
    rw [u3_no (by decide), r0]
    unfold mnZ
    split
    · rw [u3_nc (by decide), u3_no (by decide), sh0, u3_eq]
    · rw [u3_nc (by decide), u3_eq]
  · unfold mnS
    rw [u3_no j7, r0]
    unfold mnZ
    split
    · rw [u3_nc (by decide), u3_no j7, sh0, u3_no j0]
    · rw [u3_nc (by decide), u3_no j0]
  · unfold mnS
    rw [u3_nc (by decide)]
    have e : rj (mnZ S) (5 * mnR0 S) 5 10 0 (5 * mnR0 S) = mnZ S 10 0 (5 * mnR0 S) := if_neg (fun z => absurd z.2.2.1 (by omega))
    rw [e]
    unfold mnZ mnR0
    by_cases c : (S 0 0 7) = 8
    · rw [if_pos c, if_pos c]
      exact u3_eq
    · rw [if_neg c, if_neg c]
      exact u3_eq
  · unfold mnS
    rw [u3_nc (by decide)]
    exact if_pos ⟨rfl, rfl, by omega⟩
  · unfold mnS
    rw [u3_nc (by decide)]
    have e : rj (mnZ S) (5 * mnR0 S) 5 10 0 i = mnZ S 10 0 i := if_neg (fun z => absurd z.2.2.1 (by omega))
    rw [e]
    unfold mnZ
    unfold mnR0 at i2
    by_cases c : (S 0 0 7) = 8
    · rw [if_pos c] at i2 ⊢
      rw [if_pos c, u3_no (by omega), u3_nc (by decide)]
      refine (if_pos ⟨rfl, rfl, by omega⟩).trans ?_
      rw [u3_nc (by decide)]
    · rw [if_neg c] at i2 ⊢
      rw [if_neg c, u3_no (by omega), u3_nc (by decide)]
/-- machines have had their turns -/
def mnR (S : am_G) : Nat → am_G → Prop
  | 0, S' => S' = S
  | k + 1, S' => ∃ Sk S1 a, mnR S k Sk ∧ turR Sk (k : Int) S1 a ∧ S' = msF Sk (k : Int) S1 a
/-- ahead of the turn of machine k -/
def okMn (S : am_G) (k : Int) : Prop := okT0 S ∧ okT5 S ∧ ∀ q, 0 ≤ q → q < 4 → sm3 S q ≤ if q < k then S 0 0 0 else S 0 0 0 - 1
theorem okMn_s {S : am_G} {k : Int} (hk : 0 ≤ k ∧ k < S 0 0 3) (h : okMn S k) {S1 : am_G} {a : Int} (tr : turR S k S1 a) : okMn (msF S k S1 a) (k + 1) ∧ tuL S (msF S k S1 a) k a := by
  obtain ⟨h0, h5, hs⟩ := h
  have c3 := h0.1.2.2.1
  have c0 := h0.1.1
  have sk := hs k hk.1 (by omega)
  rw [if_neg (by omega)] at sk
  obtain ⟨g0, g5, gt⟩ := okT_tur h0 h5 hk (by omega) tr
  refine ⟨⟨g0, g5, fun q q1 q2 => ?_⟩, gt⟩
  rw [gt.1 0 (by decide)]
  by_cases e : q = k
  · rw [e, if_pos (by omega)]
    have := gt.2.2.1
    omega
  · have w := hs q q1 q2
    have es : sm3 (msF S k S1 a) q = sm3 S q := by
      unfold sm3
      rw [gt.2.2.2.1 q e]
    rw [es]
    by_cases c : q < k
    · rw [if_pos c] at w
      rw [if_pos (by omega)]
      exact w
    · rw [if_neg c] at w
      rw [if_neg (by omega)]
      exact w
theorem okMn_0 {S : am_G} (h0 : okT0 S) (h5 : okT5 S) (hn : S 0 0 0 < 600) (hs : ∀ q, 0 ≤ q → q < 4 → sm3 S q ≤ S 0 0 0) : okMn (mnS S) 0 := by
  have hC := h0.1
  obtain ⟨v1, v2, v3, v4, v5, v6, v7, v8⟩ := mnS_v (S := S) hC.2.2.2.2.2
  have e : ∀ c, c ≠ 0 → c ≠ 10 → mnS S c = S c := v1
  obtain ⟨hC, hF, hG, hA, hY, hY1, hW, hg, h00, hX⟩ := h0
  obtain ⟨hM, hJ, hJg⟩ := h5
  refine ⟨⟨?_, ?_, ?_, ?_, ?_, ?_, ?_, ?_, ?_, ?_⟩, ⟨?_, ?_, ?_⟩, fun q q1 q2 => ?_⟩
  · unfold okC
    rw [v2, v3, v4 1 (by decide) (by decide), v4 3 (by decide) (by decide), v4 5 (by decide) (by decide), v4 6 (by decide) (by decide)]
    have := hC
    unfold okC at this
    omega
  · unfold okF
    rw [v4 1 (by decide) (by decide), e 2 (by decide) (by decide)]
    exact hF
  · unfold okG
    rw [v4 4 (by decide) (by decide), e 4 (by decide) (by decide)]
    exact hG
  · unfold okA okL isP
    rw [v4 1 (by decide) (by decide), v4 4 (by decide) (by decide), e 2 (by decide) (by decide), e 3 (by decide) (by decide)]
    exact hA
  · unfold okY
    rw [v4 2 (by decide) (by decide), e 6 (by decide) (by decide)]
    exact hY
  · unfold okY1
    rw [v4 2 (by decide) (by decide), e 6 (by decide) (by decide)]
    exact hY1
  · unfold okWs
    rw [e 1 (by decide) (by decide)]
    exact hW
  · unfold okg isP
    rw [v4 1 (by decide) (by decide), v4 4 (by decide) (by decide), e 2 (by decide) (by decide), e 3 (by decide) (by decide), e 4 (by decide) (by decide)]
    exact hg
  · unfold ok0
    rw [e 4 (by decide) (by decide)]
    exact h00
  · unfold okX isP
    rw [v4 1 (by decide) (by decide), e 2 (by decide) (by decide), e 3 (by decide) (by decide), e 4 (by decide) (by decide)]
    exact hX
  · unfold okM isP
    rw [v4 1 (by decide) (by decide), e 2 (by decide) (by decide), e 5 (by decide) (by decide)]
    exact hM
  · unfold okJ
    rw [v4 3 (by decide) (by decide), e 3 (by decide) (by decide), e 5 (by decide) (by decide)]
    exact hJ
  · unfold okJg
    rw [v4 3 (by decide) (by decide), e 3 (by decide) (by decide), e 5 (by decide) (by decide)]
    exact hJg
  · have w := hs q q1 q2
    have es : sm3 (mnS S) q = sm3 S q := by
      unfold sm3
      rw [e 5 (by decide) (by decide)]
    rw [es, v2, if_neg (by omega)]
    omega
section
variable {K : am_K} {b : am_H} {r : Nat} {S : am_G} {V : Nat → Int → Int} {W : Nat → Int}
theorem c_minute {D : Nat} (hD : 20 ≤ D) (h0 : okT0 S) (h5 : okT5 S) (hn : S 0 0 0 < 600) (hs : ∀ q, 0 ≤ q → q < 4 → sm3 S q ≤ S 0 0 0) (H : ∀ S' V' W', mnR (mnS S) (S 0 0 3).toNat S' → fa [11, 12, 13, 14, 15, 16, 17, 18] V V' → fa [62, 63, 64, 65, 66, 67, 68, 73] W W' → K (.inl none) (mo b r (ms S') V' W')) : am_ev am_prog D 148 [.inr (.inl r)] (mo b r (ms S) V W) K := by
  have hC := h0.1
  have c0 := hC.1
  have c7 := hC.2.2.2.2.2
  have c3 := hC.2.2.1
  have M0 := okMn_0 h0 h5 hn hs
  obtain ⟨v1, v2, v3, v4, v5, v6, v7, v8⟩ := mnS_v (S := S) c7
  have e03 : mnS S 0 0 3 = S 0 0 3 := v4 3 (by decide) (by decide)
  obtain ⟨d, rfl⟩ : ∃ d, D = d + 4 := ⟨D - 4, by omega⟩
  refine am_en p_X5_minute rfl rfl ?_
  -- the machines
  have mach : ∀ o1 : Int, am_W m_X5_minute (am_ev am_prog (d + 3)) K 84 [some (.inr (.inl r)), some (.inl (o1)), some (.inl (0))] [] (mo b r (ms (mnS S)) V W) := by
    intro o1
    have main : ∀ k, 0 ≤ k → k ≤ S 0 0 3 → ∀ Sk V' W', mnR (mnS S) k.toNat Sk → okMn Sk k → Sk 0 0 3 = S 0 0 3 → (1 ≤ Sk 0 0 7 ∧ Sk 0 0 7 ≤ 8) → fa [11, 12, 13, 14, 15, 16, 17, 18] V V' → fa [62, 63, 64, 65, 66, 67, 68, 73] W W' → am_W m_X5_minute (am_ev am_prog (d + 3)) K 84 [some (.inr (.inl r)), some (.inl (o1)), some (.inl (k))] [] (mo b r (ms Sk) V' W') := by
      refine lp_z ?_ ?_
      · intro k k1 k2 hL Sk V' W' hm hok e3 e7 hV hW
        have e1 : (k + 1).toNat = k.toNat + 1 := by omega
        have e2 : ((k.toNat : Nat) : Int) = k := by omega
        have hk : 0 ≤ k ∧ k < Sk 0 0 3 := by omega
        have mM := (hok.2.1.1 k k1 (by omega)).2.2.2.1
        have nxt : ∀ S1 a V2 W2, turR Sk k S1 a → fa [11, 12, 13, 14, 15, 16, 17, 18] V V2 → fa [62, 63, 64, 65, 66, 67, 68, 73] W W2 → am_W m_X5_minute (am_ev am_prog (d + 3)) K 84 [some (.inr (.inl r)), some (.inl (o1)), some (.inl (k + 1))] [] (mo b r (ms (msF Sk k S1 a)) V2 W2) := fun S1 a V2 W2 tr hV2 hW2 => by
          have q := okMn_s hk hok tr
          refine hL _ V2 W2 ?_ q.1 (by rw [q.2.1 3 (by decide)]; exact e3) (by rw [q.2.1 7 (by decide)]; exact e7) hV2 hW2
          rw [e1]
          refine ⟨Sk, S1, a, hm, ?_, ?_⟩
          · rw [e2]
            exact tr
          · rw [e2]
        have idle : (Sk 5 k 28 ≠ 0 ∨ Sk 5 k 29 = 0) → am_W m_X5_minute (am_ev am_prog (d + 3)) K 109 [some (.inr (.inl r)), some (.inl (o1)), some (.inl (k))] [] (mo b r (ms Sk) V' W') := fun c => by
          have q := nxt Sk (-1) V' W' (Or.inl ⟨c, rfl, rfl⟩) hV hW
          have e : msF Sk k Sk (-1) = Sk := by
            unfold msF rwW fx5
            rw [if_pos rfl, if_neg (fun z => c.elim (fun w => w z.1.1) (fun w => z.1.2 w))]
          rw [e] at q
          exact w_minute_109 ⟨by omega, q⟩
        refine w_minute_84 ⟨fun z => absurd z (by omega), fun _ => ⟨by omega, by omega, fun c => idle (Or.inl c), fun c => ⟨by omega, by omega, fun c2 => idle (Or.inr (by omega)), fun c2 => ?_⟩⟩⟩
        obtain ⟨hC', hF', hG', hA', hY', hY1', hW', hg', h00', hX'⟩ := hok.1
        exact c_runsOn (by omega) hC' hF' hG' hok.2.1.1 hA' hY' hY1' hW' hok.2.1.2.1 hk ⟨c, by omega⟩ e7 (fun S1 a V2 W2 tr hV2 hW2 => am_an (w_minute_109 ⟨by omega, nxt S1 a V2 W2 tr (fa_trans hV hV2) (fa_trans hW hW2)⟩))
      · intro Sk V' W' hm hok e3 e7 hV hW
        exact w_minute_84 ⟨fun _ => H Sk V' W' hm hV hW, fun z => absurd z (by omega)⟩
    exact main 0 (by omega) c3.1 (mnS S) V W rfl M0 e03 (by rw [v3]; omega) fa_refl fa_refl
  -- the row's notes
  have row : ∀ j, 1 ≤ j → j ≤ 5 → am_W m_X5_minute (am_ev am_prog (d + 3)) K 62 [some (.inr (.inl r)), some (.inl (337180 + 5 * mnR0 S)), some (.inl (j))] [] (mo b r (ms (rj (mnZ S) (5 * mnR0 S) j)) V W) := by
    refine lp_z ?_ ?_
    · intro j j1 j2 hL
      rw [← rj_s j1] at hL
      exact w_minute_62 ⟨fun z => absurd z (by omega), fun _ => ⟨by omega, by omega, hL⟩⟩
    · have e7 : rj (mnZ S) (5 * mnR0 S) 5 0 0 7 = mnR0 S := by
        have e : rj (mnZ S) (5 * mnR0 S) 5 0 0 7 = mnZ S 0 0 7 := if_neg (fun z => absurd z.1 (by decide))
        rw [e]
        unfold mnZ mnR0
        by_cases c : S 0 0 7 = 8
        · rw [if_pos c, if_pos c, u3_nc (by decide), u3_eq]
        · rw [if_neg c, if_neg c, u3_nc (by decide), u3_no (by decide)]
      refine w_minute_62 ⟨fun _ => ?_, fun z => absurd z (by omega)⟩
      rw [e7]
      exact ⟨by omega, mach _⟩
  have row1 := row 1 (by omega) (by omega)
  rw [rj_1] at row1
  refine w_minute_0 ⟨by omega, fun c => ⟨by omega, ?_⟩, fun c => ?_⟩
  · have eR : mnR0 S = S 0 0 7 := if_neg c
    have eZ : mnZ S = u3 (u3 S 0 0 0 (S 0 0 0 + 1)) 10 0 (5 * S 0 0 7) (S 0 0 0 + 1) := if_neg c
    rw [eR, eZ] at row1
    exact row1
  · have eR : mnR0 S = 7 := if_pos c
    have eZ : mnZ S = u3 (u3 (shj (u3 S 0 0 0 (S 0 0 0 + 1)) 35) 0 0 7 7) 10 0 35 (S 0 0 0 + 1) := if_pos c
    rw [eR, eZ] at row1
    have sh : ∀ j, 0 ≤ j → j ≤ 35 → am_W m_X5_minute (am_ev am_prog (d + 3)) K 16 [some (.inr (.inl r)), some (.inl (j)), none] [] (mo b r (ms (shj (u3 S 0 0 0 (S 0 0 0 + 1)) j)) V W) := by
      refine lp_z ?_ ?_
      · intro j j1 j2 hL
        rw [← shj_s j1] at hL
        exact w_minute_16 ⟨fun z => absurd z (by omega), fun _ => ⟨by omega, by omega, hL⟩⟩
      · have e7 : shj (u3 S 0 0 0 (S 0 0 0 + 1)) 35 0 0 7 = 8 := by
          have e : shj (u3 S 0 0 0 (S 0 0 0 + 1)) 35 0 0 7 = u3 S 0 0 0 (S 0 0 0 + 1) 0 0 7 := if_neg (fun z => absurd z.1 (by decide))
          rw [e, u3_no (by decide), c]
        have e0 : shj (u3 S 0 0 0 (S 0 0 0 + 1)) 35 0 0 0 = S 0 0 0 + 1 := by
          have e : shj (u3 S 0 0 0 (S 0 0 0 + 1)) 35 0 0 0 = u3 S 0 0 0 (S 0 0 0 + 1) 0 0 0 := if_neg (fun z => absurd z.1 (by decide))
          rw [e, u3_eq]
        refine w_minute_16 ⟨fun _ => ?_, fun z => absurd z (by omega)⟩
        rw [e7, e0]
        have e87 : (8 - 1 : Int) = 7 := by decide
        rw [e87]
        exact ⟨by omega, by omega, row1⟩
    have s0 := sh 0 (by omega) (by omega)
    have es : shj (u3 S 0 0 0 (S 0 0 0 + 1)) 0 = u3 S 0 0 0 (S 0 0 0 + 1) := by
      funext a q i
      exact if_neg (fun z => absurd z.2.2 (by omega))
    rw [es] at s0
    exact s0
end
