set_option maxRecDepth 100000
/-! what must hold of a state, and a turn keeps -/
/-- what lies at a place is a slug that lies there -/
def okX (S : am_G) : Prop := ∀ p, isP S p → S 3 p 3 = 1 → ∀ l, 0 ≤ l → l < S 3 p 4 → S 3 p (45 + l) ≠ 0 → S 4 (S 3 p (45 + l) - 1) 4 = 0 ∧ S 4 (S 3 p (45 + l) - 1) 6 = p ∧ S 4 (S 3 p (45 + l) - 1) 5 = l
/-- the part of a job is given -/
def okJg (S : am_G) : Prop := ∀ k i, 0 ≤ k → k < S 0 0 3 → 0 ≤ i → i < S 5 k 29 → S 3 (S 5 k (33 + 5 * i)) 2 = 1
/-- what a turn looks at -/
def okT0 (S : am_G) : Prop := okC S ∧ okF S ∧ okG S ∧ okA S ∧ okY S ∧ okY1 S ∧ okWs S ∧ okg S ∧ ok0 S ∧ okX S
def okT5 (S : am_G) : Prop := okM S ∧ okJ S ∧ okJg S
/-- other machines' numbers or rows are others -/
theorem okT0_c {S S' : am_G} (e : ∀ c, c ≠ 5 → c ≠ 10 → S' c = S c) (h : okT0 S) : okT0 S' := by
  unfold okT0 okC okF okG okA okY okY1 okWs okg ok0 okX okL isP at *
  rw [e 0 (by decide) (by decide), e 1 (by decide) (by decide), e 2 (by decide) (by decide), e 3 (by decide) (by decide), e 4 (by decide) (by decide), e 6 (by decide) (by decide)]
  exact h
theorem okT5_c {S S' : am_G} (e : ∀ c, c ≠ 4 → c ≠ 10 → S' c = S c) (h : okT5 S) : okT5 S' := by
  unfold okT5 okM okJ okJg isP at *
  rw [e 0 (by decide) (by decide), e 2 (by decide) (by decide), e 3 (by decide) (by decide), e 5 (by decide) (by decide)]
  exact h
/-- a number of a machine -/
theorem okT5_n {S : am_G} {k o v : Int} (ho : 30 ≤ o ∧ o ≤ 32) (hv : 0 ≤ v ∧ v ≤ 600) (h : okT5 S) : okT5 (u3 S 5 k o v) := by
  obtain ⟨h1, h2, h3⟩ := h
  have r : ∀ c, c ≠ 5 → u3 S 5 k o v c = S c := fun c hc => u3_r hc
  have ro : ∀ q j, j < 30 ∨ 32 < j → u3 S 5 k o v 5 q j = S 5 q j := fun q j hj => u3_no (by omega)
  have rn : ∀ q j, (0 ≤ S 5 q j ∧ S 5 q j ≤ 600) → (0 ≤ u3 S 5 k o v 5 q j ∧ u3 S 5 k o v 5 q j ≤ 600) := fun q j hq => by
    by_cases c : q = k ∧ j = o
    · rw [c.1, c.2, u3_eq]
      exact hv
    · have e : u3 S 5 k o v 5 q j = S 5 q j := if_neg (fun z => c z.2)
      rw [e]
      exact hq
  refine ⟨fun q q1 q2 => ?_, ?_, ?_⟩
  · obtain ⟨m1, m2, m3, m4, m5, m6, m7, m8⟩ := h1 q q1 q2
    refine ⟨fun c c1 c2 => by rw [ro q c (by omega)]; exact m1 c c1 c2, by rw [ro q 27 (by omega)]; exact m2, by rw [ro q 28 (by omega)]; exact m3, by rw [ro q 29 (by omega)]; exact m4, rn q 30 m5, rn q 31 m6, rn q 32 m7, fun i i1 i2 => ?_⟩
    rw [ro q 29 (by omega)] at i2
    rw [ro q _ (by omega), ro q _ (by omega), ro q _ (by omega), ro q _ (by omega), ro q _ (by omega)]
    have := m8 i i1 i2
    unfold isP
    rw [r 0 (by decide), r 2 (by decide)]
    exact this
  · refine ⟨fun q i q1 q2 i1 i2 => ?_, fun q i q' i' q1 q2 i1 i2 q3 q4 i3 i4 => ?_⟩
    · rw [r 0 (by decide)] at q2
      rw [ro q 29 (by omega)] at i2
      rw [ro q _ (by omega), ro q _ (by omega), ro q _ (by omega), ro q _ (by omega), r 3 (by decide)]
      exact h2.1 q i q1 q2 i1 i2
    · rw [r 0 (by decide)] at q2 q4
      rw [ro q 29 (by omega)] at i2
      rw [ro q' 29 (by omega)] at i4
      rw [ro q _ (by omega), ro q' _ (by omega), ro q _ (by omega), ro q' _ (by omega)]
      exact h2.2 q i q' i' q1 q2 i1 i2 q3 q4 i3 i4
  · intro q i q1 q2 i1 i2
    rw [r 0 (by decide)] at q2
    rw [ro q 29 (by omega)] at i2
    rw [ro q _ (by omega), r 3 (by decide)]
    exact h3 q i q1 q2 i1 i2
/-- the first job goes -/
theorem okT5_a {S : am_G} {k : Int} (hk : 0 ≤ k ∧ k < S 0 0 3) (h4 : S 0 0 3 ≤ 4) (hn : 0 < S 5 k 29) (h : okT5 S) : okT5 (awy S k) := by
  obtain ⟨h1, h2, h3⟩ := h
  obtain ⟨w1, w2, w3, w4, w5⟩ := awy_c (S := S) (k := k)
  -- a job then is a job before
  have sh : ∀ q i, 0 ≤ q → q < 4 → 0 ≤ i → i < awy S k 5 q 29 → ∃ j, 0 ≤ j ∧ j < S 5 q 29 ∧ (∀ o, 33 ≤ o → o ≤ 37 → awy S k 5 q (o + 5 * i) = S 5 q (o + 5 * j)) ∧ (q = k ∧ j = i + 1 ∨ q ≠ k ∧ j = i) := fun q i q1 q2 i1 i2 => by
    by_cases e : q = k
    · subst e
      rw [w3] at i2
      have b := (h1 q q1 q2).2.2.2.1
      refine ⟨i + 1, by omega, by omega, fun o o1 o2 => ?_, Or.inl ⟨rfl, rfl⟩⟩
      rw [w5 _ (by omega) (by omega)]
      congr 1
      omega
    · rw [w2 q e] at i2 ⊢
      exact ⟨i, i1, i2, fun o _ _ => rfl, Or.inr ⟨e, rfl⟩⟩
  have c3 : awy S k 0 0 3 = S 0 0 3 := by rw [w1 0 (by decide)]
  refine ⟨fun q q1 q2 => ?_, ⟨fun q i q1 q2 i1 i2 => ?_, fun q i q' i' q1 q2 i1 i2 q3 q4 i3 i4 g1 g2 g3 => ?_⟩, fun q i q1 q2 i1 i2 => ?_⟩
  · obtain ⟨m1, m2, m3, m4, m5, m6, m7, m8⟩ := h1 q q1 q2
    have lo : ∀ o, o ≠ 29 → o < 33 → awy S k 5 q o = S 5 q o := fun o o1 o2 => by
      by_cases e : q = k
      · rw [e]
        exact w4 o o1 o2
      · rw [w2 q e]
    refine ⟨fun c c1 c2 => by rw [lo c (by omega) (by omega)]; exact m1 c c1 c2, by rw [lo 27 (by omega) (by omega)]; exact m2, by rw [lo 28 (by omega) (by omega)]; exact m3, ?_, by rw [lo 30 (by omega) (by omega)]; exact m5, by rw [lo 31 (by omega) (by omega)]; exact m6, by rw [lo 32 (by omega) (by omega)]; exact m7, fun i i1 i2 => ?_⟩
    · by_cases e : q = k
      · rw [e, w3]
        rw [e] at m4
        omega
      · rw [w2 q e]
        exact m4
    · obtain ⟨j, j1, j2, j3, j4⟩ := sh q i q1 q2 i1 i2
      rw [j3 33 (by omega) (by omega), j3 34 (by omega) (by omega), j3 35 (by omega) (by omega), j3 36 (by omega) (by omega), j3 37 (by omega) (by omega)]
      have := m8 j j1 j2
      unfold isP
      rw [w1 0 (by decide), w1 2 (by decide)]
      exact this
  · rw [c3] at q2
    obtain ⟨j, j1, j2, j3, j4⟩ := sh q i q1 (by omega) i1 i2
    rw [j3 33 (by omega) (by omega), j3 34 (by omega) (by omega), j3 35 (by omega) (by omega), j3 37 (by omega) (by omega), w1 3 (by decide)]
    exact h2.1 q j q1 q2 j1 j2
  · rw [c3] at q2 q4
    obtain ⟨j, j1, j2, j3, j4⟩ := sh q i q1 (by omega) i1 i2
    obtain ⟨j', j1', j2', j3', j4'⟩ := sh q' i' q3 (by omega) i3 i4
    rw [j3 37 (by omega) (by omega)] at g1
    rw [j3' 37 (by omega) (by omega)] at g2
    rw [j3 33 (by omega) (by omega), j3' 33 (by omega) (by omega)] at g3
    have u := h2.2 q j q' j' q1 q2 j1 j2 q3 q4 j1' j2' g1 g2 g3
    refine ⟨u.1, ?_⟩
    have ue := u.1
    omega
  · rw [c3] at q2
    obtain ⟨j, j1, j2, j3, j4⟩ := sh q i q1 (by omega) i1 i2
    rw [j3 33 (by omega) (by omega), w1 3 (by decide)]
    exact h3 q j q1 q2 j1 j2
theorem awy_o {S : am_G} {k o v : Int} (ho : 33 ≤ o ∧ o ≤ 37) : awy (u3 S 5 k o v) k = awy S k := by
  funext c q i
  unfold awy
  by_cases h : c = 5 ∧ q = k
  · rw [if_pos h, if_pos h, u3_no (by omega)]
    by_cases g : i = 29
    · rw [if_pos g, if_pos g]
    · rw [if_neg g, if_neg g]
      by_cases g2 : 33 ≤ i ∧ i < 178
      · rw [if_pos g2, if_pos g2, u3_no (by omega)]
      · rw [if_neg g2, if_neg g2, u3_no (by omega)]
  · rw [if_neg h, if_neg h]
    exact if_neg (fun z => h ⟨z.1, z.2.1⟩)
/-- the first job's next line, or the note of its end -/
theorem okT5_j {S : am_G} {k o v : Int} (hk : 0 ≤ k ∧ k < S 0 0 3) (h4 : S 0 0 3 ≤ 4) (hn : 0 < S 5 k 29) (ho : (o = 34 ∧ (0 ≤ v ∧ v < 40) ∧ (S 5 k 37 = 0 → v < S 5 k 35) ∧ (S 5 k 37 ≠ 0 → S 3 (S 5 k 33) 3 = 1 ∧ v < S 3 (S 5 k 33) 4)) ∨ (o = 35 ∧ (0 ≤ v ∧ v ≤ 40) ∧ S 5 k 37 ≠ 0)) (h : okT5 S) : okT5 (u3 S 5 k o v) := by
  obtain ⟨h1, h2, h3⟩ := h
  have r : ∀ c, c ≠ 5 → u3 S 5 k o v c = S c := fun c hc => u3_r hc
  have ro : ∀ q j, ¬ (q = k ∧ j = o) → u3 S 5 k o v 5 q j = S 5 q j := fun q j hj => if_neg (fun z => hj z.2)
  have lo : ∀ q j, j < 33 → u3 S 5 k o v 5 q j = S 5 q j := fun q j hj => ro q j (by omega)
  have l33 : ∀ q i, u3 S 5 k o v 5 q (33 + 5 * i) = S 5 q (33 + 5 * i) := fun q i => ro q _ (by omega)
  have l36 : ∀ q i, u3 S 5 k o v 5 q (36 + 5 * i) = S 5 q (36 + 5 * i) := fun q i => ro q _ (by omega)
  have l37 : ∀ q i, u3 S 5 k o v 5 q (37 + 5 * i) = S 5 q (37 + 5 * i) := fun q i => ro q _ (by omega)
  have oth : ∀ q i, ¬ (q = k ∧ i = 0) → u3 S 5 k o v 5 q (34 + 5 * i) = S 5 q (34 + 5 * i) ∧ u3 S 5 k o v 5 q (35 + 5 * i) = S 5 q (35 + 5 * i) := fun q i hq => ⟨ro q _ (fun z => hq ⟨z.1, by omega⟩), ro q _ (fun z => hq ⟨z.1, by omega⟩)⟩
  have e34 : (34 + 5 * 0 : Int) = 34 := by decide
  have e35 : (35 + 5 * 0 : Int) = 35 := by decide
  have e33 : (33 + 5 * 0 : Int) = 33 := by decide
  have e37 : (37 + 5 * 0 : Int) = 37 := by decide
  refine ⟨fun q q1 q2 => ?_, ⟨fun q i q1 q2 i1 i2 => ?_, fun q i q' i' q1 q2 i1 i2 q3 q4 i3 i4 g1 g2 g3 => ?_⟩, fun q i q1 q2 i1 i2 => ?_⟩
  · obtain ⟨m1, m2, m3, m4, m5, m6, m7, m8⟩ := h1 q q1 q2
    refine ⟨fun c c1 c2 => by rw [lo q c (by omega)]; exact m1 c c1 c2, by rw [lo q 27 (by omega)]; exact m2, by rw [lo q 28 (by omega)]; exact m3, by rw [lo q 29 (by omega)]; exact m4, by rw [lo q 30 (by omega)]; exact m5, by rw [lo q 31 (by omega)]; exact m6, by rw [lo q 32 (by omega)]; exact m7, fun i i1 i2 => ?_⟩
    rw [lo q 29 (by omega)] at i2
    rw [l33, l36, l37]
    have w := m8 i i1 i2
    refine ⟨?_, ?_, ?_, w.2.2.2.1, w.2.2.2.2⟩
    · unfold isP
      rw [r 0 (by decide), r 2 (by decide)]
      exact w.1
    · by_cases e : q = k ∧ i = 0
      · rcases ho with ho | ho
        · rw [e.1, e.2, e34, ho.1, u3_eq]
          exact ho.2.1
        · rw [ro q _ (by omega)]
          exact w.2.1
      · rw [(oth q i e).1]
        exact w.2.1
    · by_cases e : q = k ∧ i = 0
      · rcases ho with ho | ho
        · rw [ro q _ (by omega)]
          exact w.2.2.1
        · rw [e.1, e.2, e35, ho.1, u3_eq]
          exact ho.2.1
      · rw [(oth q i e).2]
        exact w.2.2.1
  · rw [r 0 (by decide)] at q2
    rw [lo q 29 (by omega)] at i2
    rw [l33, l37, r 3 (by decide)]
    have w := h2.1 q i q1 q2 i1 i2
    by_cases e : q = k ∧ i = 0
    · obtain ⟨rfl, rfl⟩ := e
      rw [e33, e37, e34, e35] at *
      rcases ho with ho | ho
      · rw [ro q 35 (by omega), ho.1, u3_eq]
        refine ⟨fun z => ⟨(w.1 z).1, ho.2.2.1 z, (w.1 z).2.2⟩, fun z => ⟨fun z0 => ?_, fun _ => (ho.2.2.2 z).2⟩⟩
        have := (ho.2.2.2 z).1
        omega
      · rw [ro q 34 (by omega), ho.1, u3_eq]
        exact ⟨fun z => absurd z ho.2.2, w.2⟩
    · rw [(oth q i e).1, (oth q i e).2]
      exact w
  · rw [r 0 (by decide)] at q2 q4
    rw [lo q 29 (by omega)] at i2
    rw [lo q' 29 (by omega)] at i4
    rw [l37] at g1 g2
    rw [l33, l33] at g3
    exact h2.2 q i q' i' q1 q2 i1 i2 q3 q4 i3 i4 g1 g2 g3
  · rw [r 0 (by decide)] at q2
    rw [lo q 29 (by omega)] at i2
    rw [l33, r 3 (by decide)]
    exact h3 q i q1 q2 i1 i2
