set_option maxRecDepth 100000
/-- words are numbered one by one -/
def okN (v : Int → Int) : Prop := v 85 = 0 ∧ ∀ k, 0 ≤ k → k < v 1 - 1 → v (86 + k) = v (85 + k) + am_b (ew v k)
abbrev isP (S : am_G) (x : Int) : Prop := 0 ≤ x ∧ x / 5 < S 0 0 1 ∧ x % 5 < S 2 2 (x / 5)
/-! THE STATE IS RIGHT -/
/-- counts: minute, stories, styles, machines, slugs, tellings, editions, rows -/
def okC (S : am_G) : Prop := (0 ≤ S 0 0 0 ∧ S 0 0 0 ≤ 600) ∧ (0 ≤ S 0 0 1 ∧ S 0 0 1 ≤ 20) ∧ (0 ≤ S 0 0 3 ∧ S 0 0 3 ≤ 4) ∧ (0 ≤ S 0 0 5 ∧ S 0 0 5 ≤ 200) ∧ (0 ≤ S 0 0 6 ∧ S 0 0 6 ≤ 8) ∧ (0 ≤ S 0 0 7 ∧ S 0 0 7 ≤ 8)
def okF (S : am_G) : Prop := ∀ s, 0 ≤ s → s < S 0 0 1 → (0 ≤ S 2 0 s ∧ S 2 0 s < 2) ∧ (0 ≤ S 2 1 s ∧ S 2 1 s ≤ 600) ∧ (1 ≤ S 2 2 s ∧ S 2 2 s ≤ 5)
/-- a part's lines -/
def okL (S : am_G) (p : Int) : Prop := (1 ≤ S 3 p 4 ∧ S 3 p 4 ≤ S 3 p 1) ∧ S 3 p (4 + S 3 p 4) = S 3 p 1 - 1 ∧ ∀ l, 0 ≤ l → l < S 3 p 4 → (0 ≤ bg (S 3 p) l ∧ bg (S 3 p) l ≤ S 3 p (5 + l) ∧ S 3 p (5 + l) < S 3 p 1) ∧ ((lnS (S 3 p) l).length : Int) ≤ 420 ∧ (0 ≤ S 3 p (45 + l) ∧ S 3 p (45 + l) ≤ S 0 0 4)
def okA (S : am_G) : Prop := ∀ p, isP S p → okP (S 3 p) ∧ okN (S 3 p) ∧ S 3 p 0 = S 3 p (84 + S 3 p 1) + 1 ∧ (S 3 p 2 = 0 ∨ S 3 p 2 = 1) ∧ (S 3 p 3 = 0 ∨ S 3 p 3 = 1) ∧ (S 3 p 3 = 1 → S 3 p 2 = 1) ∧ (S 3 p 3 = 1 → okL S p) ∧ (0 ≤ S 3 p 4 ∧ S 3 p 4 ≤ 40)
def okM (S : am_G) : Prop := ∀ k, 0 ≤ k → k < 4 → (∀ c, 0 ≤ c → c < 27 → 0 ≤ S 5 k c ∧ S 5 k c ≤ 40) ∧ (0 ≤ S 5 k 27 ∧ S 5 k 27 ≤ 9) ∧ (S 5 k 28 = 0 ∨ S 5 k 28 = 1) ∧ (0 ≤ S 5 k 29 ∧ S 5 k 29 ≤ 30) ∧ (0 ≤ S 5 k 30 ∧ S 5 k 30 ≤ 600) ∧ (0 ≤ S 5 k 31 ∧ S 5 k 31 ≤ 600) ∧ (0 ≤ S 5 k 32 ∧ S 5 k 32 ≤ 600) ∧ ∀ i, 0 ≤ i → i < S 5 k 29 → isP S (S 5 k (33 + 5 * i)) ∧ (0 ≤ S 5 k (34 + 5 * i) ∧ S 5 k (34 + 5 * i) < 40) ∧ (0 ≤ S 5 k (35 + 5 * i) ∧ S 5 k (35 + 5 * i) ≤ 40) ∧ (S 5 k (36 + 5 * i) = 0 ∨ S 5 k (36 + 5 * i) = 1) ∧ (S 5 k (37 + 5 * i) = 0 ∨ S 5 k (37 + 5 * i) = 1)
theorem isP_bd {S : am_G} {p : Int} (hC : okC S) (hF : okF S) (h : isP S p) : (0 ≤ p ∧ p < 100) ∧ (0 ≤ p / 5 ∧ p / 5 < S 0 0 1) ∧ (0 ≤ S 2 0 (p / 5) ∧ S 2 0 (p / 5) < 2) ∧ (0 ≤ S 2 1 (p / 5) ∧ S 2 1 (p / 5) ≤ 600) := by
  have h1 := hC.2.1
  have h2 := hF (p / 5) (by omega) h.2.1
  refine ⟨by omega, by omega, h2.1, h2.2.1⟩
