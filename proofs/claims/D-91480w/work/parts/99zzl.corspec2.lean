set_option maxRecDepth 100000
/-! a word is corrected: the row then -/
theorem nx_lnA {v w : Int → Int} (ho : okP v) (hw : okW w) (hn : okN v) {me le mo co : Int} (hm : 0 ≤ me ∧ me ≤ 400) (hl : 0 ≤ le ∧ le ≤ 40) (hle : 1 ≤ le) (hc : 0 ≤ co ∧ co ≤ 999) {a : Int} (a0 : 0 ≤ a) (a1 : a < v 1) (h3 : ((tb v w me le mo co (v 1) (v 1).toNat) a).1 ≠ -1) : (1 ≤ ((tb v w me le mo co (v 1) (v 1).toNat) a).2.1 ∧ ((tb v w me le mo co (v 1) (v 1).toNat) a).2.1 ≤ v 1 - a) ∧ (∀ l, 0 ≤ l → l < ((tb v w me le mo co (v 1) (v 1).toNat) a).2.1 → (a ≤ nx (tb v w me le mo co (v 1) (v 1).toNat) l.toNat a ∧ nx (tb v w me le mo co (v 1) (v 1).toNat) l.toNat a < nx (tb v w me le mo co (v 1) (v 1).toNat) (l.toNat + 1) a ∧ nx (tb v w me le mo co (v 1) (v 1).toNat) (l.toNat + 1) a ≤ v 1) ∧ ((say v (nx (tb v w me le mo co (v 1) (v 1).toNat) l.toNat a) (nx (tb v w me le mo co (v 1) (v 1).toNat) (l.toNat + 1) a - 1)).length : Int) ≤ 400) ∧ nx (tb v w me le mo co (v 1) (v 1).toNat) ((tb v w me le mo co (v 1) (v 1).toNat) a).2.1.toNat a = v 1 := by
  have h1 := ho.1
  have bT := tb_bd ho hw (mo := mo) hm hl hc (n := v 1) (by omega) (v 1).toNat (by omega)
  have b0 := bT a (by omega) (by omega)
  have nk := nx_ok ho hw hm hl hc (mo := mo) (n := v 1) (by omega) (a := a) a0 (by omega) h3
  have st := fun i => tb_step ho hw hm hl hc (mo := mo) (n := v 1) (by omega) (i := i)
  generalize (tb v w me le mo co (v 1) (v 1).toNat) = T at h3 bT b0 nk st ⊢
  have b1 : 1 ≤ (T a).2.1 ∧ (T a).2.1 ≤ v 1 - a := by
    rcases b0 with e | e
    · exact absurd e h3
    · have := e.2.2 (by omega)
      have := e.2.1
      omega
  refine ⟨b1, fun l l1 l2 => ?_, ?_⟩
  · have k1 := nk l.toNat (by omega)
    have k2 := k1.2.2.2 (by omega)
    obtain ⟨s1, s2, s3, s4, s5⟩ := st (nx T l.toNat a) (by omega) k2 k1.2.1
    rw [nx_last]
    refine ⟨⟨by omega, s1, s2⟩, ?_⟩
    have := say_me ho hw hn hle (a := nx T l.toNat a) (z := (T (nx T l.toNat a)).2.2 - 1) (by omega) (by omega) (by omega) s5
    omega
  · have k1 := nk (T a).2.1.toNat (by omega)
    by_cases c : nx T (T a).2.1.toNat a = v 1
    · exact c
    · have s := bT (nx T (T a).2.1.toNat a) (by omega) (by omega)
      rcases s with e | e
      · exact absurd e k1.2.1
      · have := e.2.2 (by omega)
        omega
/-- the row v with the word w corrected to the pieces l -/
def chW (t v : Int → Int) (w : Int) (l : List am_Pz) (row : Int → Int) : Prop := ∃ x y : Int → Int, chg v row x y w (wfR v w (v 1).toNat).1 (wfR v w (v 1).toNat).2 l.length ∧ (∀ k : Nat, k < l.length → x k = (gP l k).2.2.1 ∧ ∀ i, 0 ≤ i → i < (gP l k).2.2.1 → y (12 * k + i) = t ((gP l k).2.1 + i) - 97) ∧ (∀ k, 0 ≤ k → k < 40 → 0 ≤ x k ∧ x k ≤ 12) ∧ ∀ i, 0 ≤ i → i < 480 → 0 ≤ y i ∧ y i ≤ 25
theorem ew_st {v : Int → Int} {k : Int} (h : v (86 + k) = v (85 + k) ∨ v (86 + k) = v (85 + k) + 1) (hk : k < v 1 - 1) : v (86 + k) = v (85 + k) + am_b (ew v k) := by
  rcases h with e | e
  · rw [am_bf (fun z => by unfold ew at z; omega)]
    omega
  · rw [am_bt (Or.inr (by omega))]
    exact e
theorem chg_ok {v row x y : Int → Int} {w f o d : Int} (ho : okP v) (hN : okN v) (h0 : v 0 = v (84 + v 1) + 1) (hw : 0 ≤ w ∧ w < v 0) (hf : wfV v w f o) (hd : 1 ≤ d ∧ v 1 - o + d ≤ 40) (hx : ∀ k, 0 ≤ k → k < 40 → 0 ≤ x k ∧ x k ≤ 12) (hy : ∀ i, 0 ≤ i → i < 480 → 0 ≤ y i ∧ y i ≤ 25) (c : chg v row x y w f o d) : okP row ∧ okN row ∧ row 0 = row (84 + row 1) + 1 ∧ (∀ k, 0 ≤ k → k < f → (ew row k ↔ ew v k)) ∧ (∀ k, 0 ≤ k → k < d → (ew row (f + k) ↔ k = d - 1)) ∧ (∀ k, f + o ≤ k → k < v 1 → (ew row (k + (d - o)) ↔ ew v k)) ∧ ew v (f + o - 1) ∧ (∀ k, f ≤ k → k < f + o - 1 → ¬ ew v k) ∧ (1 ≤ f → ew v (f - 1)) := by
  obtain ⟨c0, c1, c2, c3, c4, c5, c6, c7⟩ := c
  obtain ⟨⟨f1, f2, f3⟩, f4, f5, f6⟩ := hf
  have o1 := ho.1
  have w23 : w ≤ 23 := by
    have q := ho.2.1 (v 1 - 1) (by omega) (by omega)
    have e : 85 + (v 1 - 1) = 84 + v 1 := by omega
    rw [e] at q
    omega
  have st : ∀ k, 0 ≤ k → k < v 1 - 1 → v (86 + k) = v (85 + k) ∨ v (86 + k) = v (85 + k) + 1 := fun k a b => by
    have := okN_ss hN a b
    omega
  -- words of the new row
  have r1 : ∀ k, 0 ≤ k → k < f → row (85 + k) = v (85 + k) := fun k a b => (c3 k a b).1
  have r2 : ∀ k, f ≤ k → k < f + d → row (85 + k) = w := fun k a b => by
    have q := (c4 (k - f) (by omega) (by omega)).1
    have e : 85 + f + (k - f) = 85 + k := by omega
    rw [e] at q
    exact q
  have r3 : ∀ k, f + d ≤ k → k < v 1 + (d - o) → row (85 + k) = v (85 + (k - (d - o))) := fun k a b => by
    have q := (c5 (k - (d - o)) (by omega) (by omega)).1
    have e : 85 + (k - (d - o)) + (d - o) = 85 + k := by omega
    rw [e] at q
    exact q
  have bef : 1 ≤ f → v (84 + f) + 1 = w := fun h => by
    have a := f4 (f - 1) (by omega) (by omega)
    have b := f5 f (by omega) (by omega)
    have s := st (f - 1) (by omega) (by omega)
    have e1 : 85 + (f - 1) = 84 + f := by omega
    have e2 : 86 + (f - 1) = 85 + f := by omega
    rw [e1] at a s
    rw [e2] at s
    omega
  have aft : f + o < v 1 → v (85 + (f + o)) = w + 1 := fun h => by
    have a := f6 (f + o) (by omega) h
    have b := f5 (f + o - 1) (by omega) (by omega)
    have s := st (f + o - 1) (by omega) (by omega)
    have e2 : 86 + (f + o - 1) = 85 + (f + o) := by omega
    rw [e2] at s
    omega
  have steps : ∀ k, 0 ≤ k → k < row 1 - 1 → row (86 + k) = row (85 + k) ∨ row (86 + k) = row (85 + k) + 1 := fun k k0 k1 => by
    have e86 : 86 + k = 85 + (k + 1) := by omega
    rw [e86]
    by_cases a1 : k + 1 < f
    · rw [r1 k k0 (by omega), r1 (k + 1) (by omega) a1, ← e86]
      exact st k k0 (by omega)
    · by_cases a2 : k + 1 = f
      · have b := bef (by omega)
        have e : 84 + f = 85 + k := by omega
        rw [e] at b
        rw [r1 k k0 (by omega), r2 (k + 1) (by omega) (by omega)]
        omega
      · by_cases a3 : k + 1 < f + d
        · rw [r2 k (by omega) (by omega), r2 (k + 1) (by omega) a3]
          exact Or.inl rfl
        · by_cases a4 : k + 1 = f + d
          · have b := aft (by omega)
            have e : k + 1 - (d - o) = f + o := by omega
            rw [r2 k (by omega) (by omega), r3 (k + 1) (by omega) (by omega), e, b]
            exact Or.inr rfl
          · have e : 85 + (k + 1 - (d - o)) = 86 + (k - (d - o)) := by omega
            rw [r3 k (by omega) (by omega), r3 (k + 1) (by omega) (by omega), e]
            exact st (k - (d - o)) (by omega) (by omega)
  refine ⟨⟨by omega, fun k k0 k1 => ?_, fun k i k0 k1 i0 i1 => ?_⟩, ⟨?_, fun k k0 k1 => ew_st (steps k k0 k1) k1⟩, ?_, fun k k0 k1 => ?_, fun k k0 k1 => ?_, fun k k0 k1 => ?_, ?_, fun k k0 k1 z => ?_, fun h => ?_⟩
  · by_cases a1 : k < f
    · rw [(c3 k k0 a1).1, (c3 k k0 a1).2.1]
      exact ho.2.1 k k0 k1
    · by_cases a2 : k < f + d
      · have q := (c4 (k - f) (by omega) (by omega)).2.1
        have e : 125 + f + (k - f) = 125 + k := by omega
        rw [e] at q
        rw [r2 k (by omega) a2, q]
        exact ⟨hx (k - f) (by omega) (by omega), by omega⟩
      · by_cases a3 : k < v 1 + (d - o)
        · have q := (c5 (k - (d - o)) (by omega) (by omega)).2.1
          have e : 125 + (k - (d - o)) + (d - o) = 125 + k := by omega
          rw [e] at q
          rw [r3 k (by omega) a3, q]
          exact ho.2.1 (k - (d - o)) (by omega) (by omega)
        · rw [(c6 k (by omega) k1).1, (c6 k (by omega) k1).2.1]
          exact ho.2.1 k k0 k1
  · by_cases a1 : k < f
    · rw [(c3 k k0 a1).2.2 i i0 i1]
      exact ho.2.2 k i k0 k1 i0 i1
    · by_cases a2 : k < f + d
      · have q := (c4 (k - f) (by omega) (by omega)).2.2 i i0 i1
        have e : 165 + 12 * (f + (k - f)) + i = 165 + 12 * k + i := by omega
        rw [e] at q
        rw [q]
        exact hy _ (by omega) (by omega)
      · by_cases a3 : k < v 1 + (d - o)
        · have q := (c5 (k - (d - o)) (by omega) (by omega)).2.2 i i0 i1
          have e : 165 + 12 * (k - (d - o) + (d - o)) + i = 165 + 12 * k + i := by omega
          rw [e] at q
          rw [q]
          exact ho.2.2 (k - (d - o)) i (by omega) (by omega) i0 i1
        · rw [(c6 k (by omega) k1).2.2 i i0 i1]
          exact ho.2.2 k i k0 k1 i0 i1
  · by_cases a1 : 0 < f
    · have q := r1 0 (by omega) a1
      have e : (85 : Int) + 0 = 85 := by omega
      rw [e] at q
      rw [q]
      exact hN.1
    · have q := r2 0 (by omega) (by omega)
      have b := f5 0 (by omega) (by omega)
      have e : (85 : Int) + 0 = 85 := by omega
      rw [e] at q b
      have := hN.1
      omega
  · rw [c2, c0, h0]
    by_cases a : f + o = v 1
    · have q := r2 (v 1 + (d - o) - 1) (by omega) (by omega)
      have b := f5 (v 1 - 1) (by omega) (by omega)
      have e1 : 85 + (v 1 + (d - o) - 1) = 84 + (v 1 + (d - o)) := by omega
      have e2 : 85 + (v 1 - 1) = 84 + v 1 := by omega
      rw [e1] at q
      rw [e2] at b
      rw [q, b]
    · have q := r3 (v 1 + (d - o) - 1) (by omega) (by omega)
      have e1 : 85 + (v 1 + (d - o) - 1) = 84 + (v 1 + (d - o)) := by omega
      have e2 : 85 + (v 1 + (d - o) - 1 - (d - o)) = 84 + v 1 := by omega
      rw [e1, e2] at q
      rw [q]
  · unfold ew
    rw [c2, r1 k k0 k1]
    by_cases a : k + 1 < f
    · have q := r1 (k + 1) (by omega) a
      have e : 85 + (k + 1) = 86 + k := by omega
      rw [e] at q
      rw [q]
      omega
    · have q := r2 (k + 1) (by omega) (by omega)
      have b := bef (by omega)
      have e : 85 + (k + 1) = 86 + k := by omega
      have e2 : 84 + f = 85 + k := by omega
      have b2 := f5 f (by omega) (by omega)
      have e3 : 85 + f = 86 + k := by omega
      rw [e] at q
      rw [e2] at b
      rw [e3] at b2
      rw [q, b2]
      omega
  · unfold ew
    rw [c2, r2 (f + k) (by omega) (by omega)]
    have e : 86 + (f + k) = 85 + (f + k + 1) := by omega
    rw [e]
    by_cases a : k + 1 < d
    · rw [r2 (f + k + 1) (by omega) (by omega)]
      omega
    · by_cases a2 : f + o < v 1
      · have e2 : f + k + 1 - (d - o) = f + o := by omega
        rw [r3 (f + k + 1) (by omega) (by omega), e2, aft a2]
        omega
      · omega
  · unfold ew
    rw [c2, r3 (k + (d - o)) (by omega) (by omega)]
    have e0 : k + (d - o) - (d - o) = k := by omega
    rw [e0]
    by_cases a : k + 1 < v 1
    · have q := r3 (k + (d - o) + 1) (by omega) (by omega)
      have e : 85 + (k + (d - o) + 1) = 86 + (k + (d - o)) := by omega
      have e2 : 85 + (k + (d - o) + 1 - (d - o)) = 86 + k := by omega
      rw [e, e2] at q
      rw [q]
      omega
    · omega
  · by_cases a : f + o = v 1
    · exact Or.inl (by omega)
    · refine Or.inr ?_
      have b := f5 (f + o - 1) (by omega) (by omega)
      have g := f6 (f + o) (by omega) (by omega)
      have e : 86 + (f + o - 1) = 85 + (f + o) := by omega
      rw [e]
      omega
  · have b := f5 k (by omega) (by omega)
    have g := f5 (k + 1) (by omega) (by omega)
    have e : 85 + (k + 1) = 86 + k := by omega
    rw [e] at g
    unfold ew at z
    omega
  · refine Or.inr ?_
    have b := bef h
    have g := f5 f (by omega) (by omega)
    have e1 : 85 + (f - 1) = 84 + f := by omega
    have e2 : 86 + (f - 1) = 85 + f := by omega
    rw [e1, e2]
    omega
/-- the first line that holds piece f or what is behind it -/
def lnF (v : Int → Int) (f : Int) : Nat → Int → Int
  | 0, l => l
  | m + 1, l => if v (5 + l) < f then lnF v f m (l + 1) else l
theorem lnF_v {v : Int → Int} {f n : Int} : ∀ (m : Nat) (l : Int), 0 ≤ l → l + m = n → (∃ k, l ≤ k ∧ k < n ∧ f ≤ v (5 + k)) → (∀ k, 0 ≤ k → k < l → v (5 + k) < f) → (0 ≤ lnF v f m l ∧ lnF v f m l < n) ∧ f ≤ v (5 + lnF v f m l) ∧ ∀ k, 0 ≤ k → k < lnF v f m l → v (5 + k) < f
  | 0, l, h0, h1, ⟨k, k1, k2, _⟩, _ => absurd k2 (by omega)
  | m + 1, l, h0, h1, ⟨k, k1, k2, k3⟩, h => by
    have e : lnF v f (m + 1) l = if v (5 + l) < f then lnF v f m (l + 1) else l := rfl
    rw [e]
    by_cases c : v (5 + l) < f
    · rw [if_pos c]
      refine lnF_v m (l + 1) (by omega) (by omega) ⟨k, ?_, k2, k3⟩ (fun j a b => ?_)
      · by_cases ek : k = l
        · rw [ek] at k3
          omega
        · omega
      · by_cases ej : j = l
        · rw [ej]
          exact c
        · exact h j a (by omega)
    · rw [if_neg c]
      exact ⟨⟨h0, by omega⟩, by omega, h⟩
/-- the row with its lines from l0 on set anew -/
def coE (row : Int → Int) (T : Int → Int × Int × Int) (a l0 : Int) : Int → Int := fun j => if 5 + l0 ≤ j ∧ j < 5 + l0 + (T a).2.1 then nx T ((j - 5 - l0).toNat + 1) a - 1 else if 45 + l0 ≤ j ∧ j < 45 + l0 + (T a).2.1 then 0 else if j = 4 then l0 + (T a).2.1 else row j
/-- how many lines at the end say the same -/
def smN (v w : Int → Int) (n m l0 : Int) : Nat → Int → Int
  | 0, s => s
  | k + 1, s => if (s < n - l0 ∧ s < m - l0) ∧ lnS v (n - 1 - s) = lnS w (m - 1 - s) then smN v w n m l0 k (s + 1) else s
/-- the slugs of the old lines: j of them -/
def pkS (S2 : am_G) (v : Int → Int) (p l0 n m s : Int) : Nat → am_G
  | 0 => S2
  | j + 1 => if v (45 + (l0 + (j : Int))) = 0 then pkS S2 v p l0 n m s j else if n - s ≤ l0 + (j : Int) then u3 (u3 (u3 (pkS S2 v p l0 n m s j) 4 (v (45 + (l0 + (j : Int))) - 1) 5 (l0 + (j : Int) - n + m)) 4 (v (45 + (l0 + (j : Int))) - 1) 6 p) 3 p (45 + (l0 + (j : Int) - n + m)) (v (45 + (l0 + (j : Int)))) else u3 (u3 (u3 (pkS S2 v p l0 n m s j) 4 (v (45 + (l0 + (j : Int))) - 1) 4 2) 4 (v (45 + (l0 + (j : Int))) - 1) 5 (-1)) 4 (v (45 + (l0 + (j : Int))) - 1) 6 (-1)
