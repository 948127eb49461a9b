set_option maxRecDepth 100000
/-! a word is corrected: the lines then -/
def coJ (row : Int → Int) (T : Int → Int × Int × Int) (a l0 j : Int) : Int → Int := fun i => if 5 + l0 ≤ i ∧ i < 5 + l0 + j then nx T ((i - 5 - l0).toNat + 1) a - 1 else if 45 + l0 ≤ i ∧ i < 45 + l0 + j then 0 else row i
theorem coJ_0 {row : Int → Int} {T : Int → Int × Int × Int} {a l0 : Int} : coJ row T a l0 0 = row := by
  funext i
  unfold coJ
  rw [if_neg (by omega), if_neg (by omega)]
theorem coJ_s {row : Int → Int} {T : Int → Int × Int × Int} {a l0 j : Int} (h0 : 0 ≤ l0 ∧ 0 ≤ j) (h : l0 + j < 40) : am_uz (am_uz (coJ row T a l0 j) (5 + (l0 + j)) (nx T (j.toNat + 1) a - 1)) (45 + (l0 + j)) 0 = coJ row T a l0 (j + 1) := by
  funext i
  unfold coJ am_uz
  by_cases h1 : i = 45 + (l0 + j)
  · rw [if_pos h1, if_neg (by omega), if_pos (by omega)]
  · rw [if_neg h1]
    by_cases h2 : i = 5 + (l0 + j)
    · rw [if_pos h2, if_pos (by omega)]
      have e : (i - 5 - l0).toNat = j.toNat := by omega
      rw [e]
    · rw [if_neg h2]
      show (if 5 + l0 ≤ i ∧ i < 5 + l0 + j then nx T ((i - 5 - l0).toNat + 1) a - 1 else if 45 + l0 ≤ i ∧ i < 45 + l0 + j then 0 else row i) = _
      by_cases ga : 5 + l0 ≤ i ∧ i < 5 + l0 + j
      · rw [if_pos ga, if_pos (by omega)]
      · rw [if_neg ga]
        by_cases gb : 45 + l0 ≤ i ∧ i < 45 + l0 + j
        · rw [if_pos gb, if_neg (by omega), if_pos (by omega)]
        · rw [if_neg gb, if_neg (by omega), if_neg (by omega)]
theorem coJ_e {row : Int → Int} {T : Int → Int × Int × Int} {a l0 : Int} (h0 : 0 ≤ l0) : am_uz (coJ row T a l0 ((T a).2.1)) 4 (l0 + ((T a).2.1)) = (coE row T a l0) := by
  funext i
  unfold coJ coE am_uz
  by_cases h1 : i = 4
  · rw [if_pos h1, if_neg (by omega), if_neg (by omega), if_pos h1]
  · rw [if_neg h1, if_neg h1]
theorem coE_5 {row : Int → Int} {T : Int → Int × Int × Int} {a l0 l : Int} (h : l0 ≤ l ∧ l < l0 + ((T a).2.1)) : (coE row T a l0) (5 + l) = nx T ((l - l0).toNat + 1) a - 1 := by
  unfold coE
  rw [if_pos (by omega)]
  have e : (5 + l - 5 - l0).toNat = (l - l0).toNat := by omega
  rw [e]
theorem coE_45 {row : Int → Int} {T : Int → Int × Int × Int} {a l0 l : Int} (h40 : l0 + ((T a).2.1) ≤ 40) (h : l0 ≤ l ∧ l < l0 + ((T a).2.1)) (h0 : 0 ≤ l0) : (coE row T a l0) (45 + l) = 0 := by
  unfold coE
  rw [if_neg (by omega), if_pos (by omega)]
theorem coE_4 {row : Int → Int} {T : Int → Int × Int × Int} {a l0 : Int} (h0 : 0 ≤ l0) : (coE row T a l0) 4 = l0 + ((T a).2.1) := by
  unfold coE
  rw [if_neg (by omega), if_neg (by omega), if_pos rfl]
theorem coE_o {row : Int → Int} {T : Int → Int × Int × Int} {a l0 j : Int} (h5 : ¬ (5 + l0 ≤ j ∧ j < 5 + l0 + ((T a).2.1))) (h45 : ¬ (45 + l0 ≤ j ∧ j < 45 + l0 + ((T a).2.1))) (h4 : j ≠ 4) : (coE row T a l0) j = row j := by
  unfold coE
  rw [if_neg h5, if_neg h45, if_neg h4]
/-- pieces ahead of f are the same: so is what they say -/
theorem pcp_q {v v' : Int → Int} {k : Int} : ∀ n : Nat, (∀ i, 0 ≤ i → i < (n : Int) → v' (165 + 12 * k + i) = v (165 + 12 * k + i)) → pcp v' k n = pcp v k n
  | 0, _ => rfl
  | n + 1, h => by
    show pcp v' k n ++ [97 + v' (165 + 12 * k + (n : Int))] = pcp v k n ++ [97 + v (165 + 12 * k + (n : Int))]
    rw [pcp_q n (fun i a b => h i a (by omega)), h n (by omega) (by omega)]
theorem sayN_q {v v' : Int → Int} {a f : Int} (ho : okP v) (ha : 0 ≤ a) (hf : f ≤ 40) (e : ∀ k, 0 ≤ k → k < f → v' (85 + k) = v (85 + k) ∧ v' (125 + k) = v (125 + k) ∧ ∀ i, 0 ≤ i → i < 12 → v' (165 + 12 * k + i) = v (165 + 12 * k + i)) : ∀ n : Nat, a + n ≤ f → sayN v' a n = sayN v a n
  | 0, _ => rfl
  | n + 1, h => by
    have q := e (a + n) (by omega) (by omega)
    have b := (ho.2.1 (a + n) (by omega) (by omega)).1
    have s : sep v' a (a + (n : Int)) = sep v a (a + (n : Int)) := by
      unfold sep
      by_cases c : a < a + (n : Int)
      · have q2 := (e (a + n - 1) (by omega) (by omega)).1
        have e1 : 85 + (a + (n : Int) - 1) = 84 + (a + (n : Int)) := by omega
        rw [e1] at q2
        rw [q.1, q2]
      · rw [if_neg (fun z => c z.1), if_neg (fun z => c z.1)]
    show sayN v' a n ++ sep v' a (a + (n : Int)) ++ pcp v' (a + (n : Int)) (v' (125 + (a + (n : Int)))).toNat = sayN v a n ++ sep v a (a + (n : Int)) ++ pcp v (a + (n : Int)) (v (125 + (a + (n : Int)))).toNat
    rw [sayN_q ho ha hf e n (by omega), s, q.2.1, pcp_q _ (fun i a b => q.2.2 i a (by omega))]
theorem say_q {v v' : Int → Int} {a z f : Int} (ho : okP v) (ha : 0 ≤ a) (haz : a ≤ z + 1) (hz : z < f) (hf : f ≤ 40) (e : ∀ k, 0 ≤ k → k < f → v' (85 + k) = v (85 + k) ∧ v' (125 + k) = v (125 + k) ∧ ∀ i, 0 ≤ i → i < 12 → v' (165 + 12 * k + i) = v (165 + 12 * k + i)) (hw : ew v' z ↔ ew v z) : say v' a z = say v a z := by
  unfold say
  rw [sayN_q ho ha hf e _ (by omega)]
  by_cases c : ew v z
  · rw [if_pos c, if_pos (hw.mpr c)]
  · rw [if_neg c, if_neg (fun q => c (hw.mp q))]
theorem bg_ge {S : am_G} {p : Int} (oL : okL S p) : ∀ l : Nat, (l : Int) < S 3 p 4 → (l : Int) ≤ bg (S 3 p) l
  | 0, _ => by
    show (0 : Int) ≤ bg (S 3 p) 0
    unfold bg
    rw [if_pos rfl]
    omega
  | l + 1, h => by
    have i := bg_ge oL l (by omega)
    have q := (oL.2.2 l (by omega) (by omega)).1
    unfold bg
    rw [if_neg (by omega)]
    have e : 4 + ((l + 1 : Nat) : Int) = 5 + (l : Int) := by omega
    rw [e]
    unfold bg at i q
    omega
/-- the lines of the new row -/
def lnOK (u : Int → Int) : Prop := (1 ≤ u 4 ∧ u 4 ≤ u 1) ∧ u (4 + u 4) = u 1 - 1 ∧ ∀ l, 0 ≤ l → l < u 4 → (0 ≤ bg u l ∧ bg u l ≤ u (5 + l) ∧ u (5 + l) < u 1) ∧ ((lnS u l).length : Int) ≤ 420
theorem coE_ok {S : am_G} {p f l0 : Int} {row wi : Int → Int} {me le mo co : Int} (ho : okP (S 3 p)) (oL : okL S p) (hr : okP row) (hrN : okN row) (hwi : okW wi) (hm : 0 ≤ me ∧ me ≤ 400) (hl : 0 ≤ le ∧ le ≤ 40) (hle : 1 ≤ le) (hc : 0 ≤ co ∧ co ≤ 999) (hf : 0 ≤ f ∧ f < row 1) (hl0 : 0 ≤ l0 ∧ l0 < S 3 p 4) (hlf : ∀ k, 0 ≤ k → k < l0 → S 3 p (5 + k) < f) (e85 : ∀ j, 2 ≤ j → j < 85 → row j = S 3 p j) (eP : ∀ k, 0 ≤ k → k < f → row (85 + k) = S 3 p (85 + k) ∧ row (125 + k) = S 3 p (125 + k) ∧ ∀ i, 0 ≤ i → i < 12 → row (165 + 12 * k + i) = S 3 p (165 + 12 * k + i)) (eW : ∀ k, 0 ≤ k → k < f → (ew row k ↔ ew (S 3 p) k)) {a : Int} (ea : a = bg (S 3 p) l0) (h3 : ((tb row wi me le mo co (row 1) (row 1).toNat) a).1 ≠ -1) : (0 ≤ a ∧ a < row 1) ∧ (1 ≤ ((tb row wi me le mo co (row 1) (row 1).toNat) a).2.1 ∧ l0 + ((tb row wi me le mo co (row 1) (row 1).toNat) a).2.1 ≤ row 1) ∧ okP (coE row (tb row wi me le mo co (row 1) (row 1).toNat) a l0) ∧ okN (coE row (tb row wi me le mo co (row 1) (row 1).toNat) a l0) ∧ lnOK (coE row (tb row wi me le mo co (row 1) (row 1).toNat) a l0) ∧ (∀ l, 0 ≤ l → l < l0 → lnS (coE row (tb row wi me le mo co (row 1) (row 1).toNat) a l0) l = lnS (S 3 p) l) ∧ ∀ l, 0 ≤ l → l < ((tb row wi me le mo co (row 1) (row 1).toNat) a).2.1 → (a ≤ nx (tb row wi me le mo co (row 1) (row 1).toNat) l.toNat a ∧ nx (tb row wi me le mo co (row 1) (row 1).toNat) l.toNat a < nx (tb row wi me le mo co (row 1) (row 1).toNat) (l.toNat + 1) a ∧ nx (tb row wi me le mo co (row 1) (row 1).toNat) (l.toNat + 1) a ≤ row 1) := by
  have r1 := hr.1
  have gl := bg_ge oL l0.toNat (by omega)
  have el0 : ((l0.toNat : Nat) : Int) = l0 := by omega
  rw [el0, ← ea] at gl
  have a1 : a ≤ f := by
    rw [ea]
    unfold bg
    by_cases c : l0 = 0
    · rw [if_pos c]
      omega
    · rw [if_neg c]
      have q := hlf (l0 - 1) (by omega) (by omega)
      have e : 5 + (l0 - 1) = 4 + l0 := by omega
      rw [e] at q
      omega
  have N := nx_lnA hr hwi hrN hm hl hle hc (mo := mo) (a := a) (by omega) (by omega) h3
  generalize (tb row wi me le mo co (row 1) (row 1).toNat) = T at *
  obtain ⟨n1, n2, n3⟩ := N
  have c85 : ∀ j, 85 ≤ j → coE row T a l0 j = row j := fun j hj => coE_o (by omega) (by omega) (by omega)
  have c1 : coE row T a l0 1 = row 1 := coE_o (by omega) (by omega) (by omega)
  have c4 : coE row T a l0 4 = l0 + (T a).2.1 := coE_4 hl0.1
  have c5 : ∀ l, 0 ≤ l → l < l0 → coE row T a l0 (5 + l) = S 3 p (5 + l) := fun l u w => by
    rw [coE_o (by omega) (by omega) (by omega)]
    exact e85 _ (by omega) (by omega)
  have b1 : ∀ l, 0 ≤ l → l ≤ l0 → bg (coE row T a l0) l = bg (S 3 p) l := fun l u w => by
    unfold bg
    by_cases c : l = 0
    · rw [if_pos c, if_pos c]
    · rw [if_neg c, if_neg c]
      have q := c5 (l - 1) (by omega) (by omega)
      have e : 5 + (l - 1) = 4 + l := by omega
      rw [e] at q
      rw [q]
  have b2 : ∀ l, l0 ≤ l → l < l0 + (T a).2.1 → bg (coE row T a l0) l = nx T (l - l0).toNat a := fun l u w => by
    by_cases c : l = l0
    · have e : (l - l0).toNat = 0 := by omega
      rw [e, c, b1 l0 (by omega) (by omega), ← ea]
      rfl
    · unfold bg
      rw [if_neg (by omega)]
      have q := coE_5 (row := row) (T := T) (a := a) (l0 := l0) (l := l - 1) (by omega)
      have e : 5 + (l - 1) = 4 + l := by omega
      have e2 : (l - 1 - l0).toNat + 1 = (l - l0).toNat := by omega
      rw [e, e2] at q
      rw [q]
      omega
  have lS : ∀ l, 0 ≤ l → l < l0 → lnS (coE row T a l0) l = lnS (S 3 p) l := fun l u w => by
    have q := (oL.2.2 l u (by omega)).1
    have fl := hlf l u w
    unfold lnS
    rw [b1 l u (by omega), c5 l u w]
    have s1 := say_c c85 c1 (a := bg (S 3 p) l) (z := S 3 p (5 + l)) (by omega) (by omega)
    have s2 := say_q (v := S 3 p) (v' := row) (a := bg (S 3 p) l) (z := S 3 p (5 + l)) (f := f) ho (by omega) (by omega) fl (by omega) eP (eW _ (by omega) fl)
    rw [s1, s2]
  refine ⟨by omega, by omega, okP_c c85 c1 hr, okN_c c85 c1 hrN, ⟨by rw [c4, c1]; omega, ?_, fun l u w => ?_⟩, lS, fun l u w => (n2 l u w).1⟩
  · rw [c4, c1]
    have q := coE_5 (row := row) (T := T) (a := a) (l0 := l0) (l := l0 + (T a).2.1 - 1) (by omega)
    have e : 5 + (l0 + (T a).2.1 - 1) = 4 + (l0 + (T a).2.1) := by omega
    have e2 : (l0 + (T a).2.1 - 1 - l0).toNat + 1 = ((T a).2.1).toNat := by omega
    rw [e, e2, n3] at q
    exact q
  · rw [c4] at w
    by_cases c : l < l0
    · have q := oL.2.2 l u (by omega)
      have fl := hlf l u c
      rw [b1 l u (by omega), c5 l u c, c1, lS l u c]
      exact ⟨by omega, q.2.1⟩
    · have q := n2 (l - l0) (by omega) (by omega)
      have c5' := coE_5 (row := row) (T := T) (a := a) (l0 := l0) (l := l) (by omega)
      unfold lnS
      rw [b2 l (by omega) w, c5', c1, say_c c85 c1 (by omega) (by omega)]
      omega
