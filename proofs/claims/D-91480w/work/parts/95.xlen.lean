set_option maxRecDepth 100000
/-! how long a line is -/
theorem sg_ge {f : Int → Int} : ∀ (n : Nat) (i : Int), (∀ j, i ≤ j → j < i + n → 1 ≤ f j) → (n : Int) ≤ sg f i n
  | 0, _, _ => Int.le_refl _
  | n + 1, i, h => by
    show ((n + 1 : Nat) : Int) ≤ f i + sg f (i + 1) n
    have h1 := h i (by omega) (by omega)
    have h2 := sg_ge (f := f) n (i + 1) (fun j a b => h j (by omega) (by omega))
    omega
theorem okN_m {v : Int → Int} (hn : okN v) {a : Int} (ha : 0 ≤ a) : ∀ n : Nat, a + n < v 1 → 0 ≤ v (85 + (a + n)) - v (85 + a) ∧ v (85 + (a + n)) - v (85 + a) ≤ n
  | 0, _ => by
    have e : a + ((0 : Nat) : Int) = a := by omega
    rw [e]
    omega
  | n + 1, h => by
    have ih := okN_m hn ha n (by omega)
    have s := hn.2 (a + n) (by omega) (by omega)
    have e : v (85 + (a + ((n + 1 : Nat) : Int))) = v (86 + (a + (n : Int))) := congrArg v (by omega)
    rw [e]
    have b : 0 ≤ am_b (ew v (a + n)) ∧ am_b (ew v (a + n)) ≤ 1 := by
      unfold am_b
      split <;> omega
    omega
theorem sep_len {v : Int → Int} (hn : okN v) {a k : Int} (ha : 0 ≤ a) (hk : a < k) (hz : k < v 1) : ((sep v a k).length : Int) = v (85 + k) - v (84 + k) := by
  have s := hn.2 (k - 1) (by omega) (by omega)
  have e1 : v (85 + k) = v (86 + (k - 1)) := congrArg v (by omega)
  have e2 : v (84 + k) = v (85 + (k - 1)) := congrArg v (by omega)
  have b : am_b (ew v (k - 1)) = 0 ∨ am_b (ew v (k - 1)) = 1 := by
    unfold am_b
    split <;> omega
  unfold sep
  by_cases c : v (85 + k) ≠ v (84 + k)
  · rw [if_pos ⟨hk, c⟩]
    show (1 : Int) = _
    omega
  · rw [if_neg (fun z => c z.2)]
    show (0 : Int) = _
    omega
theorem sayN_len {v : Int → Int} (ho : okP v) (hn : okN v) {a : Int} (ha : 0 ≤ a) : ∀ n : Nat, a + n < v 1 → ((sayN v a (n + 1)).length : Int) = sg (fun k => v (125 + k)) a (n + 1) + (v (85 + (a + n)) - v (85 + a))
  | 0, h => by
    have h1 := ho.1
    have e : a + ((0 : Nat) : Int) = a := by omega
    have b := (ho.2.1 a ha (by omega)).1
    show (((sayN v a 0 ++ sep v a (a + ((0 : Nat) : Int)) ++ pcp v (a + ((0 : Nat) : Int)) (v (125 + (a + ((0 : Nat) : Int)))).toNat).length : Nat) : Int) = v (125 + a) + 0 + (v (85 + (a + ((0 : Nat) : Int))) - v (85 + a))
    rw [e]
    have es : sep v a a = [] := if_neg (fun z => absurd z.1 (by omega))
    rw [es]
    simp only [List.length_append, pcp_len]
    show (((([] : List Int).length + ([] : List Int).length + (v (125 + a)).toNat : Nat)) : Int) = _
    simp only [List.length_nil]
    omega
  | n + 1, h => by
    have h1 := ho.1
    have ih := sayN_len ho hn ha n (by omega)
    have b := (ho.2.1 (a + ((n + 1 : Nat) : Int)) (by omega) (by omega)).1
    have sl := sep_len hn ha (k := a + ((n + 1 : Nat) : Int)) (by omega) h
    have e : 84 + (a + ((n + 1 : Nat) : Int)) = 85 + (a + (n : Int)) := by omega
    rw [e] at sl
    rw [sg_last]
    show (((sayN v a (n + 1) ++ sep v a (a + ((n + 1 : Nat) : Int)) ++ pcp v (a + ((n + 1 : Nat) : Int)) (v (125 + (a + ((n + 1 : Nat) : Int)))).toNat).length : Nat) : Int) = sg (fun k => v (125 + k)) a (n + 1) + v (125 + (a + ((n + 1 : Nat) : Int))) + (v (85 + (a + ((n + 1 : Nat) : Int))) - v (85 + a))
    simp only [List.length_append, pcp_len]
    omega
theorem say_len {v : Int → Int} (ho : okP v) (hn : okN v) {a z : Int} (ha : 0 ≤ a) (haz : a ≤ z) (hz : z < v 1) : ((say v a z).length : Int) = sg (fun k => v (125 + k)) a (z + 1 - a).toNat + (v (85 + z) - v (85 + a)) + (if ew v z then 0 else 1) := by
  have l := sayN_len ho hn ha (z - a).toNat (by omega)
  have e1 : (z - a).toNat + 1 = (z + 1 - a).toNat := by omega
  have e2 : a + (((z - a).toNat : Nat) : Int) = z := by omega
  rw [e1, e2] at l
  unfold say
  rw [List.length_append]
  by_cases c : ew v z
  · rw [if_pos c, if_pos c]
    show (((sayN v a (z + 1 - a).toNat).length + 0 : Nat) : Int) = _
    omega
  · rw [if_neg c, if_neg c]
    show (((sayN v a (z + 1 - a).toNat).length + 1 : Nat) : Int) = _
    omega
/-- a line is at most 13 for each piece and one long -/
theorem say_13 {v : Int → Int} (ho : okP v) (hn : okN v) {a z : Int} (ha : 0 ≤ a) (haz : a ≤ z) (hz : z < v 1) : ((say v a z).length : Int) ≤ 13 * (z + 1 - a) + 1 := by
  have h1 := ho.1
  rw [say_len ho hn ha haz hz]
  have b := sg_bd (c := 12) (f := fun k => v (125 + k)) (z + 1 - a).toNat a (fun j j1 j2 => (ho.2.1 j (by omega) (by omega)).1)
  have m := okN_m hn ha (z - a).toNat (by omega)
  have e2 : a + (((z - a).toNat : Nat) : Int) = z := by omega
  rw [e2] at m
  split <;> omega
/-- a line that stands is no longer than the measure -/
theorem say_me {v w : Int → Int} (ho : okP v) (hw : okW w) (hn : okN v) {me le mo a z : Int} (hle : 1 ≤ le) (ha : 0 ≤ a) (haz : a ≤ z) (hz : z < v 1) (st : stn v w me le mo a z) : ((say v a z).length : Int) ≤ me := by
  have h1 := ho.1
  have m := okN_m hn ha (z - a).toNat (by omega)
  have e2 : a + (((z - a).toNat : Nat) : Int) = z := by omega
  rw [e2] at m
  have mm : sg (fun k => v (125 + k)) a (z + 1 - a).toNat ≤ sg (pwd v w) a (z + 1 - a).toNat := sg_mono _ _ (fun j j1 j2 => by
    show v (125 + j) ≤ sg (fun i => w (v (165 + 12 * j + i))) 0 (v (125 + j)).toNat
    have b := (ho.2.1 j (by omega) (by omega)).1
    have g := sg_ge (f := fun i => w (v (165 + 12 * j + i))) (v (125 + j)).toNat 0 (fun i i1 i2 => by
      have q := ho.2.2 j i (by omega) (by omega) i1 (by omega)
      exact (hw _ q.1 (by omega)).1)
    omega)
  have g := Int.mul_le_mul_of_nonneg_right hle m.1
  have s := st.1
  unfold tgt wd at s
  rw [say_len ho hn ha haz hz]
  have w26 := hw 26 (by omega) (by omega)
  by_cases c : ew v z
  · rw [if_pos c] at s ⊢
    omega
  · rw [if_neg c] at s ⊢
    omega
/-- the lines of the best way -/
theorem nx_ln {v w : Int → Int} (ho : okP v) (hw : okW w) (hn : okN v) {me le mo co : Int} (hm : 0 ≤ me ∧ me ≤ 400) (hl : 0 ≤ le ∧ le ≤ 40) (hle : 1 ≤ le) (hc : 0 ≤ co ∧ co ≤ 999) (h3 : (tb v w me le mo co (v 1) (v 1).toNat 0).1 ≠ -1) : (1 ≤ (tb v w me le mo co (v 1) (v 1).toNat 0).2.1 ∧ (tb v w me le mo co (v 1) (v 1).toNat 0).2.1 ≤ v 1) ∧ (∀ l, 0 ≤ l → l < (tb v w me le mo co (v 1) (v 1).toNat 0).2.1 → (0 ≤ nx (tb v w me le mo co (v 1) (v 1).toNat) l.toNat 0 ∧ nx (tb v w me le mo co (v 1) (v 1).toNat) l.toNat 0 < nx (tb v w me le mo co (v 1) (v 1).toNat) (l.toNat + 1) 0 ∧ nx (tb v w me le mo co (v 1) (v 1).toNat) (l.toNat + 1) 0 ≤ v 1) ∧ ((say v (nx (tb v w me le mo co (v 1) (v 1).toNat) l.toNat 0) (nx (tb v w me le mo co (v 1) (v 1).toNat) (l.toNat + 1) 0 - 1)).length : Int) ≤ 400) ∧ nx (tb v w me le mo co (v 1) (v 1).toNat) (tb v w me le mo co (v 1) (v 1).toNat 0).2.1.toNat 0 = v 1 := by
  have h1 := ho.1
  have bT := tb_bd ho hw (mo := mo) hm hl hc (n := v 1) (by omega) (v 1).toNat (by omega)
  have b0 := bT 0 (by omega) (by omega)
  have nk := nx_ok ho hw hm hl hc (mo := mo) (n := v 1) (by omega) (a := 0) (by omega) (by omega) h3
  have st := fun i => tb_step ho hw hm hl hc (mo := mo) (n := v 1) (by omega) (i := i)
  generalize tb v w me le mo co (v 1) (v 1).toNat = T at h3 bT b0 nk st ⊢
  have b1 : 1 ≤ (T 0).2.1 ∧ (T 0).2.1 ≤ v 1 := by
    rcases b0 with e | e
    · exact absurd e h3
    · have := e.2.2 (by omega)
      have := e.2.1
      omega
  refine ⟨b1, fun l l1 l2 => ?_, ?_⟩
  · have k1 := nk l.toNat (by omega)
    have k2 := k1.2.2.2 (by omega)
    obtain ⟨s1, s2, s3, s4, s5⟩ := st (nx T l.toNat 0) (by omega) k2 k1.2.1
    rw [nx_last]
    refine ⟨⟨by omega, s1, s2⟩, ?_⟩
    have := say_me ho hw hn hle (a := nx T l.toNat 0) (z := (T (nx T l.toNat 0)).2.2 - 1) (by omega) (by omega) (by omega) s5
    omega
  · have k1 := nk (T 0).2.1.toNat (by omega)
    by_cases c : nx T (T 0).2.1.toNat 0 = v 1
    · exact c
    · exfalso
      rcases bT (nx T (T 0).2.1.toNat 0) (by omega) (by omega) with e | e
      · exact k1.2.1 e
      · have := e.2.2 (by omega)
        have := k1.2.2.1
        omega
