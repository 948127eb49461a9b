set_option maxRecDepth 100000
/-- down to the end of a loop -/
theorem lp_d {L : Int → Prop} {lo hi : Int} (st : ∀ k, lo < k → k ≤ hi → L (k + (-1)) → L k) (h : L lo) : ∀ k, lo ≤ k → k ≤ hi → L k := by
  have key : ∀ (n : Nat) (k : Int), k ≤ hi → lo + n = k → L k := by
    intro n
    induction n with
    | zero =>
      intro k h1 h2
      have e : k = lo := by omega
      rw [e]
      exact h
    | succ n ih => exact fun k h1 h2 => st k (by omega) h1 (ih (k + (-1)) (by omega) (by omega))
  exact fun k h1 h2 => key (k - lo).toNat k h2 (by omega)
/-- the best line from i on, of those that end ahead of n - t and later -/
def stp (v w : Int → Int) (me le mo co : Int) (B L : Int → Int) (n i : Int) : Nat → Int × Int × Int
  | 0 => (-1, 0, 0)
  | t + 1 => if B (n - t) = -1 ∨ ¬ stn v w me le mo i (n - t - 1) then stp v w me le mo co B L n i t else
    if (stp v w me le mo co B L n i t).1 ≠ -1 ∧ ((stp v w me le mo co B L n i t).1 < B (n - t) + bdn v w me le co i (n - t - 1) ∨ B (n - t) + bdn v w me le co i (n - t - 1) = (stp v w me le mo co B L n i t).1 ∧ (stp v w me le mo co B L n i t).2.1 ≤ L (n - t) + 1) then stp v w me le mo co B L n i t else
    (B (n - t) + bdn v w me le co i (n - t - 1), L (n - t) + 1, n - t)
/-- the best lines: of the last r pieces badness (-1: none), how many lines, where the next one begins -/
def tb (v w : Int → Int) (me le mo co n : Int) : Nat → Int → Int × Int × Int
  | 0 => fun _ => (0, 0, 0)
  | r + 1 => am_uz (tb v w me le mo co n r) (n - (r + 1)) (stp v w me le mo co (fun j => (tb v w me le mo co n r j).1) (fun j => (tb v w me le mo co n r j).2.1) n (n - (r + 1)) (r + 1))
theorem bdn_bd {v w : Int → Int} (ho : okP v) (hw : okW w) {me le mo co a z : Int} (hm : 0 ≤ me ∧ me ≤ 400) (hl : 0 ≤ le ∧ le ≤ 40) (hc : 0 ≤ co ∧ co ≤ 999) (ha : 0 ≤ a) (haz : a ≤ z) (hz : z < 40) (hs : stn v w me le mo a z) : 0 ≤ bdn v w me le co a z ∧ bdn v w me le co a z ≤ 2000000 := by
  have e1 := tgt_bd ho hw hl ha haz hz
  have e2 := mul_in (x := me - tgt v w le a z) (y := me - tgt v w le a z) (c := 1400) (e := 1400) ⟨by have := hs.1; omega, by omega⟩ ⟨by have := hs.1; omega, by omega⟩
  have e3 := Int.mul_nonneg (a := me - tgt v w le a z) (b := me - tgt v w le a z) (by have := hs.1; omega) (by have := hs.1; omega)
  unfold bdn
  by_cases c : z = v 1 - 1
  · rw [if_pos c]
    omega
  · rw [if_neg c]
    by_cases c2 : ew v z
    · rw [if_pos c2]
      omega
    · rw [if_neg c2]
      omega
/-- a row of the table is in its ranges -/
def okT (n j : Int) (q : Int × Int × Int) : Prop := q.1 = -1 ∨ ((0 ≤ q.1 ∧ q.1 ≤ 2000000 * (n - j)) ∧ (0 ≤ q.2.1 ∧ q.2.1 ≤ n - j) ∧ (j < n → (1 ≤ q.2.1 ∧ j < q.2.2 ∧ q.2.2 ≤ n)))
theorem stp_bd {v w : Int → Int} (ho : okP v) (hw : okW w) {me le mo co : Int} (hm : 0 ≤ me ∧ me ≤ 400) (hl : 0 ≤ le ∧ le ≤ 40) (hc : 0 ≤ co ∧ co ≤ 999) {T : Int → Int × Int × Int} {n i : Int} (hi : 0 ≤ i) (hn : n ≤ 40) (hT : ∀ j, i < j → j ≤ n → okT n j (T j)) : ∀ t : Nat, i + t ≤ n → okT n i (stp v w me le mo co (fun j => (T j).1) (fun j => (T j).2.1) n i t)
  | 0, _ => Or.inl rfl
  | t + 1, ht => by
    have ih := stp_bd ho hw hm hl hc (mo := mo) hi hn hT t (by omega)
    unfold stp
    by_cases c1 : (T (n - t)).1 = -1 ∨ ¬ stn v w me le mo i (n - t - 1)
    · rw [if_pos c1]
      exact ih
    rw [if_neg c1]
    split
    · exact ih
    · have c2 : stn v w me le mo i (n - t - 1) := by
        by_cases q : stn v w me le mo i (n - t - 1)
        · exact q
        · exact absurd (Or.inr q) c1
      have e1 := bdn_bd ho hw hm hl hc (mo := mo) hi (by omega) (by omega) c2
      rcases hT (n - t) (by omega) (by omega) with e2 | ⟨e2, e3, e4⟩
      · exact absurd (Or.inl e2) c1
      · refine Or.inr ⟨⟨?_, ?_⟩, ⟨?_, ?_⟩, fun _ => ⟨?_, ?_, ?_⟩⟩
        · show 0 ≤ (T (n - t)).1 + bdn v w me le co i (n - t - 1)
          omega
        · show (T (n - t)).1 + bdn v w me le co i (n - t - 1) ≤ _
          omega
        · show 0 ≤ (T (n - t)).2.1 + 1
          omega
        · show (T (n - t)).2.1 + 1 ≤ _
          omega
        · show 1 ≤ (T (n - t)).2.1 + 1
          omega
        · show i < n - (t : Int)
          omega
        · show n - (t : Int) ≤ n
          omega
theorem tb_bd {v w : Int → Int} (ho : okP v) (hw : okW w) {me le mo co n : Int} (hm : 0 ≤ me ∧ me ≤ 400) (hl : 0 ≤ le ∧ le ≤ 40) (hc : 0 ≤ co ∧ co ≤ 999) (hn : n ≤ 40) : ∀ t : Nat, (t : Int) ≤ n → ∀ j, n - t ≤ j → j ≤ n → okT n j (tb v w me le mo co n t j)
  | 0, _, j, h1, h2 => by
    have e : j = n := by omega
    subst e
    refine Or.inr ⟨⟨?_, ?_⟩, ⟨?_, ?_⟩, fun q => absurd q (by omega)⟩
    · show (0 : Int) ≤ 0
      omega
    · show (0 : Int) ≤ 2000000 * (j - j)
      omega
    · show (0 : Int) ≤ 0
      omega
    · show (0 : Int) ≤ j - j
      omega
  | t + 1, ht, j, h1, h2 => by
    have ih := tb_bd ho hw (mo := mo) hm hl hc hn t (by omega)
    by_cases e : j = n - (t + 1)
    · subst e
      unfold tb
      rw [am_uz_eq]
      exact stp_bd ho hw hm hl hc (by omega) hn (fun j a b => ih j (by omega) b) (t + 1) (by omega)
    · unfold tb
      rw [am_uz_ne e]
      exact ih j (by omega) h2
/-- the table of a part by the style of a minute -/
def tbS (S : am_G) (p mi : Int) : Int → Int × Int × Int := tb (S 3 p) (S 1 (S 2 0 (p / 5))) (meS S p mi) (leS S p mi) (moS S p mi) (coS S p mi) (S 3 p 1) (S 3 p 1).toNat
/-- the arrays hold the table from a on -/
def tbd (V : Nat → Int → Int) (T : Int → Int × Int × Int) (a n : Int) : Prop := ∀ j, a ≤ j → j ≤ n → V 14 j = (T j).1 ∧ ((T j).1 ≠ -1 → V 15 j = (T j).2.1 ∧ (j < n → V 16 j = (T j).2.2))
