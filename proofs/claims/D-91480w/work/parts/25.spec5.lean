set_option maxRecDepth 100000
/-! the best of some ways: least badness, then least lines, then the farthest end -/
def opt (P : Int → Prop) (bf lf : Int → Int) (q : Int × Int × Int) : Prop := (q.1 = -1 ∧ ∀ j, ¬ P j) ∨ (0 ≤ q.1 ∧ P q.2.2 ∧ q.1 = bf q.2.2 ∧ q.2.1 = lf q.2.2 ∧ ∀ j, P j → q.1 < bf j ∨ (q.1 = bf j ∧ (q.2.1 < lf j ∨ (q.2.1 = lf j ∧ j ≤ q.2.2))))
theorem opt_cg {P P' : Int → Prop} {bf lf : Int → Int} {q : Int × Int × Int} (e : ∀ j, P j ↔ P' j) (h : opt P bf lf q) : opt P' bf lf q := by
  rcases h with ⟨h1, h2⟩ | ⟨h1, h2, h3, h4, h5⟩
  · exact Or.inl ⟨h1, fun j z => h2 j ((e j).mpr z)⟩
  · exact Or.inr ⟨h1, (e _).mp h2, h3, h4, fun j z => h5 j ((e j).mpr z)⟩
theorem opt_uq {P : Int → Prop} {bf lf : Int → Int} {q q' : Int × Int × Int} (h : opt P bf lf q) (h' : opt P bf lf q') : q.1 = q'.1 ∧ (q.1 ≠ -1 → q.2.1 = q'.2.1 ∧ q.2.2 = q'.2.2) := by
  rcases h with ⟨h1, h2⟩ | ⟨h1, h2, h3, h4, h5⟩
  · rcases h' with ⟨g1, g2⟩ | ⟨g1, g2, g3, g4, g5⟩
    · exact ⟨by rw [h1, g1], fun c => absurd h1 c⟩
    · exact absurd g2 (h2 _)
  · rcases h' with ⟨g1, g2⟩ | ⟨g1, g2, g3, g4, g5⟩
    · exact absurd h2 (g2 _)
    · have e1 := h5 _ g2
      have e2 := g5 _ h2
      refine ⟨by omega, fun _ => ⟨by omega, by omega⟩⟩
theorem stp_opt {v w : Int → Int} {me le mo co : Int} {B L : Int → Int} {n i : Int} (hb : ∀ j, i < j → j ≤ n → B j ≠ -1 → stn v w me le mo i (j - 1) → 0 ≤ B j + bdn v w me le co i (j - 1)) : ∀ t : Nat, i + t ≤ n → opt (fun j => n - t < j ∧ j ≤ n ∧ B j ≠ -1 ∧ stn v w me le mo i (j - 1)) (fun j => B j + bdn v w me le co i (j - 1)) (fun j => L j + 1) (stp v w me le mo co B L n i t)
  | 0, h => Or.inl ⟨rfl, fun j z => absurd z.1 (by have := z.2.1; omega)⟩
  | t + 1, h => by
    have ih := stp_opt (L := L) hb t (by omega)
    unfold stp
    by_cases c1 : B (n - t) = -1 ∨ ¬ stn v w me le mo i (n - t - 1)
    · rw [if_pos c1]
      have eq : ∀ j, (n - ((t + 1 : Nat) : Int) < j ∧ j ≤ n ∧ B j ≠ -1 ∧ stn v w me le mo i (j - 1)) → (n - t < j ∧ j ≤ n ∧ B j ≠ -1 ∧ stn v w me le mo i (j - 1)) := by
        intro j z
        by_cases e : j = n - t
        · subst e
          exact absurd c1 (fun y => y.elim z.2.2.1 (fun y => y z.2.2.2))
        · exact ⟨by have := z.1; omega, z.2⟩
      rcases ih with ⟨h1, h2⟩ | ⟨h1, h2, h3, h4, h5⟩
      · exact Or.inl ⟨h1, fun j z => h2 j (eq j z)⟩
      · exact Or.inr ⟨h1, ⟨by have := h2.1; omega, h2.2⟩, h3, h4, fun j z => h5 j (eq j z)⟩
    rw [if_neg c1]
    have c2 : B (n - t) ≠ -1 := fun z => c1 (Or.inl z)
    have c3 : stn v w me le mo i (n - t - 1) := by
      by_cases q : stn v w me le mo i (n - t - 1)
      · exact q
      · exact absurd (Or.inr q) c1
    have c4 := hb (n - t) (by omega) (by omega) c2 c3
    split
    · rename_i c5
      rcases ih with ⟨h1, h2⟩ | ⟨h1, h2, h3, h4, h5⟩
      · exact absurd h1 c5.1
      · refine Or.inr ⟨h1, ⟨by have := h2.1; omega, h2.2⟩, h3, h4, fun j z => ?_⟩
        by_cases e : j = n - t
        · subst e
          have c6 := c5.2
          have z2 := h2.1
          show _ < B (n - t) + bdn v w me le co i (n - t - 1) ∨ (_ = B (n - t) + bdn v w me le co i (n - t - 1) ∧ (_ < L (n - t) + 1 ∨ (_ = L (n - t) + 1 ∧ n - t ≤ _)))
          omega
        · exact h5 j ⟨by have := z.1; omega, z.2⟩
    · rename_i c5
      refine Or.inr ⟨c4, ⟨by show n - ((t + 1 : Nat) : Int) < n - t; omega, by show n - (t : Int) ≤ n; omega, c2, c3⟩, rfl, rfl, fun j z => ?_⟩
      show B (n - t) + bdn v w me le co i (n - t - 1) < B j + bdn v w me le co i (j - 1) ∨ (B (n - t) + bdn v w me le co i (n - t - 1) = B j + bdn v w me le co i (j - 1) ∧ (L (n - t) + 1 < L j + 1 ∨ (L (n - t) + 1 = L j + 1 ∧ j ≤ n - t)))
      by_cases e : j = n - t
      · subst e
        omega
      · rcases ih with ⟨h1, h2⟩ | ⟨h1, h2, h3, h4, h5⟩
        · exact absurd ⟨by have := z.1; omega, z.2⟩ (h2 j)
        · have h6 := h5 j ⟨by have := z.1; omega, z.2⟩
          have h7 : ¬ ((stp v w me le mo co B L n i t).1 < B (n - t) + bdn v w me le co i (n - t - 1) ∨ B (n - t) + bdn v w me le co i (n - t - 1) = (stp v w me le mo co B L n i t).1 ∧ (stp v w me le mo co B L n i t).2.1 ≤ L (n - t) + 1) := fun y => c5 ⟨by omega, y⟩
          have h8 : (stp v w me le mo co B L n i t).1 < B j + bdn v w me le co i (j - 1) ∨ ((stp v w me le mo co B L n i t).1 = B j + bdn v w me le co i (j - 1) ∧ ((stp v w me le mo co B L n i t).2.1 < L j + 1 ∨ ((stp v w me le mo co B L n i t).2.1 = L j + 1 ∧ j ≤ (stp v w me le mo co B L n i t).2.2))) := h6
          generalize stp v w me le mo co B L n i t = q at h7 h8
          omega
theorem stp_cg {v w : Int → Int} {me le mo co : Int} {B L B' L' : Int → Int} {n i : Int} (h : ∀ j, i < j → j ≤ n → B j = B' j ∧ L j = L' j) : ∀ t : Nat, i + t ≤ n → stp v w me le mo co B L n i t = stp v w me le mo co B' L' n i t
  | 0, _ => rfl
  | t + 1, ht => by
    have ih := stp_cg (v := v) (w := w) (me := me) (le := le) (mo := mo) (co := co) h t (by omega)
    have e := h (n - t) (by omega) (by omega)
    unfold stp
    rw [ih, e.1, e.2]
theorem tb_st {v w : Int → Int} {me le mo co n : Int} : ∀ (s t : Nat), t ≤ s → (s : Int) ≤ n → ∀ j, n - t ≤ j → j ≤ n → tb v w me le mo co n s j = tb v w me le mo co n t j := by
  intro s
  induction s with
  | zero =>
    intro t h1 h2 j h3 h4
    have e : t = 0 := by omega
    rw [e]
  | succ s ih =>
    intro t h1 h2 j h3 h4
    by_cases e : t = s + 1
    · rw [e]
    · have := ih t (by omega) (by omega) j h3 h4
      rw [← this]
      show am_uz _ _ _ j = _
      rw [am_uz_ne (by omega)]
/-- the table is what the step makes of it -/
theorem tb_fx {v w : Int → Int} {me le mo co n : Int} {s : Nat} (hs : (s : Int) ≤ n) {i : Int} (h1 : n - s ≤ i) (h2 : i < n) : tb v w me le mo co n s i = stp v w me le mo co (fun j => (tb v w me le mo co n s j).1) (fun j => (tb v w me le mo co n s j).2.1) n i (n - i).toNat := by
  have e1 : (n - i).toNat = (n - i - 1).toNat + 1 := by omega
  have e2 : n - ((((n - i - 1).toNat : Nat) : Int) + 1) = i := by omega
  rw [tb_st s ((n - i - 1).toNat + 1) (by omega) hs i (by omega) (by omega), e1]
  have e3 : tb v w me le mo co n ((n - i - 1).toNat + 1) = am_uz (tb v w me le mo co n (n - i - 1).toNat) (n - ((((n - i - 1).toNat : Nat) : Int) + 1)) (stp v w me le mo co (fun j => (tb v w me le mo co n (n - i - 1).toNat j).1) (fun j => (tb v w me le mo co n (n - i - 1).toNat j).2.1) n (n - ((((n - i - 1).toNat : Nat) : Int) + 1)) ((n - i - 1).toNat + 1)) := rfl
  rw [e3, e2, am_uz_eq]
  refine stp_cg (fun j g1 g2 => ?_) _ (by omega)
  have e4 := tb_st (v := v) (w := w) (me := me) (le := le) (mo := mo) (co := co) (n := n) s (n - i - 1).toNat (by omega) hs j (by omega) g2
  show (tb v w me le mo co n (n - i - 1).toNat j).1 = (tb v w me le mo co n s j).1 ∧ (tb v w me le mo co n (n - i - 1).toNat j).2.1 = (tb v w me le mo co n s j).2.1
  rw [e4]
  exact ⟨rfl, rfl⟩
/-- k lines on -/
def nx (T : Int → Int × Int × Int) : Nat → Int → Int
  | 0, a => a
  | k + 1, a => nx T k (T a).2.2
theorem nx_last (T : Int → Int × Int × Int) : ∀ (k : Nat) (a : Int), nx T (k + 1) a = (T (nx T k a)).2.2
  | 0, a => rfl
  | k + 1, a => nx_last T k (T a).2.2
theorem tb_n {v w : Int → Int} {me le mo co n : Int} (hn : 0 ≤ n) : tb v w me le mo co n n.toNat n = (0, 0, 0) := tb_st n.toNat 0 (by omega) (by omega) n (by omega) (by omega)
/-- one line of the table -/
theorem tb_step {v w : Int → Int} (ho : okP v) (hw : okW w) {me le mo co n : Int} (hm : 0 ≤ me ∧ me ≤ 400) (hl : 0 ≤ le ∧ le ≤ 40) (hc : 0 ≤ co ∧ co ≤ 999) (hn : 0 ≤ n ∧ n ≤ 40) {i : Int} (h1 : 0 ≤ i) (h2 : i < n) (h3 : (tb v w me le mo co n n.toNat i).1 ≠ -1) : i < (tb v w me le mo co n n.toNat i).2.2 ∧ (tb v w me le mo co n n.toNat i).2.2 ≤ n ∧ (tb v w me le mo co n n.toNat (tb v w me le mo co n n.toNat i).2.2).1 ≠ -1 ∧ (tb v w me le mo co n n.toNat i).2.1 = (tb v w me le mo co n n.toNat (tb v w me le mo co n n.toNat i).2.2).2.1 + 1 ∧ stn v w me le mo i ((tb v w me le mo co n n.toNat i).2.2 - 1) := by
  have bT := tb_bd ho hw (mo := mo) hm hl hc (n := n) hn.2 n.toNat (by omega)
  have hb : ∀ q, i < q → q ≤ n → (tb v w me le mo co n n.toNat q).1 ≠ -1 → stn v w me le mo i (q - 1) → 0 ≤ (tb v w me le mo co n n.toNat q).1 + bdn v w me le co i (q - 1) := by
    intro q y1 y2 y3 y4
    have b1 := bdn_bd ho hw (mo := mo) hm hl hc h1 (by omega) (by omega) y4
    rcases bT q (by omega) y2 with b2 | b2
    · exact absurd b2 y3
    · have := b2.1
      omega
  have e1 := tb_fx (v := v) (w := w) (me := me) (le := le) (mo := mo) (co := co) (n := n) (s := n.toNat) (by omega) (i := i) (by omega) h2
  have e2 := stp_opt (L := fun q => (tb v w me le mo co n n.toNat q).2.1) hb (n - i).toNat (by omega)
  rw [← e1] at e2
  rcases e2 with ⟨q1, q2⟩ | ⟨q1, q2, q3, q4, q5⟩
  · exact absurd q1 h3
  · exact ⟨by have := q2.1; omega, q2.2.1, q2.2.2.1, q4, q2.2.2.2⟩
theorem nx_ok {v w : Int → Int} (ho : okP v) (hw : okW w) {me le mo co n : Int} (hm : 0 ≤ me ∧ me ≤ 400) (hl : 0 ≤ le ∧ le ≤ 40) (hc : 0 ≤ co ∧ co ≤ 999) (hn : 0 ≤ n ∧ n ≤ 40) {a : Int} (h1 : 0 ≤ a) (h2 : a ≤ n) (h3 : (tb v w me le mo co n n.toNat a).1 ≠ -1) : ∀ k : Nat, (k : Int) ≤ (tb v w me le mo co n n.toNat a).2.1 → (a ≤ nx (tb v w me le mo co n n.toNat) k a ∧ nx (tb v w me le mo co n n.toNat) k a ≤ n) ∧ (tb v w me le mo co n n.toNat (nx (tb v w me le mo co n n.toNat) k a)).1 ≠ -1 ∧ (tb v w me le mo co n n.toNat (nx (tb v w me le mo co n n.toNat) k a)).2.1 = (tb v w me le mo co n n.toNat a).2.1 - k ∧ ((k : Int) < (tb v w me le mo co n n.toNat a).2.1 → nx (tb v w me le mo co n n.toNat) k a < n) := by
  intro k
  induction k with
  | zero =>
    intro _
    refine ⟨⟨Int.le_refl _, h2⟩, h3, ?_, fun z => ?_⟩
    · show (tb v w me le mo co n n.toNat a).2.1 = (tb v w me le mo co n n.toNat a).2.1 - ((0 : Nat) : Int)
      omega
    · show a < n
      by_cases e : a = n
      · rw [e, tb_n hn.1] at z
        have z' : ((0 : Nat) : Int) < 0 := z
        omega
      · omega
  | succ k ih =>
    intro hk
    obtain ⟨i1, i2, i3, i4⟩ := ih (by omega)
    have i5 := i4 (by omega)
    obtain ⟨s1, s2, s3, s4, s5⟩ := tb_step ho hw hm hl hc (mo := mo) hn (by omega) i5 i2
    rw [nx_last]
    refine ⟨⟨by omega, s2⟩, s3, by omega, fun z => ?_⟩
    by_cases e : (tb v w me le mo co n n.toNat (nx (tb v w me le mo co n n.toNat) k a)).2.2 = n
    · have s6 := s4
      rw [e, tb_n hn.1] at s6
      have s7 : (tb v w me le mo co n n.toNat (nx (tb v w me le mo co n n.toNat) k a)).2.1 = 0 + 1 := s6
      omega
    · omega
