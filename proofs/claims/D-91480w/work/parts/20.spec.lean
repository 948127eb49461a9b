set_option maxRecDepth 100000
/-! sums, loops -/
/-- the sum of n values from i on -/
def sg (f : Int → Int) (i : Int) : Nat → Int
  | 0 => 0
  | n + 1 => f i + sg f (i + 1) n
theorem sg_bd {f : Int → Int} {c : Int} : ∀ (n : Nat) (i : Int), (∀ j, i ≤ j → j < i + n → 0 ≤ f j ∧ f j ≤ c) → 0 ≤ sg f i n ∧ sg f i n ≤ c * n
  | 0, i, h => by
    show (0 : Int) ≤ 0 ∧ (0 : Int) ≤ c * ((0 : Nat) : Int)
    simp
  | n + 1, i, h => by
    have h1 := h i (by omega) (by omega)
    have h2 := sg_bd n (i + 1) (fun j a b => h j (by omega) (by omega))
    show 0 ≤ f i + sg f (i + 1) n ∧ f i + sg f (i + 1) n ≤ c * ((n + 1 : Nat) : Int)
    have e : c * ((n + 1 : Nat) : Int) = c * (n : Int) + c := by
      rw [Int.natCast_add, Int.mul_add]
      simp
    rw [e]
    omega
theorem sg_ext {f g : Int → Int} : ∀ (n : Nat) (i : Int), (∀ j, i ≤ j → j < i + n → f j = g j) → sg f i n = sg g i n
  | 0, i, h => rfl
  | n + 1, i, h => by
    show f i + sg f (i + 1) n = g i + sg g (i + 1) n
    rw [h i (by omega) (by omega), sg_ext n (i + 1) (fun j a b => h j (by omega) (by omega))]
theorem sg_last {f : Int → Int} : ∀ (n : Nat) (i : Int), sg f i (n + 1) = sg f i n + f (i + n)
  | 0, i => by
    show f i + 0 = 0 + f (i + ((0 : Nat) : Int))
    simp
  | n + 1, i => by
    show f i + sg f (i + 1) (n + 1) = f i + sg f (i + 1) n + f (i + ((n + 1 : Nat) : Int))
    have e : i + 1 + (n : Int) = i + ((n + 1 : Nat) : Int) := by omega
    rw [sg_last n (i + 1), e]
    omega
theorem lp_sg {f : Int → Int} {lo hi : Int} (B L : Int → Int → Prop) (hb : ∀ x i, lo ≤ i → i < hi → B x i → B (x + f i) (i + 1)) (st : ∀ x i, lo ≤ i → i < hi → B x i → L (x + f i) (i + 1) → L x i) : ∀ (n : Nat) (x i : Int), lo ≤ i → i + n = hi → B x i → L (x + sg f i n) hi → L x i
  | 0, x, i, h1, h2, h3, h4 => by
    have e : i = hi := by omega
    have e2 : x + sg f i 0 = x := by
      show x + 0 = x
      omega
    rw [e2, ← e] at h4
    exact h4
  | n + 1, x, i, h1, h2, h3, h4 => by
    refine st x i h1 (by omega) h3 (lp_sg B L hb st n (x + f i) (i + 1) (by omega) (by omega) (hb x i h1 (by omega) h3) ?_)
    have e : x + f i + sg f (i + 1) n = x + sg f i (n + 1) := by
      show x + f i + sg f (i + 1) n = x + (f i + sg f (i + 1) n)
      omega
    rw [e]
    exact h4
/-- back from the end of a loop -/
theorem lp_z {L : Int → Prop} {lo hi : Int} (st : ∀ k, lo ≤ k → k < hi → L (k + 1) → L k) (h : L hi) : ∀ k, lo ≤ k → k ≤ hi → L k := by
  have key : ∀ (n : Nat) (k : Int), lo ≤ k → k + n = hi → L k := by
    intro n
    induction n with
    | zero =>
      intro k h1 h2
      have e : k = hi := by omega
      rw [e]
      exact h
    | succ n ih => exact fun k h1 h2 => st k h1 (by omega) (ih (k + 1) (by omega) (by omega))
  exact fun k h1 h2 => key (hi - k).toNat k h1 (by omega)
theorem mul_in {x y c e : Int} (hx : 0 ≤ x ∧ x ≤ c) (hy : -e ≤ y ∧ y ≤ e) : -(c * e) ≤ x * y ∧ x * y ≤ c * e := by
  have he : 0 ≤ e := by omega
  have h1 : x * y ≤ x * e := Int.mul_le_mul_of_nonneg_left hy.2 hx.1
  have h2 : x * e ≤ c * e := Int.mul_le_mul_of_nonneg_right hx.2 he
  have h3 : x * (-e) ≤ x * y := Int.mul_le_mul_of_nonneg_left hy.1 hx.1
  rw [Int.mul_neg] at h3
  omega
/-! SPEC: a part v, the widths w of its face -/
/-- a word ends with piece z -/
abbrev ew (v : Int → Int) (z : Int) : Prop := z = v 1 - 1 ∨ v (85 + z) ≠ v (86 + z)
/-- the width of piece k -/
def pwd (v w : Int → Int) (k : Int) : Int := sg (fun i => w (v (165 + 12 * k + i))) 0 (v (125 + k)).toNat
/-- the width of pieces a to z -/
def wd (v w : Int → Int) (a z : Int) : Int := (if ew v z then 0 else w 26) + sg (pwd v w) a (z + 1 - a).toNat
def tgt (v w : Int → Int) (le a z : Int) : Int := wd v w a z + le * (v (85 + z) - v (85 + a))
abbrev stn (v w : Int → Int) (me le mo a z : Int) : Prop := tgt v w le a z ≤ me ∧ (z = v 1 - 1 ∨ me ≤ wd v w a z + mo * (v (85 + z) - v (85 + a)))
def bdn (v w : Int → Int) (me le co a z : Int) : Int := if z = v 1 - 1 then 0 else (me - tgt v w le a z) * (me - tgt v w le a z) + (if ew v z then 0 else co)
/-- the numbers of a part are in their ranges -/
def okP (v : Int → Int) : Prop := (1 ≤ v 1 ∧ v 1 ≤ 40) ∧ (∀ k, 0 ≤ k → k < 40 → (0 ≤ v (125 + k) ∧ v (125 + k) ≤ 12) ∧ (0 ≤ v (85 + k) ∧ v (85 + k) ≤ 23)) ∧ (∀ k i, 0 ≤ k → k < 40 → 0 ≤ i → i < 12 → 0 ≤ v (165 + 12 * k + i) ∧ v (165 + 12 * k + i) ≤ 25)
def okW (w : Int → Int) : Prop := ∀ i, 0 ≤ i → i < 27 → 1 ≤ w i ∧ w i ≤ 20
theorem pwd_bd {v w : Int → Int} (ho : okP v) (hw : okW w) {k : Int} (h : 0 ≤ k ∧ k < 40) : 0 ≤ pwd v w k ∧ pwd v w k ≤ 240 := by
  obtain ⟨h1, h2, h3⟩ := ho
  have e1 := h2 k h.1 h.2
  have e2 := sg_bd (f := fun i => w (v (165 + 12 * k + i))) (c := 20) (v (125 + k)).toNat 0 (fun j a b => by
    have e3 := h3 k j h.1 h.2 a (by omega)
    have e4 := hw _ e3.1 (by omega)
    show 0 ≤ w _ ∧ w _ ≤ 20
    omega)
  have e5 : (((v (125 + k)).toNat : Nat) : Int) ≤ 12 := by omega
  unfold pwd
  omega
theorem wd_bd {v w : Int → Int} (ho : okP v) (hw : okW w) {a z : Int} (ha : 0 ≤ a) (hz : z < 40) : 0 ≤ wd v w a z ∧ wd v w a z ≤ 9700 := by
  have e2 := sg_bd (f := pwd v w) (c := 240) (z + 1 - a).toNat a (fun j p q => pwd_bd ho hw (by omega))
  have e3 := hw 26 (by omega) (by omega)
  have e4 : (((z + 1 - a).toNat : Nat) : Int) ≤ 40 := by omega
  unfold wd
  by_cases c : ew v z
  · rw [if_pos c]
    omega
  · rw [if_neg c]
    omega
theorem tgt_bd {v w : Int → Int} (ho : okP v) (hw : okW w) {le a z : Int} (hl : 0 ≤ le ∧ le ≤ 40) (ha : 0 ≤ a) (haz : a ≤ z) (hz : z < 40) : -1000 ≤ tgt v w le a z ∧ tgt v w le a z ≤ 11000 := by
  have e1 := wd_bd ho hw ha hz
  have e2 := (ho.2.1 a ha (by omega)).2
  have e3 := (ho.2.1 z (by omega) hz).2
  have e4 := mul_in (y := v (85 + z) - v (85 + a)) (e := 23) hl (by omega)
  unfold tgt
  omega
