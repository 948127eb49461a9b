set_option maxRecDepth 100000
/-! SPEC: what a line says -/
def gt : List Int → Nat → Int
  | [], _ => 0
  | x :: _, 0 => x
  | _ :: l, n + 1 => gt l n
theorem gt_app {x : Int} : ∀ (l : List Int) (n : Nat), n < l.length → gt (l ++ [x]) n = gt l n
  | [], n, h => absurd h (Nat.not_lt_zero n)
  | y :: l, 0, h => rfl
  | y :: l, n + 1, h => gt_app l n (Nat.lt_of_succ_lt_succ h)
theorem gt_last {x : Int} : ∀ (l : List Int), gt (l ++ [x]) l.length = x
  | [] => rfl
  | _ :: l => gt_last l
/-- a row begins with the list -/
def pf (f : Int → Int) (l : List Int) : Prop := ∀ k : Nat, k < l.length → f (k : Int) = gt l k
theorem pf_nil {f : Int → Int} : pf f [] := fun k h => absurd h (Nat.not_lt_zero k)
theorem pf_app {f : Int → Int} {l : List Int} {x j : Int} (h : pf f l) (hj : j = (l.length : Int)) : pf (am_uz f j x) (l ++ [x]) := by
  subst hj
  intro k hk
  by_cases e : k = l.length
  · subst e
    rw [am_uz_eq, gt_last]
  · have hk2 : k < l.length := by
      rw [List.length_append] at hk
      have : [x].length = 1 := rfl
      omega
    rw [am_uz_ne (by omega), gt_app l k hk2]
    exact h k hk2
/-- how often a number stands in a list -/
def cn (x : Int) : List Int → Int
  | [] => 0
  | y :: l => (if y = x then 1 else 0) + cn x l
theorem cn_app {x y : Int} : ∀ l : List Int, cn x (l ++ [y]) = cn x l + (if y = x then 1 else 0)
  | [] => by
    show (if y = x then 1 else 0) + 0 = 0 + (if y = x then 1 else 0)
    omega
  | z :: l => by
    show (if z = x then 1 else 0) + cn x (l ++ [y]) = (if z = x then 1 else 0) + cn x l + (if y = x then 1 else 0)
    rw [cn_app l, Int.add_assoc]
theorem cn_bd {x : Int} : ∀ l : List Int, 0 ≤ cn x l ∧ cn x l ≤ (l.length : Int)
  | [] => by
    show (0 : Int) ≤ 0 ∧ (0 : Int) ≤ ((0 : Nat) : Int)
    omega
  | z :: l => by
    have h := cn_bd (x := x) l
    show 0 ≤ (if z = x then 1 else 0) + cn x l ∧ (if z = x then 1 else 0) + cn x l ≤ ((l.length + 1 : Nat) : Int)
    split <;> omega
/-- the sign's byte -/
def sgn (c : Int) : Int := if c = 26 then 45 else 97 + c
/-- the first n letters of piece k -/
def pcp (v : Int → Int) (k : Int) : Nat → List Int
  | 0 => []
  | n + 1 => pcp v k n ++ [97 + v (165 + 12 * k + (n : Int))]
def sep (v : Int → Int) (a k : Int) : List Int := if a < k ∧ v (85 + k) ≠ v (84 + k) then [32] else []
/-- n pieces from a on -/
def sayN (v : Int → Int) (a : Int) : Nat → List Int
  | 0 => []
  | n + 1 => sayN v a n ++ sep v a (a + (n : Int)) ++ pcp v (a + (n : Int)) (v (125 + (a + (n : Int)))).toNat
def say (v : Int → Int) (a z : Int) : List Int := sayN v a (z + 1 - a).toNat ++ (if ew v z then [] else [45])
def bg (v : Int → Int) (l : Int) : Int := if l = 0 then 0 else v (4 + l) + 1
/-- what line l says -/
def lnS (v : Int → Int) (l : Int) : List Int := say v (bg v l) (v (5 + l))
theorem len_app1 {x : Int} {l : List Int} : ((l ++ [x]).length : Int) = (l.length : Int) + 1 := by
  rw [List.length_append]
  rfl
theorem sayN_le {v : Int → Int} {a : Int} : ∀ (n m : Nat), n ≤ m → (sayN v a n).length ≤ (sayN v a m).length := by
  intro n m h
  induction m with
  | zero =>
    have e : n = 0 := by omega
    subst e
    exact Nat.le_refl _
  | succ m ih =>
    by_cases e : n = m + 1
    · subst e
      exact Nat.le_refl _
    · have h2 := ih (by omega)
      show _ ≤ (sayN v a m ++ sep v a (a + (m : Int)) ++ pcp v (a + (m : Int)) (v (125 + (a + (m : Int)))).toNat).length
      rw [List.length_append, List.length_append]
      omega
theorem pcp_len {v : Int → Int} {k : Int} : ∀ n : Nat, (pcp v k n).length = n
  | 0 => rfl
  | n + 1 => by
    show (pcp v k n ++ [97 + v (165 + 12 * k + (n : Int))]).length = n + 1
    rw [List.length_append, pcp_len n]
    rfl
