set_option maxRecDepth 100000
/-! reading a style's text -/
/-- a condition: its acts, what it says, the number of its acts, the pile's height, its depth -/
def am_Cd : Type := List Int × ((Int → Int) → (Int → Int) → Int) × Nat × Nat × Nat
def am_Cd.cd (c : am_Cd) : List Int := c.1
def am_Cd.ev (c : am_Cd) : (Int → Int) → (Int → Int) → Int := c.2.1
def am_Cd.ops (c : am_Cd) : Nat := c.2.2.1
def am_Cd.hg (c : am_Cd) : Nat := c.2.2.2.1
def am_Cd.dp (c : am_Cd) : Nat := c.2.2.2.2
def am_Cd.tag (k : Int) : am_Cd := ([1, k], fun tg _ => tg k, 1, 1, 1)
def am_Cd.cmp (op f v : Int) : am_Cd := ([op, f, v], fun _ fc => if op = 2 then am_b (fc f < v) else am_b (v < fc f), 1, 1, 1)
def am_Cd.ng (c : am_Cd) : am_Cd := (c.cd ++ [4], fun tg fc => am_b (c.ev tg fc = 0), c.ops + 1, c.hg, c.dp + 1)
def am_Cd.an (a b : am_Cd) : am_Cd := (a.cd ++ (b.cd ++ [5]), fun tg fc => if a.ev tg fc = 0 then 0 else am_b (b.ev tg fc ≠ 0), a.ops + (b.ops + 1), max a.hg (b.hg + 1), max a.dp b.dp + 1)
def am_Cd.oo (a b : am_Cd) : am_Cd := (a.cd ++ (b.cd ++ [6]), fun tg fc => if a.ev tg fc ≠ 0 then 1 else am_b (b.ev tg fc ≠ 0), a.ops + (b.ops + 1), max a.hg (b.hg + 1), max a.dp b.dp + 1)
/-- acts that stand at k -/
def cdA (y : Int → Int) (k : Int) (l : List Int) : Prop := ∀ i : Nat, i < l.length → y (k + i) = gt l i
theorem cdA_l {y : Int → Int} {k : Int} {l m : List Int} (h : cdA y k (l ++ m)) : cdA y k l ∧ cdA y (k + l.length) m := by
  refine ⟨fun i hi => ?_, fun i hi => ?_⟩
  · rw [h i (by rw [List.length_append]; omega), gt_app1 l i hi]
  · have q := h (l.length + i) (by rw [List.length_append]; omega)
    rw [gt_app2] at q
    have e : k + (l.length : Int) + (i : Int) = k + ((l.length + i : Nat) : Int) := by omega
    rw [e]
    exact q
/-- its acts do what it says -/
def am_Cd.ok (c : am_Cd) : Prop := (∀ (y tg fc : Int → Int) (f n k : Int) (st : List Int) (u : Nat), cdA y (f + k) c.cd → st.length + c.hg ≤ 99 → k + (c.cd.length : Int) ≤ n → rn y tg fc f n (c.ops + u) k st = rn y tg fc f n u (k + c.cd.length) (c.ev tg fc :: st)) ∧ c.ops ≤ c.cd.length ∧ 1 ≤ c.hg ∧ (∀ tg fc : Int → Int, (∀ i, 0 ≤ i → i < 3 → tg i = 0 ∨ tg i = 1) → c.ev tg fc = 0 ∨ c.ev tg fc = 1) ∧ 1 ≤ c.cd.length
theorem tag_ok {j : Int} (ho : 0 ≤ j ∧ j < 3) : (am_Cd.tag j).ok := by
  refine ⟨fun y tg fc f n k st u h hs hn => ?_, by show 1 ≤ 2; omega, Nat.le_refl 1, fun tg fc ht => ht j ho.1 ho.2, by show 1 ≤ 2; omega⟩
  have e0 := h 0 (by show 0 < 2; omega)
  have e1 := h 1 (by show 1 < 2; omega)
  have z0 : f + k + ((0 : Nat) : Int) = f + k := by omega
  have z1 : f + k + ((1 : Nat) : Int) = 1 + f + k := by omega
  rw [z0] at e0
  rw [z1] at e1
  have e0' : y (f + k) = 1 := e0
  have e1' : y (1 + f + k) = j := e1
  have hn' : k + 2 ≤ n := hn
  have hs' : st.length + 1 ≤ 99 := hs
  have eu : (am_Cd.tag j).ops + u = u + 1 := by
    show 1 + u = u + 1
    omega
  rw [eu]
  show (if n ≤ k then _ else _) = _
  rw [if_neg (by omega), if_pos e0', e1', if_pos ⟨ho, by omega, hn'⟩]
  rfl
theorem cmp_ok {op g v : Int} (ho1 : op = 2 ∨ op = 3) (ho2 : 0 ≤ g ∧ g < 6) : (am_Cd.cmp op g v).ok := by
  refine ⟨fun y tg fc f n k st u h hs hn => ?_, by show 1 ≤ 3; omega, Nat.le_refl 1, fun tg fc ht => ?_, by show 1 ≤ 3; omega⟩
  · have e0 := h 0 (by show 0 < 3; omega)
    have e1 := h 1 (by show 1 < 3; omega)
    have e2 := h 2 (by show 2 < 3; omega)
    have z0 : f + k + ((0 : Nat) : Int) = f + k := by omega
    have z1 : f + k + ((1 : Nat) : Int) = 1 + f + k := by omega
    have z2 : f + k + ((2 : Nat) : Int) = 2 + f + k := by omega
    rw [z0] at e0
    rw [z1] at e1
    rw [z2] at e2
    have e0' : y (f + k) = op := e0
    have e1' : y (1 + f + k) = g := e1
    have e2' : y (2 + f + k) = v := e2
    have hn' : k + 3 ≤ n := hn
    have hs' : st.length + 1 ≤ 99 := hs
    have eu : (am_Cd.cmp op g v).ops + u = u + 1 := by
      show 1 + u = u + 1
      omega
    rw [eu]
    show (if n ≤ k then _ else _) = _
    rw [if_neg (by omega), if_neg (by omega), if_pos (by rw [e0']; exact ho1), e0', e1', e2', if_pos ⟨ho2, by omega, hn'⟩]
    rfl
  · show (if op = 2 then am_b (fc g < v) else am_b (v < fc g)) = 0 ∨ (if op = 2 then am_b (fc g < v) else am_b (v < fc g)) = 1
    split <;> exact am_bz _
theorem ng_ok {c : am_Cd} (oc : c.ok) : (am_Cd.ng c).ok := by
  have lc : (am_Cd.ng c).cd.length = c.cd.length + 1 := by
    show (c.cd ++ [4]).length = _
    rw [List.length_append]
    rfl
  have o2 := oc.2.1
  refine ⟨fun y tg fc f n k st u h hs hn => ?_, by rw [lc]; show c.ops + 1 ≤ _; omega, oc.2.2.1, fun tg fc ht => am_bz _, by rw [lc]; omega⟩
  have hl := cdA_l (l := c.cd) (m := [4]) h
  have hs' : st.length + c.hg ≤ 99 := hs
  have h1 := oc.2.2.1
  rw [lc] at hn ⊢
  have e0 := hl.2 0 (by show 0 < 1; omega)
  have z0 : f + k + (c.cd.length : Int) + ((0 : Nat) : Int) = f + (k + c.cd.length) := by omega
  rw [z0] at e0
  have e0' : y (f + (k + c.cd.length)) = 4 := e0
  have i := oc.1 y tg fc f n k st (u + 1) hl.1 hs' (by omega)
  have eu : (am_Cd.ng c).ops + u = c.ops + (u + 1) := by
    show c.ops + 1 + u = _
    omega
  rw [eu, i]
  show (if n ≤ k + c.cd.length then _ else _) = _
  rw [if_neg (by omega), if_neg (by omega), if_neg (by omega), if_pos e0']
  show (if st.length < 100 then rn y tg fc f n u (k + c.cd.length + 1) (am_b (c.ev tg fc = 0) :: st) else none) = _
  rw [if_pos (by omega)]
  have ek : k + (c.cd.length : Int) + 1 = k + ((c.cd.length + 1 : Nat) : Int) := by omega
  rw [ek]
  rfl
theorem an_ok {a b : am_Cd} (oa : a.ok) (ob : b.ok) : (am_Cd.an a b).ok := by
  have lc : (am_Cd.an a b).cd.length = a.cd.length + (b.cd.length + 1) := by
    show (a.cd ++ (b.cd ++ [5])).length = _
    rw [List.length_append, List.length_append]
    rfl
  have hm1 : a.hg ≤ (am_Cd.an a b).hg := Nat.le_max_left _ _
  have hm2 : b.hg + 1 ≤ (am_Cd.an a b).hg := Nat.le_max_right _ _
  have hb := ob.2.2.1
  have oa2 := oa.2.1
  have ob2 := ob.2.1
  refine ⟨fun y tg fc f n k st u h hs hn => ?_, by rw [lc]; show a.ops + (b.ops + 1) ≤ _; omega, Nat.le_trans oa.2.2.1 hm1, fun tg fc ht => ?_, by rw [lc]; omega⟩
  · have hl := cdA_l (l := a.cd) (m := b.cd ++ [5]) h
    have hl2 := cdA_l hl.2
    rw [lc] at hn ⊢
    have ef : f + k + (a.cd.length : Int) = f + (k + a.cd.length) := by omega
    rw [ef] at hl2
    have e0 := hl2.2 0 (by show 0 < 1; omega)
    have z0 : f + (k + (a.cd.length : Int)) + (b.cd.length : Int) + ((0 : Nat) : Int) = f + (k + a.cd.length + b.cd.length) := by omega
    rw [z0] at e0
    have e0' : y (f + (k + a.cd.length + b.cd.length)) = 5 := e0
    have i := oa.1 y tg fc f n k st (b.ops + (u + 1)) hl.1 (by omega) (by omega)
    have j := ob.1 y tg fc f n (k + a.cd.length) (a.ev tg fc :: st) (u + 1) hl2.1 (by show st.length + 1 + b.hg ≤ 99; omega) (by omega)
    have eu : (am_Cd.an a b).ops + u = a.ops + (b.ops + (u + 1)) := by
      show a.ops + (b.ops + 1) + u = _
      omega
    rw [eu, i, j]
    show (if n ≤ k + a.cd.length + b.cd.length then _ else _) = _
    rw [if_neg (by omega), if_neg (by omega), if_neg (by omega), if_neg (by omega)]
    show (if st.length < 99 then rn y tg fc f n u (k + a.cd.length + b.cd.length + 1) ((if y (f + (k + a.cd.length + b.cd.length)) = 5 then (if a.ev tg fc = 0 then 0 else am_b (b.ev tg fc ≠ 0)) else (if a.ev tg fc ≠ 0 then 1 else am_b (b.ev tg fc ≠ 0))) :: st) else none) = _
    rw [if_pos (by omega), if_pos e0']
    have ek : k + (a.cd.length : Int) + (b.cd.length : Int) + 1 = k + ((a.cd.length + (b.cd.length + 1) : Nat) : Int) := by omega
    rw [ek]
    rfl
  · show (if a.ev tg fc = 0 then 0 else am_b (b.ev tg fc ≠ 0)) = 0 ∨ (if a.ev tg fc = 0 then 0 else am_b (b.ev tg fc ≠ 0)) = 1
    split
    · exact Or.inl rfl
    · exact am_bz _
theorem oo_ok {a b : am_Cd} (oa : a.ok) (ob : b.ok) : (am_Cd.oo a b).ok := by
  have lc : (am_Cd.oo a b).cd.length = a.cd.length + (b.cd.length + 1) := by
    show (a.cd ++ (b.cd ++ [6])).length = _
    rw [List.length_append, List.length_append]
    rfl
  have hm1 : a.hg ≤ (am_Cd.oo a b).hg := Nat.le_max_left _ _
  have hm2 : b.hg + 1 ≤ (am_Cd.oo a b).hg := Nat.le_max_right _ _
  have hb := ob.2.2.1
  have oa2 := oa.2.1
  have ob2 := ob.2.1
  refine ⟨fun y tg fc f n k st u h hs hn => ?_, by rw [lc]; show a.ops + (b.ops + 1) ≤ _; omega, Nat.le_trans oa.2.2.1 hm1, fun tg fc ht => ?_, by rw [lc]; omega⟩
  · have hl := cdA_l (l := a.cd) (m := b.cd ++ [6]) h
    have hl2 := cdA_l hl.2
    rw [lc] at hn ⊢
    have ef : f + k + (a.cd.length : Int) = f + (k + a.cd.length) := by omega
    rw [ef] at hl2
    have e0 := hl2.2 0 (by show 0 < 1; omega)
    have z0 : f + (k + (a.cd.length : Int)) + (b.cd.length : Int) + ((0 : Nat) : Int) = f + (k + a.cd.length + b.cd.length) := by omega
    rw [z0] at e0
    have e0' : y (f + (k + a.cd.length + b.cd.length)) = 6 := e0
    have i := oa.1 y tg fc f n k st (b.ops + (u + 1)) hl.1 (by omega) (by omega)
    have j := ob.1 y tg fc f n (k + a.cd.length) (a.ev tg fc :: st) (u + 1) hl2.1 (by show st.length + 1 + b.hg ≤ 99; omega) (by omega)
    have eu : (am_Cd.oo a b).ops + u = a.ops + (b.ops + (u + 1)) := by
      show a.ops + (b.ops + 1) + u = _
      omega
    rw [eu, i, j]
    show (if n ≤ k + a.cd.length + b.cd.length then _ else _) = _
    rw [if_neg (by omega), if_neg (by omega), if_neg (by omega), if_neg (by omega)]
    show (if st.length < 99 then rn y tg fc f n u (k + a.cd.length + b.cd.length + 1) ((if y (f + (k + a.cd.length + b.cd.length)) = 5 then (if a.ev tg fc = 0 then 0 else am_b (b.ev tg fc ≠ 0)) else (if a.ev tg fc ≠ 0 then 1 else am_b (b.ev tg fc ≠ 0))) :: st) else none) = _
    rw [if_pos (by omega), if_neg (by omega)]
    have ek : k + (a.cd.length : Int) + (b.cd.length : Int) + 1 = k + ((a.cd.length + (b.cd.length + 1) : Nat) : Int) := by omega
    rw [ek]
    rfl
  · show (if a.ev tg fc ≠ 0 then 1 else am_b (b.ev tg fc ≠ 0)) = 0 ∨ (if a.ev tg fc ≠ 0 then 1 else am_b (b.ev tg fc ≠ 0)) = 1
    split
    · exact Or.inr rfl
    · exact am_bz _
/-- a whole code -/
theorem rn_all {y tg fc : Int → Int} {f : Int} {c : am_Cd} (ho : c.ok) (h : cdA y f c.cd) (hg : c.hg ≤ 99) (hl : c.cd.length ≤ 500) : rn y tg fc f c.cd.length 600 0 [] = some [c.ev tg fc] := by
  have e := ho.2.1
  have e6 : 600 = c.ops + (600 - c.ops) := by omega
  have z : f + 0 = f := by omega
  have q := ho.1 y tg fc f c.cd.length 0 [] (600 - c.ops) (by rw [z]; exact h) (by show 0 + c.hg ≤ 99; omega) (by omega)
  rw [← e6] at q
  rw [q]
  obtain ⟨u, hu⟩ : ∃ u, 600 - c.ops = u + 1 := ⟨600 - c.ops - 1, by omega⟩
  rw [hu]
  show (if (c.cd.length : Int) ≤ 0 + c.cd.length then _ else _) = _
  exact if_pos (by omega)
/-! words and numbers -/
/-- the word at a -/
def wAt (t : Int → Int) (n a : Int) : List Int := sgL t a (lE t n a - a).toNat
theorem wAt_l {t : Int → Int} {n a : Int} {w : List Int} (h : wAt t n a = w) : lE t n a = a + w.length := by
  have e : (wAt t n a).length = (lE t n a - a).toNat := sgL_l _
  rw [h] at e
  have := (lE_v (t := t) (n := n) (a := a)).1.1
  omega
theorem wAt_n {t : Int → Int} {n a : Int} {w : List Int} (h : wAt t n a = w) : ¬ (a + w.length < n ∧ (97 ≤ t (a + w.length) ∧ t (a + w.length) ≤ 122)) := by
  have e := wAt_l h
  have q := (lE_v (t := t) (n := n) (a := a)).2.2
  rw [e] at q
  exact q
theorem wAt_b {t : Int → Int} {n a : Int} {w : List Int} (h : wAt t n a = w) (hw : w ≠ []) : a < n ∧ (97 ≤ t (a) ∧ t (a) ≤ 122) := by
  by_cases c : a < n ∧ (97 ≤ t (a) ∧ t (a) ≤ 122)
  · exact c
  · have e := wAt_l h
    rw [lE_0 c] at e
    have : w.length = 0 := by omega
    exact absurd (List.eq_nil_of_length_eq_zero this) hw
theorem wAt_e {t : Int → Int} {n a : Int} {w : List Int} (h : wAt t n a = w) (ha : a ≤ n) : a + w.length ≤ n := by
  have e := wAt_l h
  have := (lE_v (t := t) (n := n) (a := a)).1.2 ha
  omega
def dF (t : Int → Int) (n : Int) : Nat → Int → Int
  | 0, a => a
  | f + 1, a => if a < n ∧ (48 ≤ t a ∧ t a ≤ 57) then dF t n f (a + 1) else a
/-- where digits end -/
def dE (t : Int → Int) (n a : Int) : Int := dF t n (n - a).toNat a
theorem dE_s {t : Int → Int} {n a : Int} (h : a < n ∧ (48 ≤ t a ∧ t a ≤ 57)) : dE t n a = dE t n (a + 1) := by
  have e : (n - a).toNat = (n - (a + 1)).toNat + 1 := by omega
  unfold dE
  rw [e]
  exact if_pos h
theorem dE_0 {t : Int → Int} {n a : Int} (h : ¬ (a < n ∧ (48 ≤ t a ∧ t a ≤ 57))) : dE t n a = a := by
  unfold dE
  cases e : (n - a).toNat with
  | zero => rfl
  | succ f => exact if_neg h
theorem dE_p {t : Int → Int} {n : Int} : ∀ (f : Nat) (a : Int), (n - a).toNat ≤ f → (a ≤ dE t n a ∧ (a ≤ n → dE t n a ≤ n)) ∧ (∀ j, a ≤ j → j < dE t n a → 48 ≤ t j ∧ t j ≤ 57) := by
  intro f
  induction f with
  | zero =>
    intro a h
    rw [dE_0 (fun z => absurd z.1 (by omega))]
    exact ⟨⟨by omega, fun z => z⟩, fun j h1 h2 => absurd h1 (by omega)⟩
  | succ f ih =>
    intro a h
    by_cases c : a < n ∧ (48 ≤ t a ∧ t a ≤ 57)
    · have q := ih (a + 1) (by omega)
      rw [dE_s c]
      refine ⟨⟨by omega, fun z => q.1.2 (by omega)⟩, fun j h1 h2 => ?_⟩
      by_cases e : j = a
      · rw [e]
        exact c.2
      · exact q.2 j (by omega) h2
    · rw [dE_0 c]
      exact ⟨⟨by omega, fun z => z⟩, fun j h1 h2 => absurd h1 (by omega)⟩
theorem dE_v {t : Int → Int} {n a : Int} : (a ≤ dE t n a ∧ (a ≤ n → dE t n a ≤ n)) ∧ (∀ j, a ≤ j → j < dE t n a → 48 ≤ t j ∧ t j ≤ 57) := dE_p (n - a).toNat a (Nat.le_refl _)
/-- the number of k digits -/
def vF (t : Int → Int) (a : Int) : Nat → Int
  | 0 => 0
  | k + 1 => 10 * vF t a k + t (a + k) - 48
theorem vF_b {t : Int → Int} {a : Int} : ∀ k : Nat, (∀ j, 0 ≤ j → j < (k : Int) → 48 ≤ t (a + j) ∧ t (a + j) ≤ 57) → k ≤ 4 → 0 ≤ vF t a k ∧ vF t a k ≤ 9999
  | 0, _, _ => ⟨Int.le_refl _, by show (0 : Int) ≤ 9999; decide⟩
  | 1, h, _ => by
    have := h 0 (by omega) (by omega)
    show 0 ≤ 10 * 0 + t (a + ((0 : Nat) : Int)) - 48 ∧ 10 * 0 + t (a + ((0 : Nat) : Int)) - 48 ≤ 9999
    have e : a + ((0 : Nat) : Int) = a + 0 := by omega
    rw [e]
    omega
  | 2, h, _ => by
    have a0 := h 0 (by omega) (by omega)
    have a1 := h 1 (by omega) (by omega)
    show 0 ≤ 10 * (10 * 0 + t (a + ((0 : Nat) : Int)) - 48) + t (a + ((1 : Nat) : Int)) - 48 ∧ 10 * (10 * 0 + t (a + ((0 : Nat) : Int)) - 48) + t (a + ((1 : Nat) : Int)) - 48 ≤ 9999
    have e : a + ((0 : Nat) : Int) = a + 0 := by omega
    have e1 : a + ((1 : Nat) : Int) = a + 1 := by omega
    rw [e, e1]
    omega
  | 3, h, _ => by
    have a0 := h 0 (by omega) (by omega)
    have a1 := h 1 (by omega) (by omega)
    have a2 := h 2 (by omega) (by omega)
    show 0 ≤ 10 * (10 * (10 * 0 + t (a + ((0 : Nat) : Int)) - 48) + t (a + ((1 : Nat) : Int)) - 48) + t (a + ((2 : Nat) : Int)) - 48 ∧ 10 * (10 * (10 * 0 + t (a + ((0 : Nat) : Int)) - 48) + t (a + ((1 : Nat) : Int)) - 48) + t (a + ((2 : Nat) : Int)) - 48 ≤ 9999
    have e : a + ((0 : Nat) : Int) = a + 0 := by omega
    have e1 : a + ((1 : Nat) : Int) = a + 1 := by omega
    have e2 : a + ((2 : Nat) : Int) = a + 2 := by omega
    rw [e, e1, e2]
    omega
  | 4, h, _ => by
    have a0 := h 0 (by omega) (by omega)
    have a1 := h 1 (by omega) (by omega)
    have a2 := h 2 (by omega) (by omega)
    have a3 := h 3 (by omega) (by omega)
    show 0 ≤ 10 * (10 * (10 * (10 * 0 + t (a + ((0 : Nat) : Int)) - 48) + t (a + ((1 : Nat) : Int)) - 48) + t (a + ((2 : Nat) : Int)) - 48) + t (a + ((3 : Nat) : Int)) - 48 ∧ 10 * (10 * (10 * (10 * 0 + t (a + ((0 : Nat) : Int)) - 48) + t (a + ((1 : Nat) : Int)) - 48) + t (a + ((2 : Nat) : Int)) - 48) + t (a + ((3 : Nat) : Int)) - 48 ≤ 9999
    have e : a + ((0 : Nat) : Int) = a + 0 := by omega
    have e1 : a + ((1 : Nat) : Int) = a + 1 := by omega
    have e2 : a + ((2 : Nat) : Int) = a + 2 := by omega
    have e3 : a + ((3 : Nat) : Int) = a + 3 := by omega
    rw [e, e1, e2, e3]
    omega
  | k + 5, _, h4 => absurd h4 (by omega)
/-- a number from lo to hi: the fault's place, or the end and the number -/
def nmR (t : Int → Int) (n a lo hi : Int) : Int ⊕ (Int × Int) := if dE t n (bE t n a) = bE t n a ∨ 4 < dE t n (bE t n a) - bE t n a ∨ ¬ (lo ≤ vF t (bE t n a) (dE t n (bE t n a) - bE t n a).toNat ∧ vF t (bE t n a) (dE t n (bE t n a) - bE t n a).toNat ≤ hi) then .inl (bE t n a) else .inr (dE t n (bE t n a), vF t (bE t n a) (dE t n (bE t n a) - bE t n a).toNat)
