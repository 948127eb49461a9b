set_option maxRecDepth 100000
/-! reading a story's text: t the bytes, n the end -/
/-- a piece: its word, its start, its length, whether it ends its word -/
abbrev am_Pz := Int × Int × Int × Int
def ltF (t : Int → Int) (n : Int) : Nat → Int → Int
  | 0, a => a
  | f + 1, a => if a < n ∧ (97 ≤ t a ∧ t a ≤ 122) then ltF t n f (a + 1) else a
/-- where letters end -/
def lE (t : Int → Int) (n a : Int) : Int := ltF t n (n - a).toNat a
def blF (t : Int → Int) (n : Int) : Nat → Int → Int
  | 0, a => a
  | f + 1, a => if a < n ∧ t a = 32 then blF t n f (a + 1) else a
/-- where blanks end -/
def bE (t : Int → Int) (n a : Int) : Int := blF t n (n - a).toNat a
section
variable {t : Int → Int} {n a : Int}
theorem lE_s (h : a < n ∧ (97 ≤ t a ∧ t a ≤ 122)) : lE t n a = lE t n (a + 1) := by
  have e : (n - a).toNat = (n - (a + 1)).toNat + 1 := by omega
  unfold lE
  rw [e]
  exact if_pos h
theorem lE_0 (h : ¬ (a < n ∧ (97 ≤ t a ∧ t a ≤ 122))) : lE t n a = a := by
  unfold lE
  cases e : (n - a).toNat with
  | zero => rfl
  | succ f => exact if_neg h
theorem bE_s (h : a < n ∧ t a = 32) : bE t n a = bE t n (a + 1) := by
  have e : (n - a).toNat = (n - (a + 1)).toNat + 1 := by omega
  unfold bE
  rw [e]
  exact if_pos h
theorem bE_0 (h : ¬ (a < n ∧ t a = 32)) : bE t n a = a := by
  unfold bE
  cases e : (n - a).toNat with
  | zero => rfl
  | succ f => exact if_neg h
theorem lE_p : ∀ (f : Nat) (a : Int), (n - a).toNat ≤ f → (a ≤ lE t n a ∧ (a ≤ n → lE t n a ≤ n)) ∧ (∀ j, a ≤ j → j < lE t n a → 97 ≤ t j ∧ t j ≤ 122) ∧ ¬ (lE t n a < n ∧ (97 ≤ t (lE t n a) ∧ t (lE t n a) ≤ 122)) := by
  intro f
  induction f with
  | zero =>
    intro a h
    rw [lE_0 (fun z => absurd z.1 (by omega))]
    exact ⟨⟨by omega, fun z => z⟩, fun j h1 h2 => absurd h1 (by omega), fun z => absurd z.1 (by omega)⟩
  | succ f ih =>
    intro a h
    by_cases c : a < n ∧ (97 ≤ t a ∧ t a ≤ 122)
    · have q := ih (a + 1) (by omega)
      rw [lE_s c]
      refine ⟨⟨by omega, fun z => q.1.2 (by omega)⟩, fun j h1 h2 => ?_, q.2.2⟩
      by_cases e : j = a
      · rw [e]
        exact c.2
      · exact q.2.1 j (by omega) h2
    · rw [lE_0 c]
      exact ⟨⟨by omega, fun z => z⟩, fun j h1 h2 => absurd h1 (by omega), c⟩
theorem lE_v : (a ≤ lE t n a ∧ (a ≤ n → lE t n a ≤ n)) ∧ (∀ j, a ≤ j → j < lE t n a → 97 ≤ t j ∧ t j ≤ 122) ∧ ¬ (lE t n a < n ∧ (97 ≤ t (lE t n a) ∧ t (lE t n a) ≤ 122)) := lE_p (n - a).toNat a (Nat.le_refl _)
theorem lE_t {k : Int} : ∀ (f : Nat) (a : Int), k = a + f → k ≤ lE t n a → lE t n a = lE t n k := by
  intro f
  induction f with
  | zero =>
    intro a e _
    have : k = a := by omega
    rw [this]
  | succ f ih =>
    intro a e h
    by_cases c : a < n ∧ (97 ≤ t a ∧ t a ≤ 122)
    · rw [lE_s c] at h ⊢
      exact ih (a + 1) (by omega) h
    · rw [lE_0 c] at h
      omega
theorem bE_p : ∀ (f : Nat) (a : Int), (n - a).toNat ≤ f → (a ≤ bE t n a ∧ (a ≤ n → bE t n a ≤ n)) ∧ ¬ (bE t n a < n ∧ t (bE t n a) = 32) := by
  intro f
  induction f with
  | zero =>
    intro a h
    rw [bE_0 (fun z => absurd z.1 (by omega))]
    exact ⟨⟨by omega, fun z => z⟩, fun z => absurd z.1 (by omega)⟩
  | succ f ih =>
    intro a h
    by_cases c : a < n ∧ t a = 32
    · have q := ih (a + 1) (by omega)
      rw [bE_s c]
      exact ⟨⟨by omega, fun z => q.1.2 (by omega)⟩, q.2⟩
    · rw [bE_0 c]
      exact ⟨⟨by omega, fun z => z⟩, c⟩
theorem bE_v : (a ≤ bE t n a ∧ (a ≤ n → bE t n a ≤ n)) ∧ ¬ (bE t n a < n ∧ t (bE t n a) = 32) := bE_p (n - a).toNat a (Nat.le_refl _)
end
/-- a word's pieces from a on, c pieces being there: the fault's place, or the end and the pieces -/
def wdR (t : Int → Int) (n w : Int) (a c : Int) : Int ⊕ (Int × List am_Pz) :=
  if c = 40 then .inl a
  else if 12 < lE t n a - a then .inl (a + 12)
  else if lE t n a < n ∧ t (lE t n a) = 45 then
    (if lE t n a + 1 < n ∧ (97 ≤ t (lE t n a + 1) ∧ t (lE t n a + 1) ≤ 122) then
      match wdR t n w (lE t n a + 1) (c + 1) with
      | .inl x => .inl x
      | .inr q => .inr (q.1, (w, a, lE t n a - a, 0) :: q.2)
    else .inl (lE t n a + 1))
  else .inr (lE t n a, [(w, a, lE t n a - a, 1)])
termination_by (n - a).toNat
decreasing_by
  have := (lE_v (t := t) (n := n) (a := a)).1.1
  omega
/-- a part's words from a on: the fault's place, or the end, the number of words, the pieces -/
def paR (t : Int → Int) (n : Int) (a : Int) (nw : Int) (cur : List am_Pz) : Int ⊕ (Int × Int × List am_Pz) :=
  if nw = 24 ∨ ¬ (a < n ∧ (97 ≤ t a ∧ t a ≤ 122)) then .inl a
  else match wdR t n nw a cur.length with
    | .inl x => .inl x
    | .inr q => if a < bE t n q.1 ∧ (bE t n q.1 < n ∧ (97 ≤ t (bE t n q.1) ∧ t (bE t n q.1) ≤ 122)) then paR t n (bE t n q.1) (nw + 1) (cur ++ q.2) else .inr (bE t n q.1, nw + 1, cur ++ q.2)
termination_by (n - a).toNat
decreasing_by
  omega
/-- what follows a part -/
def soT (t : Int → Int) (n : Int) (m : Nat) (r : Int ⊕ (Int × Int × List am_Pz)) (K : Int → Int × List am_Pz → Int ⊕ List (Int × List am_Pz)) (done : List (Int × List am_Pz)) : Int ⊕ List (Int × List am_Pz) := match r with
  | .inl x => .inl x
  | .inr q => if n ≤ q.1 then .inr (done ++ [q.2]) else if t q.1 = 47 ∧ m + 1 ≠ 5 then K (q.1 + 1) q.2 else .inl q.1
/-- a story's parts from a on -/
def soR (t : Int → Int) (n : Int) : Nat → Int → List (Int × List am_Pz) → Int ⊕ List (Int × List am_Pz)
  | 0, a, _ => .inl a
  | f + 1, a, done => soT t n done.length (paR t n (bE t n a) 0 []) (fun z p => soR t n f z (done ++ [p])) done
/-- pieces one behind another, words counted from w0 to w1 -/
def chP (t : Int → Int) : Int → List am_Pz → Int → Prop
  | w0, [], w1 => w0 = w1
  | w0, p :: l, w1 => p.1 = w0 ∧ (1 ≤ p.2.2.1 ∧ p.2.2.1 ≤ 12) ∧ (p.2.2.2 = 0 ∨ p.2.2.2 = 1) ∧ (∀ j, 0 ≤ j → j < p.2.2.1 → 97 ≤ t (p.2.1 + j) ∧ t (p.2.1 + j) ≤ 122) ∧ chP t (w0 + p.2.2.2) l w1
theorem chP_ap {t : Int → Int} : ∀ (l m : List am_Pz) (w0 w1 w2 : Int), chP t w0 l w1 → chP t w1 m w2 → chP t w0 (l ++ m) w2
  | [], m, w0, w1, w2, h, g => by
    have e : w0 = w1 := h
    rw [e]
    exact g
  | p :: l, m, w0, w1, w2, h, g => ⟨h.1, h.2.1, h.2.2.1, h.2.2.2.1, chP_ap l m _ w1 w2 h.2.2.2.2 g⟩
/-- the last piece ends its word -/
def laP : List am_Pz → Prop
  | [] => False
  | [p] => p.2.2.2 = 1
  | _ :: p :: l => laP (p :: l)
theorem laP_c {p : am_Pz} : ∀ l : List am_Pz, laP l → laP (p :: l)
  | [], h => h.elim
  | _ :: _, h => h
theorem laP_ap : ∀ (l m : List am_Pz), laP m → laP (l ++ m)
  | [], m, h => h
  | _ :: l, m, h => laP_c _ (laP_ap l m h)
theorem wdR_v {t : Int → Int} {n w : Int} : ∀ (f : Nat) (a c : Int), (n - a).toNat ≤ f → a < n ∧ (97 ≤ t a ∧ t a ≤ 122) → c ≤ 40 → ∀ q, wdR t n w a c = .inr q → (a < q.1 ∧ q.1 ≤ n) ∧ chP t w q.2 (w + 1) ∧ laP q.2 ∧ c + q.2.length ≤ 40 ∧ ¬ (q.1 < n ∧ (97 ≤ t q.1 ∧ t q.1 ≤ 122)) := by
  intro f
  induction f with
  | zero =>
    intro a c h ha
    omega
  | succ f ih =>
    intro a c h ha hc q e
    have v := lE_v (t := t) (n := n) (a := a)
    have g : a + 1 ≤ lE t n a := by
      rw [lE_s ha]
      exact (lE_v (t := t) (n := n) (a := a + 1)).1.1
    have seg : ∀ j, 0 ≤ j → j < lE t n a - a → 97 ≤ t (a + j) ∧ t (a + j) ≤ 122 := fun j j1 j2 => v.2.1 (a + j) (by omega) (by omega)
    rw [wdR] at e
    by_cases c1 : c = 40
    · rw [if_pos c1] at e
      cases e
    · rw [if_neg c1] at e
      by_cases c2 : 12 < lE t n a - a
      · rw [if_pos c2] at e
        cases e
      · rw [if_neg c2] at e
        by_cases c3 : lE t n a < n ∧ t (lE t n a) = 45
        · rw [if_pos c3] at e
          by_cases c4 : lE t n a + 1 < n ∧ (97 ≤ t (lE t n a + 1) ∧ t (lE t n a + 1) ≤ 122)
          · rw [if_pos c4] at e
            cases r : wdR t n w (lE t n a + 1) (c + 1) with
            | inl x =>
              rw [r] at e
              cases e
            | inr p =>
              rw [r] at e
              have i := ih (lE t n a + 1) (c + 1) (by omega) c4 (by omega) p r
              have e2 : q = (p.1, (w, a, lE t n a - a, 0) :: p.2) := by
                cases e
                rfl
              rw [e2]
              refine ⟨⟨by show a < p.1; omega, i.1.2⟩, ⟨rfl, ⟨by show (1 : Int) ≤ lE t n a - a; omega, by show lE t n a - a ≤ (12 : Int); omega⟩, Or.inl rfl, seg, ?_⟩, laP_c _ i.2.2.1, ?_, i.2.2.2.2⟩
              · have e0 : w + 0 = w := by omega
                show chP t (w + 0) p.2 (w + 1)
                rw [e0]
                exact i.2.1
              · have e3 : (((w, a, lE t n a - a, 0) :: p.2 : List am_Pz).length : Int) = p.2.length + 1 := by
                  simp
                show c + (((w, a, lE t n a - a, 0) :: p.2 : List am_Pz).length : Int) ≤ 40
                rw [e3]
                have := i.2.2.2.1
                omega
          · rw [if_neg c4] at e
            cases e
        · rw [if_neg c3] at e
          have e2 : q = (lE t n a, [(w, a, lE t n a - a, 1)]) := by
            cases e
            rfl
          rw [e2]
          refine ⟨⟨by show a < lE t n a; omega, v.1.2 (by omega)⟩, ⟨rfl, ⟨by show (1 : Int) ≤ lE t n a - a; omega, by show lE t n a - a ≤ (12 : Int); omega⟩, Or.inr rfl, seg, rfl⟩, rfl, ?_, v.2.2⟩
          show c + 1 ≤ 40
          omega
theorem paR_v {t : Int → Int} {n : Int} : ∀ (f : Nat) (a nw : Int) (cur : List am_Pz), (n - a).toNat ≤ f → 0 ≤ nw ∧ nw ≤ 24 → (cur.length : Int) ≤ 40 → chP t 0 cur nw → ∀ q, paR t n a nw cur = .inr q → (a < q.1 ∧ q.1 ≤ n) ∧ (1 ≤ q.2.1 ∧ q.2.1 ≤ 24) ∧ chP t 0 q.2.2 q.2.1 ∧ laP q.2.2 ∧ (q.2.2.length : Int) ≤ 40 := by
  intro f
  induction f with
  | zero =>
    intro a nw cur h _ _ _ q e
    rw [paR, if_pos (Or.inr (fun z => absurd z.1 (by omega)))] at e
    cases e
  | succ f ih =>
    intro a nw cur h hw hl hc q e
    rw [paR] at e
    by_cases c : nw = 24 ∨ ¬ (a < n ∧ (97 ≤ t a ∧ t a ≤ 122))
    · rw [if_pos c] at e
      cases e
    · rw [if_neg c] at e
      have ha : a < n ∧ (97 ≤ t a ∧ t a ≤ 122) := by omega
      cases r : wdR t n nw a cur.length with
      | inl x =>
        rw [r] at e
        cases e
      | inr p =>
        rw [r] at e
        have i := wdR_v (n - a).toNat a cur.length (Nat.le_refl _) ha hl p r
        have bv := bE_v (t := t) (n := n) (a := p.1)
        have ca := chP_ap cur p.2 0 nw (nw + 1) hc i.2.1
        have la := laP_ap cur p.2 i.2.2.1
        have le : ((cur ++ p.2).length : Int) ≤ 40 := by
          rw [List.length_append]
          have := i.2.2.2.1
          omega
        have e : (if a < bE t n p.1 ∧ (bE t n p.1 < n ∧ (97 ≤ t (bE t n p.1) ∧ t (bE t n p.1) ≤ 122)) then paR t n (bE t n p.1) (nw + 1) (cur ++ p.2) else .inr (bE t n p.1, nw + 1, cur ++ p.2)) = .inr q := e
        by_cases g : a < bE t n p.1 ∧ (bE t n p.1 < n ∧ (97 ≤ t (bE t n p.1) ∧ t (bE t n p.1) ≤ 122))
        · rw [if_pos g] at e
          have k := ih (bE t n p.1) (nw + 1) (cur ++ p.2) (by omega) (by omega) le ca q e
          exact ⟨⟨by omega, k.1.2⟩, k.2⟩
        · rw [if_neg g] at e
          have e2 : q = (bE t n p.1, nw + 1, cur ++ p.2) := by
            cases e
            rfl
          rw [e2]
          exact ⟨⟨by show a < bE t n p.1; omega, bv.1.2 i.1.2⟩, ⟨by show (1 : Int) ≤ nw + 1; omega, by show nw + 1 ≤ (24 : Int); omega⟩, ca, la, le⟩
/-- pieces, as the row holds them -/
def gP : List am_Pz → Nat → am_Pz
  | [], _ => (0, 0, 0, 0)
  | p :: _, 0 => p
  | _ :: l, k + 1 => gP l k
theorem gP_ap : ∀ (l m : List am_Pz) (k : Nat), gP (l ++ m) k = if k < l.length then gP l k else gP m (k - l.length)
  | [], m, k => by
    show gP m k = if k < 0 then gP [] k else gP m (k - 0)
    rw [if_neg (by omega)]
    rfl
  | p :: l, m, 0 => by
    rw [if_pos (by show 0 < l.length + 1; omega)]
    rfl
  | p :: l, m, k + 1 => by
    show gP (l ++ m) k = if k + 1 < l.length + 1 then gP l k else gP m (k + 1 - (l.length + 1))
    rw [gP_ap l m k]
    have e : k + 1 - (l.length + 1) = k - l.length := by omega
    rw [e]
    by_cases c : k < l.length
    · rw [if_pos c, if_pos (by omega)]
    · rw [if_neg c, if_neg (by omega)]
/-- a part's row holds these pieces and words -/
def rwP (t : Int → Int) (v : Int → Int) (nw : Int) (l : List am_Pz) : Prop := v 0 = nw ∧ v 1 = (l.length : Int) ∧ ∀ k : Nat, k < l.length → v (85 + k) = (gP l k).1 ∧ v (125 + k) = (gP l k).2.2.1 ∧ ∀ i, 0 ≤ i → i < (gP l k).2.2.1 → v (165 + 12 * k + i) = t ((gP l k).2.1 + i) - 97
theorem chP_g {t : Int → Int} : ∀ (l : List am_Pz) (w0 w1 : Int), chP t w0 l w1 → ∀ k : Nat, k < l.length → (1 ≤ (gP l k).2.2.1 ∧ (gP l k).2.2.1 ≤ 12) ∧ ((gP l k).2.2.2 = 0 ∨ (gP l k).2.2.2 = 1) ∧ (∀ j, 0 ≤ j → j < (gP l k).2.2.1 → 97 ≤ t ((gP l k).2.1 + j) ∧ t ((gP l k).2.1 + j) ≤ 122) ∧ (w0 ≤ (gP l k).1 ∧ (gP l k).1 + (gP l k).2.2.2 ≤ w1) ∧ (k + 1 < l.length → (gP l (k + 1)).1 = (gP l k).1 + (gP l k).2.2.2) ∧ (k = 0 → (gP l k).1 = w0)
  | [], _, _, _, k, hk => absurd hk (Nat.not_lt_zero _)
  | p :: l, w0, w1, h, 0, _ => by
    have m := chP_m l _ w1 h.2.2.2.2
    refine ⟨h.2.1, h.2.2.1, h.2.2.2.1, ⟨by show w0 ≤ p.1; rw [h.1]; exact Int.le_refl _, by show p.1 + p.2.2.2 ≤ w1; rw [h.1]; exact m⟩, fun hk => ?_, fun _ => h.1⟩
    cases l with
    | nil => exact absurd hk (by show ¬ 0 + 1 < 0 + 1; omega)
    | cons p2 l2 =>
      show p2.1 = p.1 + p.2.2.2
      rw [h.1]
      exact h.2.2.2.2.1
  | p :: l, w0, w1, h, k + 1, hk => by
    have i := chP_g l _ w1 h.2.2.2.2 k (by
      have e : (p :: l).length = l.length + 1 := rfl
      omega)
    have h01 := h.2.2.1
    refine ⟨i.1, i.2.1, i.2.2.1, ⟨?_, i.2.2.2.1.2⟩, fun hk2 => i.2.2.2.2.1 (by
      have e : (p :: l).length = l.length + 1 := rfl
      omega), fun e => absurd e (by omega)⟩
    have := i.2.2.2.1.1
    show w0 ≤ (gP l k).1
    omega
where
  chP_m {t : Int → Int} : ∀ (l : List am_Pz) (w0 w1 : Int), chP t w0 l w1 → w0 ≤ w1
  | [], w0, w1, h => by
    have e : w0 = w1 := h
    omega
  | p :: l, w0, w1, h => by
    have i := chP_m l _ w1 h.2.2.2.2
    have := h.2.2.1
    omega
theorem laP_g : ∀ (l : List am_Pz), laP l → (gP l (l.length - 1)).2.2.2 = 1 ∧ 1 ≤ l.length
  | [], h => h.elim
  | [p], h => ⟨h, Nat.le_refl _⟩
  | _ :: p :: l, h => by
    have i := laP_g (p :: l) h
    exact ⟨i.1, by show 1 ≤ l.length + 1 + 1; omega⟩
/-- the row's words end where the pieces say -/
theorem rwP_ew {t v : Int → Int} {nw : Int} {l : List am_Pz} (r : rwP t v nw l) (c : chP t 0 l nw) (la : laP l) : ∀ k : Nat, k < l.length → am_b (ew v k) = (gP l k).2.2.2 := by
  intro k hk
  have g := chP_g l 0 nw c k hk
  have w1 := (r.2.2 k hk).1
  by_cases e : k + 1 < l.length
  · have w2 := (r.2.2 (k + 1) e).1
    have e1 : (85 + ((k + 1 : Nat) : Int) : Int) = 86 + (k : Int) := by omega
    rw [e1, g.2.2.2.2.1 e] at w2
    unfold ew
    rcases g.2.1 with z | z
    · rw [z]
      refine am_bf (fun y => ?_)
      rw [r.2.1, w1, w2, z] at y
      omega
    · rw [z]
      refine am_bt ?_
      rw [r.2.1, w1, w2, z]
      omega
  · have lg := laP_g l la
    have e2 : l.length - 1 = k := by omega
    rw [e2] at lg
    rw [lg.1]
    unfold ew
    refine am_bt ?_
    rw [r.2.1]
    omega
theorem rwP_N {t v : Int → Int} {nw : Int} {l : List am_Pz} (r : rwP t v nw l) (c : chP t 0 l nw) (la : laP l) : okN v := by
  have lg := laP_g l la
  refine ⟨?_, fun k k1 k2 => ?_⟩
  · have w := (r.2.2 0 (by omega)).1
    rw [(chP_g l 0 nw c 0 (by omega)).2.2.2.2.2 rfl] at w
    exact w
  · rw [r.2.1] at k2
    have e : ((k.toNat : Nat) : Int) = k := by omega
    have q := rwP_ew r c la k.toNat (by omega)
    rw [e] at q
    have w1 := (r.2.2 k.toNat (by omega)).1
    have w2 := (r.2.2 (k.toNat + 1) (by omega)).1
    have e1 : (85 + ((k.toNat + 1 : Nat) : Int) : Int) = 86 + k := by omega
    rw [e1, (chP_g l 0 nw c k.toNat (by omega)).2.2.2.2.1 (by omega)] at w2
    rw [e] at w1
    rw [q, w1, w2]
section
variable {t : Int → Int} {n w a c : Int}
theorem wdR_40 (h : c = 40) : wdR t n w a c = .inl a := by
  rw [wdR, if_pos h]
theorem wdR_12 (h : c ≠ 40) (h2 : 12 < lE t n a - a) : wdR t n w a c = .inl (a + 12) := by
  rw [wdR, if_neg h, if_pos h2]
theorem wdR_1 (h : c ≠ 40) (h2 : lE t n a - a ≤ 12) (h3 : ¬ (lE t n a < n ∧ t (lE t n a) = 45)) : wdR t n w a c = .inr (lE t n a, [(w, a, lE t n a - a, 1)]) := by
  rw [wdR, if_neg h, if_neg (by omega), if_neg h3]
theorem wdR_h0 (h : c ≠ 40) (h2 : lE t n a - a ≤ 12) (h3 : lE t n a < n ∧ t (lE t n a) = 45) (h4 : ¬ (lE t n a + 1 < n ∧ (97 ≤ t (lE t n a + 1) ∧ t (lE t n a + 1) ≤ 122))) : wdR t n w a c = .inl (lE t n a + 1) := by
  rw [wdR, if_neg h, if_neg (by omega), if_pos h3, if_neg h4]
theorem wdR_hl {x : Int} (h : c ≠ 40) (h2 : lE t n a - a ≤ 12) (h3 : lE t n a < n ∧ t (lE t n a) = 45) (h4 : lE t n a + 1 < n ∧ (97 ≤ t (lE t n a + 1) ∧ t (lE t n a + 1) ≤ 122)) (r : wdR t n w (lE t n a + 1) (c + 1) = .inl x) : wdR t n w a c = .inl x := by
  rw [wdR, if_neg h, if_neg (by omega), if_pos h3, if_pos h4, r]
theorem wdR_hr {q : Int × List am_Pz} (h : c ≠ 40) (h2 : lE t n a - a ≤ 12) (h3 : lE t n a < n ∧ t (lE t n a) = 45) (h4 : lE t n a + 1 < n ∧ (97 ≤ t (lE t n a + 1) ∧ t (lE t n a + 1) ≤ 122)) (r : wdR t n w (lE t n a + 1) (c + 1) = .inr q) : wdR t n w a c = .inr (q.1, (w, a, lE t n a - a, 0) :: q.2) := by
  rw [wdR, if_neg h, if_neg (by omega), if_pos h3, if_pos h4, r]
theorem paR_0 {nw : Int} {cur : List am_Pz} (h : nw = 24 ∨ ¬ (a < n ∧ (97 ≤ t a ∧ t a ≤ 122))) : paR t n a nw cur = .inl a := by
  rw [paR, if_pos h]
theorem paR_l {x nw : Int} {cur : List am_Pz} (h : ¬ (nw = 24 ∨ ¬ (a < n ∧ (97 ≤ t a ∧ t a ≤ 122)))) (r : wdR t n nw a cur.length = .inl x) : paR t n a nw cur = .inl x := by
  rw [paR, if_neg h, r]
theorem paR_r {q : Int × List am_Pz} {nw : Int} {cur : List am_Pz} (h : ¬ (nw = 24 ∨ ¬ (a < n ∧ (97 ≤ t a ∧ t a ≤ 122)))) (hl : (cur.length : Int) ≤ 40) (r : wdR t n nw a cur.length = .inr q) : paR t n a nw cur = if bE t n q.1 < n ∧ (97 ≤ t (bE t n q.1) ∧ t (bE t n q.1) ≤ 122) then paR t n (bE t n q.1) (nw + 1) (cur ++ q.2) else .inr (bE t n q.1, nw + 1, cur ++ q.2) := by
  have i := wdR_v (n - a).toNat a cur.length (Nat.le_refl _) (by omega) hl q r
  have bv := bE_v (t := t) (n := n) (a := q.1)
  rw [paR, if_neg h, r]
  show (if a < bE t n q.1 ∧ (bE t n q.1 < n ∧ (97 ≤ t (bE t n q.1) ∧ t (bE t n q.1) ≤ 122)) then paR t n (bE t n q.1) (nw + 1) (cur ++ q.2) else .inr (bE t n q.1, nw + 1, cur ++ q.2)) = _
  by_cases g : bE t n q.1 < n ∧ (97 ≤ t (bE t n q.1) ∧ t (bE t n q.1) ≤ 122)
  · rw [if_pos g, if_pos ⟨by omega, g⟩]
  · rw [if_neg g, if_neg (fun z => g z.2)]
end
