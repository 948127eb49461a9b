set_option maxRecDepth 100000
/-! what is left as it was -/
def fa {α : Type} (l : List Nat) (f g : Nat → α) : Prop := ∀ j, am_mem l j = false → g j = f j
theorem fa_refl {α : Type} {l : List Nat} {f : Nat → α} : fa l f f := fun _ _ => rfl
theorem fa_trans {α : Type} {l : List Nat} {f g h : Nat → α} (a : fa l f g) (b : fa l g h) : fa l f h := fun j q => (b j q).trans (a j q)
theorem am_mem_ne {l : List Nat} {k j : Nat} (h : am_mem l k = true) (q : am_mem l j = false) : j ≠ k := fun e => by
  rw [e, h] at q
  exact absurd q (by decide)
theorem fa_up {α : Type} {l : List Nat} {f g : Nat → α} {k : Nat} {v : α} (a : fa l f g) (h : am_mem l k = true) : fa l f (am_up g k v) := fun j q => (am_up_ne (am_mem_ne h q)).trans (a j q)
theorem am_mem_all {l m : List Nat} : ∀ {j : Nat}, l.all (fun x => am_mem m x) = true → am_mem l j = true → am_mem m j = true := by
  induction l with
  | nil => exact fun _ h => Bool.noConfusion h
  | cons a l ih =>
    intro j h1 h2
    rw [List.all_cons, Bool.and_eq_true] at h1
    unfold am_mem at h2
    by_cases e : j = a
    · rw [e]
      exact h1.1
    · rw [if_neg e] at h2
      exact ih h1.2 h2
theorem fa_sub {α : Type} {l m : List Nat} {f g : Nat → α} (a : fa l f g) (h : l.all (fun x => am_mem m x) = true) : fa m f g := fun j q => a j (by
  cases e : am_mem l j with
  | false => rfl
  | true => exact absurd (am_mem_all h e) (by rw [q]; decide))
/-! SPEC: rules -/
/-- a code of acts on a pile: y the style, tg tags, fc facts; from f on n numbers -/
def rn (y tg fc : Int → Int) (f n : Int) : Nat → Int → List Int → Option (List Int)
  | 0, _, _ => none
  | t + 1, k, st =>
    if n ≤ k then some st else
    if y (f + k) = 1 then (if (0 ≤ y (1 + f + k) ∧ y (1 + f + k) < 3) ∧ st.length < 100 ∧ k + 2 ≤ n then rn y tg fc f n t (k + 2) (tg (y (1 + f + k)) :: st) else none) else
    if y (f + k) = 2 ∨ y (f + k) = 3 then (if (0 ≤ y (1 + f + k) ∧ y (1 + f + k) < 6) ∧ st.length < 100 ∧ k + 3 ≤ n then rn y tg fc f n t (k + 3) ((if y (f + k) = 2 then am_b (fc (y (1 + f + k)) < y (2 + f + k)) else am_b (y (2 + f + k) < fc (y (1 + f + k)))) :: st) else none) else
    if y (f + k) = 4 then (match st with
      | x :: s => if s.length < 100 then rn y tg fc f n t (k + 1) (am_b (x = 0) :: s) else none
      | [] => none) else
    match st with
      | x :: z :: s => if s.length < 99 then rn y tg fc f n t (k + 1) ((if y (f + k) = 5 then (if z = 0 then 0 else am_b (x ≠ 0)) else (if z ≠ 0 then 1 else am_b (x ≠ 0))) :: s) else none
      | _ => none
/-- a pile as a row -/
def pl (f : Int → Int) : List Int → Prop
  | [] => True
  | x :: s => f (s.length : Int) = x ∧ (x = 0 ∨ x = 1) ∧ pl f s
theorem pl_uz {f : Int → Int} {j v : Int} : ∀ {s : List Int}, pl f s → (s.length : Int) ≤ j → pl (am_uz f j v) s
  | [], _, _ => True.intro
  | x :: s, h, q => by
    have q' : ((s.length + 1 : Nat) : Int) ≤ j := q
    exact ⟨(am_uz_ne (by omega)).trans h.1, h.2.1, pl_uz h.2.2 (by omega)⟩
theorem pl_cons {f : Int → Int} {v : Int} {s : List Int} (h : pl f s) (hv : v = 0 ∨ v = 1) : pl (am_uz f (s.length : Int) v) (v :: s) := ⟨am_uz_eq, hv, pl_uz h (Int.le_refl _)⟩
/-- whether rule k of a style holds -/
def hv (y tg fc : Int → Int) (k : Int) : Int := if y (6 + 5 * k) = 0 then 1 else match rn y tg fc (y (5 + 5 * k)) (y (6 + 5 * k)) 600 0 [] with
  | some [x] => x
  | _ => 0
/-- a rule's code is right -/
def okR (y : Int → Int) (k : Int) : Prop := y (6 + 5 * k) = 0 ∨ ((0 ≤ y (5 + 5 * k) ∧ 0 ≤ y (6 + 5 * k) ∧ y (5 + 5 * k) + y (6 + 5 * k) ≤ 562) ∧ ∀ tg fc : Int → Int, (∀ i, 0 ≤ i → i < 3 → tg i = 0 ∨ tg i = 1) → ∃ x, (x = 0 ∨ x = 1) ∧ rn y tg fc (y (5 + 5 * k)) (y (6 + 5 * k)) 600 0 [] = some [x])
theorem hv_01 {y tg fc : Int → Int} {k : Int} (h : okR y k) (ht : ∀ i, 0 ≤ i → i < 3 → tg i = 0 ∨ tg i = 1) : hv y tg fc k = 0 ∨ hv y tg fc k = 1 := by
  unfold hv
  by_cases c : y (6 + 5 * k) = 0
  · rw [if_pos c]
    exact Or.inr rfl
  · rw [if_neg c]
    rcases h with h | h
    · exact absurd h c
    · obtain ⟨x, hx, e⟩ := h.2 tg fc ht
      rw [e]
      exact hx
/-- the last rule of a word that holds, of the first n; -1 -/
def lastR (y tg fc : Int → Int) (w : Int) : Nat → Int
  | 0 => -1
  | n + 1 => if y (2 + 5 * (n : Int)) = w ∧ hv y tg fc n ≠ 0 then (n : Int) else lastR y tg fc w n
theorem lastR_bd {y tg fc : Int → Int} {w : Int} : ∀ n : Nat, -1 ≤ lastR y tg fc w n ∧ lastR y tg fc w n < n
  | 0 => by
    show (-1 : Int) ≤ -1 ∧ (-1 : Int) < ((0 : Nat) : Int)
    omega
  | n + 1 => by
    have h := lastR_bd (y := y) (tg := tg) (fc := fc) (w := w) n
    unfold lastR
    by_cases c : y (2 + 5 * (n : Int)) = w ∧ hv y tg fc n ≠ 0
    · rw [if_pos c]
      omega
    · rw [if_neg c]
      omega
/-- the style of a minute among the first n: g its first minute; -1 -/
def stI (g : Int → Int) (mi : Int) : Nat → Int
  | 0 => -1
  | n + 1 => if g n ≤ mi ∧ (stI g mi n = -1 ∨ g (stI g mi n) ≤ g n) then (n : Int) else stI g mi n
theorem stI_bd {g : Int → Int} {mi : Int} : ∀ n : Nat, -1 ≤ stI g mi n ∧ stI g mi n < n
  | 0 => by
    show (-1 : Int) ≤ -1 ∧ (-1 : Int) < ((0 : Nat) : Int)
    omega
  | n + 1 => by
    have h := stI_bd (g := g) (mi := mi) n
    unfold stI
    by_cases c : g n ≤ mi ∧ (stI g mi n = -1 ∨ g (stI g mi n) ≤ g n)
    · rw [if_pos c]
      omega
    · rw [if_neg c]
      omega
/-- the number of the style of a minute -/
def sty (S : am_G) (mi : Int) : Int := stI (fun k => S 6 k 0) mi (S 0 0 2).toNat
/-- the last rule of word w by the style of minute mi -/
def lrl (S : am_G) (tg fc : Int → Int) (mi w : Int) : Int := if sty S mi = -1 then -1 else lastR (S 6 (sty S mi)) tg fc w (S 6 (sty S mi) 1).toNat
def sdd (S : am_G) (mi k wh wo : Int) : Int := if k = -1 then wo else S 6 (sty S mi) (2 + 5 * k + wh)
/-- tags and facts of a part at a minute -/
def tgs (S : am_G) (p mi co : Int) : Int → Int := fun i => if i = 0 then am_b (S 2 0 (p / 5) = 1) else if i = 1 then am_b (S 2 1 (p / 5) < mi) else co
def fcs (S : am_G) (p mi le ma : Int) : Int → Int := fun i => if i = 0 then S 3 p 0 else if i = 1 then S 3 p 1 else if i = 2 then S 2 1 (p / 5) else if i = 3 then mi else if i = 4 then le else ma
/-- the numbers of the styles are right -/
def okY (S : am_G) : Prop := (0 ≤ S 0 0 2 ∧ S 0 0 2 ≤ 10) ∧ ∀ k, 0 ≤ k → k < S 0 0 2 → (0 ≤ S 6 k 0 ∧ S 6 k 0 ≤ 600) ∧ (0 ≤ S 6 k 1 ∧ S 6 k 1 ≤ 12) ∧ ∀ q, 0 ≤ q → q < S 6 k 1 → okR (S 6 k) q ∧ (0 ≤ S 6 k (3 + 5 * q) ∧ S 6 k (3 + 5 * q) ≤ 999) ∧ (0 ≤ S 6 k (4 + 5 * q) ∧ S 6 k (4 + 5 * q) ≤ 999) ∧ (S 6 k (2 + 5 * q) = 0 → S 6 k (3 + 5 * q) ≤ 400) ∧ (S 6 k (2 + 5 * q) = 1 → S 6 k (3 + 5 * q) ≤ 40 ∧ S 6 k (4 + 5 * q) ≤ 40)
theorem rn_cg {y tg fc tg' fc' : Int → Int} {f n : Int} (h1 : ∀ i, 0 ≤ i → i < 3 → tg i = tg' i) (h2 : ∀ i, 0 ≤ i → i < 6 → fc i = fc' i) : ∀ (t : Nat) (k : Int) (st : List Int), rn y tg fc f n t k st = rn y tg' fc' f n t k st := by
  intro t
  induction t with
  | zero => exact fun _ _ => rfl
  | succ t ih =>
    intro k st
    unfold rn
    by_cases c0 : n ≤ k
    · rw [if_pos c0, if_pos c0]
    rw [if_neg c0, if_neg c0]
    by_cases c1 : y (f + k) = 1
    · rw [if_pos c1, if_pos c1]
      by_cases c3 : (0 ≤ y (1 + f + k) ∧ y (1 + f + k) < 3) ∧ st.length < 100 ∧ k + 2 ≤ n
      · rw [if_pos c3, if_pos c3, h1 _ c3.1.1 c3.1.2, ih]
      · rw [if_neg c3, if_neg c3]
    rw [if_neg c1, if_neg c1]
    by_cases c2 : y (f + k) = 2 ∨ y (f + k) = 3
    · rw [if_pos c2, if_pos c2]
      by_cases c3 : (0 ≤ y (1 + f + k) ∧ y (1 + f + k) < 6) ∧ st.length < 100 ∧ k + 3 ≤ n
      · rw [if_pos c3, if_pos c3, h2 _ c3.1.1 c3.1.2, ih]
      · rw [if_neg c3, if_neg c3]
    rw [if_neg c2, if_neg c2]
    by_cases c4 : y (f + k) = 4
    · rw [if_pos c4, if_pos c4]
      cases st with
      | nil => rfl
      | cons x s => simp only [ih]
    rw [if_neg c4, if_neg c4]
    match st with
    | [] => rfl
    | [_] => rfl
    | x :: z :: s => simp only [ih]
theorem hv_cg {y tg fc tg' fc' : Int → Int} {k : Int} (h1 : ∀ i, 0 ≤ i → i < 3 → tg i = tg' i) (h2 : ∀ i, 0 ≤ i → i < 6 → fc i = fc' i) : hv y tg fc k = hv y tg' fc' k := by
  unfold hv
  rw [rn_cg h1 h2]
theorem lastR_cg {y tg fc tg' fc' : Int → Int} {w : Int} (h1 : ∀ i, 0 ≤ i → i < 3 → tg i = tg' i) (h2 : ∀ i, 0 ≤ i → i < 6 → fc i = fc' i) : ∀ n : Nat, lastR y tg fc w n = lastR y tg' fc' w n
  | 0 => rfl
  | n + 1 => by
    unfold lastR
    rw [hv_cg h1 h2, lastR_cg h1 h2 n]
theorem lastR_w {y tg fc : Int → Int} {w : Int} : ∀ n : Nat, lastR y tg fc w n ≠ -1 → y (2 + 5 * lastR y tg fc w n) = w
  | 0, h => absurd rfl h
  | n + 1, h => by
    unfold lastR at h ⊢
    by_cases c : y (2 + 5 * (n : Int)) = w ∧ hv y tg fc n ≠ 0
    · rw [if_pos c]
      exact c.1
    · rw [if_neg c] at h ⊢
      exact lastR_w n h
theorem sty_bd {S : am_G} {mi : Int} (h : okY S) : -1 ≤ sty S mi ∧ sty S mi < S 0 0 2 := by
  have e := stI_bd (g := fun k => S 6 k 0) (mi := mi) (S 0 0 2).toNat
  have e1 := h.1
  unfold sty
  omega
/-- where a style is -/
def adr (q : Int) : Int := if q = -1 then -1 else 320962 + 562 * q
theorem adr_n : adr (-1) = -1 := if_pos rfl
theorem adr_p {q : Int} (h : 0 ≤ q) : adr q = 320962 + 562 * q := if_neg (by omega)
def meS (S : am_G) (p mi : Int) : Int := sdd S mi (lrl S (tgs S p mi 0) (fcs S p mi 0 99) mi 0) 1 60
def leS (S : am_G) (p mi : Int) : Int := sdd S mi (lrl S (tgs S p mi 0) (fcs S p mi 0 99) mi 1) 1 2
def moS (S : am_G) (p mi : Int) : Int := sdd S mi (lrl S (tgs S p mi 0) (fcs S p mi 0 99) mi 1) 2 6
def coS (S : am_G) (p mi : Int) : Int := sdd S mi (lrl S (tgs S p mi 0) (fcs S p mi 0 99) mi 2) 1 25
def ftS (S : am_G) (p mi : Int) : Int := sdd S mi (lrl S (tgs S p mi 0) (fcs S p mi 0 99) mi 3) 1 0
def mrS (S : am_G) (p mi : Int) : Int := lrl S (tgs S p mi 0) (fcs S p mi 0 99) mi 0
theorem lrl_bd {S : am_G} {tg fc : Int → Int} {mi w : Int} (h : okY S) : lrl S tg fc mi w = -1 ∨ ((0 ≤ sty S mi ∧ sty S mi < S 0 0 2) ∧ (0 ≤ lrl S tg fc mi w ∧ lrl S tg fc mi w < S 6 (sty S mi) 1) ∧ S 6 (sty S mi) (2 + 5 * lrl S tg fc mi w) = w) := by
  have e1 := sty_bd (mi := mi) h
  unfold lrl
  by_cases c : sty S mi = -1
  · rw [if_pos c]
    exact Or.inl rfl
  · rw [if_neg c]
    have e2 := h.2 (sty S mi) (by omega) e1.2
    have e3 := lastR_bd (y := S 6 (sty S mi)) (tg := tg) (fc := fc) (w := w) (S 6 (sty S mi) 1).toNat
    by_cases c2 : lastR (S 6 (sty S mi)) tg fc w (S 6 (sty S mi) 1).toNat = -1
    · exact Or.inl c2
    · exact Or.inr ⟨by omega, by omega, lastR_w _ c2⟩
theorem sdd_bd {S : am_G} {tg fc : Int → Int} {mi w wh wo c : Int} (h : okY S) (hw : wh = 1 ∨ wh = 2) (ho : 0 ≤ wo ∧ wo ≤ c) (hc : 999 ≤ c ∨ (w = 0 ∧ wh = 1 ∧ 400 ≤ c) ∨ (w = 1 ∧ 40 ≤ c)) : 0 ≤ sdd S mi (lrl S tg fc mi w) wh wo ∧ sdd S mi (lrl S tg fc mi w) wh wo ≤ c := by
  unfold sdd
  by_cases q : lrl S tg fc mi w = -1
  · rw [if_pos q]
    exact ho
  · rw [if_neg q]
    rcases lrl_bd (tg := tg) (fc := fc) (mi := mi) (w := w) h with e | ⟨e1, e2, e3⟩
    · exact absurd e q
    · obtain ⟨f1, f2, f3, f4, f5⟩ := (h.2 _ e1.1 e1.2).2.2 _ e2.1 e2.2
      rcases hw with hw | hw
      · subst hw
        have e4 : 2 + 5 * lrl S tg fc mi w + 1 = 3 + 5 * lrl S tg fc mi w := by omega
        rw [e4]
        rcases hc with hc | hc | hc
        · omega
        · have := f4 (by rw [e3]; exact hc.1)
          omega
        · have := (f5 (by rw [e3]; exact hc.1)).1
          omega
      · subst hw
        have e4 : 2 + 5 * lrl S tg fc mi w + 2 = 4 + 5 * lrl S tg fc mi w := by omega
        rw [e4]
        rcases hc with hc | hc | hc
        · omega
        · exact absurd hc.2.1 (by decide)
        · have := (f5 (by rw [e3]; exact hc.1)).2
          omega
theorem tells_bd {S : am_G} {p mi : Int} (h : okY S) : (0 ≤ meS S p mi ∧ meS S p mi ≤ 400) ∧ (0 ≤ leS S p mi ∧ leS S p mi ≤ 40) ∧ (0 ≤ moS S p mi ∧ moS S p mi ≤ 40) ∧ (0 ≤ coS S p mi ∧ coS S p mi ≤ 999) ∧ (0 ≤ ftS S p mi ∧ ftS S p mi ≤ 999) :=
  ⟨sdd_bd h (Or.inl rfl) (by omega) (Or.inr (Or.inl ⟨rfl, rfl, by omega⟩)), sdd_bd h (Or.inl rfl) (by omega) (Or.inr (Or.inr ⟨rfl, by omega⟩)), sdd_bd h (Or.inr rfl) (by omega) (Or.inr (Or.inr ⟨rfl, by omega⟩)), sdd_bd h (Or.inl rfl) (by omega) (Or.inl (by omega)), sdd_bd h (Or.inl rfl) (by omega) (Or.inl (by omega))⟩
theorem tgs_01 {S : am_G} {p mi co : Int} (hc : co = 0 ∨ co = 1) (i : Int) : tgs S p mi co i = 0 ∨ tgs S p mi co i = 1 := by
  unfold tgs
  by_cases c : i = 0
  · rw [if_pos c]
    exact am_bz _
  · rw [if_neg c]
    by_cases c2 : i = 1
    · rw [if_pos c2]
      exact am_bz _
    · rw [if_neg c2]
      exact hc
