set_option maxRecDepth 100000
/-! what the search answers -/
theorem dnL_p {α : Type} {P : α → Prop} {f : Nat → α → α} : ∀ (m : Nat) (s : α), (∀ x s, 1 ≤ x → x ≤ m → P s → P (f x s)) → P s → P (dnL f m s)
  | 0, _, _, h => h
  | m + 1, s, hf, h => dnL_p m (f (m + 1) s) (fun x s a c q => hf x s a (by omega) q) (hf (m + 1) s (by omega) (Nat.le_refl _) h)
theorem upL_p {α : Type} {P : α → Prop} {f : Nat → α → α} : ∀ (m : Nat) (s : α), (∀ x s, x < m → P s → P (f x s)) → P s → P (upL f m s)
  | 0, _, _, h => h
  | m + 1, s, hf, h => hf m _ (Nat.lt_succ_self m) (upL_p m s (fun x s a q => hf x s (by omega) q) h)
/-- lines in column c -/
def cu (ln col : Int → Int) (c : Int) (n : Nat) : Int := sg (fun j => if col j = c then ln j else 0) 0 n
/-- the lines of each story -/
def lnJ (S : am_G) (st pa : Int → Int) (j : Int) : Int := lnO S (st j) (pa j).toNat
def gdR (S : am_G) (pg : Int) (st : Int → Int) (n : Nat) (s : am_Ft) : Prop := -1 ≤ s.1 ∧ (s.1 ≠ -1 → (∀ j, 0 ≤ j → j < (n : Int) → (0 ≤ s.2.1 j ∧ s.2.1 j < S 8 pg 0) ∧ (1 ≤ s.2.2 j ∧ s.2.2 j ≤ S 2 2 (st j))) ∧ (∀ c, 0 ≤ c → c < 3 → cu (lnJ S st s.2.2) s.2.1 c n ≤ S 8 pg 1) ∧ s.1 = cu (lnJ S st s.2.2) s.2.1 0 n + cu (lnJ S st s.2.2) s.2.1 1 n + cu (lnJ S st s.2.2) s.2.1 2 n)
theorem cu_s {ln col : Int → Int} {c : Int} {m : Nat} : cu ln col c (m + 1) = cu ln col c m + (if col (m : Int) = c then ln (m : Int) else 0) := by
  unfold cu
  rw [sg_last]
  have e : (0 : Int) + (m : Int) = (m : Int) := by omega
  rw [e]
theorem keR_gd {S : am_G} {pg : Int} {st col : Int → Int} {n : Nat} (h8 : S 8 pg 0 ≤ 3) (hs : ∀ j, 0 ≤ j → j < (n : Int) → 0 ≤ S 2 2 (st j) ∧ S 2 2 (st j) ≤ 5) (hl : ∀ j, 0 ≤ j → j < (n : Int) → ∀ k : Nat, (k : Int) ≤ S 2 2 (st j) → 0 ≤ lnO S (st j) k) (hc : ∀ j, 0 ≤ j → j < (n : Int) → 0 ≤ col j ∧ col j < S 8 pg 0) : ∀ (k i : Nat) (parts us : Int → Int) (tot : Int) (s : am_Ft), i + k = n → (∀ j, 0 ≤ j → j < (i : Int) → 1 ≤ parts j ∧ parts j ≤ S 2 2 (st j)) → (∀ c, 0 ≤ c → c < 3 → us c = cu (lnJ S st parts) col c i ∧ us c ≤ S 8 pg 1 ∧ 0 ≤ us c) → tot = us 0 + us 1 + us 2 → gdR S pg st n s → gdR S pg st n (keR S pg st col k i parts us tot s) := by
  intro k
  induction k with
  | zero =>
    intro i parts us tot s hi hp hu ht hg
    show gdR S pg st n (if s.1 < tot then (tot, col, parts) else s)
    have ei : i = n := by omega
    by_cases c : s.1 < tot
    · rw [if_pos c]
      have u0 := hu 0 (by omega) (by omega)
      have u1 := hu 1 (by omega) (by omega)
      have u2 := hu 2 (by omega) (by omega)
      rw [ei] at u0 u1 u2 hp hu
      refine ⟨by show -1 ≤ tot; omega, fun _ => ⟨fun j a c => ⟨hc j a c, hp j a c⟩, fun c a1 a2 => ?_, ?_⟩⟩
      · have := hu c a1 a2
        show cu (lnJ S st parts) col c n ≤ _
        omega
      · show tot = cu (lnJ S st parts) col 0 n + cu (lnJ S st parts) col 1 n + cu (lnJ S st parts) col 2 n
        omega
    · rw [if_neg c]
      exact hg
  | succ k ih =>
    intro i parts us tot s hi hp hu ht hg
    have c5 := hs i (by omega) (by omega)
    show gdR S pg st n (dnL (fun x s => if us (col i) + lnO S (st i) x ≤ S 8 pg 1 then keR S pg st col k ((i : Int) + 1) (am_uz parts i x) (am_uz us (col i) (us (col i) + lnO S (st i) x)) (tot + lnO S (st i) x) s else s) (S 2 2 (st i)).toNat s)
    refine dnL_p _ _ (fun x s x1 x2 gs => ?_) hg
    show gdR S pg st n (if us (col i) + lnO S (st i) x ≤ S 8 pg 1 then keR S pg st col k ((i : Int) + 1) (am_uz parts i x) (am_uz us (col i) (us (col i) + lnO S (st i) x)) (tot + lnO S (st i) x) s else s)
    by_cases c : us (col i) + lnO S (st i) x ≤ S 8 pg 1
    · rw [if_pos c]
      have ei : (i : Int) + 1 = ((i + 1 : Nat) : Int) := by omega
      rw [ei]
      have ci := hc i (by omega) (by omega)
      have lx := hl i (by omega) (by omega) x (by omega)
      have ud : ∀ c, 0 ≤ c → c < 3 → am_uz us (col i) (us (col i) + lnO S (st i) x) c = us c + (if col i = c then lnO S (st i) x else 0) := by
        intro c _ _
        by_cases e : c = col i
        · rw [e, am_uz_eq, if_pos rfl]
        · rw [am_uz_ne e, if_neg (fun z => e z.symm)]
          omega
      refine ih (i + 1) _ _ _ s (by omega) (fun j a c => ?_) (fun c a1 a2 => ?_) ?_ gs
      · by_cases e : j = (i : Int)
        · rw [e, am_uz_eq]
          omega
        · rw [am_uz_ne e]
          exact hp j a (by omega)
      · rw [ud c a1 a2, cu_s]
        have e1 : cu (lnJ S st (am_uz parts i x)) col c i = cu (lnJ S st parts) col c i := by
          unfold cu
          refine sg_ext i 0 (fun j a b => ?_)
          have : lnJ S st (am_uz parts i x) j = lnJ S st parts j := by
            unfold lnJ
            rw [am_uz_ne (by omega)]
          show (if col j = c then _ else _) = (if col j = c then _ else _)
          rw [this]
        have e2 : lnJ S st (am_uz parts i x) i = lnO S (st i) x := by
          unfold lnJ
          rw [am_uz_eq]
          rfl
        have uc := hu c a1 a2
        rw [e1, e2, uc.1]
        refine ⟨rfl, ?_⟩
        by_cases e : col i = c
        · rw [if_pos e, ← uc.1, ← e]
          rw [← e] at uc
          omega
        · rw [if_neg e]
          omega
      · rw [ud 0 (by omega) (by omega), ud 1 (by omega) (by omega), ud 2 (by omega) (by omega)]
        have cc : col i = 0 ∨ col i = 1 ∨ col i = 2 := by omega
        rcases cc with e | e | e
        · rw [if_pos e, if_neg (by omega), if_neg (by omega)]
          omega
        · rw [if_neg (by omega), if_pos e, if_neg (by omega)]
          omega
        · rw [if_neg (by omega), if_neg (by omega), if_pos e]
          omega
    · rw [if_neg c]
      exact gs
theorem coR_gd {S : am_G} {pg : Int} {st : Int → Int} {n : Nat} (h8 : S 8 pg 0 ≤ 3) (h81 : 0 ≤ S 8 pg 1) (hs : ∀ j, 0 ≤ j → j < (n : Int) → 0 ≤ S 2 2 (st j) ∧ S 2 2 (st j) ≤ 5) (hl : ∀ j, 0 ≤ j → j < (n : Int) → ∀ k : Nat, (k : Int) ≤ S 2 2 (st j) → 0 ≤ lnO S (st j) k) : ∀ (k i : Nat) (col : Int → Int) (s : am_Ft), i + k = n → (∀ j, 0 ≤ j → j < (i : Int) → 0 ≤ col j ∧ col j < S 8 pg 0) → gdR S pg st n s → gdR S pg st n (coR S pg st n k i col s) := by
  intro k
  induction k with
  | zero =>
    intro i col s hi hc hg
    have ei : i = n := by omega
    rw [ei] at hc
    exact keR_gd h8 hs hl hc n 0 (fun _ => 0) (fun _ => 0) 0 s (by omega) (fun j a c => absurd c (by omega)) (fun c _ _ => ⟨rfl, h81, Int.le_refl 0⟩) rfl hg
  | succ k ih =>
    intro i col s hi hc hg
    show gdR S pg st n (upL (fun c s => coR S pg st n k ((i : Int) + 1) (am_uz col i c) s) (S 8 pg 0).toNat s)
    refine upL_p _ _ (fun x s hx gs => ?_) hg
    have ei : (i : Int) + 1 = ((i + 1 : Nat) : Int) := by omega
    show gdR S pg st n (coR S pg st n k ((i : Int) + 1) (am_uz col i x) s)
    rw [ei]
    refine ih (i + 1) _ s (by omega) (fun j a c => ?_) gs
    by_cases e : j = (i : Int)
    · rw [e, am_uz_eq]
      omega
    · rw [am_uz_ne e]
      exact hc j a (by omega)
theorem fiR_gd {S : am_G} {pg x : Int} (hC : okC S) (hF : okF S) (hA : okA S) (hH : okH S) (hp : 0 ≤ pg ∧ pg < 6) (hx : 0 ≤ x) : gdR S pg (skL x.toNat (S 0 0 1).toNat) (bcn x.toNat ((S 0 0 1)).toNat) (fiR S pg (skL x.toNat (S 0 0 1).toNat) (bcn x.toNat ((S 0 0 1)).toNat)) := by
  have sb := st_SB hC hF hA hx
  have h8 := hH pg hp.1 hp.2
  exact coR_gd h8.1.2 h8.2.1.1 (fun j a c => (sb j a c).2.1) (fun j a c k hk => (lnO_b hk (sb j a c).2.1.2 (sb j a c).2.2).1) _ 0 _ _ (by omega) (fun j a c => absurd c (by omega)) ⟨by show (-1 : Int) ≤ -1; omega, fun z => absurd rfl z⟩
/-! the slugs of the page -/
def lnV (S : am_G) (p : Int) : Nat → List Int
  | 0 => []
  | m + 1 => lnV S p m ++ [S 3 p (45 + (m : Int)) - 1]
def ptV (S : am_G) (s : Int) : Nat → List Int
  | 0 => []
  | k + 1 => ptV S s k ++ lnV S (5 * s + (k : Int)) (S 3 (5 * s + (k : Int)) 4).toNat
def clV (S : am_G) (st col pa : Int → Int) (c : Int) : Nat → List Int
  | 0 => []
  | j + 1 => clV S st col pa c j ++ (if col (j : Int) = c then ptV S (st (j : Int)) (pa (j : Int)).toNat else [])
def lkV (S : am_G) (st col pa : Int → Int) (n : Nat) : Nat → List Int
  | 0 => []
  | c + 1 => lkV S st col pa n c ++ clV S st col pa (c : Int) n
theorem lnV_len {S : am_G} {p : Int} : ∀ m : Nat, (lnV S p m).length = m
  | 0 => rfl
  | m + 1 => by
    show (lnV S p m ++ [_]).length = m + 1
    rw [List.length_append, lnV_len m]
    rfl
theorem ptV_len {S : am_G} {s : Int} : ∀ k : Nat, (∀ j, 0 ≤ j → j < (k : Int) → 0 ≤ S 3 (5 * s + j) 4) → ((ptV S s k).length : Int) = lnO S s k
  | 0, _ => rfl
  | k + 1, h => by
    have q := ptV_len (S := S) (s := s) k (fun j a c => h j a (by omega))
    have z := h k (by omega) (by omega)
    have e : lnO S s (k + 1) = lnO S s k + S 3 (5 * s + (k : Int)) 4 := by
      unfold lnO
      rw [sg_last]
      have e : (0 : Int) + (k : Int) = (k : Int) := by omega
      rw [e]
    show ((ptV S s k ++ lnV S (5 * s + (k : Int)) (S 3 (5 * s + (k : Int)) 4).toNat).length : Int) = _
    rw [List.length_append, lnV_len, e]
    omega
theorem clV_len {S : am_G} {st col pa : Int → Int} {c : Int} : ∀ m : Nat, (∀ j, 0 ≤ j → j < (m : Int) → ∀ k, 0 ≤ k → k < pa j → 0 ≤ S 3 (5 * st j + k) 4) → (∀ j, 0 ≤ j → j < (m : Int) → 0 ≤ pa j) → ((clV S st col pa c m).length : Int) = cu (lnJ S st pa) col c m
  | 0, _, _ => rfl
  | m + 1, h, h2 => by
    have q := clV_len (S := S) (st := st) (col := col) (pa := pa) (c := c) m (fun j a c => h j a (by omega)) (fun j a c => h2 j a (by omega))
    have p0 := h2 m (by omega) (by omega)
    rw [cu_s]
    show ((clV S st col pa c m ++ (if col (m : Int) = c then ptV S (st (m : Int)) (pa (m : Int)).toNat else [])).length : Int) = _
    rw [List.length_append, Int.natCast_add, q]
    by_cases e : col (m : Int) = c
    · rw [if_pos e, if_pos e, ptV_len _ (fun j a c => h m (by omega) (by omega) j a (by omega))]
      rfl
    · rw [if_neg e, if_neg e]
      rfl
/-- the page's places hold the list -/
def wrL (S : am_G) (pg : Int) (l : List Int) : am_G := fun c p o => if c = 8 ∧ p = pg ∧ 5 ≤ o ∧ o < 5 + (l.length : Int) then gt l (o - 5).toNat else S c p o
theorem wrL_0 {S : am_G} {pg : Int} : wrL S pg [] = S := by
  funext c p o
  refine if_neg (fun z => ?_)
  have := z.2.2.2
  simp at this
  omega
theorem wrL_c {S : am_G} {pg : Int} {l : List Int} {c : Nat} (h : c ≠ 8) : wrL S pg l c = S c := by
  funext p o
  exact if_neg (fun z => h z.1)
theorem wrL_s {S : am_G} {pg : Int} {l : List Int} {v : Int} : u3 (wrL S pg l) 8 pg (5 + (l.length : Int)) v = wrL S pg (l ++ [v]) := by
  funext c p o
  unfold u3 wrL
  have e : (l ++ [v]).length = l.length + 1 := by simp
  by_cases h : c = 8 ∧ p = pg
  · by_cases h5 : 5 ≤ o ∧ o < 5 + ((l ++ [v]).length : Int)
    · rw [if_pos (c := c = 8 ∧ p = pg ∧ 5 ≤ o ∧ o < 5 + ((l ++ [v]).length : Int)) ⟨h.1, h.2, h5⟩]
      by_cases ho : o = 5 + (l.length : Int)
      · rw [if_pos ⟨h.1, h.2, ho⟩]
        have : (o - 5).toNat = l.length := by omega
        rw [this, gt_last]
      · rw [if_neg (fun z => ho z.2.2), if_pos ⟨h.1, h.2, h5.1, by omega⟩, gt_app _ _ (by omega)]
    · rw [if_neg (c := c = 8 ∧ p = pg ∧ 5 ≤ o ∧ o < 5 + ((l ++ [v]).length : Int)) (fun z => h5 z.2.2), if_neg (fun z => h5 (by have := z.2.2; omega)), if_neg (fun z => h5 (by have := z.2.2; omega))]
  · rw [if_neg (fun z => h ⟨z.1, z.2.1⟩), if_neg (fun z => h ⟨z.1, z.2.1⟩), if_neg (fun z => h ⟨z.1, z.2.1⟩)]
/-- when the page is late -/
def ltR (y : Int → Int) (pg : Int) : Nat → Int
  | 0 => 600
  | q + 1 => if y (2 + 5 * (q : Int)) = 6 ∧ y (3 + 5 * (q : Int)) = pg then y (4 + 5 * (q : Int)) else ltR y pg q
def lkT (S : am_G) (pg : Int) : Int := if sty S (S 0 0 0) = -1 then 600 else ltR (S 6 (sty S (S 0 0 0))) pg (S 6 (sty S (S 0 0 0)) 1).toNat
def lkD (S : am_G) (pg : Int) : Int := if S 0 0 0 ≤ lkT S pg then 0 else S 0 0 0 - lkT S pg
/-- the page is locked -/
def lkS (S : am_G) (pg : Int) (l : List Int) : am_G := u3 (u3 (u3 (wrL S pg l) 8 pg 2 l.length) 8 pg 3 (S 0 0 0)) 8 pg 4 (lkD S pg)
/-- all lines are right -/
def AR (S : am_G) (st pa : Int → Int) (n : Int) : Prop := ∀ j, 0 ≤ j → j < n → ∀ k, 0 ≤ k → k < pa j → ∀ l, 0 ≤ l → l < S 3 (5 * st j + k) 4 → rgt S (5 * st j + k) l
theorem okY_c {S S' : am_G} (e0 : S' 0 = S 0) (e6 : S' 6 = S 6) (h : okY S) : okY S' := by
  unfold okY
  rw [e0, e6]
  exact h
theorem sty_c {S S' : am_G} (e0 : S' 0 = S 0) (e6 : S' 6 = S 6) {mi : Int} : sty S' mi = sty S mi := by
  unfold sty
  rw [e0, e6]
/-- first story j, from k on, that is s -/
def fsJ (st : Int → Int) (s : Int) : Nat → Int → Int
  | 0, _ => -1
  | n + 1, j => if st j = s then j else fsJ st s n (j + 1)
section
variable {K : am_K} {b : am_H} {r : Nat} {S : am_G} {V : Nat → Int → Int} {W : Nat → Int}
/-- one story's column or parts -/
theorem M_fits {pg x s w : Int} {D : Nat} (hD : 90 ≤ D) (hC : okC S) (hF : okF S) (hA : okA S) (hH : okH S) (hx : -2147483648 ≤ x ∧ x ≤ 2147483647) (H1 : ¬ ((0 ≤ s ∧ s < (S 0 0 1)) ∧ (0 ≤ pg ∧ pg < 6) ∧ (0 ≤ x ∧ x < am_shlz 1 (S 0 0 1))) → MR b r K S V W 1 (0)) (H2 : 0 ≤ s ∧ s < (S 0 0 1) → (0 ≤ pg ∧ pg < 6) ∧ (0 ≤ x ∧ x < am_shlz 1 (S 0 0 1)) → ¬ (1 ≤ (bcn x.toNat (S 0 0 1).toNat : Int) ∧ (bcn x.toNat (S 0 0 1).toNat : Int) ≤ 4) → MR b r K S V W 2 (0)) (H3 : 0 ≤ s ∧ s < (S 0 0 1) → (0 ≤ pg ∧ pg < 6) ∧ (0 ≤ x ∧ x < am_shlz 1 (S 0 0 1)) → 1 ≤ (bcn x.toNat (S 0 0 1).toNat : Int) ∧ (bcn x.toNat (S 0 0 1).toNat : Int) ≤ 4 → ¬ stS S x → MR b r K S V W 3 (0)) (H0 : 0 ≤ s ∧ s < (S 0 0 1) → (0 ≤ pg ∧ pg < 6) ∧ (0 ≤ x ∧ x < am_shlz 1 (S 0 0 1)) → 1 ≤ (bcn x.toNat (S 0 0 1).toNat : Int) ∧ (bcn x.toNat (S 0 0 1).toNat : Int) ≤ 4 → stS S x → MR b r K S V W 0 (if (fiR S pg (skL x.toNat (S 0 0 1).toNat) (bcn x.toNat ((S 0 0 1)).toNat)).1 = -1 ∨ fsJ (skL x.toNat (S 0 0 1).toNat) s (bcn x.toNat ((S 0 0 1)).toNat) 0 = -1 then -1 else if w = 0 then (fiR S pg (skL x.toNat (S 0 0 1).toNat) (bcn x.toNat ((S 0 0 1)).toNat)).2.1 (fsJ (skL x.toNat (S 0 0 1).toNat) s (bcn x.toNat ((S 0 0 1)).toNat) 0) else (fiR S pg (skL x.toNat (S 0 0 1).toNat) (bcn x.toNat ((S 0 0 1)).toNat)).2.2 (fsJ (skL x.toNat (S 0 0 1).toNat) s (bcn x.toNat ((S 0 0 1)).toNat) 0))) : am_ev am_prog D 96 [.inr (.inl r), .inl pg, .inl x, .inl s, .inl w] (mo b r (ms S) V W) K := by
  have c1 := hC.2.1
  obtain ⟨d, rfl⟩ : ∃ d, D = d + 4 := ⟨D - 4, by omega⟩
  refine am_en p_X5_fits rfl rfl ?_
  refine w_fits_0 ⟨by omega, fun c0 => ?_, fun c0 => w_fits_17 ⟨fun z => absurd z (by omega), fun _ => MR_up (H1 (fun z => c0 (by omega)))⟩⟩
  have c0' : 0 ≤ s ∧ s < (S 0 0 1) := by omega
  refine (c_notFit (by omega) hC hF hx (fun c => am_av (w_fits_17 ⟨fun z => absurd z (by omega), fun _ => MR_up (H1 (fun z => c z.2))⟩)) (fun c c2 => am_av (w_fits_17 ⟨fun z => absurd z (by omega), fun _ => MR_up (H2 c0' c c2)⟩)) (fun c c2 c3 => am_av (w_fits_17 ⟨fun z => absurd z (by omega), fun _ => MR_up (H3 c0' c c2 c3)⟩)) (fun c c2 c3 => am_av (w_fits_17 ⟨fun _ => ?_, fun z => absurd z (by omega)⟩)))
  have HH := H0 c0' c c2 c3
  refine c_fitting (by omega) hC hF hA hH hx.2 c c2 (fun V' W' fV fW e89 e27 eF => am_an (w_fits_27 ?_))
  generalize (fiR S pg (skL x.toNat (S 0 0 1).toNat) (bcn x.toNat ((S 0 0 1)).toNat)) = σ at *
  have nn : (((bcn x.toNat ((S 0 0 1)).toNat : Nat) : Int)).toNat = bcn x.toNat ((S 0 0 1)).toNat := by omega
  by_cases cb : σ.1 = -1
  · rw [if_pos (Or.inl cb)] at HH
    refine w_fits_29 ⟨fun _ => MR_f HH fV fW rfl rfl rfl rfl rfl rfl, fun _ => ⟨fun _ => MR_f HH fV fW rfl rfl rfl rfl rfl rfl, fun z => absurd (eF.1.trans cb) z⟩⟩
  · have ek := eF.2.2 cb
    have loop : ∀ (m : Nat) (j : Int), 0 ≤ j → j + m = (bcn x.toNat (S 0 0 1).toNat : Int) → fsJ (skL x.toNat (S 0 0 1).toNat) s (bcn x.toNat ((S 0 0 1)).toNat) 0 = fsJ (skL x.toNat (S 0 0 1).toNat) s m j → am_W m_X5_fits (am_ev am_prog (d + 3)) K 29 [some (.inr (.inl r)), some (.inl (pg)), some (.inl (x)), some (.inl (s)), some (.inl (w)), some (.inl (j))] [] (mo b r (ms S) V' W') := by
      intro m
      induction m with
      | zero =>
        intro j j0 jn ef
        have : fsJ (skL x.toNat (S 0 0 1).toNat) s (bcn x.toNat ((S 0 0 1)).toNat) 0 = -1 := ef
        rw [if_pos (Or.inr this)] at HH
        exact w_fits_29 ⟨fun _ => MR_f HH fV fW rfl rfl rfl rfl rfl rfl, fun z => absurd z (by omega)⟩
      | succ m ih =>
        intro j j0 jn ef
        have ef' : fsJ (skL x.toNat (S 0 0 1).toNat) s (bcn x.toNat ((S 0 0 1)).toNat) 0 = if (skL x.toNat (S 0 0 1).toNat) j = s then j else fsJ (skL x.toNat (S 0 0 1).toNat) s m (j + 1) := ef
        refine w_fits_29 ⟨fun z => absurd z (by omega), fun _ => ⟨fun z => absurd (eF.1.symm.trans z) cb, fun _ => ⟨by omega, fun z => ⟨by omega, ?_⟩, fun z => ?_⟩⟩⟩
        · rw [e27 j j0 (by omega)] at z
          rw [if_neg z] at ef'
          exact ih (j + 1) (by omega) (by omega) ef'
        · rw [e27 j j0 (by omega)] at z
          rw [if_pos z] at ef'
          rw [ef', if_neg (fun z => z.elim cb (by omega))] at HH
          have q := ek j j0 (by omega)
          rw [q.1, q.2]
          refine ⟨fun w0 => ⟨by omega, ?_⟩, fun w0 => ⟨by omega, ?_⟩⟩
          · rw [if_pos w0] at HH
            exact MR_f HH fV fW rfl rfl rfl rfl rfl rfl
          · rw [if_neg w0] at HH
            exact MR_f HH fV fW rfl rfl rfl rfl rfl rfl
    exact loop (bcn x.toNat ((S 0 0 1)).toNat) 0 (by omega) (by omega) rfl
end
