set_option maxRecDepth 100000
/-! stories on a page: the search -/
abbrev am_Ft := Int × (Int → Int) × (Int → Int)
def dnL {α : Type} (f : Nat → α → α) : Nat → α → α
  | 0, s => s
  | m + 1, s => dnL f m (f (m + 1) s)
def upL {α : Type} (f : Nat → α → α) : Nat → α → α
  | 0, s => s
  | m + 1, s => f m (upL f m s)
/-- how many parts of each story are kept -/
def keR (S : am_G) (pg : Int) (st col : Int → Int) : Nat → Int → (Int → Int) → (Int → Int) → Int → am_Ft → am_Ft
  | 0, _, parts, _, tot, s => if s.1 < tot then (tot, col, parts) else s
  | k + 1, i, parts, us, tot, s => dnL (fun x s => if us (col i) + lnO S (st i) x ≤ S 8 pg 1 then keR S pg st col k (i + 1) (am_uz parts i x) (am_uz us (col i) (us (col i) + lnO S (st i) x)) (tot + lnO S (st i) x) s else s) (S 2 2 (st i)).toNat s
/-- in which column each story stands -/
def coR (S : am_G) (pg : Int) (st : Int → Int) (n : Nat) : Nat → Int → (Int → Int) → am_Ft → am_Ft
  | 0, _, col, s => keR S pg st col n 0 (fun _ => 0) (fun _ => 0) 0 s
  | k + 1, i, col, s => upL (fun c s => coR S pg st n k (i + 1) (am_uz col i c) s) (S 8 pg 0).toNat s
def fiR (S : am_G) (pg : Int) (st : Int → Int) (n : Nat) : am_Ft := coR S pg st n n 0 (fun _ => 0) (-1, fun _ => 0, fun _ => 0)
/-- the best so far, in the model -/
def FtR (n : Int) (V : Nat → Int → Int) (W : Nat → Int) (s : am_Ft) : Prop := W 90 = s.1 ∧ -1 ≤ s.1 ∧ (s.1 ≠ -1 → ∀ j, 0 ≤ j → j < n → V 30 j = s.2.1 j ∧ V 31 j = s.2.2 j)
theorem lnO_b {S : am_G} {s : Int} {x : Nat} {m : Int} (hx : (x : Int) ≤ m) (h5 : m ≤ 5) (hs : ∀ k, 0 ≤ k → k < m → 0 ≤ S 3 (5 * s + k) 4 ∧ S 3 (5 * s + k) 4 ≤ 40) : 0 ≤ lnO S s x ∧ lnO S s x ≤ 200 := by
  have q := sg_bd (f := fun k => S 3 (5 * s + k) 4) (c := 40) x 0 (fun j a b => hs j a (by omega))
  unfold lnO
  omega
theorem FtR_f {n : Int} {V V' : Nat → Int → Int} {W W' : Nat → Int} {s : am_Ft} (h : FtR n V W s) (e : W' 90 = W 90) (e0 : V' 30 = V 30) (e1 : V' 31 = V 31) : FtR n V' W' s := by
  unfold FtR
  rw [e, e0, e1]
  exact h
section
variable {b : am_H} {r : Nat} {S : am_G}
theorem c_keeps {pg n : Int} {st col : Int → Int} (hp : 0 ≤ pg ∧ pg < 6) (hH : okH S) (hn : 0 ≤ n ∧ n ≤ 4) (hs : ∀ j, 0 ≤ j → j < n → (0 ≤ st j ∧ st j < 20) ∧ (0 ≤ S 2 2 (st j) ∧ S 2 2 (st j) ≤ 5) ∧ ∀ k, 0 ≤ k → k < S 2 2 (st j) → 0 ≤ S 3 (5 * st j + k) 4 ∧ S 3 (5 * st j + k) 4 ≤ 40) (hc : ∀ j, 0 ≤ j → j < n → 0 ≤ col j ∧ col j < 3) : ∀ (k : Nat) {K : am_K} {V : Nat → Int → Int} {W : Nat → Int} {parts us : Int → Int} {i tot : Int} {s : am_Ft} {D : Nat}, 6 + k ≤ D → i + k = n → 0 ≤ i → W 89 = n → (∀ j, 0 ≤ j → j < n → V 27 j = st j) → (∀ j, 0 ≤ j → j < n → V 28 j = col j) → (∀ j, 0 ≤ j → j < i → V 29 j = parts j) → (∀ j, 0 ≤ j → j < 3 → V 32 j = us j ∧ (0 ≤ us j ∧ us j ≤ 200 * i)) → 0 ≤ tot ∧ tot ≤ 200 * i → FtR n V W s → (∀ V' W', fa [29, 30, 31, 32] V V' → fa [90] W W' → (∀ j, 0 ≤ j → j < i → V' 29 j = V 29 j) → (∀ j, 0 ≤ j → j < 3 → V' 32 j = us j) → FtR n V' W' (keR S pg st col k i parts us tot s) → K (.inl none) (mo b r (ms S) V' W')) → am_ev am_prog D 337 [.inr (.inl r), .inl pg, .inl i, .inl tot] (mo b r (ms S) V W) K := by
  intro k
  induction k with
  | zero =>
    intro K V W parts us i tot s D hD hi i0 w89 v27 v28 v29 v32 ht hF H
    have ei : i = n := by omega
    have H' : ∀ V' W', fa [29, 30, 31, 32] V V' → fa [90] W W' → (∀ j, 0 ≤ j → j < i → V' 29 j = V 29 j) → (∀ j, 0 ≤ j → j < 3 → V' 32 j = us j) → FtR n V' W' (if s.1 < tot then (tot, col, parts) else s) → K (.inl none) (mo b r (ms S) V' W') := H
    obtain ⟨d, rfl⟩ : ∃ d, D = d + 4 := ⟨D - 4, by omega⟩
    refine am_en p_X5_keeps rfl rfl ?_
    refine w_keeps_0 ⟨fun c => absurd (ei.trans w89.symm) c, fun _ => ⟨fun c => ?_, fun c => ?_⟩⟩
    · rw [hF.1] at c
      rw [if_pos c] at H'
      have loop : ∀ x, 0 ≤ x → x ≤ n → ∀ V', fa [30, 31] V V' → (∀ j, 0 ≤ j → j < x → V' 30 j = col j ∧ V' 31 j = parts j) → ∀ o5 o6, am_W m_X5_keeps (am_ev am_prog (d + 3)) K 14 [some (.inr (.inl r)), some (.inl (pg)), some (.inl (i)), some (.inl (tot)), some (.inl (x)), o5, o6] [] (mo b r (ms S) V' (am_up W 90 tot)) := by
        have w89' : am_up W 90 tot 89 = n := (am_up_ne (by decide)).trans w89
        refine lp_z ?_ ?_
        · intro x x0 xn hL V' f e o5 o6
          refine w_keeps_14 ⟨fun z => absurd z (by rw [w89']; omega), fun _ => ⟨by omega, by omega, by omega, hL _ (fa_up (fa_up f rfl) rfl) (fun j j0 j1 => ?_) o5 o6⟩⟩
          have e28 : V' 28 = V 28 := f 28 rfl
          have e29 : V' 29 = V 29 := f 29 rfl
          have a30 : am_up (am_up V' 30 (am_uz (V' 30) x (V' 28 x))) 31 (am_uz (V' 31) x (V' 29 x)) 30 = am_uz (V' 30) x (V' 28 x) := (am_up_ne (by decide)).trans am_up_eq
          have a31 : am_up (am_up V' 30 (am_uz (V' 30) x (V' 28 x))) 31 (am_uz (V' 31) x (V' 29 x)) 31 = am_uz (V' 31) x (V' 29 x) := am_up_eq
          rw [a30, a31, e28, e29]
          by_cases c2 : j = x
          · rw [c2, am_uz_eq, am_uz_eq]
            exact ⟨v28 x x0 xn, v29 x x0 (by omega)⟩
          · rw [am_uz_ne c2, am_uz_ne c2]
            exact e j j0 (by omega)
        · intro V' f e o5 o6
          refine w_keeps_14 ⟨fun _ => H' V' _ (fa_sub f rfl) (fa_up fa_refl rfl) (fun j _ _ => by rw [f 29 rfl]) (fun j j0 j1 => by rw [f 32 rfl]; exact (v32 j j0 j1).1) ⟨am_up_eq, by show -1 ≤ tot; omega, fun _ j j0 j1 => e j j0 j1⟩, fun z => absurd z (by rw [w89']; omega)⟩
      exact loop 0 (by omega) hn.1 V fa_refl (fun j a c => absurd c (by omega)) _ _
    · rw [hF.1] at c
      rw [if_neg (by omega)] at H'
      exact H' V W fa_refl fa_refl (fun _ _ _ => rfl) (fun j a c => (v32 j a c).1) hF
  | succ k ih =>
    intro K V W parts us i tot s D hD hi i0 w89 v27 v28 v29 v32 ht hF H
    have si := hs i i0 (by omega)
    have ci := hc i i0 (by omega)
    have e27 := v27 i i0 (by omega)
    have e28 := v28 i i0 (by omega)
    have h81 := (hH pg hp.1 hp.2).2.1
    obtain ⟨d, rfl⟩ : ∃ d, D = d + 4 := ⟨D - 4, by omega⟩
    refine am_en p_X5_keeps rfl rfl ?_
    refine w_keeps_0 ⟨fun _ => ⟨by rw [e27]; omega, ?_⟩, fun c => absurd (c.trans w89) (by omega)⟩
    rw [e27, e28]
    generalize hf : (fun (x : Nat) (s : am_Ft) => if us (col i) + lnO S (st i) x ≤ S 8 pg 1 then keR S pg st col k (i + 1) (am_uz parts i x) (am_uz us (col i) (us (col i) + lnO S (st i) x)) (tot + lnO S (st i) x) s else s) = f
    have H' : ∀ V' W', fa [29, 30, 31, 32] V V' → fa [90] W W' → (∀ j, 0 ≤ j → j < i → V' 29 j = V 29 j) → (∀ j, 0 ≤ j → j < 3 → V' 32 j = us j) → FtR n V' W' (dnL f (S 2 2 (st i)).toNat s) → K (.inl none) (mo b r (ms S) V' W') := by
      rw [← hf]
      exact H
    have loop : ∀ (m : Nat), (m : Int) ≤ S 2 2 (st i) → ∀ (s : am_Ft) V' W', fa [29, 30, 31, 32] V V' → fa [90] W W' → (∀ j, 0 ≤ j → j < i → V' 29 j = V 29 j) → (∀ j, 0 ≤ j → j < 3 → V' 32 j = us j) → FtR n V' W' s → (∀ V' W', fa [29, 30, 31, 32] V V' → fa [90] W W' → (∀ j, 0 ≤ j → j < i → V' 29 j = V 29 j) → (∀ j, 0 ≤ j → j < 3 → V' 32 j = us j) → FtR n V' W' (dnL f m s) → K (.inl none) (mo b r (ms S) V' W')) → ∀ o6, am_W m_X5_keeps (am_ev am_prog (d + 3)) K 52 [some (.inr (.inl r)), some (.inl (pg)), some (.inl (i)), some (.inl (tot)), some (.inl (col i)), some (.inl (m)), o6] [] (mo b r (ms S) V' W') := by
      intro m
      induction m with
      | zero =>
        intro _ s V' W' fV fW g29 g32 gF G o6
        exact w_keeps_52 ⟨fun _ => G V' W' fV fW g29 g32 gF, fun z => absurd z (by omega)⟩
      | succ m ihm =>
        intro hm s V' W' fV fW g29 g32 gF G o6
        have k27 : V' 27 = V 27 := fV 27 rfl
        have k28 : V' 28 = V 28 := fV 28 rfl
        have lb := lnO_b (S := S) (s := st i) (x := m + 1) hm si.2.1.2 si.2.2
        have ub := (v32 (col i) ci.1 ci.2).2
        have em : ((m + 1 : Nat) : Int) + (-1) = (m : Int) := by omega
        refine w_keeps_52 ⟨fun z => absurd z (by omega), fun _ => ⟨by omega, ?_⟩⟩
        rw [k27, e27]
        have etn : (((m + 1 : Nat) : Int)).toNat = m + 1 := by omega
        refine c_linesOf (by omega) si.1 (by omega) (fun k a c => si.2.2 k a (by omega)) (am_av (w_keeps_61 ?_))
        rw [etn, g32 (col i) ci.1 ci.2]
        have er : dnL f (m + 1) s = dnL f m (f (m + 1) s) := rfl
        rw [er] at G
        refine ⟨⟨ci, by omega, by omega, by omega, by omega, hp⟩, fun c => ⟨⟨ci, by omega⟩, by omega, by omega, ?_⟩, fun c => ⟨by omega, ?_⟩⟩
        · have ef : f (m + 1) s = keR S pg st col k (i + 1) (am_uz parts i ((m + 1 : Nat) : Int)) (am_uz us (col i) (us (col i) + lnO S (st i) (m + 1))) (tot + lnO S (st i) (m + 1)) s := by
            rw [← hf]
            exact if_pos c
          rw [ef] at G
          generalize hU : am_up (am_up V' 32 (am_uz (V' 32) (col i) (us (col i) + lnO S (st i) (m + 1)))) 29 (am_uz (V' 29) i ((m + 1 : Nat) : Int)) = U
          have u29 : U 29 = am_uz (V' 29) i ((m + 1 : Nat) : Int) := by rw [← hU]; exact am_up_eq
          have u32 : U 32 = am_uz (V' 32) (col i) (us (col i) + lnO S (st i) (m + 1)) := by rw [← hU]; exact (am_up_ne (by decide)).trans am_up_eq
          have fU : fa [29, 32] V' U := by rw [← hU]; exact fa_up (fa_up fa_refl rfl) rfl
          have fVU : fa [29, 30, 31, 32] V U := fa_trans fV (fa_sub fU rfl)
          refine ih (parts := am_uz parts i ((m + 1 : Nat) : Int)) (us := am_uz us (col i) (us (col i) + lnO S (st i) (m + 1))) (s := s) (by omega) (by omega) (by omega) ((fW 89 rfl).trans w89) (fun j a c => by rw [fVU 27 rfl]; exact v27 j a c) (fun j a c => by rw [fVU 28 rfl]; exact v28 j a c) (fun j a c => ?_) (fun j a c => ?_) (by omega) (FtR_f gF rfl (fU 30 rfl) (fU 31 rfl)) (fun V2 W2 f2 fw2 q29 q32 qF => am_an (w_keeps_102 ?_))
          · rw [u29]
            by_cases e : j = i
            · rw [e, am_uz_eq, am_uz_eq]
            · rw [am_uz_ne e, am_uz_ne e, g29 j a (by omega)]
              exact v29 j a (by omega)
          · rw [u32]
            have uj := (v32 j a c).2
            by_cases e : j = col i
            · rw [e, am_uz_eq, am_uz_eq]
              omega
            · rw [am_uz_ne e, am_uz_ne e]
              exact ⟨g32 j a c, by omega⟩
          · have q32' := q32 (col i) ci.1 ci.2
            rw [am_uz_eq] at q32'
            rw [q32', em]
            have es : us (col i) + lnO S (st i) (m + 1) - lnO S (st i) (m + 1) = us (col i) := by omega
            rw [es]
            refine ⟨⟨ci, by omega⟩, by omega, ihm (by omega) _ _ W2 (fa_up (fa_trans fVU f2) rfl) (fa_trans fW fw2) (fun j a c => ?_) (fun j a c => ?_) (FtR_f qF rfl (am_up_ne (by decide)) (am_up_ne (by decide))) G _⟩
            · have e : am_up V2 32 (am_uz (V2 32) (col i) (us (col i))) 29 = V2 29 := am_up_ne (by decide)
              rw [e, q29 j a (by omega), u29, am_uz_ne (by omega)]
              exact g29 j a c
            · have e : am_up V2 32 (am_uz (V2 32) (col i) (us (col i))) 32 = am_uz (V2 32) (col i) (us (col i)) := am_up_eq
              rw [e]
              by_cases e2 : j = col i
              · rw [e2, am_uz_eq]
              · rw [am_uz_ne e2, q32 j a c, am_uz_ne e2]
        · have ef : f (m + 1) s = s := by
            rw [← hf]
            exact if_neg (by omega)
          rw [ef] at G
          rw [em]
          exact ihm (by omega) s V' W' fV fW g29 g32 gF G _
    have etn : (((S 2 2 (st i)).toNat : Nat) : Int) = S 2 2 (st i) := by omega
    have q := loop (S 2 2 (st i)).toNat (by omega) s V W fa_refl fa_refl (fun _ _ _ => rfl) (fun j a c => (v32 j a c).1) hF H' none
    rw [etn] at q
    exact q
theorem c_columns {pg n : Int} {st : Int → Int} (hp : 0 ≤ pg ∧ pg < 6) (hH : okH S) (hn : 0 ≤ n ∧ n ≤ 4) (hs : ∀ j, 0 ≤ j → j < n → (0 ≤ st j ∧ st j < 20) ∧ (0 ≤ S 2 2 (st j) ∧ S 2 2 (st j) ≤ 5) ∧ ∀ k, 0 ≤ k → k < S 2 2 (st j) → 0 ≤ S 3 (5 * st j + k) 4 ∧ S 3 (5 * st j + k) 4 ≤ 40) : ∀ (k : Nat) {K : am_K} {V : Nat → Int → Int} {W : Nat → Int} {col : Int → Int} {i : Int} {s : am_Ft} {D : Nat}, 12 + k ≤ D → i + k = n → 0 ≤ i → W 89 = n → (∀ j, 0 ≤ j → j < n → V 27 j = st j) → (∀ j, 0 ≤ j → j < i → V 28 j = col j ∧ (0 ≤ col j ∧ col j < 3)) → FtR n V W s → (∀ V' W', fa [28, 29, 30, 31, 32] V V' → fa [90] W W' → (∀ j, 0 ≤ j → j < i → V' 28 j = V 28 j) → FtR n V' W' (coR S pg st n.toNat k i col s) → K (.inl none) (mo b r (ms S) V' W')) → am_ev am_prog D 281 [.inr (.inl r), .inl pg, .inl i] (mo b r (ms S) V W) K := by
  intro k
  induction k with
  | zero =>
    intro K V W col i s D hD hi i0 w89 v27 v28 hF H
    have ei : i = n := by omega
    obtain ⟨d, rfl⟩ : ∃ d, D = d + 4 := ⟨D - 4, by omega⟩
    refine am_en p_X5_columns rfl rfl ?_
    refine w_columns_0 ⟨fun c => absurd (ei.trans w89.symm) c, fun _ => ?_⟩
    have loop : ∀ x, 0 ≤ x → x ≤ 3 → ∀ V', fa [32] V V' → (∀ j, 0 ≤ j → j < x → V' 32 j = 0) → am_W m_X5_columns (am_ev am_prog (d + 3)) K 6 [some (.inr (.inl r)), some (.inl (pg)), some (.inl (i)), some (.inl (x))] [] (mo b r (ms S) V' W) := by
      refine lp_z ?_ ?_
      · intro x x0 xn hL V' f e
        refine w_columns_6 ⟨fun z => absurd z (by omega), fun _ => ⟨by omega, by omega, hL _ (fa_up f rfl) (fun j j0 j1 => ?_)⟩⟩
        have a32 : am_up V' 32 (am_uz (V' 32) x 0) 32 = am_uz (V' 32) x 0 := am_up_eq
        rw [a32]
        by_cases c2 : j = x
        · rw [c2, am_uz_eq]
        · rw [am_uz_ne c2]
          exact e j j0 (by omega)
      · intro V' f e
        refine w_columns_6 ⟨fun _ => ?_, fun z => absurd z (by omega)⟩
        refine c_keeps (K := _) (V := V') (col := col) (parts := fun _ => 0) (us := fun _ => 0) (s := s) hp hH hn hs (fun j a c => (v28 j a (by omega)).2) n.toNat (by omega) (by omega) (by omega) w89 (fun j a c => by rw [f 27 rfl]; exact v27 j a c) (fun j a c => by rw [f 28 rfl]; exact (v28 j a (by omega)).1) (fun j a c => absurd c (by omega)) (fun j a c => ⟨e j a c, by show (0 : Int) ≤ 0 ∧ (0 : Int) ≤ 200 * 0; omega⟩) (by omega) (FtR_f hF rfl (f 30 rfl) (f 31 rfl)) (fun V2 W2 f2 fw2 q29 q32 qF => am_an (w_columns_21 ?_))
        exact H V2 W2 (fa_trans (fa_sub f rfl) (fa_sub f2 rfl)) fw2 (fun j _ _ => by rw [f2 28 rfl, f 28 rfl]) qF
    exact loop 0 (by omega) (by omega) V fa_refl (fun j a c => absurd c (by omega))
  | succ k ih =>
    intro K V W col i s D hD hi i0 w89 v27 v28 hF H
    have h80 := (hH pg hp.1 hp.2).1
    obtain ⟨d, rfl⟩ : ∃ d, D = d + 4 := ⟨D - 4, by omega⟩
    refine am_en p_X5_columns rfl rfl ?_
    refine w_columns_0 ⟨fun _ => ?_, fun c => absurd (c.trans w89) (by omega)⟩
    generalize hf : (fun (c : Nat) (s : am_Ft) => coR S pg st n.toNat k (i + 1) (am_uz col i c) s) = f
    have H' : ∀ V' W', fa [28, 29, 30, 31, 32] V V' → fa [90] W W' → (∀ j, 0 ≤ j → j < i → V' 28 j = V 28 j) → FtR n V' W' (upL f (S 8 pg 0).toNat s) → K (.inl none) (mo b r (ms S) V' W') := by
      rw [← hf]
      exact H
    have loop : ∀ x, 0 ≤ x → x ≤ S 8 pg 0 → ∀ V' W', fa [28, 29, 30, 31, 32] V V' → fa [90] W W' → (∀ j, 0 ≤ j → j < i → V' 28 j = V 28 j) → FtR n V' W' (upL f x.toNat s) → am_W m_X5_columns (am_ev am_prog (d + 3)) K 24 [some (.inr (.inl r)), some (.inl (pg)), some (.inl (i)), some (.inl (x))] [] (mo b r (ms S) V' W') := by
      refine lp_z ?_ ?_
      · intro x x0 xn hL V' W' fV fW g28 gF
        refine w_columns_24 ⟨by omega, fun z => absurd z (by omega), fun _ => ⟨by omega, by omega, ?_⟩⟩
        have fU : fa [28] V' (am_up V' 28 (am_uz (V' 28) i x)) := fa_up fa_refl rfl
        have u28 : am_up V' 28 (am_uz (V' 28) i x) 28 = am_uz (V' 28) i x := am_up_eq
        generalize am_up V' 28 (am_uz (V' 28) i x) = U at fU u28
        have ex : ((x.toNat : Nat) : Int) = x := by omega
        refine ih (col := am_uz col i x) (s := upL f x.toNat s) (by omega) (by omega) (by omega) ((fW 89 rfl).trans w89) (fun j a c => by rw [fU 27 rfl, fV 27 rfl]; exact v27 j a c) (fun j a c => ?_) (FtR_f gF rfl (fU 30 rfl) (fU 31 rfl)) (fun V2 W2 f2 fw2 q28 qF => am_an (w_columns_45 ⟨by omega, hL V2 W2 (fa_trans fV (fa_trans (fa_sub fU rfl) f2)) (fa_trans fW fw2) (fun j a c => ?_) ?_⟩))
        · rw [u28]
          by_cases e : j = i
          · rw [e, am_uz_eq, am_uz_eq]
            exact ⟨rfl, by omega⟩
          · rw [am_uz_ne e, am_uz_ne e, g28 j a (by omega)]
            exact v28 j a (by omega)
        · rw [q28 j a (by omega), u28, am_uz_ne (by omega)]
          exact g28 j a c
        · have e1 : (x + 1).toNat = x.toNat + 1 := by omega
          have e2 : upL f (x.toNat + 1) s = coR S pg st n.toNat k (i + 1) (am_uz col i x) (upL f x.toNat s) := by
            show f x.toNat (upL f x.toNat s) = _
            rw [← hf]
            show coR S pg st n.toNat k (i + 1) (am_uz col i ((x.toNat : Nat) : Int)) _ = _
            rw [ex]
          rw [e1, e2]
          exact qF
      · intro V' W' fV fW g28 gF
        exact w_columns_24 ⟨by omega, fun _ => H' V' W' fV fW g28 gF, fun z => absurd z (by omega)⟩
    exact loop 0 (by omega) h80.1 V W fa_refl fa_refl (fun _ _ _ => rfl) hF
end
