set_option maxRecDepth 100000
/-! the model corrects a word -/
def cL (S : am_G) (p w : Int) : Int := lnF (S 3 p) (wfR (S 3 p) w (S 3 p 1).toNat).1 ((S 3 p) 4).toNat 0
def cT (S : am_G) (p : Int) (row : Int → Int) : Int → Int × Int × Int := tbS (setR S p row) p (S 0 0 0)
def cA (S : am_G) (p w : Int) : Int := bg (S 3 p) (cL S p w)
/-- the number of lines then -/
def cN (S : am_G) (p w : Int) (row : Int → Int) : Int := (cL S p w) + (cT S p row (cA S p w)).2.1
def cR (S : am_G) (p w : Int) (row : Int → Int) : Int → Int := coE row (cT S p row) (cA S p w) (cL S p w)
def cS (S : am_G) (p w : Int) (row : Int → Int) : Int := smN (S 3 p) (cR S p w row) ((S 3 p) 4) (cN S p w row) (cL S p w) 41 0
def cQ (S : am_G) (p w : Int) (row : Int → Int) : am_G := pkS (setR S p (cR S p w row)) (S 3 p) p (cL S p w) ((S 3 p) 4) (cN S p w row) (cS S p w row) ((S 3 p) 4 - (cL S p w)).toNat
/-- the lines to be cast -/
def cC (S : am_G) (p w : Int) (row : Int → Int) : Int := cN S p w row - (cL S p w) - cS S p w row
def cF (S : am_G) (p w k : Int) (row : Int → Int) : am_G := if 0 < cC S p w row then jbS (cQ S p w row) k p (cL S p w) ((cL S p w) + cC S p w row) 1 0 else cQ S p w row
theorem smN_b {v u : Int → Int} {n m l0 : Int} : ∀ (k : Nat) (s : Int), 0 ≤ s → s ≤ n - l0 → s ≤ m - l0 → s ≤ smN v u n m l0 k s ∧ smN v u n m l0 k s ≤ n - l0 ∧ smN v u n m l0 k s ≤ m - l0
  | 0, s, h0, h1, h2 => ⟨Int.le_refl _, h1, h2⟩
  | k + 1, s, h0, h1, h2 => by
    have e : smN v u n m l0 (k + 1) s = if (s < n - l0 ∧ s < m - l0) ∧ lnS v (n - 1 - s) = lnS u (m - 1 - s) then smN v u n m l0 k (s + 1) else s := rfl
    rw [e]
    split
    · next c =>
      have i := smN_b (v := v) (u := u) (n := n) (m := m) (l0 := l0) k (s + 1) (by omega) (by omega) (by omega)
      omega
    · exact ⟨Int.le_refl _, h1, h2⟩
theorem pkS_c {S2 : am_G} {v : Int → Int} {p l0 n m s : Int} {c : Nat} (h3 : c ≠ 3) (h4 : c ≠ 4) : ∀ j : Nat, pkS S2 v p l0 n m s j c = S2 c
  | 0 => rfl
  | j + 1 => by
    have i := pkS_c (S2 := S2) (v := v) (p := p) (l0 := l0) (n := n) (m := m) (s := s) h3 h4 j
    show (if _ then _ else _ : am_G) c = S2 c
    split
    · exact i
    · split
      · rw [u3_r h3, u3_r h4, u3_r h4]
        exact i
      · rw [u3_r h4, u3_r h4, u3_r h4]
        exact i
theorem lst_eq {l m : List Int} (hl : l.length = m.length) (h : ∀ i : Nat, i < m.length → gt l i = gt m i) : l = m := gt_ext l m hl (fun i hi => h i (by omega))
section
variable {K : am_K} {b : am_H} {r : Nat} {S : am_G} {V : Nat → Int → Int} {W : Nat → Int}
theorem c_isSame {p x y : Int} {u : List Int} {D : Nat} (hD : 10 ≤ D) (hp : 0 ≤ p ∧ p < 100) (ho : okP (S 3 p)) (hx : 0 ≤ x ∧ x < 40) (hy : 0 ≤ y ∧ y < 40) (h4 : 0 ≤ (S 3 p) 4 ∧ (S 3 p) 4 ≤ 40) (hb : 0 ≤ bg (S 3 p) y ∧ bg (S 3 p) y ≤ (S 3 p) (5 + y)) (he : (S 3 p) (5 + y) < 40) (hlen : ((lnS (S 3 p) y).length : Int) ≤ 420) (v21 : V 21 x = (u.length : Int)) (v20 : ∀ i : Nat, i < u.length → V 20 (430 * x + i) = gt u i) (H : ∀ V' W', fa [17, 18] V V' → fa [73] W W' → (u = lnS (S 3 p) y → K (.inl (some (.inl (1)))) (mo b r (ms S) V' W')) ∧ (u ≠ lnS (S 3 p) y → K (.inl (some (.inl (0)))) (mo b r (ms S) V' W'))) : am_ev am_prog D 194 [.inr (.inl r), .inl p, .inl x, .inl y] (mo b r (ms S) V W) K := by
  obtain ⟨d, rfl⟩ : ∃ d, D = d + 4 := ⟨D - 4, by omega⟩
  refine am_en p_X5_isSame rfl rfl ?_
  refine w_isSame_0 (c_write (by omega) hp ho hy h4 hb he hlen (fun V' W' fV fW w73 pf _ => am_an (w_isSame_4 ⟨hx, ?_⟩)))
  obtain ⟨H1, H0⟩ := H V' W' fV fW
  rw [w73, fV 21 rfl, v21]
  have no : ∀ i, u ≠ lnS (S 3 p) y → am_W m_X5_isSame (am_ev am_prog (d + 3)) K 17 [some (.inr (.inl r)), some (.inl (p)), some (.inl (x)), some (.inl (y)), some (.inl (0)), some (.inl (i))] [] (mo b r (ms S) V' W') := fun i ne => w_isSame_17 ⟨fun _ => ⟨Or.inl rfl, H0 ne⟩, fun _ => ⟨fun _ => ⟨Or.inl rfl, H0 ne⟩, fun z => absurd rfl z⟩⟩
  by_cases c : (u.length : Int) = ((lnS (S 3 p) y).length : Int)
  · rw [am_bt c]
    have loop : ∀ i, 0 ≤ i → i ≤ ((lnS (S 3 p) y).length : Int) → (∀ j : Nat, (j : Int) < i → gt u j = gt (lnS (S 3 p) y) j) → am_W m_X5_isSame (am_ev am_prog (d + 3)) K 17 [some (.inr (.inl r)), some (.inl (p)), some (.inl (x)), some (.inl (y)), some (.inl (1)), some (.inl (i))] [] (mo b r (ms S) V' W') := by
      refine lp_z ?_ ?_
      · intro i i0 i1 hL hj
        have a20 := v20 i.toNat (by omega)
        have a17 := pf i.toNat (by omega)
        have ii : ((i.toNat : Nat) : Int) = i := by omega
        rw [ii] at a20 a17
        refine w_isSame_17 ⟨fun z => absurd z (by omega), fun _ => ⟨fun z => absurd z (by decide), fun _ => ⟨by omega, by omega, ?_⟩⟩⟩
        rw [fV 20 rfl, a20, a17]
        by_cases e : gt u i.toNat = gt (lnS (S 3 p) y) i.toNat
        · rw [am_bt e]
          refine hL (fun j hj2 => ?_)
          by_cases ej : j = i.toNat
          · rw [ej]
            exact e
          · exact hj j (by omega)
        · rw [am_bf e]
          exact no _ (fun q => e (by rw [q]))
      · intro hj
        exact w_isSame_17 ⟨fun _ => ⟨Or.inr rfl, H1 (lst_eq (by omega) (fun i hi => hj i (by omega)))⟩, fun z => absurd z (by omega)⟩
    exact loop 0 (by omega) (by omega) (fun j hj => absurd hj (by omega))
  · rw [am_bf c]
    exact no 0 (fun q => c (by rw [q]))
end
