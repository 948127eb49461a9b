set_option maxRecDepth 100000
/-! a word is corrected: what is read, where it stands, the pieces then -/
def onR (t : Int → Int) (n c0 : Int) : Int ⊕ List am_Pz :=
  if ¬ ((bE t n 0) < n ∧ (97 ≤ t ((bE t n 0)) ∧ t ((bE t n 0)) ≤ 122)) then .inl (bE t n 0)
  else match wdR t n 0 (bE t n 0) c0 with
    | .inl x => .inl x
    | .inr q => if n ≤ bE t n q.1 then .inr q.2 else .inl (bE t n q.1)
section
variable {t : Int → Int} {n c0 : Int}
theorem onR_0 (h : ¬ ((bE t n 0) < n ∧ (97 ≤ t ((bE t n 0)) ∧ t ((bE t n 0)) ≤ 122))) : onR t n c0 = .inl (bE t n 0) := if_pos h
theorem onR_l (h : (bE t n 0) < n ∧ (97 ≤ t ((bE t n 0)) ∧ t ((bE t n 0)) ≤ 122)) {x : Int} (r : wdR t n 0 (bE t n 0) c0 = .inl x) : onR t n c0 = .inl x := by
  unfold onR
  rw [if_neg (fun z => z h), r]
theorem onR_r (h : (bE t n 0) < n ∧ (97 ≤ t ((bE t n 0)) ∧ t ((bE t n 0)) ≤ 122)) {q : Int × List am_Pz} (r : wdR t n 0 (bE t n 0) c0 = .inr q) : onR t n c0 = if n ≤ bE t n q.1 then .inr q.2 else .inl (bE t n q.1) := by
  unfold onR
  rw [if_neg (fun z => z h), r]
end
/-- first piece of a word, number of its pieces -/
def wfR (v : Int → Int) (w : Int) : Nat → Int × Int
  | 0 => (-1, 0)
  | k + 1 => if v (85 + (k : Int)) = w then (if (wfR v w k).1 = -1 then (k : Int) else (wfR v w k).1, (wfR v w k).2 + 1) else wfR v w k
theorem okN_ss {v : Int → Int} (hN : okN v) {k : Int} (h0 : 0 ≤ k) (h1 : k < v 1 - 1) : v (85 + k) ≤ v (86 + k) ∧ v (86 + k) ≤ v (85 + k) + 1 := by
  have q := hN.2 k h0 h1
  have z := am_bz (ew v k)
  omega
theorem okN_mm {v : Int → Int} (hN : okN v) : ∀ (m : Nat) (j : Int), 0 ≤ j → j + m < v 1 → v (85 + j) ≤ v (85 + (j + m))
  | 0, j, _, _ => by
    have e : j + ((0 : Nat) : Int) = j := by omega
    rw [e]
    exact Int.le_refl _
  | m + 1, j, h0, h1 => by
    have i := okN_mm hN m j h0 (by omega)
    have s := okN_ss hN (k := j + m) (by omega) (by omega)
    have e : 85 + (j + ((m + 1 : Nat) : Int)) = 86 + (j + m) := by omega
    rw [e]
    omega
theorem okN_lle {v : Int → Int} (hN : okN v) {j k : Int} (h0 : 0 ≤ j) (h1 : j ≤ k) (h2 : k < v 1) : v (85 + j) ≤ v (85 + k) := by
  have q := okN_mm hN (k - j).toNat j h0 (by omega)
  have e : j + ((k - j).toNat : Int) = k := by omega
  rw [e] at q
  exact q
theorem wf_i {v : Int → Int} {w : Int} (hN : okN v) (hw : 0 ≤ w) : ∀ m : Nat, (m : Int) ≤ v 1 → (wfR v w m = (-1, 0) ∧ ∀ k, 0 ≤ k → k < (m : Int) → v (85 + k) < w) ∨ (0 ≤ (wfR v w m).1 ∧ 1 ≤ (wfR v w m).2 ∧ (wfR v w m).1 + (wfR v w m).2 ≤ m ∧ (∀ k, 0 ≤ k → k < (wfR v w m).1 → v (85 + k) < w) ∧ (∀ k, (wfR v w m).1 ≤ k → k < (wfR v w m).1 + (wfR v w m).2 → v (85 + k) = w) ∧ ∀ k, (wfR v w m).1 + (wfR v w m).2 ≤ k → k < (m : Int) → w < v (85 + k))
  | 0, _ => Or.inl ⟨rfl, fun k a b => absurd b (by omega)⟩
  | m + 1, h => by
    have ih := wf_i hN hw m (by omega)
    have e : wfR v w (m + 1) = if v (85 + (m : Int)) = w then (if (wfR v w m).1 = -1 then (m : Int) else (wfR v w m).1, (wfR v w m).2 + 1) else wfR v w m := rfl
    by_cases c : v (85 + (m : Int)) = w
    · rw [if_pos c] at e
      refine Or.inr ?_
      rcases ih with ⟨i1, i2⟩ | ⟨i1, i2, i3, i4, i5, i6⟩
      · rw [i1] at e
        have e' : wfR v w (m + 1) = ((m : Int), 1) := e
        rw [e']
        refine ⟨by omega, by show (1 : Int) ≤ 1; omega, by show (m : Int) + 1 ≤ _; omega, i2, fun k a b => ?_, fun k a b => ?_⟩
        · have a' : (m : Int) ≤ k := a
          have b' : k < (m : Int) + 1 := b
          have : k = (m : Int) := by omega
          rw [this]
          exact c
        · have a' : (m : Int) + 1 ≤ k := a
          omega
      · rw [if_neg (by omega)] at e
        rw [e]
        have full : (wfR v w m).1 + (wfR v w m).2 = m := Classical.byContradiction fun z => by
          have q := i6 ((m : Int) - 1) (by omega) (by omega)
          have g := okN_lle hN (j := (m : Int) - 1) (k := (m : Int)) (by omega) (by omega) (by omega)
          omega
        refine ⟨i1, by show 1 ≤ (wfR v w m).2 + 1; omega, by show (wfR v w m).1 + ((wfR v w m).2 + 1) ≤ _; omega, i4, fun k a b => ?_, fun k a b => ?_⟩
        · have a' : (wfR v w m).1 ≤ k := a
          have b' : k < (wfR v w m).1 + ((wfR v w m).2 + 1) := b
          by_cases ek : k = (m : Int)
          · rw [ek]
            exact c
          · exact i5 k a' (by omega)
        · have a' : (wfR v w m).1 + ((wfR v w m).2 + 1) ≤ k := a
          omega
    · rw [if_neg c] at e
      rw [e]
      rcases ih with ⟨i1, i2⟩ | ⟨i1, i2, i3, i4, i5, i6⟩
      · refine Or.inl ⟨i1, fun k a b => ?_⟩
        by_cases ek : k = (m : Int)
        · rw [ek]
          by_cases m0 : m = 0
          · have h85 := hN.1
            rw [m0] at c ⊢
            have e0 : (85 : Int) + ((0 : Nat) : Int) = 85 := by omega
            rw [e0] at c ⊢
            omega
          · have s := okN_ss hN (k := (m : Int) - 1) (by omega) (by omega)
            have q := i2 ((m : Int) - 1) (by omega) (by omega)
            have e1 : (86 : Int) + ((m : Int) - 1) = 85 + (m : Int) := by omega
            rw [e1] at s
            omega
        · exact i2 k a (by omega)
      · refine Or.inr ⟨i1, i2, by omega, i4, i5, fun k a b => ?_⟩
        by_cases ek : k = (m : Int)
        · have g := okN_lle hN (j := (wfR v w m).1) (k := (m : Int)) (by omega) (by omega) (by omega)
          have q := i5 (wfR v w m).1 (by omega) (by omega)
          rw [ek]
          omega
        · exact i6 k a (by omega)
/-- where a word stands -/
def wfV (v : Int → Int) (w f o : Int) : Prop := (0 ≤ f ∧ 1 ≤ o ∧ f + o ≤ v 1) ∧ (∀ k, 0 ≤ k → k < f → v (85 + k) < w) ∧ (∀ k, f ≤ k → k < f + o → v (85 + k) = w) ∧ ∀ k, f + o ≤ k → k < v 1 → w < v (85 + k)
theorem wf_v {v : Int → Int} {w : Int} (hN : okN v) (h1 : 1 ≤ v 1) (h0 : v 0 = v (84 + v 1) + 1) (hw : 0 ≤ w ∧ w < v 0) : wfV v w (wfR v w (v 1).toNat).1 (wfR v w (v 1).toNat).2 := by
  have e : (((v 1).toNat : Nat) : Int) = v 1 := by omega
  rcases wf_i hN hw.1 (v 1).toNat (by omega) with ⟨i1, i2⟩ | ⟨i1, i2, i3, i4, i5, i6⟩
  · have q := i2 (v 1 - 1) (by omega) (by omega)
    have e1 : 85 + (v 1 - 1) = 84 + v 1 := by omega
    rw [e1] at q
    omega
  · exact ⟨⟨i1, i2, by omega⟩, i4, i5, fun k a b => i6 k a (by omega)⟩
/-- a part's row -/
def setR (S : am_G) (p : Int) (row : Int → Int) : am_G := fun c q i => if c = 3 ∧ q = p then row i else S c q i
theorem setR_p {S : am_G} {p : Int} {row : Int → Int} : setR S p row 3 p = row := by
  funext i
  exact if_pos ⟨rfl, rfl⟩
theorem setR_q {S : am_G} {p q : Int} {row : Int → Int} (h : q ≠ p) {c : Nat} : setR S p row c q = S c q := by
  funext i
  exact if_neg (fun z => h z.2)
theorem setR_c {S : am_G} {p : Int} {row : Int → Int} {c : Nat} (h : c ≠ 3) : setR S p row c = S c := by
  funext q i
  exact if_neg (fun z => h z.1)
theorem setR_u {S : am_G} {p i v : Int} {row : Int → Int} : u3 (setR S p row) 3 p i v = setR S p (am_uz row i v) := by
  funext c q j
  unfold u3 setR am_uz
  by_cases h : c = 3 ∧ q = p
  · rw [if_pos h, if_pos h]
    by_cases e : j = i
    · rw [if_pos ⟨h.1, h.2, e⟩, if_pos e]
    · rw [if_neg (fun z => e z.2.2), if_neg e]
  · rw [if_neg h, if_neg h, if_neg (fun z => h ⟨z.1, z.2.1⟩)]
theorem setR_id {S : am_G} {p : Int} : setR S p (S 3 p) = S := by
  funext c q i
  unfold setR
  by_cases h : c = 3 ∧ q = p
  · rw [if_pos h, h.1, h.2]
  · rw [if_neg h]
/-- the row with the word's pieces changed: d pieces of lengths x and letters y -/
def chg (v row x y : Int → Int) (w f o d : Int) : Prop := row 0 = v 0 ∧ (∀ j, 2 ≤ j → j < 85 → row j = v j) ∧ row 1 = v 1 + (d - o) ∧ (∀ k, 0 ≤ k → k < f → row (85 + k) = v (85 + k) ∧ row (125 + k) = v (125 + k) ∧ ∀ i, 0 ≤ i → i < 12 → row (165 + 12 * k + i) = v (165 + 12 * k + i)) ∧ (∀ k, 0 ≤ k → k < d → row (85 + f + k) = w ∧ row (125 + f + k) = x k ∧ ∀ i, 0 ≤ i → i < 12 → row (165 + 12 * (f + k) + i) = y (12 * k + i)) ∧ (∀ k, f + o ≤ k → k < v 1 → row (85 + k + (d - o)) = v (85 + k) ∧ row (125 + k + (d - o)) = v (125 + k) ∧ ∀ i, 0 ≤ i → i < 12 → row (165 + 12 * (k + (d - o)) + i) = v (165 + 12 * k + i)) ∧ (∀ k, v 1 + (d - o) ≤ k → k < 40 → row (85 + k) = v (85 + k) ∧ row (125 + k) = v (125 + k) ∧ ∀ i, 0 ≤ i → i < 12 → row (165 + 12 * k + i) = v (165 + 12 * k + i)) ∧ ∀ j, j < 0 ∨ 645 ≤ j → row j = v j
section
variable {K : am_K} {b : am_H} {r : Nat} {S : am_G} {V : Nat → Int → Int} {W : Nat → Int}
theorem c_readOne {t : Int → Int} {n c0 : Int} {D : Nat} (hD : 20 ≤ D) (h45 : W 45 = n) (hn : 0 ≤ n ∧ n ≤ 400) (h46 : W 46 = 0) (tp : tpR t (V 4) n) (hc : 0 ≤ c0 ∧ c0 ≤ 40) (ok : okVs V) (H0 : ∀ x V' W', onR t n c0 = .inl x → fa [5, 6, 7, 8] V V' → fa [46, 47, 55] W W' → W' 47 = x → okVs V' → K (.inl (some (.inl (0)))) (mo b r (ms S) V' W')) (H1 : ∀ l V' W', onR t n c0 = .inr l → fa [5, 6, 7, 8] V V' → fa [46, 55] W W' → okVs V' → V' 8 0 = l.length → (∀ k : Nat, k < l.length → V' 6 k = (gP l k).2.2.1 ∧ ∀ i, 0 ≤ i → i < (gP l k).2.2.1 → V' 7 (12 * k + i) = t ((gP l k).2.1 + i) - 97) → K (.inl (some (.inl (1)))) (mo b r (ms S) V' W')) : am_ev am_prog D 189 [.inr (.inl r), .inl c0] (mo b r (ms S) V W) K := by
  obtain ⟨d, rfl⟩ : ∃ d, D = d + 4 := ⟨D - 4, by omega⟩
  refine am_en p_X5_readOne rfl rfl ?_
  have ok1 : okVs (am_up V 8 (am_uz (V 8) 0 0)) := ok
  have f1 : fa [5, 6, 7, 8] V (am_up V 8 (am_uz (V 8) 0 0)) := fa_up fa_refl rfl
  have e8 : am_up V 8 (am_uz (V 8) 0 0) 8 0 = 0 := by
    rw [am_up_eq, am_uz_eq]
  have fw1 : fa [46, 55] W (am_up W 55 0) := fa_up fa_refl rfl
  have w55 : am_up W 55 0 55 = 0 := am_up_eq
  have w45 : am_up W 55 0 45 = n := (am_up_ne (by decide)).trans h45
  have w46 : am_up W 55 0 46 = 0 := (am_up_ne (by decide)).trans h46
  refine w_readOne_0 ?_
  have tp1 : tpR t (am_up V 8 (am_uz (V 8) 0 0) 4) n := tp
  generalize am_up V 8 (am_uz (V 8) 0 0) = V1 at *
  generalize am_up W 55 0 = W1 at *
  have bv := bE_v (t := t) (n := n) (a := 0)
  refine c_blanks (t := t) (n := n) (by omega) w45 hn.2 (by omega) tp1 (fun W2 fw2 e46 => am_an (w_readOne_10 ?_))
  rw [w46] at e46
  have k45 : W2 45 = n := (fw2 45 rfl).trans w45
  have fW2 : fa [46, 55] W W2 := fa_trans fw1 (fa_sub fw2 rfl)
  have bad : ¬ ((bE t n 0) < n ∧ (97 ≤ t ((bE t n 0)) ∧ t ((bE t n 0)) ≤ 122)) → am_ev am_prog (d + 3) 258 [.inr (.inl r)] (mo b r (ms S) V1 W2) (am_aft (am_hand m_X5_readOne K (am_W m_X5_readOne (am_ev am_prog (d + 3)) K) 23) (am_W m_X5_readOne (am_ev am_prog (d + 3)) K) 23 [some (.inr (.inl r)), some (.inl (c0))] []) := fun z => c_fails (by omega) (am_av (w_readOne_24 ⟨Or.inl rfl, H0 (bE t n 0) V1 _ (onR_0 z) f1 (fa_up (fa_sub fW2 rfl) rfl) (am_up_eq.trans e46) ok1⟩))
  refine ⟨fun z => bad (fun y => by omega), fun z => ⟨by omega, fun y => ?_, fun y => bad (fun q => ?_)⟩⟩
  · rw [e46] at y
    have lb : (bE t n 0) < n ∧ (97 ≤ t ((bE t n 0)) ∧ t ((bE t n 0)) ≤ 122) := ⟨by omega, (tp_l tp1 (by omega) (by omega)).mp y⟩
    refine c_readWord (t := t) (n := n) (a := (bE t n 0)) (p := 0) (w := 0) (c0 := c0) (by omega) k45 hn.2 e46 (by omega) lb tp1 ((fw2 55 rfl).trans w55) (by omega) (by omega) (by omega) (by omega) ok1 (fun x V' W' hx fV fW g47 okV _ => am_av (w_readOne_30 ⟨fun z => absurd rfl z, fun _ => ?_⟩)) (fun q V' W' hq fV fW g46 okV pv => am_av (w_readOne_30 ⟨fun _ => ?_, fun z => absurd z (by decide)⟩))
    · rw [e8, Int.add_zero] at hx
      exact H0 x V' W' (onR_l lb hx) (fa_trans f1 fV) (fa_trans (fa_sub fW2 rfl) (fa_sub fW rfl)) g47 okV
    · rw [e8, Int.add_zero] at hq
      have wv := wdR_v (n - (bE t n 0)).toNat (bE t n 0) c0 (Nat.le_refl _) lb hc.2 q hq
      have bv2 := bE_v (t := t) (n := n) (a := q.1)
      have er := onR_r lb hq
      have tp2 : tpR t (V' 4) n := by
        rw [fV 4 rfl]
        exact tp1
      refine c_blanks (t := t) (n := n) (by omega) ((fW 45 rfl).trans k45) hn.2 (by omega) tp2 (fun W3 fw3 e46' => am_an (w_readOne_35 ⟨fun z => ?_, fun z => ?_⟩))
      · rw [e46', g46, (fw3 45 rfl), (fW 45 rfl), k45] at z
        rw [if_pos z] at er
        rw [e8] at pv
        obtain ⟨p1, p2, p3, p4, p5⟩ := pv
        refine H1 q.2 V' W3 er (fa_trans f1 fV) (fa_trans fW2 (fa_trans (fa_sub fW rfl) (fa_sub fw3 rfl))) okV (by rw [p2]; omega) (fun k hk => ?_)
        have g := p5 k hk
        have e1 : (40 * 0 + 0 + (k : Int) : Int) = (k : Int) := by omega
        rw [e1] at g
        exact ⟨g.2.1, g.2.2⟩
      · rw [e46', g46, (fw3 45 rfl), (fW 45 rfl), k45] at z
        rw [if_neg (by omega)] at er
        refine c_fails (by omega) (am_av (w_readOne_42 ?_))
        have e0 : am_b ((0 : Int) ≠ 0) = 0 := rfl
        rw [e0]
        exact H0 _ V' _ er (fa_trans f1 fV) (fa_up (fa_trans (fa_sub fW2 rfl) (fa_trans (fa_sub fW rfl) (fa_sub fw3 rfl))) rfl) (am_up_eq.trans (e46'.trans (by rw [g46]))) okV
  · rw [e46] at y
    exact y ((tp_l tp1 (by omega) (by omega)).mpr q.2)
end
