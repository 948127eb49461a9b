set_option maxRecDepth 100000
/-! the model reads -/
/-- the model's bytes u are the bytes t -/
def tpR (t u : Int → Int) (n : Int) : Prop := ∀ j, 0 ≤ j → j < n → u j = t j ∨ (t j < 0 ∧ 128 ≤ u j)
theorem tp_l {t u : Int → Int} {n j : Int} (h : tpR t u n) (h1 : 0 ≤ j) (h2 : j < n) : (97 ≤ u j ∧ u j ≤ 122) ↔ (97 ≤ t j ∧ t j ≤ 122) := by
  have q := h j h1 h2
  constructor <;> intro z <;> omega
theorem tp_c {t u : Int → Int} {n j c : Int} (h : tpR t u n) (h1 : 0 ≤ j) (h2 : j < n) (hc : 0 ≤ c ∧ c ≤ 127) : u j = c ↔ t j = c := by
  have q := h j h1 h2
  constructor <;> intro z <;> omega
theorem tp_e {t u : Int → Int} {n j : Int} (h : tpR t u n) (h1 : 0 ≤ j) (h2 : j < n) (hl : 97 ≤ t j ∧ t j ≤ 122) : u j = t j := by
  have q := h j h1 h2
  omega
/-- the numbers of what is read are in bounds -/
def okVs (V : Nat → Int → Int) : Prop := (∀ i, 0 ≤ i → i < 200 → (0 ≤ V 5 i ∧ V 5 i ≤ 23) ∧ (0 ≤ V 6 i ∧ V 6 i ≤ 12)) ∧ (∀ i, 0 ≤ i → i < 2400 → 0 ≤ V 7 i ∧ V 7 i ≤ 25)
/-- pieces added to the part's m -/
def pvA (t : Int → Int) (V V' : Nat → Int → Int) (p m : Int) (l : List am_Pz) : Prop := (∀ i, i ≠ p → V' 8 i = V 8 i) ∧ V' 8 p = m + l.length ∧ (∀ i, i < 40 * p + m ∨ 40 * p + 40 ≤ i → V' 5 i = V 5 i ∧ V' 6 i = V 6 i) ∧ (∀ i, i < 12 * (40 * p + m) ∨ 12 * (40 * p + 40) ≤ i → V' 7 i = V 7 i) ∧ ∀ k : Nat, k < l.length → V' 5 (40 * p + m + k) = (gP l k).1 ∧ V' 6 (40 * p + m + k) = (gP l k).2.2.1 ∧ ∀ i, 0 ≤ i → i < (gP l k).2.2.1 → V' 7 (12 * (40 * p + m + k) + i) = t ((gP l k).2.1 + i) - 97
theorem pvA_c {t : Int → Int} {V V1 V2 : Nat → Int → Int} {p m : Int} {x : am_Pz} {l : List am_Pz} (hm : 0 ≤ m ∧ m < 40) (hx : 0 ≤ x.2.2.1 ∧ x.2.2.1 ≤ 12) (a : pvA t V V1 p m [x]) (b : pvA t V1 V2 p (m + 1) l) : pvA t V V2 p m (x :: l) := by
  obtain ⟨a1, a2, a3, a4, a5⟩ := a
  obtain ⟨b1, b2, b3, b4, b5⟩ := b
  refine ⟨fun i hi => (b1 i hi).trans (a1 i hi), ?_, fun i hi => ?_, fun i hi => ?_, fun k hk => ?_⟩
  · rw [b2]
    have e : ((x :: l).length : Int) = l.length + 1 := by simp
    rw [e]
    omega
  · have q := b3 i (by omega)
    have w := a3 i hi
    exact ⟨q.1.trans w.1, q.2.trans w.2⟩
  · exact (b4 i (by omega)).trans (a4 i hi)
  · cases k with
    | zero =>
      have w := a5 0 (Nat.lt_succ_self 0)
      have q := b3 (40 * p + m + ((0 : Nat) : Int)) (by omega)
      refine ⟨q.1.trans w.1, q.2.trans w.2.1, fun i i1 i2 => ?_⟩
      have i2' : i < x.2.2.1 := i2
      exact (b4 _ (by omega)).trans (w.2.2 i i1 i2)
    | succ k =>
      have w := b5 k (by
        have e : (x :: l).length = l.length + 1 := rfl
        omega)
      have e : 40 * p + m + ((k + 1 : Nat) : Int) = 40 * p + (m + 1) + (k : Int) := by omega
      rw [e]
      exact w
section
variable {K : am_K} {b : am_H} {r : Nat} {S : am_G} {V : Nat → Int → Int} {W : Nat → Int}
theorem c_blanks {t : Int → Int} {n : Int} {D : Nat} (hD : 4 ≤ D) (h45 : W 45 = n) (hn : n ≤ 400) (h46 : 0 ≤ W 46) (tp : tpR t (V 4) n) (H : ∀ W', fa [46] W W' → W' 46 = bE t n (W 46) → K (.inl none) (mo b r (ms S) V W')) : am_ev am_prog D 256 [.inr (.inl r)] (mo b r (ms S) V W) K := by
  obtain ⟨d, rfl⟩ : ∃ d, D = d + 4 := ⟨D - 4, by omega⟩
  refine am_en p_X5_blanks rfl rfl ?_
  have main : ∀ (f : Nat) (W' : Nat → Int), (n - W' 46).toNat ≤ f → fa [46] W W' → 0 ≤ W' 46 → bE t n (W' 46) = bE t n (W 46) → am_W m_X5_blanks (am_ev am_prog (d + 3)) K 0 [some (.inr (.inl r))] [] (mo b r (ms S) V W') := by
    intro f
    induction f with
    | zero =>
      intro W' hf hW h0 he
      have e45 : W' 45 = n := (hW 45 rfl).trans h45
      refine w_blanks_0 ⟨fun _ => H W' hW ?_, fun z => absurd z (by omega)⟩
      rw [← he, bE_0 (fun z => absurd z.1 (by omega))]
    | succ f ih =>
      intro W' hf hW h0 he
      have e45 : W' 45 = n := (hW 45 rfl).trans h45
      refine w_blanks_0 ⟨fun z => H W' hW ?_, fun z => ⟨by omega, fun c => H W' hW ?_, fun c => ⟨by omega, ?_⟩⟩⟩
      · rw [← he, bE_0 (fun y => absurd y.1 (by omega))]
      · have c' : ¬ (t (W' 46) = 32) := fun y => c ((tp_c tp h0 (by omega) (by omega)).2 y)
        rw [← he, bE_0 (fun y => c' y.2)]
      · have c' := (tp_c tp h0 (by omega) (by omega)).1 c
        refine ih (am_up W' 46 (W' 46 + 1)) ?_ (fa_up hW rfl) ?_ ?_
        · rw [am_up_eq]
          omega
        · rw [am_up_eq]
          omega
        · rw [am_up_eq, ← he, bE_s ⟨by omega, c'⟩]
  exact main _ W (Nat.le_refl _) fa_refl h46 rfl
theorem c_readWord {t : Int → Int} {n a p w c0 : Int} {D : Nat} (hD : 4 ≤ D) (h45 : W 45 = n) (hn : n ≤ 400) (h46 : W 46 = a) (ha : 0 ≤ a) (hl : a < n ∧ (97 ≤ t a ∧ t a ≤ 122)) (tp : tpR t (V 4) n) (hp : W 55 = p) (hp5 : 0 ≤ p ∧ p < 5) (hw : 0 ≤ w ∧ w ≤ 23) (h8 : 0 ≤ V 8 p) (hc : 0 ≤ c0 ∧ c0 + V 8 p ≤ 40) (ok : okVs V) (H0 : ∀ x V' W', wdR t n w a (c0 + V 8 p) = .inl x → fa [5, 6, 7, 8] V V' → fa [46, 47] W W' → W' 47 = x → okVs V' → (∀ i, i ≠ p → V' 8 i = V 8 i) → K (.inl (some (.inl (0)))) (mo b r (ms S) V' W')) (H1 : ∀ q V' W', wdR t n w a (c0 + V 8 p) = .inr q → fa [5, 6, 7, 8] V V' → fa [46] W W' → W' 46 = q.1 → okVs V' → pvA t V V' p (V 8 p) q.2 → K (.inl (some (.inl (1)))) (mo b r (ms S) V' W')) : am_ev am_prog D 282 [.inr (.inl r), .inl (40 * p), .inl w, .inl c0] (mo b r (ms S) V W) K := by
  obtain ⟨d, rfl⟩ : ∃ d, D = d + 4 := ⟨D - 4, by omega⟩
  refine am_en p_X5_readWord rfl rfl ?_
  refine w_readWord_0 ?_
  have main : ∀ (f : Nat) (a : Int) (V1 : Nat → Int → Int) (W1 : Nat → Int) (o5 : Option am_V), (n - a).toNat ≤ f → 0 ≤ a → (a < n ∧ (97 ≤ t a ∧ t a ≤ 122)) → W1 46 = a → 0 ≤ V1 8 p → c0 + V1 8 p ≤ 40 → fa [5, 6, 7, 8] V V1 → fa [46] W W1 → okVs V1 → (∀ i, i ≠ p → V1 8 i = V 8 i) → (∀ x V' W', wdR t n w a (c0 + V1 8 p) = .inl x → fa [5, 6, 7, 8] V V' → fa [46, 47] W W' → W' 47 = x → okVs V' → (∀ i, i ≠ p → V' 8 i = V 8 i) → K (.inl (some (.inl (0)))) (mo b r (ms S) V' W')) → (∀ q V' W', wdR t n w a (c0 + V1 8 p) = .inr q → fa [5, 6, 7, 8] V V' → fa [46] W W' → W' 46 = q.1 → okVs V' → pvA t V1 V' p (V1 8 p) q.2 → K (.inl (some (.inl (1)))) (mo b r (ms S) V' W')) → am_W m_X5_readWord (am_ev am_prog (d + 3)) K 2 [some (.inr (.inl r)), some (.inl (40 * p)), some (.inl (w)), some (.inl (c0)), some (.inl (1)), o5] [] (mo b r (ms S) V1 W1) := by
    intro f
    induction f with
    | zero =>
      intro a V1 W1 o5 hf ha hl
      omega
    | succ f ih =>
      intro a V1 W1 o5 hf ha hl e46 b8 bc hV hW okv e8 G0 G1
      have e45 : W1 45 = n := (hW 45 rfl).trans h45
      have e55 : W1 55 = p := (hW 55 rfl).trans hp
      have e4 : V1 4 = V 4 := hV 4 rfl
      have lv := lE_v (t := t) (n := n) (a := a)
      refine w_readWord_2 ⟨fun z => absurd z (by decide), fun _ => ?_⟩
      rw [e55]
      refine ⟨by omega, fun c => ⟨by omega, by omega, ?_⟩, fun c => G0 a V1 _ (wdR_40 c) hV (fa_up (fa_sub hW rfl) rfl) (by rw [am_up_eq, e46]) okv e8⟩
      -- a piece is there
      have pcs : ∀ (V2 : Nat → Int → Int) (j e : Int), V2 8 = V1 8 → V2 5 (40 * p + V1 8 p) = w → V2 6 (40 * p + V1 8 p) = j → (∀ i, i ≠ (40 * p + V1 8 p) → V2 5 i = V1 5 i ∧ V2 6 i = V1 6 i) → (∀ i, ¬ (12 * (40 * p + V1 8 p) ≤ i ∧ i < 12 * (40 * p + V1 8 p) + j) → V2 7 i = V1 7 i) → (∀ i, 0 ≤ i → i < j → V2 7 (12 * (40 * p + V1 8 p) + i) = t (a + i) - 97) → j ≤ 12 → pvA t V1 (am_up V2 8 (am_uz (V2 8) p (V2 8 p + 1))) p (V1 8 p) [(w, a, j, e)] := by
        intro V2 j e q8 q5 q6 qo q7 ql j12
        have v8 : (am_up V2 8 (am_uz (V2 8) p (V2 8 p + 1))) 8 = am_uz (V2 8) p (V2 8 p + 1) := am_up_eq
        have vo : ∀ c, c ≠ 8 → (am_up V2 8 (am_uz (V2 8) p (V2 8 p + 1))) c = V2 c := fun c hc => am_up_ne hc
        refine ⟨fun i hi => ?_, ?_, fun i hi => ?_, fun i hi => ?_, fun k hk => ?_⟩
        · rw [v8, am_uz_ne hi, q8]
        · rw [v8, am_uz_eq, q8]
          rfl
        · rw [vo 5 (by decide), vo 6 (by decide)]
          exact qo i (by omega)
        · rw [vo 7 (by decide)]
          exact q7 i (by omega)
        · have k0 : k = 0 := by
            have : k < 1 := hk
            omega
          subst k0
          have e0 : (40 * p + V1 8 p) + ((0 : Nat) : Int) = (40 * p + V1 8 p) := by omega
          rw [vo 5 (by decide), vo 6 (by decide), vo 7 (by decide), e0]
          exact ⟨q5, q6, ql⟩
      -- behind a piece
      have at94 : ∀ (V2 : Nat → Int → Int) (W2 : Nat → Int) (j : Int), j = lE t n a - a → j ≤ 12 → W2 46 = lE t n a → fa [5, 6, 7, 8] V V2 → fa [46] W W2 → okVs V2 → V2 8 = V1 8 → V2 5 (40 * p + V1 8 p) = w → V2 6 (40 * p + V1 8 p) = j → (∀ i, i ≠ (40 * p + V1 8 p) → V2 5 i = V1 5 i ∧ V2 6 i = V1 6 i) → (∀ i, ¬ (12 * (40 * p + V1 8 p) ≤ i ∧ i < 12 * (40 * p + V1 8 p) + j) → V2 7 i = V1 7 i) → (∀ i, 0 ≤ i → i < j → V2 7 (12 * (40 * p + V1 8 p) + i) = t (a + i) - 97) → am_W m_X5_readWord (am_ev am_prog (d + 3)) K 94 [some (.inr (.inl r)), some (.inl (40 * p)), some (.inl (w)), some (.inl (c0)), some (.inl (1)), some (.inl ((40 * p + V1 8 p)))] [] (mo b r (ms S) V2 W2) := by
        intro V2 W2 j ej j12 f46 hV2 hW2 okv2 q8 q5 q6 qo q7 ql
        have f45 : W2 45 = n := (hW2 45 rfl).trans h45
        have f55 : W2 55 = p := (hW2 55 rfl).trans hp
        have f4 : V2 4 = V 4 := hV2 4 rfl
        have g8 : V2 8 p = V1 8 p := by rw [q8]
        have hV3 : fa [5, 6, 7, 8] V (am_up V2 8 (am_uz (V2 8) p (V2 8 p + 1))) := fa_up hV2 rfl
        have ok3 : okVs (am_up V2 8 (am_uz (V2 8) p (V2 8 p + 1))) := okv2
        have n8 : ∀ i, i ≠ p → (am_up V2 8 (am_uz (V2 8) p (V2 8 p + 1))) 8 i = V 8 i := fun i hi => by
          have v8 : (am_up V2 8 (am_uz (V2 8) p (V2 8 p + 1))) 8 = am_uz (V2 8) p (V2 8 p + 1) := am_up_eq
          rw [v8, am_uz_ne hi, q8]
          exact e8 i hi
        have pc := fun e => pcs V2 j e q8 q5 q6 qo q7 ql j12
        have j12' : lE t n a - a ≤ 12 := by omega
        have one : ¬ (lE t n a < n ∧ t (lE t n a) = 45) → ∀ x, x = 0 → am_W m_X5_readWord (am_ev am_prog (d + 3)) K 2 [some (.inr (.inl r)), some (.inl (40 * p)), some (.inl (w)), some (.inl (c0)), some (.inl (x)), some (.inl ((40 * p + V1 8 p)))] [] (mo b r (ms S) (am_up V2 8 (am_uz (V2 8) p (V2 8 p + 1))) W2) := fun z x hx => by
          have p1 := pc 1
          rw [ej] at p1
          exact w_readWord_2 ⟨fun _ => G1 (lE t n a, [(w, a, lE t n a - a, 1)]) _ _ (wdR_1 c j12' z) hV3 hW2 f46 ok3 p1, fun y => absurd hx y⟩
        refine w_readWord_94 ?_
        rw [f55, f45, f46, f4]
        refine ⟨by omega, fun z => one (fun y => absurd y.1 (by omega)) 0 rfl, fun z => ⟨by omega, fun z2 => ⟨by omega, fun z3 => ?_, fun z3 => ⟨by omega, fun z4 => ?_, fun z4 => ?_⟩⟩, fun z2 => one (fun y => z2 ((tp_c tp (by omega) z (by omega)).2 y.2)) _ (am_bf z2)⟩⟩
        · have z2' := (tp_c tp (by omega) z (by omega)).1 z2
          exact G0 (lE t n a + 1) _ _ (wdR_h0 c j12' ⟨z, z2'⟩ (fun y => absurd y.1 (by omega))) hV3 (fa_up (fa_up (fa_sub hW2 rfl) rfl) rfl) am_up_eq ok3 n8
        · have z2' := (tp_c tp (by omega) z (by omega)).1 z2
          have z4' := (tp_l tp (by omega) z3).1 z4
          have bt : am_b (V 4 (lE t n a) = 45) = 1 := am_bt z2
          have v8 : (am_up V2 8 (am_uz (V2 8) p (V2 8 p + 1))) 8 p = V1 8 p + 1 := by
            have v8 : (am_up V2 8 (am_uz (V2 8) p (V2 8 p + 1))) 8 = am_uz (V2 8) p (V2 8 p + 1) := am_up_eq
            rw [v8, am_uz_eq, g8]
          have ec : c0 + (am_up V2 8 (am_uz (V2 8) p (V2 8 p + 1))) 8 p = c0 + V1 8 p + 1 := by
            rw [v8]
            omega
          rw [bt]
          refine ih (lE t n a + 1) _ _ _ (by omega) (by omega) ⟨z3, z4'⟩ am_up_eq (by rw [v8]; omega) (by rw [v8]; omega) hV3 (fa_up hW2 rfl) ok3 n8 (fun x V' W' hx hV' hW' h47 ok' n' => ?_) (fun q V' W' hq hV' hW' h46 ok' pv => ?_)
          · rw [ec] at hx
            exact G0 x V' W' (wdR_hl c j12' ⟨z, z2'⟩ ⟨z3, z4'⟩ hx) hV' hW' h47 ok' n'
          · rw [ec] at hq
            rw [v8] at pv
            have p0 := pc 0
            rw [ej] at p0
            exact G1 (q.1, (w, a, lE t n a - a, 0) :: q.2) V' W' (wdR_hr c j12' ⟨z, z2'⟩ ⟨z3, z4'⟩ hq) hV' hW' h46 ok' (pvA_c (by omega) ⟨by show (0 : Int) ≤ lE t n a - a; omega, j12'⟩ p0 pv)
        · have z2' := (tp_c tp (by omega) z (by omega)).1 z2
          exact G0 (lE t n a + 1) _ _ (wdR_h0 c j12' ⟨z, z2'⟩ (fun y => z4 ((tp_l tp (by omega) z3).2 y.2))) hV3 (fa_up (fa_up (fa_sub hW2 rfl) rfl) rfl) am_up_eq ok3 n8
      -- the piece's letters
      have inner : ∀ (g : Nat) (j : Int) (V2 : Nat → Int → Int) (W2 : Nat → Int), 0 ≤ j → (13 - j).toNat ≤ g → j ≤ 12 → a + j ≤ lE t n a → W2 46 = a + j → fa [5, 6, 7, 8] V V2 → fa [46] W W2 → okVs V2 → V2 8 = V1 8 → V2 5 (40 * p + V1 8 p) = w → V2 6 (40 * p + V1 8 p) = j → (∀ i, i ≠ (40 * p + V1 8 p) → V2 5 i = V1 5 i ∧ V2 6 i = V1 6 i) → (∀ i, ¬ (12 * (40 * p + V1 8 p) ≤ i ∧ i < 12 * (40 * p + V1 8 p) + j) → V2 7 i = V1 7 i) → (∀ i, 0 ≤ i → i < j → V2 7 (12 * (40 * p + V1 8 p) + i) = t (a + i) - 97) → am_W m_X5_readWord (am_ev am_prog (d + 3)) K 37 [some (.inr (.inl r)), some (.inl (40 * p)), some (.inl (w)), some (.inl (c0)), some (.inl (1)), some (.inl ((40 * p + V1 8 p)))] [] (mo b r (ms S) V2 W2) := by
        intro g
        induction g with
        | zero =>
          intro j V2 W2 j0 jg j12
          omega
        | succ g ihg =>
          intro j V2 W2 j0 jg j12 je f46 hV2 hW2 okv2 q8 q5 q6 qo q7 ql
          have f45 : W2 45 = n := (hW2 45 rfl).trans h45
          have f4 : V2 4 = V 4 := hV2 4 rfl
          have ends : ¬ (a + j < n ∧ (97 ≤ t (a + j) ∧ t (a + j) ≤ 122)) → am_W m_X5_readWord (am_ev am_prog (d + 3)) K 94 [some (.inr (.inl r)), some (.inl (40 * p)), some (.inl (w)), some (.inl (c0)), some (.inl (1)), some (.inl ((40 * p + V1 8 p)))] [] (mo b r (ms S) V2 W2) := fun z => by
            have ee : lE t n a = a + j := by
              rw [lE_t (k := a + j) j.toNat a (by omega) je, lE_0 z]
            exact at94 V2 W2 j (by omega) j12 (by omega) hV2 hW2 okv2 q8 q5 q6 qo q7 ql
          refine w_readWord_37 ?_
          rw [f45, f46, f4, q6]
          refine ⟨fun z => ends (fun y => absurd y.1 (by omega)), fun z => ⟨by omega, fun z2 => ends (fun y => z2 ((tp_l tp (by omega) z).2 y.2)), fun z2 => ?_⟩⟩
          have z2' := (tp_l tp (by omega) z).1 z2
          have ev := tp_e tp (by omega) z z2'
          have je' : a + j + 1 ≤ lE t n a := by
            rw [lE_t (k := a + j) j.toNat a (by omega) je, lE_s ⟨z, z2'⟩]
            exact (lE_v (t := t) (n := n) (a := a + j + 1)).1.1
          refine ⟨by omega, fun z3 => ⟨by omega, by omega, by omega, ?_⟩, fun z3 => G0 (a + 12) _ _ (wdR_12 c (by omega)) hV2 (fa_up (fa_sub hW2 rfl) rfl) (by rw [am_up_eq]; omega) okv2 (fun i hi => by rw [q8]; exact e8 i hi)⟩
          have w7 : ∀ y, am_up (am_up V2 7 (am_uz (V2 7) (12 * (40 * p + V1 8 p) + j) y)) 6 (am_uz (V2 6) (40 * p + V1 8 p) (j + 1)) 7 = am_uz (V2 7) (12 * (40 * p + V1 8 p) + j) y := fun y => (am_up_ne (by decide)).trans am_up_eq
          have w6 : ∀ y, am_up (am_up V2 7 (am_uz (V2 7) (12 * (40 * p + V1 8 p) + j) y)) 6 (am_uz (V2 6) (40 * p + V1 8 p) (j + 1)) 6 = am_uz (V2 6) (40 * p + V1 8 p) (j + 1) := fun y => am_up_eq
          have wo : ∀ y c, c ≠ 6 → c ≠ 7 → am_up (am_up V2 7 (am_uz (V2 7) (12 * (40 * p + V1 8 p) + j) y)) 6 (am_uz (V2 6) (40 * p + V1 8 p) (j + 1)) c = V2 c := fun y c h6 h7 => (am_up_ne h6).trans (am_up_ne h7)
          refine ihg (j + 1) _ _ (by omega) (by omega) (by omega) (by omega) (am_up_eq.trans (by omega)) (fa_up (fa_up hV2 rfl) rfl) (fa_up hW2 rfl) ⟨fun i i1 i2 => ?_, fun i i1 i2 => ?_⟩ ?_ ?_ ?_ (fun i hi => ?_) (fun i hi => ?_) (fun i i1 i2 => ?_)
          · have q := okv2.1 i i1 i2
            rw [w6, wo _ 5 (by decide) (by decide)]
            refine ⟨q.1, ?_⟩
            by_cases e : i = (40 * p + V1 8 p)
            · rw [e, am_uz_eq]
              omega
            · rw [am_uz_ne e]
              exact q.2
          · rw [w7]
            by_cases e : i = 12 * (40 * p + V1 8 p) + j
            · rw [e, am_uz_eq]
              omega
            · rw [am_uz_ne e]
              exact okv2.2 i i1 i2
          · rw [wo _ 8 (by decide) (by decide)]
            exact q8
          · rw [wo _ 5 (by decide) (by decide)]
            exact q5
          · rw [w6, am_uz_eq]
          · rw [w6, wo _ 5 (by decide) (by decide), am_uz_ne hi]
            exact qo i hi
          · rw [w7, am_uz_ne (by omega)]
            exact q7 i (by omega)
          · rw [w7]
            by_cases e : i = j
            · rw [e, am_uz_eq, ev]
            · rw [am_uz_ne (by omega)]
              exact ql i i1 (by omega)
      have u5 : am_up (am_up V1 5 (am_uz (V1 5) (40 * p + V1 8 p) w)) 6 (am_uz (V1 6) (40 * p + V1 8 p) 0) 5 = am_uz (V1 5) (40 * p + V1 8 p) w := (am_up_ne (by decide)).trans am_up_eq
      have u6 : am_up (am_up V1 5 (am_uz (V1 5) (40 * p + V1 8 p) w)) 6 (am_uz (V1 6) (40 * p + V1 8 p) 0) 6 = am_uz (V1 6) (40 * p + V1 8 p) 0 := am_up_eq
      have uo : ∀ c, c ≠ 5 → c ≠ 6 → am_up (am_up V1 5 (am_uz (V1 5) (40 * p + V1 8 p) w)) 6 (am_uz (V1 6) (40 * p + V1 8 p) 0) c = V1 c := fun c h5 h6 => (am_up_ne h6).trans (am_up_ne h5)
      refine inner 13 0 _ _ (by omega) (by omega) (by omega) (by omega) (e46.trans (by omega)) (fa_up (fa_up hV rfl) rfl) hW ⟨fun i i1 i2 => ?_, fun i i1 i2 => ?_⟩ (uo 8 (by decide) (by decide)) ?_ ?_ (fun i hi => ?_) (fun i hi => ?_) (fun i i1 i2 => absurd i1 (by omega))
      · have q := okv.1 i i1 i2
        rw [u5, u6]
        by_cases e : i = (40 * p + V1 8 p)
        · rw [e, am_uz_eq, am_uz_eq]
          omega
        · rw [am_uz_ne e, am_uz_ne e]
          exact q
      · rw [uo 7 (by decide) (by decide)]
        exact okv.2 i i1 i2
      · rw [u5, am_uz_eq]
      · rw [u6, am_uz_eq]
      · rw [u5, u6, am_uz_ne hi, am_uz_ne hi]
        exact ⟨rfl, rfl⟩
      · rw [uo 7 (by decide) (by decide)]
  exact main _ a V W _ (Nat.le_refl _) ha hl h46 h8 hc.2 fa_refl fa_refl ok (fun _ _ => rfl) H0 H1
end
