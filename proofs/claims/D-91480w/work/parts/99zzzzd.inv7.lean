set_option maxRecDepth 100000
/-! a corrected part: what holds is kept -/
theorem pkS_i {S2 : am_G} {v : Int → Int} {p l0 n m s i : Int} (hi : l0 ≤ i) (nz : v (45 + i) ≠ 0) (uq : ∀ i', l0 ≤ i' → i' < n → v (45 + i') ≠ 0 → v (45 + i') = v (45 + i) → i' = i) : ∀ j : Nat, i < l0 + (j : Int) → l0 + (j : Int) ≤ n → (n - s ≤ i → (pkS S2 v p l0 n m s j) 4 (v (45 + i) - 1) 4 = S2 4 (v (45 + i) - 1) 4 ∧ (pkS S2 v p l0 n m s j) 4 (v (45 + i) - 1) 5 = i - n + m ∧ (pkS S2 v p l0 n m s j) 4 (v (45 + i) - 1) 6 = p) ∧ (¬ n - s ≤ i → (pkS S2 v p l0 n m s j) 4 (v (45 + i) - 1) 4 = 2)
  | 0, h, _ => absurd h (by omega)
  | j + 1, h, hj => by
    rw [pkS_s]
    by_cases e : (l0 + ((j : Nat) : Int)) = i
    · have g := pkS_g (S2 := S2) (v := v) (p := p) (l0 := l0) (n := n) (m := m) (s := s) (g := v (45 + i) - 1) j (fun i' a b c d => by
        have := uq i' a (by omega) c (by omega)
        omega)
      rw [e, if_neg nz]
      refine ⟨fun c => ?_, fun c => ?_⟩
      · rw [if_pos c, u3_nc (by decide), u3_no (by decide), u3_no (by decide), g, u3_nc (by decide), u3_no (by decide), u3_eq, u3_nc (by decide), u3_eq]
        exact ⟨rfl, rfl, rfl⟩
      · rw [if_neg c, u3_no (by decide), u3_no (by decide), u3_eq]
    · have ih := pkS_i (S2 := S2) (p := p) (m := m) (s := s) hi nz uq j (by omega) (by omega)
      by_cases z : v (45 + (l0 + ((j : Nat) : Int))) = 0
      · rw [if_pos z]
        exact ih
      · rw [if_neg z]
        have ne : v (45 + i) - 1 ≠ v (45 + (l0 + ((j : Nat) : Int))) - 1 := fun y => e (uq (l0 + ((j : Nat) : Int)) (by omega) (by omega) z (by omega))
        by_cases c : n - s ≤ (l0 + ((j : Nat) : Int))
        · rw [if_pos c, u3_r (by decide), u3_rp ne, u3_rp ne]
          exact ih
        · rw [if_neg c, u3_rp ne, u3_rp ne, u3_rp ne]
          exact ih
theorem I_cQ {S : am_G} {p w : Int} {t row : Int → Int} {l : List am_Pz} (ip : isP S p) (hw : 0 ≤ w ∧ w < (S 3 p) 0) (s3 : (S 3 p) 3 = 1) (nj : ¬ hsJ S p) (dl : 1 ≤ l.length) (d40 : (S 3 p) 1 - (wfR (S 3 p) w (S 3 p 1).toNat).2 + l.length ≤ 40) (cw : chW t (S 3 p) w l row) (z : ((cT S p row) (cA S p w)).1 ≠ -1) (h : okI S) : okI (cQ S p w row) ∧ cQ S p w row 3 p 2 = 1 ∧ cQ S p w row 3 p 3 = 1 ∧ cQ S p w row 3 p 4 = (cN S p w row) ∧ cQ S p w row 5 = S 5 ∧ (∀ c, c ≠ 3 → c ≠ 4 → cQ S p w row c = S c) ∧ (0 ≤ (cS S p w row) ∧ (cS S p w row) ≤ (cN S p w row) - (cL S p w)) ∧ (0 ≤ (cL S p w) ∧ (cL S p w) < 40) ∧ (cN S p w row) ≤ 40 := by
  obtain ⟨q1, q2, q3, q4, q5, q6⟩ := chW_ok h.1.1.2.2.2.1 ip hw dl d40 cw
  obtain ⟨m1, ⟨r1, r2, r3⟩, ⟨r4, r5⟩, r6, r7⟩ := cR_ok h.1.1.1 h.1.1.2.1 h.1.1.2.2.2.1 h.1.1.2.2.2.2.1 h.1.1.2.2.2.2.2.1 h.1.1.2.2.2.2.2.2.1 ip hw s3 dl d40 cw z
  have lf := (cL_v h.1.1.2.2.2.1 ip hw s3).1
  have eN : (cN S p w row) = (cL S p w) + ((cT S p row (cA S p w)).2.1) := rfl
  obtain ⟨⟨⟨a1, a2, a3, a4, a5, a6, a7, a8, a9, a10⟩, ⟨b1, b2, b3⟩, s3'⟩, rw', ⟨hH, hE, hT, hX⟩, nx⟩ := h
  have ap := a4 p ip
  have oL := ap.2.2.2.2.2.2.1 s3
  have o4 := oL.1
  have p1 := ap.1.1
  have w1 := q1.1
  have sb : 0 ≤ (cS S p w row) ∧ (cS S p w row) ≤ (S 3 p) 4 - (cL S p w) ∧ (cS S p w row) ≤ (cN S p w row) - (cL S p w) := smN_b 41 0 (by omega) (by omega) (by omega)
  have jj : ((((S 3 p) 4 - (cL S p w)).toNat : Nat) : Int) = (S 3 p) 4 - (cL S p w) := by omega
  -- the new state, row by row
  have tc : ∀ c, c ≠ 3 → c ≠ 4 → cQ S p w row c = S c := fun c c3 c4 => (pkS_c c3 c4 _).trans (setR_c c3)
  have t3q : ∀ q, q ≠ p → cQ S p w row 3 q = S 3 q := fun q hq => (pkS_q hq _).trans (setR_q hq)
  have t3o : ∀ i, i < 45 ∨ 85 ≤ i → cQ S p w row 3 p i = (cR S p w row) i := fun i hi => (pkS_3 lf.1 (by omega) sb.2.2 hi _ (by omega)).trans (by rw [setR_p])
  have t3a : ∀ k, 0 ≤ k → k < (cL S p w) → cQ S p w row 3 p (45 + k) = (S 3 p) (45 + k) := fun k k0 k1 => (pkS_o (by omega) _ (by omega)).trans (by rw [setR_p]; exact (r6 k k0 k1).2.1)
  have t3b : ∀ k, (cL S p w) ≤ k → k < (cN S p w row) - (cS S p w row) → cQ S p w row 3 p (45 + k) = 0 := fun k k0 k1 => (pkS_o (by omega) _ (by omega)).trans (by rw [setR_p]; exact r7 k k0 (by omega))
  have t3c : ∀ k, (cN S p w row) - (cS S p w row) ≤ k → k < (cN S p w row) → cQ S p w row 3 p (45 + k) = (S 3 p) (45 + (k - (cN S p w row) + (S 3 p) 4)) := fun k k0 k1 => (pkS_p (by rw [setR_p]; exact r7 k (by omega) k1) ⟨k0, k1⟩ _ (by omega)).trans (if_pos (by omega))
  have t4o : ∀ g i, i ≠ 4 → i ≠ 5 → i ≠ 6 → cQ S p w row 4 g i = S 4 g i := fun g i i4 i5 i6 => (pkS_4 i4 i5 i6 _).trans (by rw [setR_c (by decide)])
  have t4g : ∀ g, (∀ i, (cL S p w) ≤ i → i < (S 3 p) 4 → (S 3 p) (45 + i) ≠ 0 → (S 3 p) (45 + i) - 1 ≠ g) → cQ S p w row 4 g = S 4 g := fun g hg => (pkS_g _ (fun i a b => hg i a (by omega))).trans (by rw [setR_c (by decide)])
  have uq : ∀ i i', 0 ≤ i → i < (S 3 p) 4 → 0 ≤ i' → i' < (S 3 p) 4 → (S 3 p) (45 + i) ≠ 0 → (S 3 p) (45 + i') = (S 3 p) (45 + i) → i' = i := fun i i' i0 i1 i0' i1' nz e => by
    have x1 := (a10 p ip s3 i i0 i1 nz).2.2
    have x2 := (a10 p ip s3 i' i0' i1' (by rw [e]; exact nz)).2.2
    rw [e] at x2
    omega
  have t4i : ∀ i, (cL S p w) ≤ i → i < (S 3 p) 4 → (S 3 p) (45 + i) ≠ 0 → ((S 3 p) 4 - (cS S p w row) ≤ i → cQ S p w row 4 ((S 3 p) (45 + i) - 1) 4 = S 4 ((S 3 p) (45 + i) - 1) 4 ∧ cQ S p w row 4 ((S 3 p) (45 + i) - 1) 5 = i - (S 3 p) 4 + (cN S p w row) ∧ cQ S p w row 4 ((S 3 p) (45 + i) - 1) 6 = p) ∧ (¬ (S 3 p) 4 - (cS S p w row) ≤ i → cQ S p w row 4 ((S 3 p) (45 + i) - 1) 4 = 2) := fun i i0 i1 nz => by
    have q := pkS_i (S2 := setR S p (cR S p w row)) (v := (S 3 p)) (p := p) (l0 := (cL S p w)) (n := (S 3 p) 4) (m := (cN S p w row)) (s := (cS S p w row)) i0 nz (fun i' a b c d => uq i i' (by omega) i1 (by omega) b nz d) ((S 3 p) 4 - (cL S p w)).toNat (by omega) (by omega)
    have e4 : setR S p (cR S p w row) 4 = S 4 := setR_c (by decide)
    rw [e4] at q
    exact q
  have e2 : (cR S p w row) 2 = 1 := by
    rw [r5 2 (by decide) (by omega), q5 2 (by decide) (by decide)]
    exact ap.2.2.2.2.2.1 s3
  have e3 : (cR S p w row) 3 = 1 := by
    rw [r5 3 (by decide) (by omega), q5 3 (by decide) (by decide)]
    exact s3
  have e1 : (cR S p w row) 1 = row 1 := r5 1 (by decide) (by omega)
  have n04 := r3.1
  have T2 := (t3o 2 (by omega)).trans e2
  have T3 := (t3o 3 (by omega)).trans e3
  have T4 := (t3o 4 (by omega)).trans r4
  refine ⟨?_, T2, T3, T4, tc 5 (by decide) (by decide), tc, ⟨sb.1, sb.2.2⟩, ⟨lf.1, by omega⟩, by omega⟩
  generalize cQ S p w row = T at *
  have e0 := tc 0 (by decide) (by decide)
  have ej : ∀ j, T 0 0 j = S 0 0 j := fun j => by rw [e0]
  have c2 := tc 2 (by decide) (by decide)
  have c5 := tc 5 (by decide) (by decide)
  have c6 := tc 6 (by decide) (by decide)
  have iP : ∀ q, isP T q ↔ isP S q := fun q => cg_P (ej 1) c2
  have jn : ∀ k i, 0 ≤ k → k < S 0 0 3 → 0 ≤ i → i < S 5 k 29 → T 3 (S 5 k (33 + 5 * i)) = S 3 (S 5 k (33 + 5 * i)) := fun k i k0 k1 i0 i1 => t3q _ (fun y => nj ⟨k, i, ⟨k0, k1⟩, ⟨i0, i1⟩, y⟩)
  -- a slot of the part
  have slot : ∀ k, 0 ≤ k → k < (cN S p w row) → (k < (cL S p w) ∧ T 3 p (45 + k) = (S 3 p) (45 + k)) ∨ T 3 p (45 + k) = 0 ∨ (∃ i, ((cL S p w) ≤ i ∧ i < (S 3 p) 4) ∧ (S 3 p) 4 - (cS S p w row) ≤ i ∧ k = i - (S 3 p) 4 + (cN S p w row) ∧ T 3 p (45 + k) = (S 3 p) (45 + i)) := fun k k0 k1 => by
    by_cases x1 : k < (cL S p w)
    · exact Or.inl ⟨x1, t3a k k0 x1⟩
    · by_cases x2 : k < (cN S p w row) - (cS S p w row)
      · exact Or.inr (Or.inl (t3b k (by omega) x2))
      · exact Or.inr (Or.inr ⟨k - (cN S p w row) + (S 3 p) 4, ⟨by omega, by omega⟩, by omega, by omega, t3c k (by omega) k1⟩)
  have ob : ∀ i, 0 ≤ i → i < (S 3 p) 4 → 0 ≤ (S 3 p) (45 + i) ∧ (S 3 p) (45 + i) ≤ S 0 0 4 := fun i i0 i1 => (oL.2.2 i i0 i1).2.2
  refine ⟨⟨⟨cg_C e0 a1, cg_F (ej 1) c2 a2, ⟨by rw [ej]; exact a3.1, fun g g0 g1 => ?_⟩, fun q iq => ?_, cg_Y (ej 2) c6 a5, cg_Y1 (ej 2) c6 a6, cg_Ws (tc 1 (by decide) (by decide)) a7, fun g g0 g1 => ?_, fun g g0 g1 => ?_, fun q iq q3 k k0 k1 ne => ?_⟩, ⟨cg_M (ej 1) c2 c5 b1, ?_, ?_⟩, cg_sm (ej 0) c5 s3'⟩, ⟨fun g g0 g1 => ?_, ?_⟩, ⟨cg_H (tc 8 (by decide) (by decide)) hH, cg_E (ej 6) (tc 9 (by decide) (by decide)) hE, cg_Te (ej 5) (tc 7 (by decide) (by decide)) hT, fun g j g0 g1 j0 j1 => ?_⟩, ?_, fun q q0 q1 nq => ?_⟩
  · rw [ej] at g1
    rw [t4o g 0 (by decide) (by decide) (by decide), t4o g 1 (by decide) (by decide) (by decide), t4o g 2 (by decide) (by decide) (by decide), t4o g 9 (by decide) (by decide) (by decide)]
    exact a3.2 g g0 g1
  · have iq' := (iP q).1 iq
    by_cases c : q = p
    · rw [c]
      have eo : ∀ o, o < 45 ∨ 85 ≤ o → T 3 p o = (cR S p w row) o := t3o
      have E1 := (t3o 1 (by omega)).trans e1
      rw [T2, T3, T4, E1, t3o 0 (by omega), t3o (84 + row 1) (by omega), r5 0 (by decide) (by omega), r5 (84 + row 1) (by omega) (by omega)]
      refine ⟨okP_c (fun o ho => t3o o (Or.inr ho)) (t3o 1 (by omega)) r1, okN_c (fun o ho => t3o o (Or.inr ho)) (t3o 1 (by omega)) r2, q3, Or.inr rfl, Or.inr rfl, fun _ => rfl, fun _ => ?_, by omega⟩
      unfold okL
      rw [T4, E1, t3o (4 + (cN S p w row)) (by omega), ej]
      have y2 := r3.2.1
      rw [r4, e1] at y2
      refine ⟨by omega, y2, fun k k0 k1 => ?_⟩
      obtain ⟨y3, y4⟩ := r3.2.2 k k0 (by omega)
      have eb : bg (T 3 p) k = bg (cR S p w row) k := by
        unfold bg
        rw [t3o (4 + k) (by omega)]
      rw [eb, t3o (5 + k) (by omega), lnS_c (v := (cR S p w row)) (v' := T 3 p) t3o ⟨k0, by omega⟩ y3.1 (by omega)]
      refine ⟨by omega, y4, ?_⟩
      rcases slot k k0 k1 with ⟨x1, x2⟩ | x2 | ⟨i, x1, x2, x3, x4⟩
      · rw [x2]
        exact ob k k0 (by omega)
      · rw [x2]
        exact ⟨Int.le_refl _, a3.1.1⟩
      · rw [x4]
        exact ob i (by omega) x1.2
    · have a := a4 q iq'
      unfold okL at a ⊢
      rw [t3q q c, ej]
      exact a
  · rw [ej] at g1
    obtain ⟨w1, w2, w3, w4, w5, w6⟩ := a8 g g0 g1
    rw [t4o g 0 (by decide) (by decide) (by decide), t4o g 3 (by decide) (by decide) (by decide), t4o g 7 (by decide) (by decide) (by decide), t4o g 10 (by decide) (by decide) (by decide), t4o g 11 (by decide) (by decide) (by decide), t4o g 9 (by decide) (by decide) (by decide)]
    refine ⟨(iP _).2 w1, w2, w3, w4, ?_, fun gz => ?_⟩
    · rw [w5]
      refine sg_ext _ _ (fun k k0 k1 => ?_)
      show am_b (S 4 g (12 + k) ≠ 32) = am_b (T 4 g (12 + k) ≠ 32)
      rw [t4o g (12 + k) (by omega) (by omega) (by omega)]
    · by_cases c : ∃ i, ((cL S p w) ≤ i ∧ i < (S 3 p) 4) ∧ (S 3 p) (45 + i) ≠ 0 ∧ (S 3 p) (45 + i) - 1 = g
      · obtain ⟨i, c1, c2', c3⟩ := c
        have y := t4i i c1.1 c1.2 c2'
        rw [c3] at y
        by_cases d : (S 3 p) 4 - (cS S p w row) ≤ i
        · have y1 := y.1 d
          rw [y1.2.1, y1.2.2, T3, T4, t3c _ (by omega) (by omega)]
          have ei : i - (S 3 p) 4 + (cN S p w row) - (cN S p w row) + (S 3 p) 4 = i := by omega
          rw [ei]
          exact ⟨(iP p).2 ip, rfl, by omega, by omega⟩
        · have y2 := y.2 d
          rw [y2] at gz
          exact absurd gz (by decide)
      · have eg := t4g g (fun i i0 i1 nz e => c ⟨i, ⟨i0, i1⟩, nz, e⟩)
        rw [eg] at gz ⊢
        obtain ⟨u1, u2, u3', u4⟩ := w6 gz
        by_cases d : S 4 g 6 = p
        · rw [d] at u1 u2 u3' u4 ⊢
          have k1 : S 4 g 5 < (cL S p w) := by
            by_cases f : S 4 g 5 < (cL S p w)
            · exact f
            · exact absurd ⟨S 4 g 5, ⟨by omega, u3'.2⟩, by omega, by omega⟩ c
          rw [T3, T4, t3a _ u3'.1 k1]
          exact ⟨(iP p).2 ip, rfl, by omega, u4⟩
        · rw [t3q _ d]
          exact ⟨(iP _).2 u1, u2, u3', u4⟩
  · rw [t4o g 0 (by decide) (by decide) (by decide)]
    exact a9 g g0 g1
  · have iq' := (iP q).1 iq
    by_cases c : q = p
    · rw [c] at k1 ne ⊢
      rw [T4] at k1
      rcases slot k k0 k1 with ⟨x1, x2⟩ | x2 | ⟨i, x1, x2, x3, x4⟩
      · rw [x2] at ne ⊢
        have y := a10 p ip s3 k k0 (by omega) ne
        rw [t4g _ (fun i i0 i1 nz e => by
          have := uq k i k0 (by omega) (by omega) i1 ne (by omega)
          omega)]
        exact y
      · exact absurd x2 ne
      · rw [x4] at ne ⊢
        have y := (t4i i x1.1 x1.2 ne).1 x2
        rw [y.1, y.2.1, y.2.2]
        exact ⟨(a10 p ip s3 i (by omega) x1.2 ne).1, rfl, x3.symm⟩
    · rw [t3q q c] at q3 k1 ne ⊢
      have y := a10 q iq' q3 k k0 k1 ne
      rw [t4g _ (fun i i0 i1 nz e => by
        have y2 := (a10 p ip s3 i (by omega) i1 nz).2.1
        rw [e, y.2.1] at y2
        exact c y2)]
      exact y
  · unfold okJ
    rw [ej, c5]
    refine ⟨fun k i k0 k1 i0 i1 => ?_, b2.2⟩
    rw [jn k i k0 k1 i0 i1]
    exact b2.1 k i k0 k1 i0 i1
  · unfold okJg
    rw [ej, c5]
    intro k i k0 k1 i0 i1
    rw [jn k i k0 k1 i0 i1]
    exact b3 k i k0 k1 i0 i1
  · rw [ej] at g1
    rw [t4o g 2 (by decide) (by decide) (by decide), ej]
    exact rw'.1 g g0 g1
  · rw [ej, ej, tc 10 (by decide) (by decide)]
    exact rw'.2
  · rw [ej] at g1
    rw [t4o g 9 (by decide) (by decide) (by decide)] at j1
    rw [t4o g (432 + j) (by omega) (by omega) (by omega)]
    exact hX g j g0 g1 j0 j1
  · rw [ej, c5]
    exact nx.1
  · have n1 : ¬ isP S q := fun y => nq ((iP q).2 y)
    rw [t3q q (fun y => n1 (by rw [y]; exact ip))]
    exact nx.2 q q0 q1 n1
/-- a word of a part that is set -/
theorem I_cor {S : am_G} {p w k : Int} {t row : Int → Int} {l : List am_Pz} (ip : isP S p) (hk : 0 ≤ k ∧ k < S 0 0 3) (hw : 0 ≤ w ∧ w < (S 3 p) 0) (s3 : (S 3 p) 3 = 1) (nj : ¬ hsJ S p) (j30 : S 5 k 29 ≠ 30) (dl : 1 ≤ l.length) (d40 : (S 3 p) 1 - (wfR (S 3 p) w (S 3 p 1).toNat).2 + l.length ≤ 40) (cw : chW t (S 3 p) w l row) (z : ((cT S p row) (cA S p w)).1 ≠ -1) (h : okI S) : okI (cF S p w k row) := by
  obtain ⟨y1, y2, y3, y4, y5, y6, y7, y8, y9⟩ := I_cQ ip hw s3 nj dl d40 cw z h
  have m29 := (h.1.2.1.1 k hk.1 (by have := h.1.1.1.2.2.1; omega)).2.2.2.1
  have eC : cC S p w row = (cN S p w row) - (cL S p w) - (cS S p w row) := rfl
  unfold cF
  split
  · next c =>
    refine I_job (by rw [y6 0 (by decide) (by decide)]; exact hk) (by rw [y5]; omega) ((cg_P (by rw [y6 0 (by decide) (by decide)]) (y6 2 (by decide) (by decide))).2 ip) y2 y8 (by omega) (Or.inr rfl) (Or.inl rfl) (fun _ => ⟨y3, by omega, by rw [y4]; omega⟩) (fun u => absurd rfl u) (fun u => absurd rfl u) y1
  · exact y1
