set_option maxRecDepth 100000
theorem okQ_c {v v' : Int → Int} (e : ∀ o, 85 ≤ o → v' o = v o) (h : okQ v) : okQ v' := by
  refine ⟨fun k a b => ?_, fun k i a b c d => ?_⟩
  · rw [e _ (by omega), e _ (by omega)]
    exact h.1 k a b
  · rw [e _ (by omega)]
    exact h.2 k i a b c d
section
variable {S S' : am_G}
/-- the slots of lines, and where slugs lie, alone change -/
theorem I_34 (e : ∀ c, c ≠ 3 → c ≠ 4 → S' c = S c) (eo : ∀ p o, o < 45 ∨ 85 ≤ o → S' 3 p o = S 3 p o) (e4 : ∀ g o, o ≠ 4 → o ≠ 5 → o ≠ 6 → S' 4 g o = S 4 g o) (es : ∀ p l, isP S p → S 3 p 3 = 1 → 0 ≤ l → l < S 3 p 4 → 0 ≤ S' 3 p (45 + l) ∧ S' 3 p (45 + l) ≤ S 0 0 4) (gg : ∀ g, 0 ≤ g → g < S 0 0 4 → S' 4 g 4 = 0 → isP S (S' 4 g 6) ∧ S 3 (S' 4 g 6) 3 = 1 ∧ (0 ≤ S' 4 g 5 ∧ S' 4 g 5 < S 3 (S' 4 g 6) 4) ∧ S' 3 (S' 4 g 6) (45 + S' 4 g 5) = g + 1) (X : ∀ p, isP S p → S 3 p 3 = 1 → ∀ l, 0 ≤ l → l < S 3 p 4 → S' 3 p (45 + l) ≠ 0 → S' 4 (S' 3 p (45 + l) - 1) 4 = 0 ∧ S' 4 (S' 3 p (45 + l) - 1) 6 = p ∧ S' 4 (S' 3 p (45 + l) - 1) 5 = l) (h : okI S) : okI S' := by
  obtain ⟨⟨⟨a1, a2, a3, a4, a5, a6, a7, a8, a9, a10⟩, ⟨b1, b2, b3⟩, s3⟩, rw', ⟨hH, hE, hT, hX⟩, nx⟩ := h
  have e0 := e 0 (by decide) (by decide)
  have ej : ∀ j, S' 0 0 j = S 0 0 j := fun j => by rw [e0]
  have r1 := e 1 (by decide) (by decide)
  have r2 := e 2 (by decide) (by decide)
  have r5 := e 5 (by decide) (by decide)
  have r6 := e 6 (by decide) (by decide)
  have iP : ∀ p, isP S' p ↔ isP S p := fun p => cg_P (ej 1) r2
  refine ⟨⟨⟨cg_C e0 a1, cg_F (ej 1) r2 a2, ⟨by rw [ej]; exact a3.1, fun q q0 q1 => ?_⟩, fun p ip => ?_, cg_Y (ej 2) r6 a5, cg_Y1 (ej 2) r6 a6, cg_Ws r1 a7, fun q q0 q1 => ?_, fun q q0 q1 => ?_, fun p ip p3 l l0 l1 ne => ?_⟩, ⟨cg_M (ej 1) r2 r5 b1, ?_, ?_⟩, cg_sm (ej 0) r5 s3⟩, ⟨fun q q0 q1 => ?_, ?_⟩, ⟨cg_H (e 8 (by decide) (by decide)) hH, cg_E (ej 6) (e 9 (by decide) (by decide)) hE, cg_Te (ej 5) (e 7 (by decide) (by decide)) hT, fun q j q0 q1 j0 j1 => ?_⟩, ?_, fun p p0 p1 np => ?_⟩
  · rw [ej] at q1
    rw [e4 q 0 (by decide) (by decide) (by decide), e4 q 1 (by decide) (by decide) (by decide), e4 q 2 (by decide) (by decide) (by decide), e4 q 9 (by decide) (by decide) (by decide)]
    exact a3.2 q q0 q1
  · have ip' := (iP p).1 ip
    obtain ⟨w1, w2, w3, w4, w5, w6, w7, w8⟩ := a4 p ip'
    have q := w1.1
    have e1 := eo p 1 (by omega)
    have e2 := eo p 2 (by omega)
    have e3 := eo p 3 (by omega)
    have e4' := eo p 4 (by omega)
    rw [e1, e2, e3, e4', eo p 0 (by omega), eo p (84 + S 3 p 1) (by omega)]
    refine ⟨okP_c (fun o ho => eo p o (Or.inr ho)) e1 w1, okN_c (fun o ho => eo p o (Or.inr ho)) e1 w2, w3, w4, w5, w6, fun z => ?_, w8⟩
    obtain ⟨y1, y2, y3⟩ := w7 z
    unfold okL
    rw [e1, e4', eo p (4 + S 3 p 4) (by omega), ej]
    refine ⟨y1, y2, fun l l0 l1 => ?_⟩
    obtain ⟨u1, u2, u3⟩ := y3 l l0 l1
    have eb : bg (S' 3 p) l = bg (S 3 p) l := by
      unfold bg
      rw [eo p (4 + l) (by omega)]
    rw [eb, eo p (5 + l) (by omega), lnS_c (v := S 3 p) (v' := S' 3 p) (fun o ho => eo p o ho) ⟨l0, by omega⟩ u1.1 (by omega)]
    exact ⟨u1, u2, es p l ip' z l0 l1⟩
  · rw [ej] at q1
    obtain ⟨w1, w2, w3, w4, w5, w6⟩ := a8 q q0 q1
    rw [e4 q 0 (by decide) (by decide) (by decide), e4 q 3 (by decide) (by decide) (by decide), e4 q 7 (by decide) (by decide) (by decide), e4 q 10 (by decide) (by decide) (by decide), e4 q 11 (by decide) (by decide) (by decide), e4 q 9 (by decide) (by decide) (by decide)]
    refine ⟨(iP _).2 w1, w2, w3, w4, ?_, fun z => ?_⟩
    · rw [w5]
      refine sg_ext _ _ (fun k k0 k1 => ?_)
      show am_b (S 4 q (12 + k) ≠ 32) = am_b (S' 4 q (12 + k) ≠ 32)
      rw [e4 q (12 + k) (by omega) (by omega) (by omega)]
    · obtain ⟨u1, u2, u3, u4⟩ := gg q q0 q1 z
      rw [eo _ 3 (by omega), eo _ 4 (by omega)]
      exact ⟨(iP _).2 u1, u2, u3, u4⟩
  · rw [e4 q 0 (by decide) (by decide) (by decide)]
    exact a9 q q0 q1
  · rw [eo p 3 (by omega)] at p3
    rw [eo p 4 (by omega)] at l1
    exact X p ((iP p).1 ip) p3 l l0 l1 ne
  · have f3 : ∀ p, S' 3 p 3 = S 3 p 3 := fun p => eo p 3 (by omega)
    have f4 : ∀ p, S' 3 p 4 = S 3 p 4 := fun p => eo p 4 (by omega)
    unfold okJ
    rw [ej, r5]
    refine ⟨fun k i k0 k1 i0 i1 => ?_, b2.2⟩
    rw [f3, f4]
    exact b2.1 k i k0 k1 i0 i1
  · unfold okJg
    rw [ej, r5]
    intro k i k0 k1 i0 i1
    rw [eo _ 2 (by omega)]
    exact b3 k i k0 k1 i0 i1
  · rw [ej] at q1
    rw [e4 q 2 (by decide) (by decide) (by decide), ej]
    exact rw'.1 q q0 q1
  · rw [ej, ej, e 10 (by decide) (by decide)]
    exact rw'.2
  · rw [ej] at q1
    rw [e4 q 9 (by decide) (by decide) (by decide)] at j1
    rw [e4 q (432 + j) (by omega) (by omega) (by omega)]
    exact hX q j q0 q1 j0 j1
  · rw [ej, r5]
    exact nx.1
  · have w := nx.2 p p0 p1 (fun z => np ((iP p).2 z))
    rw [eo p 2 (by omega), eo p 3 (by omega), eo p 4 (by omega)]
    exact ⟨okQ_c (fun o ho => eo p o (Or.inr ho)) w.1, w.2⟩
end
section
variable {S : am_G}
theorem I_pie {s : Int} (hs : 0 ≤ s ∧ s < S 0 0 4) (h4 : S 4 s 4 = 0) (h : okI S) : okI (u3 (u3 (u3 (u3 S 3 (S 4 s 6) (45 + S 4 s 5) 0) 4 s 4 1) 4 s 5 (-1)) 4 s 6 (-1)) := by
  have h' := h
  obtain ⟨⟨⟨a1, a2, a3, a4, a5, a6, a7, a8, a9, a10⟩, ⟨b1, b2, b3⟩, s3⟩, rw', ⟨hH, hE, hT, hX⟩, nx⟩ := h
  obtain ⟨w1, w2, w3, w4, w5, w6⟩ := a8 s hs.1 hs.2
  obtain ⟨p1, p2, p3, p4⟩ := w6 h4
  have b40 := (a4 _ p1).2.2.2.2.2.2.2
  -- what is where
  have t3 : ∀ p, (u3 (u3 (u3 (u3 S 3 (S 4 s 6) (45 + S 4 s 5) 0) 4 s 4 1) 4 s 5 (-1)) 4 s 6 (-1)) 3 p = u3 S 3 (S 4 s 6) (45 + (S 4 s 5)) 0 3 p := fun p => by
    rw [u3_r (by decide), u3_r (by decide), u3_r (by decide)]
  have t3s : (u3 (u3 (u3 (u3 S 3 (S 4 s 6) (45 + S 4 s 5) 0) 4 s 4 1) 4 s 5 (-1)) 4 s 6 (-1)) 3 (S 4 s 6) (45 + (S 4 s 5)) = 0 := by
    rw [t3, u3_eq]
  have t3n : ∀ p l, ¬ (p = (S 4 s 6) ∧ l = (S 4 s 5)) → (u3 (u3 (u3 (u3 S 3 (S 4 s 6) (45 + S 4 s 5) 0) 4 s 4 1) 4 s 5 (-1)) 4 s 6 (-1)) 3 p (45 + l) = S 3 p (45 + l) := fun p l z => by
    rw [t3]
    exact if_neg (fun y => z ⟨y.2.1, by omega⟩)
  have t4s : (u3 (u3 (u3 (u3 S 3 (S 4 s 6) (45 + S 4 s 5) 0) 4 s 4 1) 4 s 5 (-1)) 4 s 6 (-1)) 4 s 4 = 1 := by
    rw [u3_no (by decide), u3_no (by decide), u3_eq]
  have t4n : ∀ g, g ≠ s → (u3 (u3 (u3 (u3 S 3 (S 4 s 6) (45 + S 4 s 5) 0) 4 s 4 1) 4 s 5 (-1)) 4 s 6 (-1)) 4 g = S 4 g := fun g hg => by
    rw [u3_rp hg, u3_rp hg, u3_rp hg, u3_r (by decide)]
  have t4o : ∀ g o, o ≠ 4 → o ≠ 5 → o ≠ 6 → (u3 (u3 (u3 (u3 S 3 (S 4 s 6) (45 + S 4 s 5) 0) 4 s 4 1) 4 s 5 (-1)) 4 s 6 (-1)) 4 g o = S 4 g o := fun g o o4 o5 o6 => by
    rw [u3_no o6, u3_no o5, u3_no o4, u3_nc (by decide)]
  have t3o : ∀ p o, o < 45 ∨ 85 ≤ o → (u3 (u3 (u3 (u3 S 3 (S 4 s 6) (45 + S 4 s 5) 0) 4 s 4 1) 4 s 5 (-1)) 4 s 6 (-1)) 3 p o = S 3 p o := fun p o ho => by
    rw [t3]
    exact u3_no (by omega)
  have tc : ∀ c, c ≠ 3 → c ≠ 4 → (u3 (u3 (u3 (u3 S 3 (S 4 s 6) (45 + S 4 s 5) 0) 4 s 4 1) 4 s 5 (-1)) 4 s 6 (-1)) c = S c := fun c c3 c4 => by
    rw [u3_r c4, u3_r c4, u3_r c4, u3_r c3]
  generalize (u3 (u3 (u3 (u3 S 3 (S 4 s 6) (45 + S 4 s 5) 0) 4 s 4 1) 4 s 5 (-1)) 4 s 6 (-1)) = T at *
  refine I_34 tc t3o t4o (fun p l ip q3 l0 l1 => ?_) (fun g g0 g1 gz => ?_) (fun p ip q3 l l0 l1 ne => ?_) h'
  · by_cases c : p = (S 4 s 6) ∧ l = (S 4 s 5)
    · rw [c.1, c.2, t3s]
      exact ⟨Int.le_refl _, a3.1.1⟩
    · rw [t3n p l c]
      exact (((a4 p ip).2.2.2.2.2.2.1 q3).2.2 l l0 l1).2.2
  · by_cases c : g = s
    · rw [c, t4s] at gz
      exact absurd gz (by decide)
    · rw [t4n g c] at gz ⊢
      obtain ⟨q1, q2, q3, q4⟩ := (a8 g g0 g1).2.2.2.2.2 gz
      refine ⟨q1, q2, q3, ?_⟩
      rw [t3n _ _ (fun z => c (by
        rw [z.1, z.2, p4] at q4
        omega))]
      exact q4
  · by_cases c : p = (S 4 s 6) ∧ l = (S 4 s 5)
    · rw [c.1, c.2, t3s] at ne
      exact absurd rfl ne
    · rw [t3n p l c] at ne ⊢
      have q := a10 p ip q3 l l0 l1 ne
      rw [t4n _ (fun z => c (by
        rw [z] at q
        exact ⟨q.2.1.symm, q.2.2.symm⟩))]
      exact q
theorem chg_id {s : Int} (h : S 3 (S 4 s 6) (45 + (S 4 s 5)) = s + 1) : (u3 (u3 (u3 (u3 (u3 (u3 S 4 s 5 (S 4 s 5)) 4 s 6 (S 4 s 6)) 3 (S 4 s 6) (45 + (S 4 s 5)) (s + 1)) 4 s 5 (S 4 s 5)) 4 s 6 (S 4 s 6)) 3 (S 4 s 6) (45 + (S 4 s 5)) (s + 1)) = S := by
  have u : ∀ (T : am_G) c p i v, T c p i = v → u3 T c p i v = T := fun T c p i v e => by
    funext c' p' i'
    unfold u3
    by_cases z : c' = c ∧ p' = p ∧ i' = i
    · rw [if_pos z, z.1, z.2.1, z.2.2, e]
    · rw [if_neg z]
  rw [u S 4 s 5 _ rfl, u S 4 s 6 _ rfl, u S 3 _ _ _ h, u S 4 s 5 _ rfl, u S 4 s 6 _ rfl, u S 3 _ _ _ h]
theorem I_change {s q : Int} (hs : 0 ≤ s ∧ s < S 0 0 4) (hq : 0 ≤ q ∧ q < S 0 0 4) (h4 : S 4 s 4 = 0) (h4' : S 4 q 4 = 0) (h : okI S) : okI (u3 (u3 (u3 (u3 (u3 (u3 S 4 s 5 (S 4 q 5)) 4 s 6 (S 4 q 6)) 3 (S 4 q 6) (45 + S 4 q 5) (s + 1)) 4 q 5 (S 4 s 5)) 4 q 6 (S 4 s 6)) 3 (S 4 s 6) (45 + S 4 s 5) (q + 1)) := by
  have h' := h
  obtain ⟨⟨⟨a1, a2, a3, a4, a5, a6, a7, a8, a9, a10⟩, ⟨b1, b2, b3⟩, s3⟩, rw', ⟨hH, hE, hT, hX⟩, nx⟩ := h
  obtain ⟨p1, p2, p3, p4⟩ := (a8 s hs.1 hs.2).2.2.2.2.2 h4
  obtain ⟨y1, y2, y3, y4⟩ := (a8 q hq.1 hq.2).2.2.2.2.2 h4'
  have b40 := (a4 _ p1).2.2.2.2.2.2.2
  have b41 := (a4 _ y1).2.2.2.2.2.2.2
  by_cases sq : q = s
  · subst sq
    rw [chg_id p4]
    exact h'
  -- the two slots are not the same
  have ns : ¬ ((S 4 s 6) = (S 4 q 6) ∧ (S 4 s 5) = (S 4 q 5)) := fun z => sq (by
    rw [z.1, z.2, y4] at p4
    omega)
  have t3 : ∀ p, (u3 (u3 (u3 (u3 (u3 (u3 S 4 s 5 (S 4 q 5)) 4 s 6 (S 4 q 6)) 3 (S 4 q 6) (45 + S 4 q 5) (s + 1)) 4 q 5 (S 4 s 5)) 4 q 6 (S 4 s 6)) 3 (S 4 s 6) (45 + S 4 s 5) (q + 1)) 3 p = u3 (u3 S 3 (S 4 q 6) (45 + (S 4 q 5)) (s + 1)) 3 (S 4 s 6) (45 + (S 4 s 5)) (q + 1) 3 p := fun p => by
    funext o
    by_cases c : p = (S 4 s 6) ∧ o = 45 + (S 4 s 5)
    · rw [c.1, c.2, u3_eq, u3_eq]
    · have e1 : ∀ A : am_G, u3 A 3 (S 4 s 6) (45 + (S 4 s 5)) (q + 1) 3 p o = A 3 p o := fun A => if_neg (fun z => c ⟨z.2.1, z.2.2⟩)
      rw [e1, e1, u3_nc (by decide), u3_nc (by decide)]
      by_cases c2 : p = (S 4 q 6) ∧ o = 45 + (S 4 q 5)
      · rw [c2.1, c2.2, u3_eq, u3_eq]
      · have e2 : ∀ A : am_G, u3 A 3 (S 4 q 6) (45 + (S 4 q 5)) (s + 1) 3 p o = A 3 p o := fun A => if_neg (fun z => c2 ⟨z.2.1, z.2.2⟩)
        rw [e2, e2, u3_nc (by decide), u3_nc (by decide)]
  have t3s : (u3 (u3 (u3 (u3 (u3 (u3 S 4 s 5 (S 4 q 5)) 4 s 6 (S 4 q 6)) 3 (S 4 q 6) (45 + S 4 q 5) (s + 1)) 4 q 5 (S 4 s 5)) 4 q 6 (S 4 s 6)) 3 (S 4 s 6) (45 + S 4 s 5) (q + 1)) 3 (S 4 s 6) (45 + (S 4 s 5)) = q + 1 := u3_eq
  have t3q : (u3 (u3 (u3 (u3 (u3 (u3 S 4 s 5 (S 4 q 5)) 4 s 6 (S 4 q 6)) 3 (S 4 q 6) (45 + S 4 q 5) (s + 1)) 4 q 5 (S 4 s 5)) 4 q 6 (S 4 s 6)) 3 (S 4 s 6) (45 + S 4 s 5) (q + 1)) 3 (S 4 q 6) (45 + (S 4 q 5)) = s + 1 := by
    rw [t3]
    have e1 : ∀ A : am_G, u3 A 3 (S 4 s 6) (45 + (S 4 s 5)) (q + 1) 3 (S 4 q 6) (45 + (S 4 q 5)) = A 3 (S 4 q 6) (45 + (S 4 q 5)) := fun A => if_neg (fun z => ns ⟨z.2.1.symm, by omega⟩)
    rw [e1, u3_eq]
  have t3n : ∀ p l, ¬ (p = (S 4 s 6) ∧ l = (S 4 s 5)) → ¬ (p = (S 4 q 6) ∧ l = (S 4 q 5)) → (u3 (u3 (u3 (u3 (u3 (u3 S 4 s 5 (S 4 q 5)) 4 s 6 (S 4 q 6)) 3 (S 4 q 6) (45 + S 4 q 5) (s + 1)) 4 q 5 (S 4 s 5)) 4 q 6 (S 4 s 6)) 3 (S 4 s 6) (45 + S 4 s 5) (q + 1)) 3 p (45 + l) = S 3 p (45 + l) := fun p l z z2 => by
    rw [t3]
    have e1 : ∀ A : am_G, u3 A 3 (S 4 s 6) (45 + (S 4 s 5)) (q + 1) 3 p (45 + l) = A 3 p (45 + l) := fun A => if_neg (fun y => z ⟨y.2.1, by omega⟩)
    have e2 : ∀ A : am_G, u3 A 3 (S 4 q 6) (45 + (S 4 q 5)) (s + 1) 3 p (45 + l) = A 3 p (45 + l) := fun A => if_neg (fun y => z2 ⟨y.2.1, by omega⟩)
    rw [e1, e2]
  have t3o : ∀ p o, o < 45 ∨ 85 ≤ o → (u3 (u3 (u3 (u3 (u3 (u3 S 4 s 5 (S 4 q 5)) 4 s 6 (S 4 q 6)) 3 (S 4 q 6) (45 + S 4 q 5) (s + 1)) 4 q 5 (S 4 s 5)) 4 q 6 (S 4 s 6)) 3 (S 4 s 6) (45 + S 4 s 5) (q + 1)) 3 p o = S 3 p o := fun p o ho => by
    rw [t3, u3_no (by omega), u3_no (by omega)]
  have t4s : (u3 (u3 (u3 (u3 (u3 (u3 S 4 s 5 (S 4 q 5)) 4 s 6 (S 4 q 6)) 3 (S 4 q 6) (45 + S 4 q 5) (s + 1)) 4 q 5 (S 4 s 5)) 4 q 6 (S 4 s 6)) 3 (S 4 s 6) (45 + S 4 s 5) (q + 1)) 4 s 5 = (S 4 q 5) ∧ (u3 (u3 (u3 (u3 (u3 (u3 S 4 s 5 (S 4 q 5)) 4 s 6 (S 4 q 6)) 3 (S 4 q 6) (45 + S 4 q 5) (s + 1)) 4 q 5 (S 4 s 5)) 4 q 6 (S 4 s 6)) 3 (S 4 s 6) (45 + S 4 s 5) (q + 1)) 4 s 6 = (S 4 q 6) := by
    have ne : s ≠ q := fun z => sq z.symm
    refine ⟨?_, ?_⟩
    · rw [u3_nc (by decide), u3_np ne, u3_np ne, u3_nc (by decide), u3_no (by decide), u3_eq]
    · rw [u3_nc (by decide), u3_np ne, u3_np ne, u3_nc (by decide), u3_eq]
  have t4q : (u3 (u3 (u3 (u3 (u3 (u3 S 4 s 5 (S 4 q 5)) 4 s 6 (S 4 q 6)) 3 (S 4 q 6) (45 + S 4 q 5) (s + 1)) 4 q 5 (S 4 s 5)) 4 q 6 (S 4 s 6)) 3 (S 4 s 6) (45 + S 4 s 5) (q + 1)) 4 q 5 = (S 4 s 5) ∧ (u3 (u3 (u3 (u3 (u3 (u3 S 4 s 5 (S 4 q 5)) 4 s 6 (S 4 q 6)) 3 (S 4 q 6) (45 + S 4 q 5) (s + 1)) 4 q 5 (S 4 s 5)) 4 q 6 (S 4 s 6)) 3 (S 4 s 6) (45 + S 4 s 5) (q + 1)) 4 q 6 = (S 4 s 6) := by
    refine ⟨?_, ?_⟩
    · rw [u3_nc (by decide), u3_no (by decide), u3_eq]
    · rw [u3_nc (by decide), u3_eq]
  have t4n : ∀ g, g ≠ s → g ≠ q → (u3 (u3 (u3 (u3 (u3 (u3 S 4 s 5 (S 4 q 5)) 4 s 6 (S 4 q 6)) 3 (S 4 q 6) (45 + S 4 q 5) (s + 1)) 4 q 5 (S 4 s 5)) 4 q 6 (S 4 s 6)) 3 (S 4 s 6) (45 + S 4 s 5) (q + 1)) 4 g = S 4 g := fun g hg hg2 => by
    rw [u3_r (by decide), u3_rp hg2, u3_rp hg2, u3_r (by decide), u3_rp hg, u3_rp hg]
  have t44 : ∀ g o, o ≠ 5 → o ≠ 6 → (u3 (u3 (u3 (u3 (u3 (u3 S 4 s 5 (S 4 q 5)) 4 s 6 (S 4 q 6)) 3 (S 4 q 6) (45 + S 4 q 5) (s + 1)) 4 q 5 (S 4 s 5)) 4 q 6 (S 4 s 6)) 3 (S 4 s 6) (45 + S 4 s 5) (q + 1)) 4 g o = S 4 g o := fun g o o5 o6 => by
    rw [u3_nc (by decide), u3_no o6, u3_no o5, u3_nc (by decide), u3_no o6, u3_no o5]
  have tc : ∀ c, c ≠ 3 → c ≠ 4 → (u3 (u3 (u3 (u3 (u3 (u3 S 4 s 5 (S 4 q 5)) 4 s 6 (S 4 q 6)) 3 (S 4 q 6) (45 + S 4 q 5) (s + 1)) 4 q 5 (S 4 s 5)) 4 q 6 (S 4 s 6)) 3 (S 4 s 6) (45 + S 4 s 5) (q + 1)) c = S c := fun c c3 c4 => by
    rw [u3_r c3, u3_r c4, u3_r c4, u3_r c3, u3_r c4, u3_r c4]
  generalize (u3 (u3 (u3 (u3 (u3 (u3 S 4 s 5 (S 4 q 5)) 4 s 6 (S 4 q 6)) 3 (S 4 q 6) (45 + S 4 q 5) (s + 1)) 4 q 5 (S 4 s 5)) 4 q 6 (S 4 s 6)) 3 (S 4 s 6) (45 + S 4 s 5) (q + 1)) = T at *
  refine I_34 tc t3o (fun g o _ o5 o6 => t44 g o o5 o6) (fun p l ip q3 l0 l1 => ?_) (fun g g0 g1 gz => ?_) (fun p ip q3 l l0 l1 ne => ?_) h'
  · by_cases c : p = (S 4 s 6) ∧ l = (S 4 s 5)
    · rw [c.1, c.2, t3s]
      omega
    · by_cases c2 : p = (S 4 q 6) ∧ l = (S 4 q 5)
      · rw [c2.1, c2.2, t3q]
        omega
      · rw [t3n p l c c2]
        exact (((a4 p ip).2.2.2.2.2.2.1 q3).2.2 l l0 l1).2.2
  · rw [t44 g 4 (by decide) (by decide)] at gz
    by_cases c : g = s
    · rw [c, t4s.1, t4s.2]
      exact ⟨y1, y2, y3, t3q⟩
    · by_cases c2 : g = q
      · rw [c2, t4q.1, t4q.2]
        exact ⟨p1, p2, p3, t3s⟩
      · rw [t4n g c c2]
        obtain ⟨q1, q2, q3, q4⟩ := (a8 g g0 g1).2.2.2.2.2 gz
        refine ⟨q1, q2, q3, ?_⟩
        rw [t3n _ _ (fun z => c (by
          rw [z.1, z.2, p4] at q4
          omega)) (fun z => c2 (by
          rw [z.1, z.2, y4] at q4
          omega))]
        exact q4
  · by_cases c : p = (S 4 s 6) ∧ l = (S 4 s 5)
    · rw [c.1, c.2, t3s]
      have e : q + 1 - 1 = q := by omega
      rw [e, t44 q 4 (by decide) (by decide), t4q.1, t4q.2]
      exact ⟨h4', rfl, rfl⟩
    · by_cases c2 : p = (S 4 q 6) ∧ l = (S 4 q 5)
      · rw [c2.1, c2.2, t3q]
        have e : s + 1 - 1 = s := by omega
        rw [e, t44 s 4 (by decide) (by decide), t4s.1, t4s.2]
        exact ⟨h4, rfl, rfl⟩
      · rw [t3n p l c c2] at ne ⊢
        have z := a10 p ip q3 l l0 l1 ne
        rw [t4n _ (fun u => c (by
          rw [u] at z
          exact ⟨z.2.1.symm, z.2.2.symm⟩)) (fun u => c2 (by
          rw [u] at z
          exact ⟨z.2.1.symm, z.2.2.symm⟩))]
        exact z
/-- a part is given -/
theorem I_given {p : Int} (ip : isP S p) (h : okI S) : okI (u3 S 3 p 2 1) := by
  obtain ⟨⟨⟨a1, a2, a3, a4, a5, a6, a7, a8, a9, a10⟩, ⟨b1, b2, b3⟩, s3⟩, rw', ⟨hH, hE, hT, hX⟩, nx⟩ := h
  have e : ∀ c, c ≠ 3 → u3 S 3 p 2 1 c = S c := fun c hc => u3_r hc
  have e0 := e 0 (by decide)
  have ej : ∀ j, u3 S 3 p 2 1 0 0 j = S 0 0 j := fun j => by rw [e0]
  have r2 := e 2 (by decide)
  have r4 := e 4 (by decide)
  have r5 := e 5 (by decide)
  have r6 := e 6 (by decide)
  have iP : ∀ q, isP (u3 S 3 p 2 1) q ↔ isP S q := fun q => cg_P (ej 1) r2
  have n : ∀ q i, i ≠ 2 → u3 S 3 p 2 1 3 q i = S 3 q i := fun q i hi => u3_no hi
  have n2 : ∀ q, u3 S 3 p 2 1 3 q 2 = 1 ∨ u3 S 3 p 2 1 3 q 2 = S 3 q 2 := fun q => by
    by_cases c : q = p
    · left
      rw [c, u3_eq]
    · right
      exact u3_np c
  have np : ∀ q, ¬ isP S q → u3 S 3 p 2 1 3 q = S 3 q := fun q hq => u3_rp (fun z => hq (by rw [z]; exact ip))
  generalize u3 S 3 p 2 1 = T at *
  refine ⟨⟨⟨cg_C e0 a1, cg_F (ej 1) r2 a2, cg_G (ej 4) r4 a3, fun q iq => ?_, cg_Y (ej 2) r6 a5, cg_Y1 (ej 2) r6 a6, cg_Ws (e 1 (by decide)) a7, fun q q0 q1 => ?_, cg_0 r4 a9, fun q iq q3 l l0 l1 ne => ?_⟩, ⟨cg_M (ej 1) r2 r5 b1, ?_, ?_⟩, cg_sm (ej 0) r5 s3⟩, cg_Rw (ej 0) (ej 4) (ej 7) r4 (e 10 (by decide)) rw', ⟨cg_H (e 8 (by decide)) hH, cg_E (ej 6) (e 9 (by decide)) hE, cg_Te (ej 5) (e 7 (by decide)) hT, cg_Tx (ej 4) r4 hX⟩, ?_, fun q q0 q1 nq => ?_⟩
  · obtain ⟨w1, w2, w3, w4, w5, w6, w7, w8⟩ := a4 q ((iP q).1 iq)
    have b := w1.1
    have m := n2 q
    rw [n q 1 (by decide), n q 3 (by decide), n q 4 (by decide), n q 0 (by decide), n q (84 + S 3 q 1) (by omega)]
    refine ⟨okP_c (fun o ho => n q o (by omega)) (n q 1 (by decide)) w1, okN_c (fun o ho => n q o (by omega)) (n q 1 (by decide)) w2, w3, by omega, w5, fun z => ?_, fun z => ?_, w8⟩
    · have := w6 z
      omega
    · obtain ⟨y1, y2, y3⟩ := w7 z
      unfold okL
      rw [n q 1 (by decide), n q 4 (by decide), n q (4 + S 3 q 4) (by omega), ej]
      refine ⟨y1, y2, fun l l0 l1 => ?_⟩
      obtain ⟨u1, u2, u3'⟩ := y3 l l0 l1
      have eb : bg (T 3 q) l = bg (S 3 q) l := by
        unfold bg
        rw [n q (4 + l) (by omega)]
      have el : lnS (T 3 q) l = lnS (S 3 q) l := by
        unfold lnS
        rw [eb, n q (5 + l) (by omega)]
        exact say_c (fun o ho => n q o (by omega)) (n q 1 (by decide)) u1.1 (by omega)
      rw [eb, el, n q (5 + l) (by omega), n q (45 + l) (by omega)]
      exact ⟨u1, u2, u3'⟩
  · rw [ej] at q1
    obtain ⟨w1, w2, w3, w4, w5, w6⟩ := a8 q q0 q1
    rw [r4]
    refine ⟨(iP _).2 w1, w2, w3, w4, w5, fun z => ?_⟩
    obtain ⟨u1, u2, u3', u4⟩ := w6 z
    rw [n _ 3 (by decide), n _ 4 (by decide), n _ _ (by omega)]
    exact ⟨(iP _).2 u1, u2, u3', u4⟩
  · rw [n q 3 (by decide)] at q3
    rw [n q 4 (by decide)] at l1
    rw [n q _ (by omega)] at ne ⊢
    rw [r4]
    exact a10 q ((iP q).1 iq) q3 l l0 l1 ne
  · unfold okJ
    rw [ej, r5]
    refine ⟨fun k i k0 k1 i0 i1 => ?_, b2.2⟩
    rw [n _ 3 (by decide), n _ 4 (by decide)]
    exact b2.1 k i k0 k1 i0 i1
  · unfold okJg
    rw [ej, r5]
    intro k i k0 k1 i0 i1
    have b := b3 k i k0 k1 i0 i1
    have := n2 (S 5 k (33 + 5 * i))
    omega
  · rw [ej, r5]
    exact nx.1
  · rw [np q (fun z => nq ((iP q).2 z))]
    exact nx.2 q q0 q1 (fun z => nq ((iP q).2 z))
theorem I_give {p k : Int} (ip : isP S p) (hk : 0 ≤ k ∧ k < S 0 0 3) (n30 : S 5 k 29 < 30) (g : S 3 p 2 ≠ 1) (h : okI S) : okI (jbS (u3 S 3 p 2 1) k p 0 0 0 1) := by
  have ap := h.1.1.2.2.2.1 p ip
  have e : ∀ c, c ≠ 3 → u3 S 3 p 2 1 c = S c := fun c hc => u3_r hc
  have ej : ∀ j, u3 S 3 p 2 1 0 0 j = S 0 0 j := fun j => by rw [e 0 (by decide)]
  have e5 := e 5 (by decide)
  have e33 : u3 S 3 p 2 1 3 p 3 = S 3 p 3 := u3_no (by decide)
  have n3 : S 3 p 3 = 0 := by
    have := ap.2.2.2.2.1
    have := ap.2.2.2.2.2.1
    omega
  refine I_job (by rw [ej]; exact hk) (by rw [e5]; exact n30) ((cg_P (ej 1) (e 2 (by decide))).2 ip) u3_eq (by decide) (by decide) (Or.inl rfl) (Or.inr rfl) (fun z => absurd z (by decide)) (fun _ => ⟨fun _ => rfl, fun z => ?_⟩) (fun _ q i q0 q1 i0 i1 w eq => ?_) (I_given ip h)
  · rw [e33, n3] at z
    exact absurd z (by decide)
  · rw [ej] at q1
    rw [e5] at i1 w eq
    have b := h.1.2.1.2.2 q i q0 q1 i0 i1
    rw [eq] at b
    exact g b
end
