set_option maxRecDepth 100000
theorem ruV_R {y : Int → Int} {j w0 w : Int} {ru : am_Ru} (w0b : 62 ≤ w0) (wl : w0 + ruL ru ≤ w) (hw : w ≤ 562) (v : ruV y j w0 ru) (ok : okRu ru) : okR y j ∧ y (2 + 5 * j) = ru.1 ∧ y (3 + 5 * j) = ru.2.1 ∧ y (4 + 5 * j) = ru.2.2.1 := by
  obtain ⟨k, f, g, oc⟩ := ru
  obtain ⟨v1, v2, v3, v4⟩ := v
  have e1 : 2 + 5 * j + 1 = 3 + 5 * j := by omega
  have e2 : 2 + 5 * j + 2 = 4 + 5 * j := by omega
  have e3 : 2 + 5 * j + 3 = 5 + 5 * j := by omega
  have e4 : 2 + 5 * j + 4 = 6 + 5 * j := by omega
  rw [e1] at v2
  rw [e2] at v3
  refine ⟨?_, v1, v2, v3⟩
  cases oc with
  | none =>
    have v4' : y (2 + 5 * j + 3) = 0 ∧ y (2 + 5 * j + 4) = 0 := v4
    rw [e3, e4] at v4'
    exact Or.inl v4'.2
  | some c =>
    have v4' : y (2 + 5 * j + 3) = w0 ∧ y (2 + 5 * j + 4) = c.cd.length ∧ cdA y w0 c.cd := v4
    rw [e3, e4] at v4'
    obtain ⟨o1, o2, o3, o4⟩ : c.ok ∧ c.hg ≤ 13 ∧ c.cd.length ≤ 400 ∧ c.dp ≤ 59 := ok.2.2.2.2.2.2
    have wl' : w0 + (c.cd.length : Int) ≤ w := wl
    refine Or.inr ⟨?_, fun tg fc ht => ⟨c.ev tg fc, o1.2.2.2.1 tg fc ht, ?_⟩⟩
    · rw [v4'.1, v4'.2.1]
      omega
    · rw [v4'.1, v4'.2.1, rn_all o1 v4'.2.2 (by omega) (by omega)]
section
variable {S S' : am_G}
theorem I_style {m : Int} {l : List am_Ru} (hm : S 0 0 0 ≤ m ∧ m ≤ 600) (h10 : S 0 0 2 ≠ 10) (st : syT S m l S') (h : okI S) : okI S' := by
  obtain ⟨⟨⟨a1, a2, a3, a4, a5, a6, a7, a8, a9, a10⟩, ⟨b1, b2, b3⟩, s3⟩, rw', ⟨hH, hE, hT, hX⟩, nx⟩ := h
  obtain ⟨q1, ⟨q2, q3⟩, q4, q5, q6, q7, q8⟩ := st
  have f := fun j hj => q2 j hj
  have f0 := f 0 (by decide)
  have f1 := f 1 (by decide)
  have f3 := f 3 (by decide)
  have f4 := f 4 (by decide)
  have f5 := f 5 (by decide)
  have f6 := f 6 (by decide)
  have f7 := f 7 (by decide)
  have r := fun c c0 c6 => q1 c c0 c6
  have r1 := r 1 (by decide) (by decide)
  have r2 := r 2 (by decide) (by decide)
  have r3 := r 3 (by decide) (by decide)
  have r4 := r 4 (by decide) (by decide)
  have r5 := r 5 (by decide) (by decide)
  have c0 := a1.1
  have c2 := a5.1
  have ru : ∀ q, 0 ≤ q → q < (l.length : Int) → okR (S' 6 (S 0 0 2)) q ∧ S' 6 (S 0 0 2) (2 + 5 * q) = (gR l q.toNat).1 ∧ S' 6 (S 0 0 2) (3 + 5 * q) = (gR l q.toNat).2.1 ∧ S' 6 (S 0 0 2) (4 + 5 * q) = (gR l q.toNat).2.2.1 ∧ okRu (gR l q.toNat) := fun q q0 q1 => by
    obtain ⟨⟨w0, b1, b2, b3⟩, b4, b5⟩ := q8 q.toNat (by omega)
    have e : ((q.toNat : Nat) : Int) = q := by omega
    rw [e] at b3
    obtain ⟨x1, x2, x3, x4⟩ := ruV_R b1 b2 (Int.le_refl _) b3 b4
    exact ⟨x1, x2, x3, x4, b4⟩
  refine ⟨⟨⟨?_, cg_F f1 r2 a2, cg_G f4 r4 a3, cg_A f1 f4 r2 r3 a4, ⟨by rw [q3]; omega, fun k k0 k1 => ?_⟩, fun k q k0 k1 q0 q1 e => ?_, cg_Ws r1 a7, cg_g f1 f4 r2 r3 r4 a8, cg_0 r4 a9, cg_X f1 r2 r3 r4 a10⟩, ⟨cg_M f1 r2 r5 b1, cg_J f3 r3 r5 b2, cg_Jg f3 r3 r5 b3⟩, cg_sm f0 r5 s3⟩, cg_Rw f0 f4 f7 r4 (r 10 (by decide) (by decide)) rw', ⟨cg_H (r 8 (by decide) (by decide)) hH, cg_E f6 (r 9 (by decide) (by decide)) hE, cg_Te f5 (r 7 (by decide) (by decide)) hT, cg_Tx f4 r4 hX⟩, cg_Nx f1 f3 r2 r3 r5 nx⟩
  · unfold okC
    rw [f0, f1, f3, f5, f6, f7]
    exact a1
  · rw [q3] at k1
    by_cases g : k = S 0 0 2
    · rw [g, q5, q6]
      refine ⟨by omega, by omega, fun q q0 q1 => ?_⟩
      obtain ⟨x1, x2, x3, x4, x5⟩ := ru q q0 q1
      rw [x2, x3, x4]
      exact ⟨x1, x5.2.1, x5.2.2.1, x5.2.2.2.1, fun z => (x5.2.2.2.2.1 z).2⟩
    · rw [q4 k g]
      exact a5.2 k k0 (by omega)
  · rw [q3] at k1
    by_cases g : k = S 0 0 2
    · rw [g] at q1 e ⊢
      rw [q6] at q1
      obtain ⟨x1, x2, x3, x4, x5⟩ := ru q q0 q1
      rw [x2] at e
      rw [x3]
      exact (x5.2.2.2.2.1 e).1
    · rw [q4 k g] at q1 e ⊢
      exact a6 k q k0 (by omega) q0 q1 e
theorem chP_last {t : Int → Int} : ∀ (l : List am_Pz) (w0 w1 : Int), chP t w0 l w1 → 1 ≤ l.length → (gP l (l.length - 1)).1 + (gP l (l.length - 1)).2.2.2 = w1
  | [], _, _, _, h => absurd h (by decide)
  | [p], w0, w1, c, _ => by
    have c1 : p.1 = w0 := c.1
    have c2 : w0 + p.2.2.2 = w1 := c.2.2.2.2
    show p.1 + p.2.2.2 = w1
    omega
  | p :: x :: l, w0, w1, c, _ => by
    have i := chP_last (x :: l) (w0 + p.2.2.2) w1 c.2.2.2.2 (by show 1 ≤ l.length + 1; omega)
    have e : (x :: l).length - 1 = l.length := by show l.length + 1 - 1 = l.length; omega
    rw [e] at i
    exact i
theorem soR_1 {t : Int → Int} {n : Int} : ∀ (f : Nat) (a : Int) (done l : List am_Pt), soR t n f a done = .inr l → 1 ≤ l.length
  | 0, a, done, l, h => by
    have h' : (Sum.inl a : Int ⊕ List am_Pt) = .inr l := h
    cases h'
  | f + 1, a, done, l, h => by
    have h' : soT t n done.length (paR t n (bE t n a) 0 []) (fun z p => soR t n f z (done ++ [p])) done = .inr l := h
    cases e : paR t n (bE t n a) 0 [] with
    | inl x =>
      rw [e] at h'
      have h2 : (Sum.inl x : Int ⊕ List am_Pt) = .inr l := h'
      cases h2
    | inr q =>
      rw [e] at h'
      have h2 : (if n ≤ q.1 then .inr (done ++ [q.2]) else if t q.1 = 47 ∧ done.length + 1 ≠ 5 then soR t n f (q.1 + 1) (done ++ [q.2]) else .inl q.1) = (Sum.inr l : Int ⊕ List am_Pt) := h'
      by_cases c : n ≤ q.1
      · rw [if_pos c] at h2
        injection h2 with h2
        rw [← h2, List.length_append]
        show 1 ≤ done.length + 1
        omega
      · rw [if_neg c] at h2
        by_cases c2 : t q.1 = 47 ∧ done.length + 1 ≠ 5
        · rw [if_pos c2] at h2
          exact soR_1 f _ _ l h2
        · rw [if_neg c2] at h2
          cases h2
theorem I_story {t : Int → Int} {f du : Int} {l : List am_Pt} (hf : 0 ≤ f ∧ f ≤ 1) (hd : 0 ≤ du ∧ du ≤ 600) (h20 : S 0 0 1 ≠ 20) (l1 : 1 ≤ l.length) (l5 : l.length ≤ 5) (st : stR t S f du l S') (h : okI S) : okI S' := by
  have c1 := h.1.1.1.2.1
  have pP := fun p => stR_P (p := p) st h.1.1.2.1 l5 c1.1
  obtain ⟨⟨⟨a1, a2, a3, a4, a5, a6, a7, a8, a9, a10⟩, ⟨b1, b2, b3⟩, s3⟩, rw', ⟨hH, hE, hT, hX⟩, nx⟩ := h
  obtain ⟨q1, ⟨q2, q3⟩, ⟨q4, q5, q6, q7⟩, q8, q9⟩ := st
  have g0 := q2 0 (by decide)
  have g2 := q2 2 (by decide)
  have g3 := q2 3 (by decide)
  have g4 := q2 4 (by decide)
  have g5 := q2 5 (by decide)
  have g6 := q2 6 (by decide)
  have g7 := q2 7 (by decide)
  have r := fun c c0 c2 c3 => q1 c c0 c2 c3
  have r1 := r 1 (by decide) (by decide) (by decide)
  have r4 := r 4 (by decide) (by decide) (by decide)
  have r5 := r 5 (by decide) (by decide) (by decide)
  have r6 := r 6 (by decide) (by decide) (by decide)
  have mo : ∀ p, isP S p → isP S' p := fun p z => (pP p).2 (Or.inl z)
  have old : ∀ p, isP S p → S' 3 p = S 3 p := fun p z => q8 p (Or.inl (by have := z.2.1; omega))
  -- a new part
  have new : ∀ p, 5 * S 0 0 1 ≤ p → p < 5 * S 0 0 1 + l.length → (okP (S' 3 p) ∧ okN (S' 3 p) ∧ S' 3 p 0 = S' 3 p (84 + S' 3 p 1) + 1) ∧ S' 3 p 2 = 0 ∧ S' 3 p 3 = 0 ∧ (0 ≤ S' 3 p 4 ∧ S' 3 p 4 ≤ 40) := fun p p0 p1 => by
    have ei : 5 * S 0 0 1 + (((p - 5 * S 0 0 1).toNat : Nat) : Int) = p := by omega
    have z := q9 (p - 5 * S 0 0 1).toNat (by omega)
    rw [ei] at z
    obtain ⟨z1, z2, z3, z4⟩ := z
    generalize gD l (p - 5 * S 0 0 1).toNat = x at z1 z2
    have fr := nx.2 p (by omega) (by omega) (fun z => by have := z.2.1; omega)
    have Q := z4 fr.1
    obtain ⟨y1, y2, y3⟩ := z1
    have lg := laP_g x.2 z2.2.2.1
    have lq := z2.2.2.2
    have lst := chP_last x.2 0 x.1 z2.2.1 lg.2
    have v85 := (y3 (x.2.length - 1) (by omega)).1
    have e84 : 85 + ((x.2.length - 1 : Nat) : Int) = 84 + S' 3 p 1 := by
      rw [y2]
      omega
    rw [e84] at v85
    refine ⟨⟨⟨by omega, Q.1, Q.2⟩, rwP_N ⟨y1, y2, y3⟩ z2.2.1 z2.2.2.1, ?_⟩, ?_, ?_, ?_⟩
    · rw [v85, y1]
      have := lg.1
      omega
    · rw [z3 2 (by decide) (by decide)]
      exact fr.2.1.1
    · rw [z3 3 (by decide) (by decide)]
      exact fr.2.1.2
    · rw [z3 4 (by decide) (by decide)]
      exact fr.2.2
  have jp : ∀ k i, 0 ≤ k → k < S 0 0 3 → 0 ≤ i → i < S 5 k 29 → S' 3 (S 5 k (33 + 5 * i)) = S 3 (S 5 k (33 + 5 * i)) := fun k i k0 k1 i0 i1 => old _ ((b1 k k0 (by have := a1.2.2.1; omega)).2.2.2.2.2.2.2 i i0 i1).1
  refine ⟨⟨⟨?_, fun s s0 s1 => ?_, cg_G g4 r4 a3, fun p ip => ?_, cg_Y g2 r6 a5, cg_Y1 g2 r6 a6, cg_Ws r1 a7, fun s s0 s1 => ?_, cg_0 r4 a9, fun p ip p3 k k0 k1 ne => ?_⟩, ⟨fun k k0 k1 => ?_, ?_, ?_⟩, cg_sm g0 r5 s3⟩, cg_Rw g0 g4 g7 r4 (r 10 (by decide) (by decide) (by decide)) rw', ⟨cg_H (r 8 (by decide) (by decide) (by decide)) hH, cg_E g6 (r 9 (by decide) (by decide) (by decide)) hE, cg_Te g5 (r 7 (by decide) (by decide) (by decide)) hT, cg_Tx g4 r4 hX⟩, ?_, fun p p0 p1 np => ?_⟩
  · unfold okC
    rw [g0, g3, g5, g6, g7, q3]
    exact ⟨a1.1, by omega, a1.2.2⟩
  · rw [q3] at s1
    by_cases g : s = S 0 0 1
    · rw [g, q5, q6, q7]
      exact ⟨by omega, hd, by omega⟩
    · rw [q4 0 s g, q4 1 s g, q4 2 s g]
      exact a2 s s0 (by omega)
  · rcases (pP p).1 ip with z | z
    · have w := a4 p z
      unfold okL at w ⊢
      rw [old p z, g4]
      exact w
    · obtain ⟨w1, w2, w3, w4⟩ := new p z.1 z.2
      exact ⟨w1.1, w1.2.1, w1.2.2, Or.inl w2, Or.inl w3, fun y => absurd (w3.symm.trans y) (by decide), fun y => absurd (w3.symm.trans y) (by decide), w4⟩
  · rw [g4] at s1
    obtain ⟨w1, w2, w3, w4, w5, w6⟩ := a8 s s0 s1
    rw [r4]
    refine ⟨mo _ w1, w2, w3, w4, w5, fun z => ?_⟩
    obtain ⟨y1, y2, y3, y4⟩ := w6 z
    rw [old _ y1]
    exact ⟨mo _ y1, y2, y3, y4⟩
  · rcases (pP p).1 ip with z | z
    · rw [old p z] at p3 k1 ne ⊢
      rw [r4]
      exact a10 p z p3 k k0 k1 ne
    · exact absurd ((new p z.1 z.2).2.2.1.symm.trans p3) (by decide)
  · rw [r5]
    have b := b1 k k0 k1
    exact ⟨b.1, b.2.1, b.2.2.1, b.2.2.2.1, b.2.2.2.2.1, b.2.2.2.2.2.1, b.2.2.2.2.2.2.1, fun i i0 i1 => ⟨mo _ (b.2.2.2.2.2.2.2 i i0 i1).1, (b.2.2.2.2.2.2.2 i i0 i1).2⟩⟩
  · unfold okJ
    rw [g3, r5]
    refine ⟨fun k i k0 k1 i0 i1 => ?_, b2.2⟩
    rw [jp k i k0 k1 i0 i1]
    exact b2.1 k i k0 k1 i0 i1
  · unfold okJg
    rw [g3, r5]
    intro k i k0 k1 i0 i1
    rw [jp k i k0 k1 i0 i1]
    exact b3 k i k0 k1 i0 i1
  · rw [g3, r5]
    exact nx.1
  · have n1 : ¬ isP S p := fun z => np (mo p z)
    have e : S' 3 p = S 3 p := q8 p (by
      by_cases c : p < 5 * S 0 0 1
      · exact Or.inl c
      · by_cases c2 : 5 * S 0 0 1 + l.length ≤ p
        · exact Or.inr c2
        · exact absurd ((pP p).2 (Or.inr ⟨by omega, by omega⟩)) np)
    rw [e]
    exact nx.2 p p0 p1 n1
end
