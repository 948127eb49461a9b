set_option maxRecDepth 100000
section
variable {S S' : am_G}
/-- slugs alone change -/
theorem I_4 (e : ∀ c, c ≠ 4 → S' c = S c) (G : okG S') (g : okg S') (z : ok0 S') (X : okX S') (R : ∀ s, 0 ≤ s → s < S 0 0 4 → S' 4 s 2 = S 4 s 2) (T : okTx S') (h : okI S) : okI S' := by
  obtain ⟨⟨⟨a1, a2, a3, a4, a5, a6, a7, a8, a9, a10⟩, ⟨b1, b2, b3⟩, s3⟩, rw', ⟨hH, hE, hT, hX⟩, nx⟩ := h
  have e0 := e 0 (by decide)
  have ej : ∀ j, S' 0 0 j = S 0 0 j := fun j => by rw [e0]
  have r1 := e 1 (by decide)
  have r2 := e 2 (by decide)
  have r3 := e 3 (by decide)
  have r5 := e 5 (by decide)
  have r6 := e 6 (by decide)
  refine ⟨⟨⟨cg_C e0 a1, cg_F (ej 1) r2 a2, G, cg_A (ej 1) (ej 4) r2 r3 a4, cg_Y (ej 2) r6 a5, cg_Y1 (ej 2) r6 a6, cg_Ws r1 a7, g, z, X⟩, ⟨cg_M (ej 1) r2 r5 b1, cg_J (ej 3) r3 r5 b2, cg_Jg (ej 3) r3 r5 b3⟩, cg_sm (ej 0) r5 s3⟩, ⟨fun s s0 s1 => ?_, ?_⟩, ⟨cg_H (e 8 (by decide)) hH, cg_E (ej 6) (e 9 (by decide)) hE, cg_Te (ej 5) (e 7 (by decide)) hT, T⟩, cg_Nx (ej 1) (ej 3) r2 r3 r5 nx⟩
  · rw [ej] at s1
    rw [R s s0 s1, ej]
    exact rw'.1 s s0 s1
  · rw [ej, ej, e 10 (by decide)]
    exact rw'.2
end
section
variable {S : am_G}
/-- a slug is read, or a letter of it slips -/
theorem I_4o {s o v : Int} (ho : ((o = 10 ∨ o = 11) ∧ v = 1) ∨ (432 ≤ o ∧ 0 ≤ v ∧ v ≤ 122)) (h : okI S) : okI (u3 S 4 s o v) := by
  have h' := h
  obtain ⟨⟨⟨a1, a2, a3, a4, a5, a6, a7, a8, a9, a10⟩, ⟨b1, b2, b3⟩, s3⟩, rw', ⟨hH, hE, hT, hX⟩, nx⟩ := h
  have e : ∀ c, c ≠ 4 → u3 S 4 s o v c = S c := fun c hc => u3_r hc
  have ej : ∀ j, u3 S 4 s o v 0 0 j = S 0 0 j := fun j => by rw [e 0 (by decide)]
  have n : ∀ q i, i ≠ o → u3 S 4 s o v 4 q i = S 4 q i := fun q i hi => u3_no hi
  have iP : ∀ p, isP (u3 S 4 s o v) p ↔ isP S p := fun p => cg_P (ej 1) (e 2 (by decide))
  have r3 := e 3 (by decide)
  have oo : ∀ q, (u3 S 4 s o v 4 q o = S 4 q o ∨ u3 S 4 s o v 4 q o = v) := fun q => by
    by_cases c : q = s
    · right
      rw [c, u3_eq]
    · left
      exact u3_np c
  refine I_4 e ⟨by rw [ej]; exact a3.1, fun q q0 q1 => ?_⟩ (fun q q0 q1 => ?_) (fun q q0 q1 => ?_) (fun p ip p3 l l0 l1 ne => ?_) (fun q _ _ => n q 2 (by omega)) (fun q j q0 q1 j0 j1 => ?_) h'
  · rw [ej] at q1
    rw [n q 0 (by omega), n q 1 (by omega), n q 2 (by omega), n q 9 (by omega)]
    exact a3.2 q q0 q1
  · rw [ej] at q1
    obtain ⟨w1, w2, w3, w4, w5, w6⟩ := a8 q q0 q1
    have g9 := (a3.2 q q0 q1).2.2.2
    rw [n q 0 (by omega), n q 7 (by omega), n q 3 (by omega), n q 9 (by omega), n q 4 (by omega), n q 5 (by omega), n q 6 (by omega), r3]
    refine ⟨(iP _).2 w1, w2, ?_, ?_, ?_, fun z => ⟨(iP _).2 (w6 z).1, (w6 z).2⟩⟩
    · by_cases c : (10 : Int) = o
      · have := oo q
        rw [← c] at this ⊢
        omega
      · rw [n q 10 c]
        exact w3
    · by_cases c : (11 : Int) = o
      · have := oo q
        rw [← c] at this ⊢
        omega
      · rw [n q 11 c]
        exact w4
    · rw [w5]
      refine sg_ext _ _ (fun k k0 k1 => ?_)
      show am_b (S 4 q (12 + k) ≠ 32) = am_b (u3 S 4 s o v 4 q (12 + k) ≠ 32)
      rw [n q (12 + k) (by omega)]
  · rw [n q 0 (by omega)]
    exact a9 q q0 q1
  · rw [r3] at p3 l1 ne ⊢
    rw [n _ 4 (by omega), n _ 5 (by omega), n _ 6 (by omega)]
    exact a10 p ((iP p).1 ip) p3 l l0 l1 ne
  · rw [ej] at q1
    rw [n q 9 (by omega)] at j1
    by_cases c : 432 + j = o
    · have := oo q
      rw [c]
      have w := hX q j q0 q1 j0 j1
      rw [c] at w
      omega
    · rw [n q _ c]
      exact hX q j q0 q1 j0 j1
theorem I_read {f s : Int} (hf : 0 ≤ f ∧ f ≤ 1) (h : okI S) : okI (u3 S 4 s (10 + f) 1) := I_4o (Or.inl ⟨by omega, rfl⟩) h
theorem I_slip {s p c : Int} (hp : 0 ≤ p) (hc : 0 ≤ c ∧ c ≤ 25) (h : okI S) : okI (u3 S 4 s (432 + p) (97 + c)) := I_4o (Or.inr ⟨by omega, by omega, by omega⟩) h
end
section
variable {S S' : am_G}
/-- machines alone change -/
theorem I_5 (e : ∀ c, c ≠ 5 → c ≠ 0 → S' c = S c) (e0 : ∀ j, j ≠ 3 → S' 0 0 j = S 0 0 j) (e3 : 0 ≤ S' 0 0 3 ∧ S' 0 0 3 ≤ 4) (M : okM S') (J : okJ S') (Jg : okJg S') (sm : ∀ q, 0 ≤ q → q < 4 → sm3 S' q ≤ S' 0 0 0) (N : ∀ k, S' 0 0 3 ≤ k → k < 4 → S' 5 k 28 = 0 ∧ S' 5 k 29 = 0 ∧ S' 5 k 30 = 0 ∧ S' 5 k 31 = 0 ∧ S' 5 k 32 = 0) (h : okI S) : okI S' := by
  obtain ⟨⟨⟨a1, a2, a3, a4, a5, a6, a7, a8, a9, a10⟩, ⟨b1, b2, b3⟩, s3⟩, rw', ⟨hH, hE, hT, hX⟩, nx⟩ := h
  have f0 := e0 0 (by decide)
  have f1 := e0 1 (by decide)
  have f2 := e0 2 (by decide)
  have f4 := e0 4 (by decide)
  have f5 := e0 5 (by decide)
  have f6 := e0 6 (by decide)
  have f7 := e0 7 (by decide)
  have r1 := e 1 (by decide) (by decide)
  have r2 := e 2 (by decide) (by decide)
  have r3 := e 3 (by decide) (by decide)
  have r4 := e 4 (by decide) (by decide)
  have r6 := e 6 (by decide) (by decide)
  refine ⟨⟨⟨?_, cg_F f1 r2 a2, cg_G f4 r4 a3, cg_A f1 f4 r2 r3 a4, cg_Y f2 r6 a5, cg_Y1 f2 r6 a6, cg_Ws r1 a7, cg_g f1 f4 r2 r3 r4 a8, cg_0 r4 a9, cg_X f1 r2 r3 r4 a10⟩, ⟨M, J, Jg⟩, sm⟩, cg_Rw f0 f4 f7 r4 (e 10 (by decide) (by decide)) rw', ⟨cg_H (e 8 (by decide) (by decide)) hH, cg_E f6 (e 9 (by decide) (by decide)) hE, cg_Te f5 (e 7 (by decide) (by decide)) hT, cg_Tx f4 r4 hX⟩, N, fun p p0 p1 np => ?_⟩
  · unfold okC
    rw [f0, f1, f5, f6, f7]
    exact ⟨a1.1, a1.2.1, e3, a1.2.2.2⟩
  · rw [r3]
    exact nx.2 p p0 p1 (fun z => np ((cg_P f1 r2).2 z))
end
section
variable {S : am_G}
/-- brass, or whether it is broken -/
theorem I_5o {k c v : Int} (hk : 0 ≤ k ∧ k < S 0 0 3) (hc : ((0 ≤ c ∧ c < 27) ∧ 0 ≤ v ∧ v ≤ 40) ∨ (c = 28 ∧ (v = 0 ∨ v = 1))) (h : okI S) : okI (u3 S 5 k c v) := by
  have h' := h
  obtain ⟨⟨⟨a1, a2, a3, a4, a5, a6, a7, a8, a9, a10⟩, ⟨b1, b2, b3⟩, s3⟩, rw', ⟨hH, hE, hT, hX⟩, nx⟩ := h
  have e : ∀ d, d ≠ 5 → u3 S 5 k c v d = S d := fun d hd => u3_r hd
  have e0 := e 0 (by decide)
  have ej : ∀ j, u3 S 5 k c v 0 0 j = S 0 0 j := fun j => by rw [e0]
  have n : ∀ q i, i ≠ c → u3 S 5 k c v 5 q i = S 5 q i := fun q i hi => u3_no hi
  have oo : ∀ q, (u3 S 5 k c v 5 q c = S 5 q c ∨ u3 S 5 k c v 5 q c = v) := fun q => by
    by_cases g : q = k
    · right
      rw [g, u3_eq]
    · left
      exact u3_np g
  have iP : ∀ p, isP (u3 S 5 k c v) p ↔ isP S p := fun p => cg_P (ej 1) (e 2 (by decide))
  have r3 := e 3 (by decide)
  refine I_5 (fun d d5 _ => e d d5) (fun j _ => ej j) (by rw [ej]; exact a1.2.2.1) (fun q q0 q1 => ?_) ⟨fun q i q0 q1 i0 i1 => ?_, fun q i q' i' q0 q1 i0 i1 q0' q1' i0' i1' w w' eq => ?_⟩ (fun q i q0 q1 i0 i1 => ?_) (fun q q0 q1 => ?_) (fun q q0 q1 => ?_) h'
  · obtain ⟨w1, w2, w3, w4, w5, w6, w7, w8⟩ := b1 q q0 q1
    rw [n q 27 (by omega), n q 29 (by omega), n q 30 (by omega), n q 31 (by omega), n q 32 (by omega)]
    refine ⟨fun i i0 i1 => ?_, w2, ?_, w4, w5, w6, w7, fun i i0 i1 => ?_⟩
    · by_cases g : i = c
      · have := oo q
        have := w1 i i0 i1
        rw [g] at this ⊢
        omega
      · rw [n q i g]
        exact w1 i i0 i1
    · by_cases g : (28 : Int) = c
      · have := oo q
        rw [← g] at this ⊢
        omega
      · rw [n q 28 g]
        exact w3
    · rw [n q _ (by omega), n q _ (by omega), n q _ (by omega), n q _ (by omega), n q _ (by omega)]
      have w := w8 i i0 i1
      exact ⟨(iP _).2 w.1, w.2⟩
  · rw [ej] at q1
    rw [n q 29 (by omega)] at i1
    rw [n q _ (by omega), n q _ (by omega), n q _ (by omega), n q _ (by omega), r3]
    exact b2.1 q i q0 q1 i0 i1
  · rw [ej] at q1 q1'
    rw [n q 29 (by omega)] at i1
    rw [n q' 29 (by omega)] at i1'
    rw [n q _ (by omega)] at w
    rw [n q' _ (by omega)] at w'
    rw [n q _ (by omega), n q' _ (by omega)] at eq
    exact b2.2 q i q' i' q0 q1 i0 i1 q0' q1' i0' i1' w w' eq
  · rw [ej] at q1
    rw [n q 29 (by omega)] at i1
    rw [n q _ (by omega), r3]
    exact b3 q i q0 q1 i0 i1
  · unfold sm3
    rw [n q 30 (by omega), n q 31 (by omega), n q 32 (by omega), ej]
    exact s3 q q0 q1
  · rw [ej] at q0
    rw [u3_np (by omega), u3_np (by omega), u3_np (by omega), u3_np (by omega), u3_np (by omega)]
    exact nx.1 q q0 q1
theorem I_machine {v w : Int} (hv : (0 ≤ v ∧ v ≤ 40) ∧ (0 ≤ w ∧ w ≤ 9)) (h4 : S 0 0 3 ≠ 4) (h : okI S) : okI (mcS S v w) := by
  have h' := h
  obtain ⟨⟨⟨a1, a2, a3, a4, a5, a6, a7, a8, a9, a10⟩, ⟨b1, b2, b3⟩, s3⟩, rw', ⟨hH, hE, hT, hX⟩, nx⟩ := h
  obtain ⟨v1, v2, v3, v4, v5, v6, v7⟩ := mcS_v (S := S) (v := v) (w := w)
  have c3 := a1.2.2.1
  have fr := nx.1 (S 0 0 3) (Int.le_refl _) (by omega)
  have r3 := v1 3 (by decide) (by decide)
  have iP : ∀ p, isP (mcS S v w) p ↔ isP S p := fun p => cg_P (v2 1 (by decide)) (v1 2 (by decide) (by decide))
  have m29 : mcS S v w 5 (S 0 0 3) 29 = 0 := (v7 29 (by decide)).trans fr.2.1
  have o5 : ∀ q i, 0 ≤ i → i < mcS S v w 5 q 29 → q ≠ S 0 0 3 := fun q i i0 i1 z => by
    rw [z, m29] at i1
    omega
  refine I_5 (fun d d5 d0 => v1 d d5 d0) (fun j hj => v2 j hj) (by rw [v3]; omega) (fun q q0 q1 => ?_) ⟨fun q i q0 q1 i0 i1 => ?_, fun q i q' i' q0 q1 i0 i1 q0' q1' i0' i1' w w' eq => ?_⟩ (fun q i q0 q1 i0 i1 => ?_) (fun q q0 q1 => ?_) (fun q q0 q1 => ?_) h'
  · have b := b1 q q0 q1
    by_cases g : q = S 0 0 3
    · rw [g] at b ⊢
      rw [v6, v7 28 (by decide), v7 29 (by decide), v7 30 (by decide), v7 31 (by decide), v7 32 (by decide), fr.1, fr.2.1, fr.2.2.1, fr.2.2.2.1, fr.2.2.2.2]
      exact ⟨fun c c0 c1 => by rw [v5 c c0 c1]; exact hv.1, hv.2, Or.inl rfl, by decide, by decide, by decide, by decide, fun i i0 i1 => absurd i1 (by omega)⟩
    · rw [v4 q g]
      exact ⟨b.1, b.2.1, b.2.2.1, b.2.2.2.1, b.2.2.2.2.1, b.2.2.2.2.2.1, b.2.2.2.2.2.2.1, fun i i0 i1 => ⟨(iP _).2 (b.2.2.2.2.2.2.2 i i0 i1).1, (b.2.2.2.2.2.2.2 i i0 i1).2⟩⟩
  · have g := o5 q i i0 i1
    rw [v4 q g] at i1 ⊢
    rw [v3] at q1
    rw [r3]
    exact b2.1 q i q0 (by omega) i0 i1
  · have g := o5 q i i0 i1
    have g' := o5 q' i' i0' i1'
    rw [v4 q g] at i1 w eq
    rw [v4 q' g'] at i1' w' eq
    rw [v3] at q1 q1'
    exact b2.2 q i q' i' q0 (by omega) i0 i1 q0' (by omega) i0' i1' w w' eq
  · have g := o5 q i i0 i1
    rw [v4 q g] at i1 ⊢
    rw [v3] at q1
    rw [r3]
    exact b3 q i q0 (by omega) i0 i1
  · have b := s3 q q0 q1
    unfold sm3 at b ⊢
    rw [v2 0 (by decide)]
    by_cases g : q = S 0 0 3
    · rw [g] at b ⊢
      rw [v7 30 (by decide), v7 31 (by decide), v7 32 (by decide)]
      exact b
    · rw [v4 q g]
      exact b
  · rw [v3] at q0
    rw [v4 q (by omega)]
    exact nx.1 q (by omega) q1
/-- a job is queued -/
theorem I_job {k p nx' bh co wh : Int} (hk : 0 ≤ k ∧ k < S 0 0 3) (n30 : S 5 k 29 < 30) (ip : isP S p) (g2 : S 3 p 2 = 1) (hn : 0 ≤ nx' ∧ nx' < 40) (hb : 0 ≤ bh ∧ bh ≤ 40) (hc : co = 0 ∨ co = 1) (hw : wh = 0 ∨ wh = 1) (j0 : wh = 0 → S 3 p 3 = 1 ∧ nx' < bh ∧ bh ≤ S 3 p 4) (j1 : wh ≠ 0 → (S 3 p 3 = 0 → nx' = 0) ∧ (S 3 p 3 = 1 → nx' < S 3 p 4)) (ju : wh ≠ 0 → ∀ q i, 0 ≤ q → q < S 0 0 3 → 0 ≤ i → i < S 5 q 29 → S 5 q (37 + 5 * i) ≠ 0 → S 5 q (33 + 5 * i) ≠ p) (h : okI S) : okI (jbS S k p nx' bh co wh) := by
  have h' := h
  obtain ⟨⟨⟨a1, a2, a3, a4, a5, a6, a7, a8, a9, a10⟩, ⟨b1, b2, b3⟩, s3⟩, rw', ⟨hH, hE, hT, hX⟩, nx⟩ := h
  have m29 := (b1 k hk.1 (by have := a1.2.2.1; omega)).2.2.2.1
  obtain ⟨v1, v2, v3, v4, v5, v6, v7, v8, v9⟩ := jbS_v (S := S) (k := k) (p := p) (nx := nx') (bh := bh) (co := co) (wh := wh) m29.1
  generalize jbS S k p nx' bh co wh = T at *
  have ej : ∀ j, T 0 0 j = S 0 0 j := fun j => by rw [v1 0 (by decide)]
  have iP : ∀ p, isP T p ↔ isP S p := fun p => cg_P (ej 1) (v1 2 (by decide))
  have r3 := v1 3 (by decide)
  -- a job of the new state is one of the old, or the new one
  have jb : ∀ q i, 0 ≤ q → q < 4 → 0 ≤ i → i < T 5 q 29 → (i < S 5 q 29 ∧ ∀ o, 33 ≤ o → o < 38 → T 5 q (o + 5 * i) = S 5 q (o + 5 * i)) ∨ (q = k ∧ i = S 5 k 29) := fun q i q0 q1 i0 i1 => by
    by_cases g : q = k
    · rw [g] at i1 ⊢
      rw [v4] at i1
      by_cases c : i = S 5 k 29
      · exact Or.inr ⟨rfl, c⟩
      · exact Or.inl ⟨by omega, fun o o1 o2 => v3 _ (by omega) (by omega)⟩
    · rw [v2 q g] at i1 ⊢
      exact Or.inl ⟨i1, fun _ _ _ => rfl⟩
  have c3 := a1.2.2.1
  refine I_5 (fun d d5 _ => v1 d d5) (fun j _ => ej j) (by rw [ej]; exact a1.2.2.1) (fun q q0 q1 => ?_) ⟨fun q i q0 q1 i0 i1 => ?_, fun q i q' i' q0 q1 i0 i1 q0' q1' i0' i1' w w' eq => ?_⟩ (fun q i q0 q1 i0 i1 => ?_) (fun q q0 q1 => ?_) (fun q q0 q1 => ?_) h'
  · obtain ⟨w1, w2, w3, w4, w5, w6, w7, w8⟩ := b1 q q0 q1
    have lo : ∀ o, o < 33 → o ≠ 29 → T 5 q o = S 5 q o := fun o o1 o2 => by
      by_cases g : q = k
      · rw [g]
        exact v3 o o2 (by omega)
      · rw [v2 q g]
    rw [lo 27 (by decide) (by decide), lo 28 (by decide) (by decide), lo 30 (by decide) (by decide), lo 31 (by decide) (by decide), lo 32 (by decide) (by decide)]
    refine ⟨fun c c0 c1 => by rw [lo c (by omega) (by omega)]; exact w1 c c0 c1, w2, w3, ?_, w5, w6, w7, fun i i0 i1 => ?_⟩
    · by_cases g : q = k
      · rw [g, v4]
        omega
      · rw [v2 q g]
        exact w4
    · rcases jb q i q0 q1 i0 i1 with ⟨c, d⟩ | ⟨c, d⟩
      · rw [d 33 (by decide) (by decide), d 34 (by decide) (by decide), d 35 (by decide) (by decide), d 36 (by decide) (by decide), d 37 (by decide) (by decide)]
        exact ⟨(iP _).2 (w8 i i0 c).1, (w8 i i0 c).2⟩
      · rw [c, d, v5, v6, v7, v8, v9]
        exact ⟨(iP p).2 ip, hn, hb, hc, hw⟩
  · rw [ej] at q1
    rw [r3]
    rcases jb q i q0 (by omega) i0 i1 with ⟨c, d⟩ | ⟨c, d⟩
    · rw [d 33 (by decide) (by decide), d 34 (by decide) (by decide), d 35 (by decide) (by decide), d 37 (by decide) (by decide)]
      exact b2.1 q i q0 q1 i0 c
    · rw [c, d, v5, v6, v7, v9]
      exact ⟨j0, j1⟩
  · rw [ej] at q1 q1'
    rcases jb q i q0 (by omega) i0 i1 with ⟨c, d⟩ | ⟨c, d⟩
    · rw [d 33 (by decide) (by decide)] at eq
      rw [d 37 (by decide) (by decide)] at w
      rcases jb q' i' q0' (by omega) i0' i1' with ⟨c', d'⟩ | ⟨c', d'⟩
      · rw [d' 33 (by decide) (by decide)] at eq
        rw [d' 37 (by decide) (by decide)] at w'
        exact b2.2 q i q' i' q0 q1 i0 c q0' q1' i0' c' w w' eq
      · rw [c', d', v5] at eq
        rw [c', d', v9] at w'
        exact absurd eq (ju w' q i q0 q1 i0 c w)
    · rw [c, d, v5] at eq
      rw [c, d, v9] at w
      rcases jb q' i' q0' (by omega) i0' i1' with ⟨c', d'⟩ | ⟨c', d'⟩
      · rw [d' 33 (by decide) (by decide)] at eq
        rw [d' 37 (by decide) (by decide)] at w'
        exact absurd eq.symm (ju w q' i' q0' q1' i0' c' w')
      · exact ⟨c.trans c'.symm, d.trans d'.symm⟩
  · rw [ej] at q1
    rw [r3]
    rcases jb q i q0 (by omega) i0 i1 with ⟨c, d⟩ | ⟨c, d⟩
    · rw [d 33 (by decide) (by decide)]
      exact b3 q i q0 q1 i0 c
    · rw [c, d, v5]
      exact g2
  · have b := s3 q q0 q1
    unfold sm3 at b ⊢
    rw [ej]
    by_cases g : q = k
    · rw [g] at b ⊢
      rw [v3 30 (by decide) (by omega), v3 31 (by decide) (by omega), v3 32 (by decide) (by omega)]
      exact b
    · rw [v2 q g]
      exact b
  · rw [ej] at q0
    rw [v2 q (by omega)]
    exact nx.1 q q0 q1
theorem I_again {p l k : Int} (ip : isP S p) (hk : 0 ≤ k ∧ k < S 0 0 3) (s3' : S 3 p 3 ≠ 0) (hl : 0 ≤ l ∧ l < S 3 p 4) (n30 : S 5 k 29 < 30) (h : okI S) : okI (jbS S k p l (l + 1) 0 0) := by
  have ap := h.1.1.2.2.2.1 p ip
  have e3 : S 3 p 3 = 1 := by
    have := ap.2.2.2.2.1
    omega
  have b4 := ap.2.2.2.2.2.2.2
  exact I_job hk n30 ip (ap.2.2.2.2.2.1 e3) (by omega) (by omega) (Or.inl rfl) (Or.inl rfl) (fun _ => ⟨e3, by omega, by omega⟩) (fun z => absurd rfl z) (fun z => absurd rfl z) h
end
