set_option maxRecDepth 100000
theorem I_locks {S : am_G} {pg x : Int} (hp : 0 ≤ pg ∧ pg < 6) (hx : 0 ≤ x) (h1 : (fiR S pg (skL x.toNat (S 0 0 1).toNat) (bcn x.toNat (S 0 0 1).toNat)).1 ≠ -1) (h : okI S) : okI (lkS S pg (lkV S (skL x.toNat (S 0 0 1).toNat) (fiR S pg (skL x.toNat (S 0 0 1).toNat) (bcn x.toNat (S 0 0 1).toNat)).2.1 (fiR S pg (skL x.toNat (S 0 0 1).toNat) (bcn x.toNat (S 0 0 1).toNat)).2.2 (bcn x.toNat (S 0 0 1).toNat) 3)) := by
  have hC := h.1.1.1
  have hF := h.1.1.2.1
  have hA := h.1.1.2.2.2.1
  have hH := h.2.2.1.1
  have gd := fiR_gd hC hF hA hH hp hx
  have q := lkV_bd (hH pg hp.1 hp.2).2.1.2 (fun j j0 j1 => by
    have sb := st_SB hC hF hA hx j j0 j1
    exact ⟨sb.2.1, fun k k0 k1 => (sb.2.2 k k0 k1).1⟩) gd h1
  exact I_lock (by omega) h
theorem I_init : okI nt0 := by
  have z : ∀ c : Nat, c ≠ 1 → c ≠ 8 → ∀ p i, nt0 c p i = 0 := fun c c1 c8 p i => by
    unfold nt0
    rw [if_neg c1, if_neg c8]
  have z0 : ∀ j, nt0 0 0 j = 0 := fun j => z 0 (by decide) (by decide) 0 j
  have z3 : ∀ p i, nt0 3 p i = 0 := z 3 (by decide) (by decide)
  have z4 : ∀ p i, nt0 4 p i = 0 := z 4 (by decide) (by decide)
  have z5 : ∀ p i, nt0 5 p i = 0 := z 5 (by decide) (by decide)
  have nP : ∀ p, ¬ isP nt0 p := fun p y => by
    have := y.1
    have := y.2.1
    rw [z0] at this
    omega
  refine ⟨⟨⟨?_, fun s s0 s1 => ?_, ⟨by rw [z0]; decide, fun s s0 s1 => ?_⟩, fun p ip => absurd ip (nP p), ⟨by rw [z0]; decide, fun s s0 s1 => ?_⟩, fun k q k0 k1 => ?_, fun f _ _ i _ _ => ?_, fun s s0 s1 => ?_, fun s _ _ => ?_, fun p ip => absurd ip (nP p)⟩, ⟨fun k _ _ => ?_, ⟨fun k i k0 k1 => ?_, fun k i k' i' k0 k1 => ?_⟩, fun k i k0 k1 => ?_⟩, fun q _ _ => ?_⟩, ⟨fun s s0 s1 => ?_, fun i i0 i1 => ?_⟩, ⟨fun p _ _ => ?_, fun e p e0 e1 => ?_, fun k k0 k1 => ?_, fun s j s0 s1 => ?_⟩, fun k _ _ => ?_, fun p _ _ _ => ?_⟩
  · unfold okC
    rw [z0, z0, z0, z0, z0, z0]
    decide
  · rw [z0] at s1
    omega
  · rw [z0] at s1
    omega
  · rw [z0] at s1
    omega
  · rw [z0] at k1
    omega
  · show 1 ≤ (4 : Int) ∧ (4 : Int) ≤ 20
    decide
  · rw [z0] at s1
    omega
  · rw [z4]
    decide
  · refine ⟨fun c _ _ => by rw [z5]; decide, by rw [z5]; decide, by rw [z5]; decide, by rw [z5]; decide, by rw [z5]; decide, by rw [z5]; decide, by rw [z5]; decide, fun i i0 i1 => ?_⟩
    rw [z5] at i1
    omega
  · rw [z0] at k1
    omega
  · rw [z0] at k1
    omega
  · rw [z0] at k1
    omega
  · unfold sm3
    rw [z5, z5, z5, z0]
    decide
  · rw [z0] at s1
    omega
  · rw [z0] at i1
    omega
  · show (0 ≤ (1 : Int) ∧ (1 : Int) ≤ 3) ∧ (0 ≤ (20 : Int) ∧ (20 : Int) ≤ 60) ∧ (0 ≤ (0 : Int) ∧ (0 : Int) ≤ 180)
    decide
  · rw [z0] at e1
    omega
  · rw [z0] at k1
    omega
  · rw [z0] at s1
    omega
  · rw [z5, z5, z5, z5, z5]
    decide
  · refine ⟨⟨fun k _ _ => ?_, fun k i _ _ _ _ => ?_⟩, ?_, ?_⟩
    · rw [z3, z3]
      decide
    · rw [z3]
      decide
    · rw [z3, z3]
      decide
    · rw [z3]
      decide
/-- a word of a part that is not set -/
theorem I_cor0 {S : am_G} {p w : Int} {t row : Int → Int} {l : List am_Pz} (ip : isP S p) (hw : 0 ≤ w ∧ w < (S 3 p) 0) (s3 : (S 3 p) 3 = 0) (dl : 1 ≤ l.length) (d40 : (S 3 p) 1 - (wfR (S 3 p) w (S 3 p 1).toNat).2 + l.length ≤ 40) (cw : chW t (S 3 p) w l row) (h : okI S) : okI (setR S p row) := by
  obtain ⟨q1, q2, q3, q4, q5, q6⟩ := chW_ok h.1.1.2.2.2.1 ip hw dl d40 cw
  obtain ⟨⟨⟨a1, a2, a3, a4, a5, a6, a7, a8, a9, a10⟩, ⟨b1, b2, b3⟩, s3'⟩, rw', ⟨hH, hE, hT, hX⟩, nx⟩ := h
  have e : ∀ c, c ≠ 3 → setR S p row c = S c := fun c hc => setR_c hc
  have e0 := e 0 (by decide)
  have ej : ∀ j, setR S p row 0 0 j = S 0 0 j := fun j => by rw [e0]
  have r2 := e 2 (by decide)
  have r4 := e 4 (by decide)
  have r5 := e 5 (by decide)
  have r6 := e 6 (by decide)
  have iP : ∀ q, isP (setR S p row) q ↔ isP S q := fun q => cg_P (ej 1) r2
  have nq : ∀ q, q ≠ p → setR S p row 3 q = S 3 q := fun q hq => setR_q hq
  have pq : setR S p row 3 p = row := setR_p
  have lo : ∀ q i, 2 ≤ i → i < 85 → setR S p row 3 q i = S 3 q i := fun q i i0 i1 => by
    by_cases c : q = p
    · rw [c, pq, q5 i i0 i1]
    · rw [nq q c]
  generalize setR S p row = T at *
  refine ⟨⟨⟨cg_C e0 a1, cg_F (ej 1) r2 a2, cg_G (ej 4) r4 a3, fun q iq => ?_, cg_Y (ej 2) r6 a5, cg_Y1 (ej 2) r6 a6, cg_Ws (e 1 (by decide)) a7, fun q q0 q1 => ?_, cg_0 r4 a9, fun q iq q3 l l0 l1 ne => ?_⟩, ⟨cg_M (ej 1) r2 r5 b1, ?_, ?_⟩, cg_sm (ej 0) r5 s3'⟩, cg_Rw (ej 0) (ej 4) (ej 7) r4 (e 10 (by decide)) rw', ⟨cg_H (e 8 (by decide)) hH, cg_E (ej 6) (e 9 (by decide)) hE, cg_Te (ej 5) (e 7 (by decide)) hT, cg_Tx (ej 4) r4 hX⟩, ?_, fun q q0 q1 nq' => ?_⟩
  · have a := a4 q ((iP q).1 iq)
    by_cases c : q = p
    · rw [c] at a ⊢
      rw [lo p 2 (by decide) (by decide), lo p 3 (by decide) (by decide), lo p 4 (by decide) (by decide), pq]
      exact ⟨q1, q2, q3, a.2.2.2.1, a.2.2.2.2.1, a.2.2.2.2.2.1, fun z => absurd (s3.symm.trans z) (by decide), a.2.2.2.2.2.2.2⟩
    · unfold okL at a ⊢
      rw [nq q c, ej]
      exact a
  · rw [ej] at q1
    obtain ⟨w1, w2, w3, w4, w5, w6⟩ := a8 q q0 q1
    rw [r4]
    refine ⟨(iP _).2 w1, w2, w3, w4, w5, fun z => ?_⟩
    obtain ⟨u1, u2, u3', u4⟩ := w6 z
    rw [nq _ (fun y => by rw [y, s3] at u2; exact absurd u2 (by decide))]
    exact ⟨(iP _).2 u1, u2, u3', u4⟩
  · rw [lo q 3 (by decide) (by decide)] at q3
    have c : q ≠ p := fun y => by rw [y, s3] at q3; exact absurd q3 (by decide)
    rw [nq q c] at l1 ne ⊢
    rw [r4]
    exact a10 q ((iP q).1 iq) q3 l l0 l1 ne
  · unfold okJ
    rw [ej, r5]
    refine ⟨fun k i k0 k1 i0 i1 => ?_, b2.2⟩
    rw [lo _ 3 (by decide) (by decide), lo _ 4 (by decide) (by decide)]
    exact b2.1 k i k0 k1 i0 i1
  · unfold okJg
    rw [ej, r5]
    intro k i k0 k1 i0 i1
    rw [lo _ 2 (by decide) (by decide)]
    exact b3 k i k0 k1 i0 i1
  · rw [ej, r5]
    exact nx.1
  · have n1 : ¬ isP S q := fun z => nq' ((iP q).2 z)
    rw [nq q (fun y => n1 (by rw [y]; exact ip))]
    exact nx.2 q q0 q1 n1
