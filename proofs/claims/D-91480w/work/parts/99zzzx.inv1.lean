set_option maxRecDepth 100000
/-! WHAT HOLDS OF EVERY STATE -/
/-- machines and parts that are not there yet are fresh -/
def okNx (S : am_G) : Prop := (∀ k, S 0 0 3 ≤ k → k < 4 → S 5 k 28 = 0 ∧ S 5 k 29 = 0 ∧ S 5 k 30 = 0 ∧ S 5 k 31 = 0 ∧ S 5 k 32 = 0) ∧ ∀ p, 0 ≤ p → p < 100 → ¬ isP S p → okQ (S 3 p) ∧ (S 3 p 2 = 0 ∧ S 3 p 3 = 0) ∧ (0 ≤ S 3 p 4 ∧ S 3 p 4 ≤ 40)
def okI (S : am_G) : Prop := okMs S ∧ okRw S ∧ (okH S ∧ okE S ∧ okTe S ∧ okTx S) ∧ okNx S
theorem okNx_Z {S : am_G} (h : okNx S) : okZ S := fun p a b c => (h.2 p a b c).2.1
section
variable {S S' : am_G}
theorem cg_C (e0 : S' 0 = S 0) (h : okC S) : okC S' := by
  unfold okC
  rw [e0]
  exact h
theorem cg_F (e1 : S' 0 0 1 = S 0 0 1) (e2 : S' 2 = S 2) (h : okF S) : okF S' := by
  unfold okF
  rw [e1, e2]
  exact h
theorem cg_G (e : S' 0 0 4 = S 0 0 4) (e4 : S' 4 = S 4) (h : okG S) : okG S' := by
  unfold okG
  rw [e, e4]
  exact h
theorem cg_P (e1 : S' 0 0 1 = S 0 0 1) (e2 : S' 2 = S 2) {p : Int} : isP S' p ↔ isP S p := by
  unfold isP
  rw [e1, e2]
theorem cg_A (e1 : S' 0 0 1 = S 0 0 1) (e4 : S' 0 0 4 = S 0 0 4) (e2 : S' 2 = S 2) (e3 : S' 3 = S 3) (h : okA S) : okA S' := by
  unfold okA okL isP
  rw [e1, e2, e3, e4]
  exact h
theorem cg_Y (e : S' 0 0 2 = S 0 0 2) (e6 : S' 6 = S 6) (h : okY S) : okY S' := by
  unfold okY
  rw [e, e6]
  exact h
theorem cg_Y1 (e : S' 0 0 2 = S 0 0 2) (e6 : S' 6 = S 6) (h : okY1 S) : okY1 S' := by
  unfold okY1
  rw [e, e6]
  exact h
theorem cg_Ws (e : S' 1 = S 1) (h : okWs S) : okWs S' := by
  unfold okWs
  rw [e]
  exact h
theorem cg_g (e1 : S' 0 0 1 = S 0 0 1) (e4 : S' 0 0 4 = S 0 0 4) (e2 : S' 2 = S 2) (e3 : S' 3 = S 3) (e : S' 4 = S 4) (h : okg S) : okg S' := by
  unfold okg isP
  rw [e1, e2, e3, e4, e]
  exact h
theorem cg_0 (e : S' 4 = S 4) (h : ok0 S) : ok0 S' := by
  unfold ok0
  rw [e]
  exact h
theorem cg_X (e1 : S' 0 0 1 = S 0 0 1) (e2 : S' 2 = S 2) (e3 : S' 3 = S 3) (e : S' 4 = S 4) (h : okX S) : okX S' := by
  unfold okX isP
  rw [e1, e2, e3, e]
  exact h
theorem cg_M (e1 : S' 0 0 1 = S 0 0 1) (e2 : S' 2 = S 2) (e : S' 5 = S 5) (h : okM S) : okM S' := by
  unfold okM isP
  rw [e1, e2, e]
  exact h
theorem cg_J (e1 : S' 0 0 3 = S 0 0 3) (e3 : S' 3 = S 3) (e : S' 5 = S 5) (h : okJ S) : okJ S' := by
  unfold okJ
  rw [e1, e3, e]
  exact h
theorem cg_Jg (e1 : S' 0 0 3 = S 0 0 3) (e3 : S' 3 = S 3) (e : S' 5 = S 5) (h : okJg S) : okJg S' := by
  unfold okJg
  rw [e1, e3, e]
  exact h
theorem cg_sm (e0 : S' 0 0 0 = S 0 0 0) (e : S' 5 = S 5) (h : ∀ q, 0 ≤ q → q < 4 → sm3 S q ≤ S 0 0 0) : ∀ q, 0 ≤ q → q < 4 → sm3 S' q ≤ S' 0 0 0 := by
  unfold sm3
  rw [e0, e]
  exact h
theorem cg_Rw (e0 : S' 0 0 0 = S 0 0 0) (e4 : S' 0 0 4 = S 0 0 4) (e7 : S' 0 0 7 = S 0 0 7) (e : S' 4 = S 4) (ea : S' 10 = S 10) (h : okRw S) : okRw S' := by
  unfold okRw
  rw [e0, e4, e7, e, ea]
  exact h
theorem cg_H (e : S' 8 = S 8) (h : okH S) : okH S' := by
  unfold okH
  rw [e]
  exact h
theorem cg_E (e6 : S' 0 0 6 = S 0 0 6) (e : S' 9 = S 9) (h : okE S) : okE S' := by
  unfold okE
  rw [e6, e]
  exact h
theorem cg_Te (e5 : S' 0 0 5 = S 0 0 5) (e : S' 7 = S 7) (h : okTe S) : okTe S' := by
  unfold okTe
  rw [e5, e]
  exact h
theorem cg_Tx (e4 : S' 0 0 4 = S 0 0 4) (e : S' 4 = S 4) (h : okTx S) : okTx S' := by
  unfold okTx
  rw [e4, e]
  exact h
theorem cg_Nx (e1 : S' 0 0 1 = S 0 0 1) (e3 : S' 0 0 3 = S 0 0 3) (e2 : S' 2 = S 2) (e : S' 3 = S 3) (e5 : S' 5 = S 5) (h : okNx S) : okNx S' := by
  unfold okNx isP
  rw [e1, e2, e3, e, e5]
  exact h
/-- the rows that okMs speaks of are the same -/
theorem cg_Ms (e0 : ∀ j, j ≠ 5 → j ≠ 6 → S' 0 0 j = S 0 0 j) (e5 : 0 ≤ S' 0 0 5 ∧ S' 0 0 5 ≤ 200) (e6 : 0 ≤ S' 0 0 6 ∧ S' 0 0 6 ≤ 8) (e : ∀ c, 1 ≤ c → c ≤ 6 → S' c = S c) (h : okMs S) : okMs S' := by
  obtain ⟨⟨a1, a2, a3, a4, a5, a6, a7, a8, a9, a10⟩, ⟨b1, b2, b3⟩, s⟩ := h
  have f := fun j => e0 j
  have f0 := e0 0 (by decide) (by decide)
  have f1 := e0 1 (by decide) (by decide)
  have f2 := e0 2 (by decide) (by decide)
  have f3 := e0 3 (by decide) (by decide)
  have f4 := e0 4 (by decide) (by decide)
  have f7 := e0 7 (by decide) (by decide)
  have r1 := e 1 (by decide) (by decide)
  have r2 := e 2 (by decide) (by decide)
  have r3 := e 3 (by decide) (by decide)
  have r4 := e 4 (by decide) (by decide)
  have r5 := e 5 (by decide) (by decide)
  have r6 := e 6 (by decide) (by decide)
  refine ⟨⟨?_, cg_F f1 r2 a2, cg_G f4 r4 a3, cg_A f1 f4 r2 r3 a4, cg_Y f2 r6 a5, cg_Y1 f2 r6 a6, cg_Ws r1 a7, cg_g f1 f4 r2 r3 r4 a8, cg_0 r4 a9, cg_X f1 r2 r3 r4 a10⟩, ⟨cg_M f1 r2 r5 b1, cg_J f3 r3 r5 b2, cg_Jg f3 r3 r5 b3⟩, cg_sm f0 r5 s⟩
  unfold okC
  rw [f0, f1, f3, f7]
  exact ⟨a1.1, a1.2.1, a1.2.2.1, e5, e6, a1.2.2.2.2.2⟩
end
section
variable {S : am_G}
theorem I_width {f c n : Int} (hn : 1 ≤ n ∧ n ≤ 20) (h : okI S) : okI (u3 S 1 f c n) := by
  obtain ⟨⟨⟨a1, a2, a3, a4, a5, a6, a7, a8, a9, a10⟩, ⟨b1, b2, b3⟩, s⟩, rw', ⟨hH, hE, hT, hX⟩, nx⟩ := h
  have e : ∀ d, d ≠ 1 → u3 S 1 f c n d = S d := fun d hd => u3_r hd
  have e0 := e 0 (by decide)
  have ej : ∀ j, u3 S 1 f c n 0 0 j = S 0 0 j := fun j => by rw [e0]
  have r2 := e 2 (by decide)
  have r3 := e 3 (by decide)
  have r4 := e 4 (by decide)
  have r5 := e 5 (by decide)
  have r6 := e 6 (by decide)
  refine ⟨⟨⟨cg_C e0 a1, cg_F (ej 1) r2 a2, cg_G (ej 4) r4 a3, cg_A (ej 1) (ej 4) r2 r3 a4, cg_Y (ej 2) r6 a5, cg_Y1 (ej 2) r6 a6, ?_, cg_g (ej 1) (ej 4) r2 r3 r4 a8, cg_0 r4 a9, cg_X (ej 1) r2 r3 r4 a10⟩, ⟨cg_M (ej 1) r2 r5 b1, cg_J (ej 3) r3 r5 b2, cg_Jg (ej 3) r3 r5 b3⟩, cg_sm (ej 0) r5 s⟩, cg_Rw (ej 0) (ej 4) (ej 7) r4 (e 10 (by decide)) rw', ⟨cg_H (e 8 (by decide)) hH, cg_E (ej 6) (e 9 (by decide)) hE, cg_Te (ej 5) (e 7 (by decide)) hT, cg_Tx (ej 4) r4 hX⟩, cg_Nx (ej 1) (ej 3) r2 r3 r5 nx⟩
  intro q q0 q1 i i0 i1
  by_cases g : q = f ∧ i = c
  · rw [g.1, g.2, u3_eq]
    exact hn
  · have e2 : u3 S 1 f c n 1 q i = S 1 q i := if_neg (fun z => g ⟨z.2.1, z.2.2⟩)
    rw [e2]
    exact a7 q q0 q1 i i0 i1
/-- rows from 7 on alone change -/
theorem I_hi {S' : am_G} (e0 : ∀ j, j ≠ 5 → j ≠ 6 → S' 0 0 j = S 0 0 j) (e5 : 0 ≤ S' 0 0 5 ∧ S' 0 0 5 ≤ 200) (e6 : 0 ≤ S' 0 0 6 ∧ S' 0 0 6 ≤ 8) (e : ∀ c, 1 ≤ c → c ≤ 6 → S' c = S c) (ea : ∀ i, S' 10 0 (5 * i) = S 10 0 (5 * i)) (H1 : okH S') (H2 : okE S') (H3 : okTe S') (h : okI S) : okI S' := by
  obtain ⟨m, rw', ⟨hH, hE, hT, hX⟩, nx⟩ := h
  have r4 := e 4 (by decide) (by decide)
  have f0 := e0 0 (by decide) (by decide)
  have f4 := e0 4 (by decide) (by decide)
  have f7 := e0 7 (by decide) (by decide)
  refine ⟨cg_Ms e0 e5 e6 e m, ⟨?_, fun i a b => ?_⟩, ⟨H1, H2, H3, cg_Tx f4 r4 hX⟩, cg_Nx (e0 1 (by decide) (by decide)) (e0 3 (by decide) (by decide)) (e 2 (by decide) (by decide)) (e 3 (by decide) (by decide)) (e 5 (by decide) (by decide)) nx⟩
  · rw [f0, f4, r4]
    exact rw'.1
  · rw [f7] at b
    rw [ea, f0]
    exact rw'.2 i a b
theorem I_tear {i k v : Int} (hk : 0 ≤ k ∧ k < 4) (h : okI S) : okI (u3 S 10 0 (1 + 5 * i + k) v) := by
  have e : ∀ d, d ≠ 10 → u3 S 10 0 (1 + 5 * i + k) v d = S d := fun d hd => u3_r hd
  have ej : ∀ j, u3 S 10 0 (1 + 5 * i + k) v 0 0 j = S 0 0 j := fun j => by rw [e 0 (by decide)]
  have c := h.1.1.1
  exact I_hi (fun j _ _ => ej j) (by rw [ej]; exact c.2.2.2.1) (by rw [ej]; exact c.2.2.2.2.1) (fun d _ _ => e d (by omega)) (fun q => u3_no (by omega)) (cg_H (e 8 (by decide)) h.2.2.1.1) (cg_E (ej 6) (e 9 (by decide)) h.2.2.1.2.1) (cg_Te (ej 5) (e 7 (by decide)) h.2.2.1.2.2.1) h
theorem I_page {p c l : Int} (hc : (1 ≤ c ∧ c ≤ 3) ∧ (1 ≤ l ∧ l ≤ 60)) (h : okI S) : okI (u3 (u3 S 8 p 0 c) 8 p 1 l) := by
  have e : ∀ d, d ≠ 8 → u3 (u3 S 8 p 0 c) 8 p 1 l d = S d := fun d hd => (u3_r hd).trans (u3_r hd)
  have ej : ∀ j, u3 (u3 S 8 p 0 c) 8 p 1 l 0 0 j = S 0 0 j := fun j => by rw [e 0 (by decide)]
  have cc := h.1.1.1
  refine I_hi (fun j _ _ => ej j) (by rw [ej]; exact cc.2.2.2.1) (by rw [ej]; exact cc.2.2.2.2.1) (fun d _ _ => e d (by omega)) (fun q => by rw [e 10 (by decide)]) ?_ (cg_E (ej 6) (e 9 (by decide)) h.2.2.1.2.1) (cg_Te (ej 5) (e 7 (by decide)) h.2.2.1.2.2.1) h
  intro q q0 q1
  have w := h.2.2.1.1 q q0 q1
  by_cases g : q = p
  · rw [g] at w ⊢
    rw [u3_no (by decide), u3_eq, u3_eq, u3_no (by decide), u3_no (by decide)]
    omega
  · rw [u3_np g, u3_np g, u3_np g, u3_np g, u3_np g, u3_np g]
    exact w
theorem I_lock {pg : Int} {l : List Int} (hl : l.length ≤ 180) (h : okI S) : okI (lkS S pg l) := by
  have e : ∀ d, d ≠ 8 → lkS S pg l d = S d := fun d hd => (u3_r hd).trans ((u3_r hd).trans ((u3_r hd).trans (wrL_c hd)))
  have ej : ∀ j, lkS S pg l 0 0 j = S 0 0 j := fun j => by rw [e 0 (by decide)]
  have cc := h.1.1.1
  refine I_hi (fun j _ _ => ej j) (by rw [ej]; exact cc.2.2.2.1) (by rw [ej]; exact cc.2.2.2.2.1) (fun d _ _ => e d (by omega)) (fun q => by rw [e 10 (by decide)]) ?_ (cg_E (ej 6) (e 9 (by decide)) h.2.2.1.2.1) (cg_Te (ej 5) (e 7 (by decide)) h.2.2.1.2.2.1) h
  intro q q0 q1
  have w := h.2.2.1.1 q q0 q1
  have w1 : ∀ o, o < 5 → wrL S pg l 8 q o = S 8 q o := fun o ho => if_neg (fun z => absurd z.2.2.1 (by omega))
  unfold lkS
  by_cases g : q = pg
  · rw [g] at w w1 ⊢
    rw [u3_no (by decide), u3_no (by decide), u3_no (by decide), w1 0 (by decide), u3_no (by decide), u3_no (by decide), u3_no (by decide), w1 1 (by decide), u3_no (by decide), u3_no (by decide), u3_eq]
    omega
  · rw [u3_np g, u3_np g, u3_np g, u3_np g, u3_np g, u3_np g, u3_np g, u3_np g, u3_np g, w1 0 (by decide), w1 1 (by decide), w1 2 (by decide)]
    exact w
theorem I_edition (h6 : S 0 0 6 ≠ 8) (h : okI S) : okI (edF S) := by
  obtain ⟨v1, v2, v3, v4, v5⟩ := edF_v (S := S)
  have cc := h.1.1.1
  have c6 := cc.2.2.2.2.1
  refine I_hi (fun j _ j6 => v2 j j6) (by rw [v2 5 (by decide)]; exact cc.2.2.2.1) (by rw [v3]; omega) (fun d _ _ => v1 d (by omega) (by omega)) (fun q => by rw [v1 10 (by decide) (by decide)]) (cg_H (v1 8 (by decide) (by decide)) h.2.2.1.1) ?_ (cg_Te (v2 5 (by decide)) (v1 7 (by decide) (by decide)) h.2.2.1.2.2.1) h
  intro e p e0 e1 p0 p1
  rw [v3] at e1
  have w := (h.2.2.1.1 p p0 p1).2.2
  by_cases c : e < S 0 0 6
  · rw [v4 e p e0 c p0 p1]
    exact h.2.2.1.2.1 e p e0 c p0 p1
  · have ee : e = S 0 0 6 := by omega
    rw [ee, (v5 p p0 p1 w.1).1]
    exact w
theorem I_carry {s w m : Int} (hw : 0 ≤ w ∧ w ≤ 9) (h5 : S 0 0 5 ≠ 200) (h : okI S) : okI (u3 (u3 (u3 (u3 (u3 S 7 (S 0 0 5) 0 s) 7 (S 0 0 5) 1 w) 7 (S 0 0 5) 2 m) 7 (S 0 0 5) 3 (S 0 0 0)) 0 0 5 (S 0 0 5 + 1)) := by
  have e : ∀ d, d ≠ 0 → d ≠ 7 → u3 (u3 (u3 (u3 (u3 S 7 (S 0 0 5) 0 s) 7 (S 0 0 5) 1 w) 7 (S 0 0 5) 2 m) 7 (S 0 0 5) 3 (S 0 0 0)) 0 0 5 (S 0 0 5 + 1) d = S d := fun d h0 h7 => (u3_r h0).trans ((u3_r h7).trans ((u3_r h7).trans ((u3_r h7).trans (u3_r h7))))
  have ej : ∀ j, j ≠ 5 → u3 (u3 (u3 (u3 (u3 S 7 (S 0 0 5) 0 s) 7 (S 0 0 5) 1 w) 7 (S 0 0 5) 2 m) 7 (S 0 0 5) 3 (S 0 0 0)) 0 0 5 (S 0 0 5 + 1) 0 0 j = S 0 0 j := fun j hj => (u3_no hj).trans ((u3_nc (by decide)).trans ((u3_nc (by decide)).trans ((u3_nc (by decide)).trans (u3_nc (by decide)))))
  have e5 : u3 (u3 (u3 (u3 (u3 S 7 (S 0 0 5) 0 s) 7 (S 0 0 5) 1 w) 7 (S 0 0 5) 2 m) 7 (S 0 0 5) 3 (S 0 0 0)) 0 0 5 (S 0 0 5 + 1) 0 0 5 = S 0 0 5 + 1 := u3_eq
  have cc := h.1.1.1
  have c5 := cc.2.2.2.1
  refine I_hi (fun j j5 _ => ej j j5) (by rw [e5]; omega) (by rw [ej 6 (by decide)]; exact cc.2.2.2.2.1) (fun d _ _ => e d (by omega) (by omega)) (fun q => by rw [e 10 (by decide) (by decide)]) (cg_H (e 8 (by decide) (by decide)) h.2.2.1.1) (cg_E (ej 6 (by decide)) (e 9 (by decide) (by decide)) h.2.2.1.2.1) ?_ h
  intro k k0 k1
  rw [e5] at k1
  by_cases g : k = S 0 0 5
  · rw [g, u3_nc (by decide), u3_no (by decide), u3_no (by decide), u3_eq]
    exact hw
  · rw [u3_nc (by decide), u3_np g, u3_np g, u3_np g, u3_np g]
    exact h.2.2.1.2.2.1 k k0 (by omega)
end
