set_option maxRecDepth 100000
/-! a night is copied: styles, parts, widths, the whole -/
section
variable {K : am_K} {h : am_H}
/-- the styles -/
theorem cp_62 {L : am_Lb} {Ns Z P : Nat} {S : am_G} {B : Int} {d : Nat} (hd : 30 ≤ d + 12) (ok : okLb h L) (cs : (am_ty h (am_cs h 0) = 134 ∧ am_cs h 0 ≤ am_sz h ∧ am_ln h (am_cs h 0) = 0)) (rep : Rep h L Ns P S B) (hZ : Z = am_sz h + 1) (ow : ∀ q, q ≤ am_sz h → (L q).1 ≠ Z) (hC : okC S) (H : ∀ h' L', fx (fun _ => False) h h' → leL h L L' → okLb h' L' → Rep h' L' Z P S 400 → (∀ q, am_sz h < q → (L' q).1 = 0 ∨ (L' q).1 = Z) → (am_sz h' : Int) ≤ am_sz h + 600 + S 0 0 4 + capG h' Z → (am_us h' : Int) ≤ am_us h + 9000 + 11 * S 0 0 4 + 5 * capG h' Z → K (.inl (some (.inr (.inl (Z))))) h') (hF : okF S) (hA : okA S) (hG : okG S) (hM : okM S) (hY : 0 ≤ S 0 0 2 ∧ S 0 0 2 ≤ 10) {T6 T5 T4 T7 T8 T9 T10 : am_G} {F : Nat → Int} (f18 : F 18 = S 0 0 0) (t6 : T6 0 0 2 = 0) (t5 : T5 0 0 3 = 0) (t4 : T4 0 0 4 = 0) (t7 : T7 0 0 5 = 0) (t9 : T9 0 0 6 = 0) : ∀ h' L', CpS h L Z P 225 5188 F S S T6 T5 T4 T7 T8 T9 T10 h' L' → (am_fr h' 194 (am_fr h' 22 Z) = am_cs h' 0 ∧ am_fi h' 193 (am_fr h' 22 Z) = 0) → (am_fr h' 194 (am_fr h' 25 Z) = am_cs h' 0 ∧ am_fi h' 193 (am_fr h' 25 Z) = 0) → (am_fr h' 194 (am_fr h' 26 Z) = am_cs h' 0 ∧ am_fi h' 193 (am_fr h' 26 Z) = 0) → (am_fr h' 194 (am_fr h' 28 Z) = am_cs h' 0 ∧ am_fi h' 193 (am_fr h' 28 Z) = 0) → ∀ o3, am_W m_X3_copy (am_ev am_prog (d + 12)) K 31 [some (.inr (.inl (Ns))), some (.inr (.inl (Z))), some (.inl (100)), o3] [] h' := by
  intro h' L' x em2 em5 em6 em8 o3
  obtain ⟨x1, x2, x3, x4, x5, x6, x7⟩ := x
  have rp := Rep_fx (Int.le_refl B) x1 x2 ok cs.1 (fun _ _ z => z.elim) rep
  have cs' := cs_fx x1 cs
  have s1 := rp.1
  have s3 := rp.2.2.1
  have s6 := rp.2.2.2.1
  have NZ : Ns ≠ Z := fun e => by
    have := rep.1.1.2.1
    omega
  refine v_X3_copy_31 ?_
  rw [s3.2.1, s1.2.2.2.1]
  refine ⟨⟨s1.1.1, s3.1.1⟩, fun _ => ⟨x5.1.1, x5.2.2.2.2.2.1.1.1.1.1, ?_⟩, fun z => absurd z (by decide)⟩
  have c1 := CpI_num (f := 21) (v := S 0 0 1) x5 x3 cs'.1
  have fN : fx (fun q => q = Z) h' (am_sfi h' 21 Z (S 0 0 1)) := fx_sfi fx_refl (Or.inr rfl)
  have o1 := okLb_fx fN x3
  have zN : am_sz (am_sfi h' 21 Z (S 0 0 1)) = am_sz h' := rfl
  have uN : am_us (am_sfi h' 21 Z (S 0 0 1)) = am_us h' := rfl
  have gN : capG (am_sfi h' 21 Z (S 0 0 1)) Z = capG h' Z := rfl
  have e22 : am_fr (am_sfi h' 21 Z (S 0 0 1)) 22 Z = am_fr h' 22 Z := rfl
  have e22s : am_fr (am_sfi h' 21 Z (S 0 0 1)) 22 Ns = am_fr h' 22 Ns := rfl
  have m2 : (am_fr (am_sfi h' 21 Z (S 0 0 1)) 194 (am_fr (am_sfi h' 21 Z (S 0 0 1)) 22 Z) = am_cs (am_sfi h' 21 Z (S 0 0 1)) 0 ∧ am_fi (am_sfi h' 21 Z (S 0 0 1)) 193 (am_fr (am_sfi h' 21 Z (S 0 0 1)) 22 Z) = 0) := ⟨em2.1, (x_fif (by decide)).trans em2.2⟩
  have m5 : (am_fr (am_sfi h' 21 Z (S 0 0 1)) 194 (am_fr (am_sfi h' 21 Z (S 0 0 1)) 25 Z) = am_cs (am_sfi h' 21 Z (S 0 0 1)) 0 ∧ am_fi (am_sfi h' 21 Z (S 0 0 1)) 193 (am_fr (am_sfi h' 21 Z (S 0 0 1)) 25 Z) = 0) := ⟨em5.1, (x_fif (by decide)).trans em5.2⟩
  have m6 : (am_fr (am_sfi h' 21 Z (S 0 0 1)) 194 (am_fr (am_sfi h' 21 Z (S 0 0 1)) 26 Z) = am_cs (am_sfi h' 21 Z (S 0 0 1)) 0 ∧ am_fi (am_sfi h' 21 Z (S 0 0 1)) 193 (am_fr (am_sfi h' 21 Z (S 0 0 1)) 26 Z) = 0) := ⟨em6.1, (x_fif (by decide)).trans em6.2⟩
  have m8 : (am_fr (am_sfi h' 21 Z (S 0 0 1)) 194 (am_fr (am_sfi h' 21 Z (S 0 0 1)) 28 Z) = am_cs (am_sfi h' 21 Z (S 0 0 1)) 0 ∧ am_fi (am_sfi h' 21 Z (S 0 0 1)) 193 (am_fr (am_sfi h' 21 Z (S 0 0 1)) 28 Z) = 0) := ⟨em8.1, (x_fif (by decide)).trans em8.2⟩
  have csN := cs_fx fN cs'
  obtain ⟨k1, k2, k3⟩ := CpS_fr x1 x2 x4 ow fN (leL_refl (L := L')) (fun q hq e => by rw [e, x5.1.2.2.2]) (fun q hq => Or.inl (x3.2.2 q hq))
  generalize am_sfi h' 21 Z (S 0 0 1) = hN at *
  rw [← e22, ← e22s]
  have rpN := Rep_fx (Int.le_refl B) k1 k2 ok cs.1 (fun _ _ z => z.elim) rep
  have s9 := rpN.2.2.2.1
  have q9 := c1.2.2.2.2.2.1
  have r9 := q9.1
  rw [t6] at r9
  have ne : am_fr hN 22 Z ≠ am_fr hN 22 Ns := fun e => by
    have a := r9.2.2.1
    have b := s9.1.2.2.1
    rw [e, b] at a
    injection a with a _
    exact NZ a
  refine c_addAll (d := d + 3) r9.1 (by rw [m2.1]; exact csN.2.2) (by rw [m2.2]; omega) s9.1.1 (by rw [s9.1.2.2.2.2.1]; omega) ne csN.2.1 (fun h2 v f2 xm e5 e3 el hA' hs hu => am_av (v_X3_copy_63 ?_))
  obtain ⟨L2, le2, ok2, rl2, ln2⟩ := cpA o1 csN r9 m2 f2 xm (e5.trans s9.1.2.2.2.2.1) e3 hA'
  have hX : ∀ q, q ≤ am_sz hN → q = am_fr hN 22 Z → (L' q).1 = Z ∧ (L' q).2.1 = 6 := fun q _ e => by
    rw [e, r9.2.2.1]
    exact ⟨rfl, rfl⟩
  obtain ⟨⟨w0, wr, wp, wf⟩, w1, w3, _, w5, w4, w7, w8, w9, w10⟩ := CpI_gr 6 (by decide) c1 f2 le2 o1 csN.1 hX
  obtain ⟨j1, j2, j3⟩ := CpS_fr k1 k2 k3 ow f2 le2 (fun q hq e => (hX q hq e).1) ln2
  have im : ∀ q, q ≤ am_sz hN → q = am_fr hN 22 Z → (L' q).1 ≠ 0 ∧ ¬ imT (am_ty hN q) := fun q hq e => by
    have e1 := (hX q hq e).1
    have z0 := c1.1.2.2.1
    exact ⟨by rw [e1]; exact z0, fun t => z0 (e1.symm.trans (o1.2.1 q hq t))⟩
  have y6 : rY h2 L2 Z (am_fr hN 22 Z) S 400 := by
    refine ⟨rl2, fun k a b => ?_⟩
    rw [el k a (by rw [s9.1.2.2.2.2.1]; exact b)]
    exact iSt_fx f2 le2 im (s9.2 k a b)
  have gne : ∀ q g, L' q = (Z, g, 0, 0) → g ≠ 6 → ¬ (q = am_fr hN 22 Z) := fun q g a g6 e => by
    rw [e, r9.2.2.1] at a
    injection a with _ a
    injection a with a _
    exact g6 a.symm
  have w := c1.2.2.2.2.2.2.2
  have e5' := em_f f2 w.1.1 (gne _ _ w.1.1.2.2.1 (by decide)) m5
  have e6' := em_f f2 w.2.1.1 (gne _ _ w.2.1.1.2.2.1 (by decide)) m6
  have e8' := em_f f2 w.2.2.2.1.1 (gne _ _ w.2.2.2.1.1.2.2.1 (by decide)) m8
  rw [← wr 25] at e5'
  rw [← wr 26] at e6'
  rw [← wr 28] at e8'
  have g2 : capG h2 Z = capG hN Z := capG_f f2 w.1.1 (gne _ _ w.1.1.2.2.1 (by decide)) (wr 25)
  refine cp_66 (T4 := T4) (T7 := T7) (T8 := T8) (T9 := T9) (T10 := T10) hd ok cs rep hZ ow hC H hG hM (F := am_up F 21 (S 0 0 1)) ((am_up_ne (by decide)).trans f18) t4 t7 t9 am_up_eq 0 (by decide) hC.2.2.1.1 h2 L2 ⟨j1, j2, ok2, j3, ?_, by omega, by omega⟩ e5' e6' e8' _
  refine CpI_mk (h := hN) w0 wr wp wf (w1 (by decide)) (w3 (by decide)) y6 ?_ (w4 (by decide)) (w7 (by decide)) (w8 (by decide)) (w9 (by decide)) (w10 (by decide))
  have y5 := w5 (by decide)
  refine ⟨y5.1, y5.2.1, fun k a b => ?_⟩
  have e03 : u3 S 0 0 3 0 0 0 3 = 0 := u3_eq
  rw [e03] at b
  exact absurd b (by omega)
/-- the parts -/
theorem cp_31 {L : am_Lb} {Ns Z P : Nat} {S : am_G} {B : Int} {d : Nat} (hd : 30 ≤ d + 12) (ok : okLb h L) (cs : (am_ty h (am_cs h 0) = 134 ∧ am_cs h 0 ≤ am_sz h ∧ am_ln h (am_cs h 0) = 0)) (rep : Rep h L Ns P S B) (hZ : Z = am_sz h + 1) (ow : ∀ q, q ≤ am_sz h → (L q).1 ≠ Z) (hC : okC S) (H : ∀ h' L', fx (fun _ => False) h h' → leL h L L' → okLb h' L' → Rep h' L' Z P S 400 → (∀ q, am_sz h < q → (L' q).1 = 0 ∨ (L' q).1 = Z) → (am_sz h' : Int) ≤ am_sz h + 600 + S 0 0 4 + capG h' Z → (am_us h' : Int) ≤ am_us h + 9000 + 11 * S 0 0 4 + 5 * capG h' Z → K (.inl (some (.inr (.inl (Z))))) h') (hF : okF S) (hA : okA S) (hG : okG S) (hM : okM S) (hY : 0 ≤ S 0 0 2 ∧ S 0 0 2 ≤ 10) {T6 T5 T4 T7 T8 T9 T10 : am_G} {F : Nat → Int} (f18 : F 18 = S 0 0 0) (t6 : T6 0 0 2 = 0) (t5 : T5 0 0 3 = 0) (t4 : T4 0 0 4 = 0) (t7 : T7 0 0 5 = 0) (t9 : T9 0 0 6 = 0) : ∀ p, 0 ≤ p → p ≤ 100 → ∀ h' L', CpS h L Z P (25 + 2 * p) (288 + 49 * p) F S (tP S p) T6 T5 T4 T7 T8 T9 T10 h' L' → (am_fr h' 194 (am_fr h' 22 Z) = am_cs h' 0 ∧ am_fi h' 193 (am_fr h' 22 Z) = 0) → (am_fr h' 194 (am_fr h' 25 Z) = am_cs h' 0 ∧ am_fi h' 193 (am_fr h' 25 Z) = 0) → (am_fr h' 194 (am_fr h' 26 Z) = am_cs h' 0 ∧ am_fi h' 193 (am_fr h' 26 Z) = 0) → (am_fr h' 194 (am_fr h' 28 Z) = am_cs h' 0 ∧ am_fi h' 193 (am_fr h' 28 Z) = 0) → ∀ o3, am_W m_X3_copy (am_ev am_prog (d + 12)) K 31 [some (.inr (.inl (Ns))), some (.inr (.inl (Z))), some (.inl (p)), o3] [] h' := by
  refine lp_z ?_ ?_
  · intro p p0 p1 hL h' L' x em2 em5 em6 em8 o3
    obtain ⟨x1, x2, x3, x4, x5, x6, x7⟩ := x
    have rp := Rep_fx (Int.le_refl B) x1 x2 ok cs.1 (fun _ _ z => z.elim) rep
    have cs' := cs_fx x1 cs
    have s1 := rp.1
    have s3 := rp.2.2.1
    have Z0 := x5.1.2.2.1
    have q3 := x5.2.2.2.2.1
    have sp := s3.2.2 p p0 p1
    have w := x5.2.2.2.2.2
    -- the entry is written
    have put : ∀ h2 L2 c, fx (fun _ => False) h' h2 → leL h' L' L2 → okLb h2 L2 → (∀ q, am_sz h' < q → (L2 q).1 = 0 ∨ (L2 q).1 = Z) → (¬ isP S p → c = 0) → (isP S p → rPt h2 L2 Z S p c) → (c = 0 ∨ am_tin [9] (am_ty h2 c)) → (am_sz h2 : Int) ≤ am_sz h' + 2 → (am_us h2 : Int) ≤ am_us h' + 49 → am_W m_X3_copy (am_ev am_prog (d + 12)) K 51 [some (.inr (.inl (Ns))), some (.inr (.inl (Z))), some (.inl (p)), o3] [.inr (.inl c), .inl p, .inr (.inl (am_fr h' 20 Z))] h2 := by
      intro h2 L2 c f2 le2 ok2 ln2 c0 cp ct z2 u2
      have kZ := (f2.2.2.2 Z x5.1.2.1).2.2 (fun z => z)
      have c1 := CpI_f0 x5 f2 le2 x3 cs'.1
      have cs2 := cs_fx f2 cs'
      have p3 := c1.2.2.2.2.1
      rw [kZ.2.1 20] at p3
      refine v_X3_copy_51 ?_
      rw [p3.1.1, p3.2.1]
      refine ⟨⟨rfl, ct, by omega⟩, by omega, ?_⟩
      have f3 : fx (fun q => q = am_fr h' 20 Z) h2 (am_sar h2 (am_fr h' 20 Z) p c) := fx_sar fx_refl (Or.inr rfl)
      have a3 : am_ar (am_sar h2 (am_fr h' 20 Z) p c) (am_fr h' 20 Z) = am_uz (am_ar h2 (am_fr h' 20 Z)) p c := x_arse
      have hX : ∀ q, q ≤ am_sz h2 → q = am_fr h' 20 Z → (L2 q).1 = Z ∧ (L2 q).2.1 = 3 := nd_one p3.1
      obtain ⟨⟨w0, wr, wp, wf⟩, w1, _, w6, w5, w4, w7, w8, w9, w10⟩ := CpI_gr 3 (by decide) c1 f3 (leL_refl (L := L2)) ok2 cs2.1 hX
      have z3 : am_sz (am_sar h2 (am_fr h' 20 Z) p c) = am_sz h2 := rfl
      have u3' : am_us (am_sar h2 (am_fr h' 20 Z) p c) = am_us h2 := rfl
      have g3 : capG (am_sar h2 (am_fr h' 20 Z) p c) Z = capG h2 Z := rfl
      have e2' := em_f f2 w.1.1 (fun z => z) em2
      have e5' := em_f f2 w.2.2.1.1 (fun z => z) em5
      have e6' := em_f f2 w.2.2.2.1.1 (fun z => z) em6
      have e8' := em_f f2 w.2.2.2.2.2.1.1 (fun z => z) em8
      rw [← kZ.2.1 22] at e2'
      rw [← kZ.2.1 25] at e5'
      rw [← kZ.2.1 26] at e6'
      rw [← kZ.2.1 28] at e8'
      have m2 : (am_fr (am_sar h2 (am_fr h' 20 Z) p c) 194 (am_fr (am_sar h2 (am_fr h' 20 Z) p c) 22 Z) = am_cs (am_sar h2 (am_fr h' 20 Z) p c) 0 ∧ am_fi (am_sar h2 (am_fr h' 20 Z) p c) 193 (am_fr (am_sar h2 (am_fr h' 20 Z) p c) 22 Z) = 0) := e2'
      have m5 : (am_fr (am_sar h2 (am_fr h' 20 Z) p c) 194 (am_fr (am_sar h2 (am_fr h' 20 Z) p c) 25 Z) = am_cs (am_sar h2 (am_fr h' 20 Z) p c) 0 ∧ am_fi (am_sar h2 (am_fr h' 20 Z) p c) 193 (am_fr (am_sar h2 (am_fr h' 20 Z) p c) 25 Z) = 0) := e5'
      have m6 : (am_fr (am_sar h2 (am_fr h' 20 Z) p c) 194 (am_fr (am_sar h2 (am_fr h' 20 Z) p c) 26 Z) = am_cs (am_sar h2 (am_fr h' 20 Z) p c) 0 ∧ am_fi (am_sar h2 (am_fr h' 20 Z) p c) 193 (am_fr (am_sar h2 (am_fr h' 20 Z) p c) 26 Z) = 0) := e6'
      have m8 : (am_fr (am_sar h2 (am_fr h' 20 Z) p c) 194 (am_fr (am_sar h2 (am_fr h' 20 Z) p c) 28 Z) = am_cs (am_sar h2 (am_fr h' 20 Z) p c) 0 ∧ am_fi (am_sar h2 (am_fr h' 20 Z) p c) 193 (am_fr (am_sar h2 (am_fr h' 20 Z) p c) 28 Z) = 0) := e8'
      have g2 : capG h2 Z = capG h' Z := capG_f f2 w.2.2.1.1 (fun z => z) (kZ.2.1 25)
      generalize am_sar h2 (am_fr h' 20 Z) p c = h3 at *
      have v1 := nd_fy f3 (leL_refl (L := L2)) p3.1
      have nd0 : ∀ q t k i, nd h2 L2 q t Z 3 k i → k ≠ 0 → ¬ (q = am_fr h' 20 Z) := fun q t k i n k0 => nd_kne n p3.1 k0
      have kp : ∀ j t, rPt h2 L2 Z S j t → rPt h3 L2 Z S j t := fun j t y => rPt_fz f3 leL_refl ok2 (fun q hq e => by rw [(hX q hq e).1]; exact Z0) rfl rfl y (nd0 _ _ _ _ y.1 (by decide)) (fun c3 => nd0 _ _ _ _ (y.2.2.2.2.2.2.2.2 c3).2.2.1 (by decide))
      have y3 : rP h3 L2 Z (am_fr h' 20 Z) (tP S (p + 1)) := by
        refine ⟨v1.1, v1.2.trans p3.2.1, fun j j0 j1 => ?_⟩
        rw [rPt_tP, tP_P, a3]
        by_cases e : j = p
        · rw [e, am_uz_eq]
          exact ⟨fun z => c0 (fun y => z ⟨y, by omega⟩), fun z => kp _ _ (cp z.1)⟩
        · rw [am_uz_ne e]
          have y := p3.2.2 j j0 j1
          rw [rPt_tP, tP_P] at y
          exact ⟨fun z => y.1 (fun u => z ⟨u.1, by omega⟩), fun z => kp _ _ (y.2 ⟨z.1, by omega⟩)⟩
      have fA : fx (fun q => q = am_fr h' 20 Z) h' h3 := fx_trans2 (fx_sub f2 (fun _ _ z => z.elim)) f3 (fun _ _ e => e)
      obtain ⟨k1, k2, k3⟩ := CpS_fr x1 x2 x4 ow fA le2 (fun q hq e => by rw [e, q3.1.2.2.2]) ln2
      refine hL h3 L2 ⟨k1, k2, okLb_fx f3 ok2, k3, ?_, by omega, by omega⟩ m2 m5 m6 m8 _
      refine CpI_mk (h := h2) w0 wr wp wf (w1 (by decide)) ?_ (w6 (by decide)) (w5 (by decide)) (w4 (by decide)) (w7 (by decide)) (w8 (by decide)) (w9 (by decide)) (w10 (by decide))
      rw [kZ.2.1 20]
      exact y3
    refine v_X3_copy_31 ?_
    rw [s3.2.1]
    refine ⟨⟨s1.1.1, s3.1.1⟩, fun z => absurd z (by omega), fun _ => ⟨⟨x5.1.1, by omega⟩, fun e => ?_, fun e => ?_⟩⟩
    · have ip : isP S p := Classical.byContradiction fun z => e (sp.1 z)
      have pt := sp.2 ip
      have ap := hA p ip
      refine ⟨pt.1.1, x_pcopy (N := Z) (by omega) x3 pt ap.1 ap.2.1 ap.2.2.1 ap.2.2.2.1 ap.2.2.2.2.2.2.2 (fun h2 L2 f2 le2 ok2 pn ln2 z2 u2 => am_av ?_)⟩
      exact put h2 L2 _ f2 le2 ok2 ln2 (fun z => absurd ip z) (fun _ => pn) (Or.inr pn.1.1) (by omega) (by omega)
    · have np : ¬ isP S p := fun z => (sp.2 z).1.2.2.1 e
      exact put h' L' 0 fx_refl leL_refl x3 (fun q hq => Or.inl (x3.2.2 q hq)) (fun _ => rfl) (fun z => absurd z np) (Or.inl rfl) (by omega) (by omega)
  · intro h' L' x em2 em5 em6 em8 o3
    obtain ⟨x1, x2, x3, x4, x5, x6, x7⟩ := x
    refine cp_62 (T6 := T6) (T5 := T5) (T4 := T4) (T7 := T7) (T8 := T8) (T9 := T9) (T10 := T10) hd ok cs rep hZ ow hC H hF hA hG hM hY f18 t6 t5 t4 t7 t9 h' L' ⟨x1, x2, x3, x4, ?_, by omega, by omega⟩ em2 em5 em6 em8 _
    obtain ⟨a0, ap, af, a1, a3, a6⟩ := x5
    refine ⟨a0, ap, af, a1, ⟨a3.1, a3.2.1, fun p p0 p1 => ?_⟩, a6⟩
    have y := a3.2.2 p p0 p1
    rw [rPt_tP, tP_P] at y
    exact ⟨fun z => y.1 (fun u => z u.1), fun z => y.2 ⟨z, p1⟩⟩
/-- the widths -/
theorem cp_12 {L : am_Lb} {Ns Z P : Nat} {S : am_G} {B : Int} {d : Nat} (hd : 30 ≤ d + 12) (ok : okLb h L) (cs : (am_ty h (am_cs h 0) = 134 ∧ am_cs h 0 ≤ am_sz h ∧ am_ln h (am_cs h 0) = 0)) (rep : Rep h L Ns P S B) (hZ : Z = am_sz h + 1) (ow : ∀ q, q ≤ am_sz h → (L q).1 ≠ Z) (hC : okC S) (H : ∀ h' L', fx (fun _ => False) h h' → leL h L L' → okLb h' L' → Rep h' L' Z P S 400 → (∀ q, am_sz h < q → (L' q).1 = 0 ∨ (L' q).1 = Z) → (am_sz h' : Int) ≤ am_sz h + 600 + S 0 0 4 + capG h' Z → (am_us h' : Int) ≤ am_us h + 9000 + 11 * S 0 0 4 + 5 * capG h' Z → K (.inl (some (.inr (.inl (Z))))) h') (hF : okF S) (hA : okA S) (hG : okG S) (hM : okM S) (hY : 0 ≤ S 0 0 2 ∧ S 0 0 2 ≤ 10) {T1 T3 : am_G} {T6 T5 T4 T7 T8 T9 T10 : am_G} {F : Nat → Int} (f18 : F 18 = S 0 0 0) (t6 : T6 0 0 2 = 0) (t5 : T5 0 0 3 = 0) (t4 : T4 0 0 4 = 0) (t7 : T7 0 0 5 = 0) (t9 : T9 0 0 6 = 0) (t3 : T3 0 0 1 = 0) : ∀ f, 0 ≤ f → f ≤ 2 → ∀ h' L', CpS h L Z P 25 288 F (tH S T1 f) T3 T6 T5 T4 T7 T8 T9 T10 h' L' → (am_fr h' 194 (am_fr h' 22 Z) = am_cs h' 0 ∧ am_fi h' 193 (am_fr h' 22 Z) = 0) → (am_fr h' 194 (am_fr h' 25 Z) = am_cs h' 0 ∧ am_fi h' 193 (am_fr h' 25 Z) = 0) → (am_fr h' 194 (am_fr h' 26 Z) = am_cs h' 0 ∧ am_fi h' 193 (am_fr h' 26 Z) = 0) → (am_fr h' 194 (am_fr h' 28 Z) = am_cs h' 0 ∧ am_fi h' 193 (am_fr h' 28 Z) = 0) → ∀ o3, am_W m_X3_copy (am_ev am_prog (d + 12)) K 12 [some (.inr (.inl (Ns))), some (.inr (.inl (Z))), some (.inl (f)), o3] [] h' := by
  refine lp_z ?_ ?_
  · intro f p0 p1 hL h' L' x em2 em5 em6 em8 o3
    obtain ⟨x1, x2, x3, x4, x5, x6, x7⟩ := x
    have rp := Rep_fx (Int.le_refl B) x1 x2 ok cs.1 (fun _ _ z => z.elim) rep
    have cs' := cs_fx x1 cs
    have s1 := rp.1
    have sw := rp.2.1
    have q1 := x5.2.2.2.1
    have sf := sw.2.2 f p0 p1
    have qf := q1.2.2 f p0 p1
    have w := x5.2.2.2.2.2
    refine v_X3_copy_12 ⟨fun z => absurd z (by omega), fun _ => ?_⟩
    rw [sw.2.1, q1.2.1, sf.2.2.1, qf.2.2.1]
    refine ⟨⟨s1.1.1, sw.1.1, by omega, x5.1.1, q1.1.1, by omega, Or.inl sf.1.1, qf.1.1, by omega⟩, by omega, ?_⟩
    have f3 : fx (fun q => q = am_ar h' (am_fr h' 19 Z) f) h' (am_wai h' (am_ar h' (am_fr h' 19 Z) f) (am_cpy (am_ai h' (am_ar h' (am_fr h' 19 Ns) f)) (am_ai h' (am_ar h' (am_fr h' 19 Z) f)) 0 0 27)) := fx_wai fx_refl (Or.inr rfl)
    have a3 : am_ai (am_wai h' (am_ar h' (am_fr h' 19 Z) f) (am_cpy (am_ai h' (am_ar h' (am_fr h' 19 Ns) f)) (am_ai h' (am_ar h' (am_fr h' 19 Z) f)) 0 0 27)) (am_ar h' (am_fr h' 19 Z) f) = am_cpy (am_ai h' (am_ar h' (am_fr h' 19 Ns) f)) (am_ai h' (am_ar h' (am_fr h' 19 Z) f)) 0 0 27 := x_aiwe
    have r3 : am_ar (am_wai h' (am_ar h' (am_fr h' 19 Z) f) (am_cpy (am_ai h' (am_ar h' (am_fr h' 19 Ns) f)) (am_ai h' (am_ar h' (am_fr h' 19 Z) f)) 0 0 27)) = am_ar h' := rfl
    have z3 : am_sz (am_wai h' (am_ar h' (am_fr h' 19 Z) f) (am_cpy (am_ai h' (am_ar h' (am_fr h' 19 Ns) f)) (am_ai h' (am_ar h' (am_fr h' 19 Z) f)) 0 0 27)) = am_sz h' := rfl
    have u3' : am_us (am_wai h' (am_ar h' (am_fr h' 19 Z) f) (am_cpy (am_ai h' (am_ar h' (am_fr h' 19 Ns) f)) (am_ai h' (am_ar h' (am_fr h' 19 Z) f)) 0 0 27)) = am_us h' := rfl
    have g3 : capG (am_wai h' (am_ar h' (am_fr h' 19 Z) f) (am_cpy (am_ai h' (am_ar h' (am_fr h' 19 Ns) f)) (am_ai h' (am_ar h' (am_fr h' 19 Z) f)) 0 0 27)) Z = capG h' Z := rfl
    have m2 : (am_fr (am_wai h' (am_ar h' (am_fr h' 19 Z) f) (am_cpy (am_ai h' (am_ar h' (am_fr h' 19 Ns) f)) (am_ai h' (am_ar h' (am_fr h' 19 Z) f)) 0 0 27)) 194 (am_fr (am_wai h' (am_ar h' (am_fr h' 19 Z) f) (am_cpy (am_ai h' (am_ar h' (am_fr h' 19 Ns) f)) (am_ai h' (am_ar h' (am_fr h' 19 Z) f)) 0 0 27)) 22 Z) = am_cs (am_wai h' (am_ar h' (am_fr h' 19 Z) f) (am_cpy (am_ai h' (am_ar h' (am_fr h' 19 Ns) f)) (am_ai h' (am_ar h' (am_fr h' 19 Z) f)) 0 0 27)) 0 ∧ am_fi (am_wai h' (am_ar h' (am_fr h' 19 Z) f) (am_cpy (am_ai h' (am_ar h' (am_fr h' 19 Ns) f)) (am_ai h' (am_ar h' (am_fr h' 19 Z) f)) 0 0 27)) 193 (am_fr (am_wai h' (am_ar h' (am_fr h' 19 Z) f) (am_cpy (am_ai h' (am_ar h' (am_fr h' 19 Ns) f)) (am_ai h' (am_ar h' (am_fr h' 19 Z) f)) 0 0 27)) 22 Z) = 0) := em2
    have m5 : (am_fr (am_wai h' (am_ar h' (am_fr h' 19 Z) f) (am_cpy (am_ai h' (am_ar h' (am_fr h' 19 Ns) f)) (am_ai h' (am_ar h' (am_fr h' 19 Z) f)) 0 0 27)) 194 (am_fr (am_wai h' (am_ar h' (am_fr h' 19 Z) f) (am_cpy (am_ai h' (am_ar h' (am_fr h' 19 Ns) f)) (am_ai h' (am_ar h' (am_fr h' 19 Z) f)) 0 0 27)) 25 Z) = am_cs (am_wai h' (am_ar h' (am_fr h' 19 Z) f) (am_cpy (am_ai h' (am_ar h' (am_fr h' 19 Ns) f)) (am_ai h' (am_ar h' (am_fr h' 19 Z) f)) 0 0 27)) 0 ∧ am_fi (am_wai h' (am_ar h' (am_fr h' 19 Z) f) (am_cpy (am_ai h' (am_ar h' (am_fr h' 19 Ns) f)) (am_ai h' (am_ar h' (am_fr h' 19 Z) f)) 0 0 27)) 193 (am_fr (am_wai h' (am_ar h' (am_fr h' 19 Z) f) (am_cpy (am_ai h' (am_ar h' (am_fr h' 19 Ns) f)) (am_ai h' (am_ar h' (am_fr h' 19 Z) f)) 0 0 27)) 25 Z) = 0) := em5
    have m6 : (am_fr (am_wai h' (am_ar h' (am_fr h' 19 Z) f) (am_cpy (am_ai h' (am_ar h' (am_fr h' 19 Ns) f)) (am_ai h' (am_ar h' (am_fr h' 19 Z) f)) 0 0 27)) 194 (am_fr (am_wai h' (am_ar h' (am_fr h' 19 Z) f) (am_cpy (am_ai h' (am_ar h' (am_fr h' 19 Ns) f)) (am_ai h' (am_ar h' (am_fr h' 19 Z) f)) 0 0 27)) 26 Z) = am_cs (am_wai h' (am_ar h' (am_fr h' 19 Z) f) (am_cpy (am_ai h' (am_ar h' (am_fr h' 19 Ns) f)) (am_ai h' (am_ar h' (am_fr h' 19 Z) f)) 0 0 27)) 0 ∧ am_fi (am_wai h' (am_ar h' (am_fr h' 19 Z) f) (am_cpy (am_ai h' (am_ar h' (am_fr h' 19 Ns) f)) (am_ai h' (am_ar h' (am_fr h' 19 Z) f)) 0 0 27)) 193 (am_fr (am_wai h' (am_ar h' (am_fr h' 19 Z) f) (am_cpy (am_ai h' (am_ar h' (am_fr h' 19 Ns) f)) (am_ai h' (am_ar h' (am_fr h' 19 Z) f)) 0 0 27)) 26 Z) = 0) := em6
    have m8 : (am_fr (am_wai h' (am_ar h' (am_fr h' 19 Z) f) (am_cpy (am_ai h' (am_ar h' (am_fr h' 19 Ns) f)) (am_ai h' (am_ar h' (am_fr h' 19 Z) f)) 0 0 27)) 194 (am_fr (am_wai h' (am_ar h' (am_fr h' 19 Z) f) (am_cpy (am_ai h' (am_ar h' (am_fr h' 19 Ns) f)) (am_ai h' (am_ar h' (am_fr h' 19 Z) f)) 0 0 27)) 28 Z) = am_cs (am_wai h' (am_ar h' (am_fr h' 19 Z) f) (am_cpy (am_ai h' (am_ar h' (am_fr h' 19 Ns) f)) (am_ai h' (am_ar h' (am_fr h' 19 Z) f)) 0 0 27)) 0 ∧ am_fi (am_wai h' (am_ar h' (am_fr h' 19 Z) f) (am_cpy (am_ai h' (am_ar h' (am_fr h' 19 Ns) f)) (am_ai h' (am_ar h' (am_fr h' 19 Z) f)) 0 0 27)) 193 (am_fr (am_wai h' (am_ar h' (am_fr h' 19 Z) f) (am_cpy (am_ai h' (am_ar h' (am_fr h' 19 Ns) f)) (am_ai h' (am_ar h' (am_fr h' 19 Z) f)) 0 0 27)) 28 Z) = 0) := em8
    generalize am_wai h' (am_ar h' (am_fr h' 19 Z) f) (am_cpy (am_ai h' (am_ar h' (am_fr h' 19 Ns) f)) (am_ai h' (am_ar h' (am_fr h' 19 Z) f)) 0 0 27) = h3 at *
    have hX : ∀ q, q ≤ am_sz h' → q = am_ar h' (am_fr h' 19 Z) f → (L' q).1 = Z ∧ (L' q).2.1 = 1 := nd_one qf.1
    obtain ⟨⟨w0, wr, wp, wf⟩, _, w3, w6, w5, w4, w7, w8, w9, w10⟩ := CpI_gr 1 (by decide) x5 f3 (leL_refl (L := L')) x3 cs'.1 hX
    have v1 := nd_fy f3 (leL_refl (L := L')) q1.1
    have y1 : rW h3 L' Z (am_fr h' 19 Z) (tH S T1 (f + 1)) := by
      refine ⟨v1.1, v1.2.trans q1.2.1, fun j j0 j1 => ?_⟩
      rw [r3]
      have qj := q1.2.2 j j0 j1
      have nj := nd_fy f3 (leL_refl (L := L')) qj.1
      refine ⟨nj.1, nj.1.1, nj.2.trans qj.2.2.1, fun i i0 i1 => ?_, nj.1.2.1⟩
      by_cases e : j = f
      · rw [e, a3, tH_lt (by omega)]
        unfold am_cpy
        rw [if_pos (by omega)]
        have e0 : (0 + (i - 0) : Int) = i := by omega
        rw [e0]
        exact sf.2.2.2.1 i i0 i1
      · have ne : am_ar h' (am_fr h' 19 Z) j ≠ am_ar h' (am_fr h' 19 Z) f := fun e2 => by
          have a := qj.1.2.2.2
          rw [e2, qf.1.2.2.2] at a
          injection a with _ a
          injection a with _ a
          injection a with _ a
          exact e a.symm
        rw [((f3.2.2.2 _ qj.1.2.1).2.2 ne).2.2.1, tH_s e]
        exact qj.2.2.2.1 i i0 i1
    obtain ⟨k1, k2, k3⟩ := CpS_fr x1 x2 x4 ow f3 (leL_refl (L := L')) (fun q hq e => (hX q hq e).1) (fun q hq => Or.inl (x3.2.2 q hq))
    exact hL h3 L' ⟨k1, k2, okLb_fx f3 x3, k3, CpI_mk w0 wr wp wf y1 (w3 (by decide)) (w6 (by decide)) (w5 (by decide)) (w4 (by decide)) (w7 (by decide)) (w8 (by decide)) (w9 (by decide)) (w10 (by decide)), by omega, by omega⟩ m2 m5 m6 m8 _
  · intro h' L' x em2 em5 em6 em8 o3
    obtain ⟨x1, x2, x3, x4, x5, x6, x7⟩ := x
    refine v_X3_copy_12 ⟨fun _ => ?_, fun z => absurd z (by decide)⟩
    refine cp_31 (T6 := T6) (T5 := T5) (T4 := T4) (T7 := T7) (T8 := T8) (T9 := T9) (T10 := T10) hd ok cs rep hZ ow hC H hF hA hG hM hY f18 t6 t5 t4 t7 t9 0 (by decide) (by decide) h' L' ⟨x1, x2, x3, x4, ?_, by omega, by omega⟩ em2 em5 em6 em8 _
    obtain ⟨a0, ap, af, a1, a3, a6⟩ := x5
    refine ⟨a0, ap, af, ⟨a1.1, a1.2.1, fun f f0 f1 => ?_⟩, ⟨a3.1, a3.2.1, fun p p0 p1 => ⟨fun _ => (a3.2.2 p p0 p1).1 (fun z => ?_), fun z => ?_⟩⟩, a6⟩
    · have y := a1.2.2 f f0 f1
      rw [tH_lt f1] at y
      exact y
    · have := z.2.1
      rw [t3] at this
      exact absurd z.1 (by omega)
    · exact absurd (tP_P.1 z).2 (by omega)
/-- a night is copied -/
theorem x_copy {L : am_Lb} {Ns P : Nat} {S : am_G} {B : Int} {D : Nat} (hD : 40 ≤ D) (ok : okLb h L) (cs : (am_ty h (am_cs h 0) = 134 ∧ am_cs h 0 ≤ am_sz h ∧ am_ln h (am_cs h 0) = 0)) (rep : Rep h L Ns P S B) (ow : ∀ q, (L q).1 ≤ am_sz h) (hC : okC S) (hF : okF S) (hA : okA S) (hG : okG S) (hM : okM S) (hY : 0 ≤ S 0 0 2 ∧ S 0 0 2 ≤ 10) (H : ∀ h' L', fx (fun _ => False) h h' → leL h L L' → okLb h' L' → Rep h' L' (am_sz h + 1) P S 400 → (∀ q, am_sz h < q → (L' q).1 = 0 ∨ (L' q).1 = am_sz h + 1) → (am_sz h' : Int) ≤ am_sz h + 600 + S 0 0 4 + capG h' (am_sz h + 1) → (am_us h' : Int) ≤ am_us h + 9000 + 11 * S 0 0 4 + 5 * capG h' (am_sz h + 1) → K (.inl (some (.inr (.inl (am_sz h + 1))))) h') : am_ev am_prog D 100 [.inr (.inl Ns)] h K := by
  have s1 := rep.1
  obtain ⟨d, rfl⟩ : ∃ d, D = d + 13 := ⟨D - 13, by omega⟩
  refine am_en p_X3_copy rfl rfl ?_
  refine v_X3_copy_0 ⟨⟨s1.1.2.1, s1.1.1⟩, ?_⟩
  rw [s1.2.1]
  have f0 : fx (fun _ => False) h (am_new h 3 16) := fx0_new
  have ty : am_ty (am_new h 3 16) (am_sz h + 1) = 3 := x_tyn0 rfl
  have le1 : leL h L (lbA L h (am_sz h + 1) (am_sz h + 1, 0, 0, 0)) := fun q hq => if_neg (fun y => absurd y.2 (by omega))
  have ok1 : okLb (am_new h 3 16) (lbA L h (am_sz h + 1) (am_sz h + 1, 0, 0, 0)) := okLb_lb ok f0 ⟨by omega, Nat.le_refl _⟩ (by rw [ty]; unfold imT; omega)
  have lq : lbA L h (am_sz h + 1) (am_sz h + 1, 0, 0, 0) (am_sz h + 1) = (am_sz h + 1, 0, 0, 0) := if_pos ⟨rfl, by omega⟩
  have ln1 : ∀ q, am_sz h < q → (lbA L h (am_sz h + 1) (am_sz h + 1, 0, 0, 0) q).1 = 0 ∨ (lbA L h (am_sz h + 1) (am_sz h + 1, 0, 0, 0) q).1 = am_sz h + 1 := lbA_n (h' := h) ok
  have owh : ∀ q, q ≤ am_sz h → (L q).1 ≠ am_sz h + 1 := fun q _ e => by
    have := ow q
    omega
  generalize lbA L h (am_sz h + 1) (am_sz h + 1, 0, 0, 0) = L1 at le1 ok1 lq ln1
  refine x_ninit (L := L1) (by omega) ⟨ty, Nat.le_refl _, by omega, lq⟩ ok1 (cs_fx f0 cs) (fun f => x_fin0 rfl) (fun h1 f1 ok2 ci em z1 u1 => am_an (v_X3_copy_5 ?_))
  have zz : am_sz (am_new h 3 16) = am_sz h + 1 := rfl
  have uu : am_us (am_new h 3 16) = am_us h + 16 := rfl
  have f01 : fx (fun _ => False) h h1 := fx_trans2 f0 f1 (fun q hq e => absurd hq (by omega))
  have le2 : leL h L (lbN L1 (am_new h 3 16) (am_sz h + 1)) := fun q hq => (lbN_o (by omega)).trans (le1 q hq)
  have ln2 : ∀ q, am_sz h < q → (lbN L1 (am_new h 3 16) (am_sz h + 1) q).1 = 0 ∨ (lbN L1 (am_new h 3 16) (am_sz h + 1) q).1 = am_sz h + 1 := fun q hq => by
    by_cases c : q ≤ am_sz (am_new h 3 16)
    · rw [lbN_o c]
      exact ln1 q hq
    · unfold lbN
      rw [if_pos (by omega)]
      exact lbT_o
  generalize lbN L1 (am_new h 3 16) (am_sz h + 1) = L2 at ok2 ci le2 ln2
  have kN := f01.2.2.2 Ns s1.1.2.1
  have e18 : am_fi h1 18 Ns = S 0 0 0 := ((kN.2.2 (fun z => z)).1 18).trans s1.2.2.1
  rw [e18]
  refine ⟨⟨kN.1.trans s1.1.1, ci.1.1⟩, ?_⟩
  have cs1 := cs_fx f01 cs
  have c1 := CpI_num (f := 18) (v := S 0 0 0) (CpI_B (B' := 400) (by decide) ci ok2 cs1.1) ok2 cs1.1
  have fN : fx (fun q => q = am_sz h + 1) h1 (am_sfi h1 18 (am_sz h + 1) (S 0 0 0)) := fx_sfi fx_refl (Or.inr rfl)
  have emN : ∀ f, f = 22 ∨ f = 25 ∨ f = 26 ∨ f = 28 → am_fr (am_sfi h1 18 (am_sz h + 1) (S 0 0 0)) 194 (am_fr (am_sfi h1 18 (am_sz h + 1) (S 0 0 0)) f (am_sz h + 1)) = am_cs (am_sfi h1 18 (am_sz h + 1) (S 0 0 0)) 0 ∧ am_fi (am_sfi h1 18 (am_sz h + 1) (S 0 0 0)) 193 (am_fr (am_sfi h1 18 (am_sz h + 1) (S 0 0 0)) f (am_sz h + 1)) = 0 := fun f hf => ⟨(em f hf).1, (x_fif (by decide)).trans (em f hf).2⟩
  have zN : am_sz (am_sfi h1 18 (am_sz h + 1) (S 0 0 0)) = am_sz h1 := rfl
  have uN : am_us (am_sfi h1 18 (am_sz h + 1) (S 0 0 0)) = am_us h1 := rfl
  generalize am_sfi h1 18 (am_sz h + 1) (S 0 0 0) = hN at *
  obtain ⟨k1, k2, k3⟩ := CpS_fr f01 le2 ln2 owh fN (leL_refl (L := L2)) (fun q hq e => by rw [e, ci.1.2.2.2]) (fun q hq => Or.inl (ok2.2.2 q hq))
  have g0 : 0 ≤ capG hN (am_sz h + 1) := by
    have r := c1.2.2.2.2.2.2.2.1.1.1.1.2.2.1
    unfold capG
    omega
  refine cp_12 (T1 := nt0) (T3 := nt0) (T6 := nt0) (T5 := nt0) (T4 := nt0) (T7 := nt0) (T8 := nt0) (T9 := nt0) (T10 := nt0) (by omega) ok cs rep rfl owh hC H hF hA hG hM hY (F := am_up (fun _ => 0) 18 (S 0 0 0)) am_up_eq rfl rfl rfl rfl rfl rfl 0 (by decide) (by decide) hN L2 ⟨k1, k2, okLb_fx fN ok2, k3, ?_, by omega, by omega⟩ (emN 22 (by decide)) (emN 25 (by decide)) (emN 26 (by decide)) (emN 28 (by decide)) _
  obtain ⟨a0, ap, af, a1, a3⟩ := c1
  refine ⟨a0, ap, af, ⟨a1.1, a1.2.1, fun f f0 f1 => ?_⟩, a3⟩
  rw [tH_ge f0]
  exact a1.2.2 f f0 f1
end
