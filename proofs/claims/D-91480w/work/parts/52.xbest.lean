set_option maxRecDepth 100000
/-- the paper's rows of numbers -/
def xScr (h : am_H) (r : Nat) : Prop := (am_ty h (am_fr h 12 r) = 101 ∧ am_ln h (am_fr h 12 r) = 41 ∧ am_fr h 12 r ≤ am_sz h) ∧ (am_ty h (am_fr h 13 r) = 101 ∧ am_ln h (am_fr h 13 r) = 41 ∧ am_fr h 13 r ≤ am_sz h) ∧ (am_ty h (am_fr h 14 r) = 101 ∧ am_ln h (am_fr h 14 r) = 41 ∧ am_fr h 14 r ≤ am_sz h) ∧ (am_fr h 12 r ≠ am_fr h 13 r ∧ am_fr h 12 r ≠ am_fr h 14 r ∧ am_fr h 13 r ≠ am_fr h 14 r) ∧ (am_fr h 12 r ≠ am_fr h 7 r ∧ am_fr h 13 r ≠ am_fr h 7 r ∧ am_fr h 14 r ≠ am_fr h 7 r)
def xXs (h : am_H) (r q : Nat) : Prop := q = am_fr h 12 r ∨ q = am_fr h 13 r ∨ q = am_fr h 14 r
/-- the rows hold the table from a on -/
def xTb (h : am_H) (s l t : Nat) (T : Int → Int × Int × Int) (a n : Int) : Prop := ∀ j, a ≤ j → j ≤ n → am_ai h s j = (T j).1 ∧ ((T j).1 ≠ -1 → am_ai h l j = (T j).2.1 ∧ (j < n → am_ai h t j = (T j).2.2 - 1))
section
variable {K : am_K} {h : am_H}
theorem xXs_ok {r : Nat} {v w : Int → Int} {me le mo co : Int} (hx : xPp h r v w me le mo co) (hs : xScr h r) : ∀ q, xXs h r q → am_ty h q = 101 ∧ q ≠ am_fr h 7 r := by
  obtain ⟨s1, s2, s3, s4, s5⟩ := hs
  intro q z
  rcases z with z | z | z
  · rw [z]
    exact ⟨s1.1, s5.1⟩
  · rw [z]
    exact ⟨s2.1, s5.2.1⟩
  · rw [z]
    exact ⟨s3.1, s5.2.2⟩
theorem x_best_in {r : Nat} {v w : Int → Int} {me le mo co : Int} {a i : Int} {d : Nat} (hd : 15 ≤ d + 12) (ho : okP v) (hw : okW w) (hn : okN v) (hx : xPp h r v w me le mo co) (hme : 0 ≤ me ∧ me ≤ 400) (hle : 0 ≤ le ∧ le ≤ 40) (hmo : 0 ≤ mo ∧ mo ≤ 40) (hco : 0 ≤ co ∧ co ≤ 999) (hs : xScr h r) (hi : 0 ≤ i ∧ i < v 1)
    (H : ∀ h' o4 o5 o6, fx (xXs h r) h h' → am_sz h' = am_sz h → am_us h' = am_us h → xTb h' (am_fr h 12 r) (am_fr h 13 r) (am_fr h 14 r) (tb v w me le mo co (v 1) (v 1).toNat) i (v 1) → am_W m_X2_best (am_ev am_prog (d + 12)) K 17 [some (.inr (.inl (r))), some (.inl (a)), some (.inl (v 1)), some (.inl (i + (-1))), o4, o5, o6] [] h') :
    ∀ j, i ≤ j → j ≤ v 1 → ∀ h' o5 o6, fx (xXs h r) h h' → am_sz h' = am_sz h → am_us h' = am_us h → xTb h' (am_fr h 12 r) (am_fr h 13 r) (am_fr h 14 r) (tb v w me le mo co (v 1) (v 1).toNat) (i + 1) (v 1) → opt (fun q => q ≤ j ∧ i < q ∧ ((tb v w me le mo co (v 1) (v 1).toNat) q).1 ≠ -1 ∧ stn v w me le mo i (q - 1)) (fun q => ((tb v w me le mo co (v 1) (v 1).toNat) q).1 + bdn v w me le co i (q - 1)) (fun q => ((tb v w me le mo co (v 1) (v 1).toNat) q).2.1 + 1) (am_ai h' (am_fr h 12 r) i, am_ai h' (am_fr h 13 r) i, am_ai h' (am_fr h 14 r) i + 1) → am_W m_X2_best (am_ev am_prog (d + 12)) K 27 [some (.inr (.inl (r))), some (.inl (a)), some (.inl (v 1)), some (.inl (i)), some (.inl (j)), o5, o6] [] h' := by
  have h1 := ho.1
  have bT := tb_bd ho hw (mo := mo) hme hle hco (n := v 1) (by omega) (v 1).toNat (by omega)
  obtain ⟨s1, s2, s3, s4, s5⟩ := hs
  have hs' : xScr h r := ⟨s1, s2, s3, s4, s5⟩
  have hX := xXs_ok hx hs'
  refine lp_z ?_ ?_
  · intro j g1 g2 hL h' o5 o6 hf hz hu ht hq
    have px := xPp_fx hf hX hx
    have e12 : am_fr h' 12 r = (am_fr h 12 r) := px.2 12
    have e13 : am_fr h' 13 r = (am_fr h 13 r) := px.2 13
    have e14 : am_fr h' 14 r = (am_fr h 14 r) := px.2 14
    have f1 := hf.2.2.2 _ s1.2.2
    have f2 := hf.2.2.2 _ s2.2.2
    have f3 := hf.2.2.2 _ s3.2.2
    have t1 : am_ty h' (am_fr h 12 r) = 101 := f1.1.trans s1.1
    have t2 : am_ty h' (am_fr h 13 r) = 101 := f2.1.trans s2.1
    have t3 : am_ty h' (am_fr h 14 r) = 101 := f3.1.trans s3.1
    have l1 : am_ln h' (am_fr h 12 r) = 41 := f1.2.1.trans s1.2.1
    have l2 : am_ln h' (am_fr h 13 r) = 41 := f2.2.1.trans s2.2.1
    have l3 : am_ln h' (am_fr h 14 r) = 41 := f3.2.1.trans s3.2.1
    have tj := ht (j + 1) (by omega) (by omega)
    have bj := bT (j + 1) (by omega) (by omega)
    have skip : ¬ (((tb v w me le mo co (v 1) (v 1).toNat) (j + 1)).1 ≠ -1 ∧ stn v w me le mo i (j + 1 - 1)) → opt (fun q => q ≤ j + 1 ∧ i < q ∧ ((tb v w me le mo co (v 1) (v 1).toNat) q).1 ≠ -1 ∧ stn v w me le mo i (q - 1)) (fun q => ((tb v w me le mo co (v 1) (v 1).toNat) q).1 + bdn v w me le co i (q - 1)) (fun q => ((tb v w me le mo co (v 1) (v 1).toNat) q).2.1 + 1) (am_ai h' (am_fr h 12 r) i, am_ai h' (am_fr h 13 r) i, am_ai h' (am_fr h 14 r) i + 1) := by
      intro c
      have eq : ∀ q, (q ≤ j + 1 ∧ i < q ∧ ((tb v w me le mo co (v 1) (v 1).toNat) q).1 ≠ -1 ∧ stn v w me le mo i (q - 1)) → (q ≤ j ∧ i < q ∧ ((tb v w me le mo co (v 1) (v 1).toNat) q).1 ≠ -1 ∧ stn v w me le mo i (q - 1)) := by
        intro q z
        by_cases e : q = j + 1
        · subst e
          exact absurd z.2.2 c
        · exact ⟨by have := z.1; omega, z.2⟩
      rcases hq with ⟨q1, q2⟩ | ⟨q1, q2, q3, q4, q5⟩
      · exact Or.inl ⟨q1, fun q z => q2 q (eq q z)⟩
      · exact Or.inr ⟨q1, ⟨by have := q2.1; omega, q2.2⟩, q3, q4, fun q z => q5 q (eq q z)⟩
    refine v_X2_best_27 ⟨fun c => absurd c (by omega), fun _ => ⟨⟨px.1.1, by omega, by rw [e12]; exact Or.inl t1, by rw [e12, l1]; omega⟩, ?_⟩⟩
    rw [e12]
    refine ⟨fun c => ?_, fun c => ?_⟩
    · refine hL h' _ _ hf hz hu ht (skip (fun z => ?_))
      rcases bj with bj | bj
      · exact z.1 bj
      · have := tj.1
        omega
    have c1 : ((tb v w me le mo co (v 1) (v 1).toNat) (j + 1)).1 ≠ -1 := by have := tj.1; omega
    have tj2 := tj.2 c1
    rcases bj with bj | ⟨bj1, bj2, bj3⟩
    · exact absurd bj c1
    have ej : j + 1 - 1 = j := by omega
    refine x_stands (by omega) ho hw hn px.1 hme hle hmo hi.1 g1 g2 (am_av ?_)
    refine v_X2_best_41 ⟨fun c2 => ⟨px.1.1, ?_⟩, fun c2 => ⟨by omega, ?_⟩⟩
    · have c3 := am_b1 c2
      have bb := bdn_bd ho hw (mo := mo) hme hle hco hi.1 g1 (by omega) c3
      refine x_badness (by omega) ho hw hn px.1 hme hle hco hi.1 g1 g2 (am_av ?_)
      have upd : (∀ q, (q ≤ j ∧ i < q ∧ ((tb v w me le mo co (v 1) (v 1).toNat) q).1 ≠ -1 ∧ stn v w me le mo i (q - 1)) → ((tb v w me le mo co (v 1) (v 1).toNat) (j + 1)).1 + bdn v w me le co i j < ((tb v w me le mo co (v 1) (v 1).toNat) q).1 + bdn v w me le co i (q - 1) ∨ (((tb v w me le mo co (v 1) (v 1).toNat) (j + 1)).1 + bdn v w me le co i j = ((tb v w me le mo co (v 1) (v 1).toNat) q).1 + bdn v w me le co i (q - 1) ∧ (((tb v w me le mo co (v 1) (v 1).toNat) (j + 1)).2.1 + 1 ≤ ((tb v w me le mo co (v 1) (v 1).toNat) q).2.1 + 1))) → am_W m_X2_best (am_ev am_prog (d + 12)) K 27 [some (.inr (.inl (r))), some (.inl (a)), some (.inl (v 1)), some (.inl (i)), some (.inl (j + 1)), some (.inl (bdn v w me le co i j + am_ai h' (am_fr h 12 r) (j + 1))), some (.inl (1 + am_ai h' (am_fr h 13 r) (j + 1)))] [] (am_sai (am_sai (am_sai h' (am_fr h 12 r) i (bdn v w me le co i j + am_ai h' (am_fr h 12 r) (j + 1))) (am_fr h 13 r) i (1 + am_ai h' (am_fr h 13 r) (j + 1))) (am_fr h 14 r) i j) := by
        intro z
        have a1 : am_ai (am_sai (am_sai (am_sai h' (am_fr h 12 r) i (bdn v w me le co i j + am_ai h' (am_fr h 12 r) (j + 1))) (am_fr h 13 r) i (1 + am_ai h' (am_fr h 13 r) (j + 1))) (am_fr h 14 r) i j) (am_fr h 12 r) = am_uz (am_ai h' (am_fr h 12 r)) i (bdn v w me le co i j + am_ai h' (am_fr h 12 r) (j + 1)) := by
          rw [x_ais s4.2.1, x_ais s4.1, x_aise]
        have a2 : am_ai (am_sai (am_sai (am_sai h' (am_fr h 12 r) i (bdn v w me le co i j + am_ai h' (am_fr h 12 r) (j + 1))) (am_fr h 13 r) i (1 + am_ai h' (am_fr h 13 r) (j + 1))) (am_fr h 14 r) i j) (am_fr h 13 r) = am_uz (am_ai h' (am_fr h 13 r)) i (1 + am_ai h' (am_fr h 13 r) (j + 1)) := by
          rw [x_ais s4.2.2, x_aise, x_ais (Ne.symm s4.1)]
        have a3 : am_ai (am_sai (am_sai (am_sai h' (am_fr h 12 r) i (bdn v w me le co i j + am_ai h' (am_fr h 12 r) (j + 1))) (am_fr h 13 r) i (1 + am_ai h' (am_fr h 13 r) (j + 1))) (am_fr h 14 r) i j) (am_fr h 14 r) = am_uz (am_ai h' (am_fr h 14 r)) i j := by
          rw [x_aise, x_ais (Ne.symm s4.2.2), x_ais (Ne.symm s4.2.1)]
        refine hL _ _ _ (fx_sai (fx_sai (fx_sai hf (Or.inr (Or.inl rfl))) (Or.inr (Or.inr (Or.inl rfl)))) (Or.inr (Or.inr (Or.inr rfl)))) hz hu ?_ ?_
        · intro q k1 k2
          rw [a1, a2, a3, am_uz_ne (by omega), am_uz_ne (by omega), am_uz_ne (by omega)]
          exact ht q k1 k2
        · rw [a1, a2, a3, am_uz_eq, am_uz_eq, am_uz_eq, tj.1, tj2.1]
          refine Or.inr ⟨?_, ⟨by show j + 1 ≤ j + 1; omega, by show i < j + 1; omega, c1, by show stn v w me le mo i (j + 1 - 1); rw [ej]; exact c3⟩, ?_, ?_, ?_⟩
          · show 0 ≤ bdn v w me le co i j + ((tb v w me le mo co (v 1) (v 1).toNat) (j + 1)).1
            omega
          · show bdn v w me le co i j + ((tb v w me le mo co (v 1) (v 1).toNat) (j + 1)).1 = ((tb v w me le mo co (v 1) (v 1).toNat) (j + 1)).1 + bdn v w me le co i (j + 1 - 1)
            rw [ej]
            omega
          · show 1 + ((tb v w me le mo co (v 1) (v 1).toNat) (j + 1)).2.1 = ((tb v w me le mo co (v 1) (v 1).toNat) (j + 1)).2.1 + 1
            omega
          · intro q y
            show bdn v w me le co i j + ((tb v w me le mo co (v 1) (v 1).toNat) (j + 1)).1 < ((tb v w me le mo co (v 1) (v 1).toNat) q).1 + bdn v w me le co i (q - 1) ∨ (bdn v w me le co i j + ((tb v w me le mo co (v 1) (v 1).toNat) (j + 1)).1 = ((tb v w me le mo co (v 1) (v 1).toNat) q).1 + bdn v w me le co i (q - 1) ∧ (1 + ((tb v w me le mo co (v 1) (v 1).toNat) (j + 1)).2.1 < ((tb v w me le mo co (v 1) (v 1).toNat) q).2.1 + 1 ∨ (1 + ((tb v w me le mo co (v 1) (v 1).toNat) (j + 1)).2.1 = ((tb v w me le mo co (v 1) (v 1).toNat) q).2.1 + 1 ∧ q ≤ j + 1)))
            by_cases e : q = j + 1
            · subst e
              rw [ej]
              omega
            · have y1 := y.1
              have zz := z q ⟨by omega, y.2⟩
              omega
      have keep : (0 ≤ am_ai h' (am_fr h 12 r) i ∧ (am_ai h' (am_fr h 12 r) i < ((tb v w me le mo co (v 1) (v 1).toNat) (j + 1)).1 + bdn v w me le co i j ∨ (((tb v w me le mo co (v 1) (v 1).toNat) (j + 1)).1 + bdn v w me le co i j = am_ai h' (am_fr h 12 r) i ∧ am_ai h' (am_fr h 13 r) i < ((tb v w me le mo co (v 1) (v 1).toNat) (j + 1)).2.1 + 1))) → ∀ o5 o6, am_W m_X2_best (am_ev am_prog (d + 12)) K 27 [some (.inr (.inl (r))), some (.inl (a)), some (.inl (v 1)), some (.inl (i)), some (.inl (j + 1)), o5, o6] [] h' := by
        intro z o5 o6
        refine hL h' _ _ hf hz hu ht ?_
        rcases hq with ⟨q1, q2⟩ | ⟨q1, q2, q3, q4, q5⟩
        · have q1' : am_ai h' (am_fr h 12 r) i = -1 := q1
          omega
        · refine Or.inr ⟨q1, ⟨by have := q2.1; omega, q2.2⟩, q3, q4, fun q y => ?_⟩
          by_cases e : q = j + 1
          · subst e
            show am_ai h' (am_fr h 12 r) i < ((tb v w me le mo co (v 1) (v 1).toNat) (j + 1)).1 + bdn v w me le co i (j + 1 - 1) ∨ (am_ai h' (am_fr h 12 r) i = ((tb v w me le mo co (v 1) (v 1).toNat) (j + 1)).1 + bdn v w me le co i (j + 1 - 1) ∧ (am_ai h' (am_fr h 13 r) i < ((tb v w me le mo co (v 1) (v 1).toNat) (j + 1)).2.1 + 1 ∨ (am_ai h' (am_fr h 13 r) i = ((tb v w me le mo co (v 1) (v 1).toNat) (j + 1)).2.1 + 1 ∧ j + 1 ≤ am_ai h' (am_fr h 14 r) i + 1)))
            rw [ej]
            omega
          · exact q5 q ⟨by have := y.1; omega, y.2⟩
      have opt1 : 0 ≤ am_ai h' (am_fr h 12 r) i → (∀ q, (q ≤ j ∧ i < q ∧ ((tb v w me le mo co (v 1) (v 1).toNat) q).1 ≠ -1 ∧ stn v w me le mo i (q - 1)) → am_ai h' (am_fr h 12 r) i < ((tb v w me le mo co (v 1) (v 1).toNat) q).1 + bdn v w me le co i (q - 1) ∨ (am_ai h' (am_fr h 12 r) i = ((tb v w me le mo co (v 1) (v 1).toNat) q).1 + bdn v w me le co i (q - 1) ∧ am_ai h' (am_fr h 13 r) i ≤ ((tb v w me le mo co (v 1) (v 1).toNat) q).2.1 + 1)) := by
        intro z q y
        rcases hq with ⟨q1, q2⟩ | ⟨q1, q2, q3, q4, q5⟩
        · exact absurd y (q2 q)
        · have := q5 q y
          have this' : am_ai h' (am_fr h 12 r) i < ((tb v w me le mo co (v 1) (v 1).toNat) q).1 + bdn v w me le co i (q - 1) ∨ (am_ai h' (am_fr h 12 r) i = ((tb v w me le mo co (v 1) (v 1).toNat) q).1 + bdn v w me le co i (q - 1) ∧ (am_ai h' (am_fr h 13 r) i < ((tb v w me le mo co (v 1) (v 1).toNat) q).2.1 + 1 ∨ (am_ai h' (am_fr h 13 r) i = ((tb v w me le mo co (v 1) (v 1).toNat) q).2.1 + 1 ∧ q ≤ am_ai h' (am_fr h 14 r) i + 1))) := this
          omega
      refine v_X2_best_47 ⟨⟨px.1.1, by omega, by rw [e12]; exact Or.inl t1, by rw [e12, l1]; omega, by rw [e12, tj.1]; omega, by rw [e13]; exact Or.inl t2, by rw [e13, l2]; omega, by rw [e13, tj2.1]; omega, by rw [e12, l1]; omega⟩, ?_⟩
      rw [e12, e13, e14, l2, l3]
      have tt1 := tj.1
      have tt2 := tj2.1
      refine ⟨fun c4 => ⟨t1, ⟨t2, by omega⟩, ⟨t3, by omega⟩, upd (fun q y => ?_)⟩, fun c4 => ⟨fun c5 => keep ⟨c4, Or.inl (by omega)⟩ _ _, fun c5 => ⟨fun c6 => ⟨t1, ⟨t2, by omega⟩, ⟨t3, by omega⟩, upd (fun q y => ?_)⟩, fun c6 => ⟨by omega, fun c7 => ⟨t1, t2, ⟨t3, by omega⟩, upd (fun q y => ?_)⟩, fun c7 => keep ⟨c4, Or.inr ⟨by omega, by omega⟩⟩ _ _⟩⟩⟩⟩
      · rcases hq with ⟨q1, q2⟩ | ⟨q1, q2, q3, q4, q5⟩
        · exact absurd y (q2 q)
        · have q1' : 0 ≤ am_ai h' (am_fr h 12 r) i := q1
          omega
      · have := opt1 c4 q y
        omega
      · have := opt1 c4 q y
        omega
    · refine hL h' _ _ hf hz hu ht (skip (fun z => am_b0 c2 ?_))
      have z2 := z.2
      rw [ej] at z2
      exact z2
  · intro h' o5 o6 hf hz hu ht hq
    refine v_X2_best_27 ⟨fun _ => ⟨by omega, H h' _ _ _ hf hz hu ?_⟩, fun c => absurd c (by omega)⟩
    intro j k1 k2
    by_cases e : j = i
    · subst e
      have hb : ∀ q, j < q → q ≤ v 1 → ((tb v w me le mo co (v 1) (v 1).toNat) q).1 ≠ -1 → stn v w me le mo j (q - 1) → 0 ≤ ((tb v w me le mo co (v 1) (v 1).toNat) q).1 + bdn v w me le co j (q - 1) := by
        intro q y1 y2 y3 y4
        have b1 := bdn_bd ho hw (mo := mo) hme hle hco hi.1 (by omega) (by omega) y4
        rcases bT q (by omega) y2 with b2 | b2
        · exact absurd b2 y3
        · have := b2.1
          omega
      have e1 := tb_fx (v := v) (w := w) (me := me) (le := le) (mo := mo) (co := co) (n := v 1) (s := (v 1).toNat) (by omega) (i := j) (by omega) hi.2
      have e2 := stp_opt (L := fun q => ((tb v w me le mo co (v 1) (v 1).toNat) q).2.1) hb (v 1 - j).toNat (by omega)
      rw [← e1] at e2
      have e3 := opt_uq (opt_cg (fun q => ⟨fun y => ⟨by have := y.2.1; omega, y.1, y.2.2⟩, fun y => ⟨y.2.1, by have := y.1; omega, y.2.2⟩⟩) hq) e2
      have e4 : am_ai h' (am_fr h 12 r) j = ((tb v w me le mo co (v 1) (v 1).toNat) j).1 := e3.1
      refine ⟨e4, fun y => ?_⟩
      have e5 := e3.2 (by show am_ai h' (am_fr h 12 r) j ≠ -1; rw [e4]; exact y)
      have e6 : am_ai h' (am_fr h 13 r) j = ((tb v w me le mo co (v 1) (v 1).toNat) j).2.1 := e5.1
      have e7 : am_ai h' (am_fr h 14 r) j + 1 = ((tb v w me le mo co (v 1) (v 1).toNat) j).2.2 := e5.2
      exact ⟨e6, fun _ => by omega⟩
    · exact ht j (by omega) k2
theorem x_best {r : Nat} {v w : Int → Int} {me le mo co : Int} {a : Int} {D : Nat} (hD : 16 ≤ D) (ho : okP v) (hw : okW w) (hn : okN v) (hx : xPp h r v w me le mo co) (hme : 0 ≤ me ∧ me ≤ 400) (hle : 0 ≤ le ∧ le ≤ 40) (hmo : 0 ≤ mo ∧ mo ≤ 40) (hco : 0 ≤ co ∧ co ≤ 999) (hs : xScr h r) (ha : 0 ≤ a ∧ a < v 1)
    (H0 : ((tb v w me le mo co (v 1) (v 1).toNat) a).1 = -1 → ∀ h', fx (fun q => xXs h r q ∨ q = r) h h' → am_sz h' = am_sz h → am_us h' = am_us h → am_fi h' 16 r = -1 → (∀ f, f ≠ 16 → am_fi h' f r = am_fi h f r) → (∀ f, am_fr h' f r = am_fr h f r) → K (.inl (some (.inr (.inl (0))))) h')
    (H1 : ((tb v w me le mo co (v 1) (v 1).toNat) a).1 ≠ -1 → ∀ h', fx (fun q => xXs h r q ∨ q = r) h h' → am_sz h' = am_sz h + 1 → am_us h' = am_us h + ((tb v w me le mo co (v 1) (v 1).toNat) a).2.1.toNat → am_ty h' (am_sz h + 1) = 101 → am_ln h' (am_sz h + 1) = ((tb v w me le mo co (v 1) (v 1).toNat) a).2.1 → (∀ k : Nat, (k : Int) < ((tb v w me le mo co (v 1) (v 1).toNat) a).2.1 → am_ai h' (am_sz h + 1) (k : Int) = nx (tb v w me le mo co (v 1) (v 1).toNat) (k + 1) a - 1) → am_fi h' 16 r = ((tb v w me le mo co (v 1) (v 1).toNat) a).1 → (∀ f, f ≠ 16 → am_fi h' f r = am_fi h f r) → (∀ f, am_fr h' f r = am_fr h f r) → K (.inl (some (.inr (.inl (am_sz h + 1))))) h') : am_ev am_prog D 208 [.inr (.inl r), .inl a] h K := by
  have h1 := ho.1
  have bT := tb_bd ho hw (mo := mo) hme hle hco (n := v 1) (by omega) (v 1).toNat (by omega)
  have hs' := hs
  obtain ⟨s1, s2, s3, s4, s5⟩ := hs
  have hX := xXs_ok hx hs'
  have x3 := hx.2.1.2.1
  have x8 := hx.2.2.2.2.2.2.2
  obtain ⟨d, rfl⟩ : ∃ d, D = d + 13 := ⟨D - 13, by omega⟩
  refine am_en p_X2_best rfl rfl ?_
  refine v_X2_best_0 ⟨hx.1, hx.2.1.1, ⟨s1.1, by rw [x3, s1.2.1]; omega⟩, ⟨s2.1, by rw [x3, s2.2.1]; omega⟩, by rw [x3]; omega, ?_⟩
  rw [x3]
  have fin : ∀ h', fx (xXs h r) h h' → am_sz h' = am_sz h → am_us h' = am_us h → xTb h' (am_fr h 12 r) (am_fr h 13 r) (am_fr h 14 r) (tb v w me le mo co (v 1) (v 1).toNat) a (v 1) → ∀ x o4 o5 o6, x < a → am_W m_X2_best (am_ev am_prog (d + 12)) K 17 [some (.inr (.inl (r))), some (.inl (a)), some (.inl (v 1)), some (.inl (x)), o4, o5, o6] [] h' := by
    intro h' hf hz hu ht x o4 o5 o6 hxa
    have px := xPp_fx hf hX hx
    have e12 : am_fr h' 12 r = (am_fr h 12 r) := px.2 12
    have e13 : am_fr h' 13 r = (am_fr h 13 r) := px.2 13
    have e14 : am_fr h' 14 r = (am_fr h 14 r) := px.2 14
    have f1 := hf.2.2.2 _ s1.2.2
    have f2 := hf.2.2.2 _ s2.2.2
    have f3 := hf.2.2.2 _ s3.2.2
    have t1 : am_ty h' (am_fr h 12 r) = 101 := f1.1.trans s1.1
    have t2 : am_ty h' (am_fr h 13 r) = 101 := f2.1.trans s2.1
    have t3 : am_ty h' (am_fr h 14 r) = 101 := f3.1.trans s3.1
    have l1 : am_ln h' (am_fr h 12 r) = 41 := f1.2.1.trans s1.2.1
    have l2 : am_ln h' (am_fr h 13 r) = 41 := f2.2.1.trans s2.2.1
    have l3 : am_ln h' (am_fr h 14 r) = 41 := f3.2.1.trans s3.2.1
    have ta := ht a (by omega) (by omega)
    have nr : am_ty h r = 2 := hx.1
    have hr := (hf.2.2.2 r x8).2.2 (fun z => by have := (hX _ z).1; omega)
    refine v_X2_best_17 ⟨fun _ => ⟨⟨px.1.1, by rw [e12]; exact Or.inl t1, by rw [e12, l1]; omega⟩, ?_⟩, fun c => absurd c (by omega)⟩
    rw [e12, e13, ta.1]
    refine ⟨fun c => ?_, fun c => ?_⟩
    · rcases bT a (by omega) (by omega) with b | ⟨b1, b2, b3⟩
      · omega
      have c1 : ((tb v w me le mo co (v 1) (v 1).toNat) a).1 ≠ -1 := by omega
      have ta2 := ta.2 c1
      rw [ta2.1]
      refine ⟨⟨Or.inl t2, by rw [l2]; omega, by omega⟩, ?_⟩
      have H1' := H1 c1
      rw [hz]
      have eN : ((((tb v w me le mo co (v 1) (v 1).toNat) a).2.1.toNat : Nat) : Int) = ((tb v w me le mo co (v 1) (v 1).toNat) a).2.1 := by omega
      have lp : ∀ k, 0 ≤ k → k ≤ ((tb v w me le mo co (v 1) (v 1).toNat) a).2.1 → ∀ h2, fx (fun q => xXs h r q ∨ q = r) h h2 → am_sz h2 = am_sz h + 1 → am_us h2 = am_us h + ((tb v w me le mo co (v 1) (v 1).toNat) a).2.1.toNat → am_ty h2 (am_sz h + 1) = 101 → am_ln h2 (am_sz h + 1) = ((tb v w me le mo co (v 1) (v 1).toNat) a).2.1 → (∀ q : Nat, (q : Int) < k → am_ai h2 (am_sz h + 1) (q : Int) = nx (tb v w me le mo co (v 1) (v 1).toNat) (q + 1) a - 1) → am_fi h2 16 r = ((tb v w me le mo co (v 1) (v 1).toNat) a).1 → (∀ f, f ≠ 16 → am_fi h2 f r = am_fi h f r) → (∀ f, am_fr h2 f r = am_fr h f r) → am_ty h2 r = 2 → (∀ q, am_ai h2 (am_fr h 14 r) q = am_ai h' (am_fr h 14 r) q) → ∀ o6, am_W m_X2_best (am_ev am_prog (d + 12)) K 128 [some (.inr (.inl (r))), some (.inl (a)), some (.inl (v 1)), some (.inr (.inl (am_sz h + 1))), some (.inl (nx (tb v w me le mo co (v 1) (v 1).toNat) k.toNat a)), some (.inl (k)), o6] [] h2 := by
        refine lp_z ?_ ?_
        · intro k y1 y2 hL h2 f1 f2 f3 f4 f5 f6 f7 f8 f9 f10 f11 o6
          have ek : ((k.toNat : Nat) : Int) = k := by omega
          obtain ⟨n1, n2, n3, n4⟩ := nx_ok ho hw hme hle hco (mo := mo) (n := v 1) (by omega) ha.1 (by omega) c1 k.toNat (by omega)
          have n5 := n4 (by omega)
          have tc := (ht (nx (tb v w me le mo co (v 1) (v 1).toNat) k.toNat a) (by omega) n1.2).2 n2
          have tc2 := tc.2 n5
          obtain ⟨p1, p2, p3, p4, p5⟩ := tb_step ho hw hme hle hco (mo := mo) (n := v 1) (by omega) (i := nx (tb v w me le mo co (v 1) (v 1).toNat) k.toNat a) (by omega) n5 n2
          have fq := f1.2.2.2 _ s3.2.2
          have e14b : am_fr h2 14 r = (am_fr h 14 r) := f9 14
          have ne : (am_fr h 14 r) ≠ am_sz h + 1 := by have := s3.2.2; omega
          refine v_X2_best_128 ⟨Or.inl f4, fun c => absurd c (by rw [f5]; omega), fun _ => ⟨⟨f10, by rw [e14b, fq.1]; exact Or.inl s3.1, by rw [e14b, fq.2.1, s3.2.1]; omega, f4, by rw [f5]; omega⟩, ?_⟩⟩
          rw [e14b, x_ais ne, f11, tc2]
          have e5 : ((tb v w me le mo co (v 1) (v 1).toNat) (nx (tb v w me le mo co (v 1) (v 1).toNat) k.toNat a)).2.2 - 1 + 1 = nx (tb v w me le mo co (v 1) (v 1).toNat) (k + 1).toNat a := by
            have : (k + 1).toNat = k.toNat + 1 := by omega
            rw [this, nx_last]
            omega
          rw [e5]
          refine ⟨⟨by rw [← e5]; omega, by omega⟩, ?_⟩
          refine hL _ (fx_sai f1 (Or.inl (by omega))) f2 f3 f4 f5 ?_ f7 f8 f9 f10 ?_ _
          · intro q hq
            rw [x_aise]
            by_cases e : (q : Int) = k
            · have e6 : q = k.toNat := by omega
              rw [e, am_uz_eq, e6, nx_last]
            · rw [am_uz_ne e]
              exact f6 q (by omega)
          · intro q
            rw [x_ais ne]
            exact f11 q
        · intro h2 f1 f2 f3 f4 f5 f6 f7 f8 f9 f10 f11 o6
          refine v_X2_best_128 ⟨Or.inl f4, fun _ => H1' h2 f1 f2 f3 f4 f5 f6 f7 f8 f9, fun c => absurd c (by rw [f5]; omega)⟩
      refine lp 0 (by omega) (by omega) _ ?_ ?_ ?_ ?_ ?_ ?_ ?_ ?_ ?_ ?_ ?_ _
      · exact fx_new (fx_sfi (fx_sub hf (fun q _ z => Or.inl z)) (Or.inr (Or.inr rfl)))
      · show am_sz h' + 1 = _
        rw [hz]
      · show am_us h' + _ = _
        rw [hu]
      · exact x_tyn0 (by show am_sz h + 1 = am_sz h' + 1; rw [hz])
      · exact (x_lnn0 (by show am_sz h + 1 = am_sz h' + 1; rw [hz])).trans eN
      · exact fun q hq => absurd hq (by omega)
      · exact (x_fin (by show r ≤ am_sz h'; rw [hz]; exact x8)).trans x_fie
      · exact fun f hf2 => (x_fin (by show r ≤ am_sz h'; rw [hz]; exact x8)).trans ((x_fif hf2).trans (hr.1 f))
      · exact fun f => (x_frn (by show r ≤ am_sz h'; rw [hz]; exact x8)).trans (hr.2.1 f)
      · exact (x_tyn (by show r ≤ am_sz h'; rw [hz]; exact x8)).trans px.1.1
      · intro q
        exact congrFun (x_ain (by show (am_fr h 14 r) ≤ am_sz h'; rw [hz]; exact s3.2.2)) q
    · have c1 : ((tb v w me le mo co (v 1) (v 1).toNat) a).1 = -1 := by
        rcases bT a (by omega) (by omega) with b | b
        · exact b
        · have := b.1
          omega
      rw [c1]
      exact H0 c1 _ (fx_sfi (fx_sub hf (fun q _ z => Or.inl z)) (Or.inr (Or.inr rfl))) hz hu x_fie (fun f hf2 => (x_fif hf2).trans (hr.1 f)) hr.2.1
  have main : ∀ i, a + (-1) ≤ i → i ≤ v 1 - 1 → ∀ h' o4 o5 o6, fx (xXs h r) h h' → am_sz h' = am_sz h → am_us h' = am_us h → xTb h' (am_fr h 12 r) (am_fr h 13 r) (am_fr h 14 r) (tb v w me le mo co (v 1) (v 1).toNat) (i + 1) (v 1) → am_W m_X2_best (am_ev am_prog (d + 12)) K 17 [some (.inr (.inl (r))), some (.inl (a)), some (.inl (v 1)), some (.inl (i)), o4, o5, o6] [] h' := by
    refine lp_d ?_ ?_
    · intro i g1 g2 hL h' o4 o5 o6 hf hz hu ht
      have px := xPp_fx hf hX hx
      have e12 : am_fr h' 12 r = (am_fr h 12 r) := px.2 12
      have f1 := hf.2.2.2 _ s1.2.2
      have t1 : am_ty h' (am_fr h 12 r) = 101 := f1.1.trans s1.1
      have l1 : am_ln h' (am_fr h 12 r) = 41 := f1.2.1.trans s1.2.1
      refine v_X2_best_17 ⟨fun c => absurd c (by omega), fun _ => ⟨⟨px.1.1, by rw [e12]; exact t1, by rw [e12, l1]; omega⟩, ?_⟩⟩
      rw [e12]
      refine x_best_in (by omega) ho hw hn hx hme hle hmo hco hs' (by omega) ?_ i (by omega) (by omega) _ _ _ (fx_sai hf (Or.inr (Or.inl rfl))) hz hu ?_ ?_
      · intro h2 o4 o5 o6 y1 y2 y3 y4
        have e4 : i + (-1) + 1 = i := by omega
        rw [e4] at hL
        exact hL h2 _ _ _ y1 y2 y3 y4
      · intro q k1 k2
        rw [x_aise, x_ais (Ne.symm s4.1), x_ais (Ne.symm s4.2.1), am_uz_ne (by omega)]
        exact ht q k1 k2
      · refine Or.inl ⟨?_, fun q y => absurd y.1 (by have := y.2.1; omega)⟩
        show am_ai (am_sai h' (am_fr h 12 r) i (-1)) (am_fr h 12 r) i = -1
        rw [x_aise, am_uz_eq]
    · intro h' o4 o5 o6 hf hz hu ht
      have e4 : a + (-1) + 1 = a := by omega
      rw [e4] at ht
      exact fin h' hf hz hu ht _ _ _ _ (by omega)
  refine main (v 1 - 1) (by omega) (by omega) _ _ _ _ (fx_sai (fx_sai fx_refl (Or.inr (Or.inl rfl))) (Or.inr (Or.inr (Or.inl rfl)))) rfl rfl ?_
  intro q k1 k2
  have e : q = v 1 := by omega
  have e1 : (tb v w me le mo co (v 1) (v 1).toNat) (v 1) = (0, 0, 0) := tb_st (v 1).toNat 0 (by omega) (by omega) (v 1) (by omega) (by omega)
  rw [e, e1, x_ais s4.1, x_aise, x_aise, am_uz_eq, am_uz_eq]
  exact ⟨rfl, fun _ => ⟨rfl, fun z => absurd z (by omega)⟩⟩
end
