set_option maxRecDepth 100000
section
variable {K : am_K} {b : am_H} {r : Nat} {S : am_G} {V : Nat → Int → Int} {W : Nat → Int}
/-- the lines of a part from one on are others -/
theorem m_opens {t : Int → Int} {p w k : Int} {l : List am_Pz} {V1 : Nat → Int → Int} {W4 : Nat → Int} {d : Nat} (hd : 30 ≤ d) (hC : okC S) (hF : okF S) (hA : okA S) (hY : okY S) (hY1 : okY1 S) (hW : okWs S) (hM : okM S) (hG : okG S) (ip : isP S p) (hk : 0 ≤ k ∧ k < S 0 0 3) (hw : 0 ≤ w ∧ w < (S 3 p) 0) (s3 : (S 3 p) 3 = 1) (j30 : S 5 k 29 ≠ 30) (d8 : V1 8 0 = l.length) (dl : 1 ≤ l.length) (d40 : (S 3 p) 1 - (wfR (S 3 p) w (S 3 p 1).toNat).2 + l.length ≤ 40) (ok1 : okVs V1) (rd : ∀ k : Nat, k < l.length → V1 6 k = (gP l k).2.2.1 ∧ ∀ i, 0 ≤ i → i < (gP l k).2.2.1 → V1 7 (12 * k + i) = t ((gP l k).2.1 + i) - 97) (H6 : ∀ row, chW t (S 3 p) w l row → ((cT S p row) (cA S p w)).1 = -1 → ∀ V' W', fa [11, 12, 13, 14, 15, 16, 17, 18, 20, 21, 22, 23, 24, 25, 26] V1 V' → fa [62, 63, 64, 65, 66, 67, 68, 73] W4 W' → K (.inl (some (.inl (-1)))) (mo b r (ms S) V' W')) (H7 : ∀ row, chW t (S 3 p) w l row → ((cT S p row) (cA S p w)).1 ≠ -1 → ∀ V' W', fa [11, 12, 13, 14, 15, 16, 17, 18, 20, 21, 22, 23, 24, 25, 26] V1 V' → fa [62, 63, 64, 65, 66, 67, 68, 73] W4 W' → K (.inl (some (.inl (cC S p w row)))) (mo b r (ms (cF S p w k row)) V' W')) : ∀ o8 o9 o10 o11 o12 o13, am_W m_X5_correct (am_ev am_prog (d + 3)) K 141 [some (.inr (.inl r)), some (.inl (p)), some (.inl (w)), some (.inl (k)), some (.inl (130 + 645 * p)), some (.inl ((wfR (S 3 p) w (S 3 p 1).toNat).1)), some (.inl ((wfR (S 3 p) w (S 3 p 1).toNat).2)), some (.inl (0)), o8, o9, o10, o11, o12, o13] [] (mo b r (ms S) V1 W4) := by
  have c0 := hC.1
  have c1 := hC.2.1
  have c3 := hC.2.2.1
  have pb := isP_bd hC hF ip
  have ap := hA p ip
  have p1 := ap.1.1
  have oL := ap.2.2.2.2.2.2.1 s3
  have p4 := ap.2.2.2.2.2.2.2
  have o4 := oL.1
  have g4 := hG.1
  have wf := wf_v ap.2.1 p1.1 ap.2.2.1 hw
  have wf1 := wf.1
  have lf : (0 ≤ (cL S p w) ∧ (cL S p w) < (S 3 p) 4) ∧ (wfR (S 3 p) w (S 3 p 1).toNat).1 ≤ (S 3 p) (5 + (cL S p w)) ∧ ∀ k, 0 ≤ k → k < (cL S p w) → (S 3 p) (5 + k) < (wfR (S 3 p) w (S 3 p 1).toNat).1 := lnF_v (v := (S 3 p)) (f := (wfR (S 3 p) w (S 3 p 1).toNat).1) (n := (S 3 p) 4) ((S 3 p) 4).toNat 0 (by omega) (by omega) ⟨(S 3 p) 4 - 1, by omega, by omega, by
    have e : 5 + ((S 3 p) 4 - 1) = 4 + (S 3 p) 4 := by omega
    rw [e, oL.2.1]
    omega⟩ (fun k a b => absurd b (by omega))
  have lb : ∀ l, 0 ≤ l → l < (S 3 p) 4 → (0 ≤ l ∧ l < 40) ∧ (0 ≤ bg (S 3 p) l ∧ bg (S 3 p) l ≤ (S 3 p) (5 + l)) ∧ (S 3 p) (5 + l) < 40 ∧ ((lnS (S 3 p) l).length : Int) ≤ 420 ∧ (0 ≤ (S 3 p) (45 + l) ∧ (S 3 p) (45 + l) ≤ 300) := fun l a b => by
    have q := oL.2.2 l a b
    omega
  -- the row is changed
  have main : ∀ V' W', fa [11, 12, 13, 14, 15, 16, 17, 18, 20, 21, 22, 23, 24, 25, 26] V1 V' → fa [62, 63, 64, 65, 66, 67, 68, 73] W4 W' → (∀ j, (cL S p w) ≤ j → j < (S 3 p) 4 → (V' 21 j = ((lnS (S 3 p) j).length : Int) ∧ V' 22 j = (S 3 p) (45 + j) - 1 ∧ ∀ i : Nat, i < (lnS (S 3 p) j).length → V' 20 (430 * j + i) = gt (lnS (S 3 p) j) i)) → (∀ i, 0 ≤ i → i < 645 → V' 23 i = (S 3 p) i) → ∀ o11 o12 o13, am_W m_X5_correct (am_ev am_prog (d + 3)) K 218 [some (.inr (.inl r)), some (.inl (p)), some (.inl (w)), some (.inl (k)), some (.inl (130 + 645 * p)), some (.inl ((wfR (S 3 p) w (S 3 p 1).toNat).1)), some (.inl ((wfR (S 3 p) w (S 3 p 1).toNat).2)), some (.inl ((cL S p w))), some (.inl ((S 3 p) 4)), some (.inl ((cA S p w))), some (.inl (645)), o11, o12, o13] [] (mo b r (ms S) V' W') := by
    intro V' W' fV fW old v23 o11 o12 o13
    refine w_correct_218 ⟨fun _ => ?_, fun z => absurd z (by omega)⟩
    refine c_changes (d0 := l.length) (by omega) pb.1 (by rw [fV 8 rfl]; exact d8) (by omega) p1.2 (by omega) (fun V2 row f2 cg => am_an (w_correct_239 ?_))
    rw [fV 6 rfl, fV 7 rfl] at cg
    have hx : ∀ k, 0 ≤ k → k < 40 → 0 ≤ V1 6 k ∧ V1 6 k ≤ 12 := fun k a b => (ok1.1 k a (by omega)).2
    have hy : ∀ i, 0 ≤ i → i < 480 → 0 ≤ V1 7 i ∧ V1 7 i ≤ 25 := fun i a b => ok1.2 i a (by omega)
    have cw : chW t (S 3 p) w l row := ⟨V1 6, V1 7, cg, rd, hx, hy⟩
    have H6' := H6 row cw
    have H7' := H7 row cw
    obtain ⟨q1, q2, q3, q4, q5, q6, q7, q8, q9⟩ := chg_ok ap.1 ap.2.1 ap.2.2.1 hw wf (by omega) hx hy cg
    have fV2 : fa [11, 12, 13, 14, 15, 16, 17, 18, 20, 21, 22, 23, 24, 25, 26] V1 V2 := fa_trans fV (fa_sub f2 rfl)
    have e00 : (setR S p row) 0 0 0 = S 0 0 0 := by rw [setR_c (by decide)]
    have e3p : (setR S p row) 3 p = row := setR_p
    have Y1 : okY (setR S p row) := by
      unfold okY
      rw [setR_c (by decide), setR_c (by decide)]
      exact hY
    have Y2 : okY1 (setR S p row) := by
      unfold okY1
      rw [setR_c (by decide), setR_c (by decide)]
      exact hY1
    have tl := tells_bd (S := (setR S p row)) (p := p) (mi := S 0 0 0) Y1
    have le1 := leS_1 (S := (setR S p row)) (p := p) (mi := S 0 0 0) Y1 Y2
    have s2 : (setR S p row) 2 = S 2 := setR_c (by decide)
    have s1 : (setR S p row) 1 = S 1 := setR_c (by decide)
    have okw := hW _ pb.2.2.1.1 pb.2.2.1.2
    rw [e00]
    refine c_work (S := (setR S p row)) (by omega) Y1 pb.1 (by rw [s2]; exact pb.2.2.1) (by rw [e3p]; exact q1) (by rw [s1, s2]; exact okw) (fun V3 W3 f3 fw3 _ _ _ _ _ _ tbd => am_an (w_correct_246 ?_))
    rw [e3p] at tbd
    have r1 := q1.1
    have eT : tbS (setR S p row) p (S 0 0 0) = tb row (S 1 (S 2 0 (p / 5))) (meS (setR S p row) p (S 0 0 0)) (leS (setR S p row) p (S 0 0 0)) (moS (setR S p row) p (S 0 0 0)) (coS (setR S p row) p (S 0 0 0)) (row 1) (row 1).toNat := by
      unfold tbS
      rw [e3p, s1, s2]
    have eTT : (cT S p row) = tbS (setR S p row) p (S 0 0 0) := rfl
    have fV3 : fa [11, 12, 13, 14, 15, 16, 17, 18, 20, 21, 22, 23, 24, 25, 26] V1 V3 := fa_trans fV2 (fa_sub f3 rfl)
    have fW3 : fa [62, 63, 64, 65, 66, 67, 68, 73] W4 W3 := fa_trans fW (fa_sub fw3 rfl)
    have row1 : row 1 = (S 3 p) 1 + ((l.length : Int) - (wfR (S 3 p) w (S 3 p 1).toNat).2) := cg.2.2.1
    have aF : 0 ≤ (cA S p w) ∧ (cA S p w) ≤ (wfR (S 3 p) w (S 3 p 1).toNat).1 := by
      have q := (lb (cL S p w) lf.1.1 lf.1.2).2.1
      refine ⟨q.1, ?_⟩
      show bg (S 3 p) (cL S p w) ≤ (wfR (S 3 p) w (S 3 p 1).toNat).1
      unfold bg
      by_cases c : (cL S p w) = 0
      · rw [if_pos c]
        omega
      · rw [if_neg c]
        have q := lf.2.2 ((cL S p w) - 1) (by omega) (by omega)
        have e : 5 + ((cL S p w) - 1) = 4 + (cL S p w) := by omega
        rw [e] at q
        omega
    have tA := tbd (cA S p w) aF.1 (by omega)
    rw [← eTT] at tbd tA
    refine ⟨by omega, fun z => ?_, fun z => ?_⟩
    · -- new lines
      rw [tA.1] at z
      have CE := coE_ok (S := S) (p := p) (f := (wfR (S 3 p) w (S 3 p 1).toNat).1) (l0 := (cL S p w)) (row := row) (wi := S 1 (S 2 0 (p / 5))) (me := meS (setR S p row) p (S 0 0 0)) (le := leS (setR S p row) p (S 0 0 0)) (mo := moS (setR S p row) p (S 0 0 0)) (co := coS (setR S p row) p (S 0 0 0)) ap.1 oL q1 q2 okw tl.1 tl.2.1 le1 tl.2.2.2.1 (by omega) lf.1 lf.2.2 cg.2.1 cg.2.2.2.1 q4 (a := (cA S p w)) rfl (by rw [← eT]; exact z)
      rw [← eT, ← eTT] at CE
      obtain ⟨e1, e2, e3, e4, e5, e6, e7⟩ := CE
      have eN : (cN S p w row) = (cL S p w) + ((cT S p row (cA S p w)).2.1) := rfl
      have eR : coE row (cT S p row) (cA S p w) (cL S p w) = (cR S p w row) := rfl
      rw [eR] at e3 e4 e5 e6
      have r24 : (cR S p w row) 4 = (cN S p w row) := coE_4 lf.1.1
      have r21 : (cR S p w row) 1 = row 1 := coE_o (by omega) (by omega) (by omega)
      have H7'' := H7' z
      -- the slugs of the old lines
      have slg : ∀ j, (cL S p w) ≤ j → j ≤ (S 3 p) 4 → ∀ V' W', fa [11, 12, 13, 14, 15, 16, 17, 18, 20, 21, 22, 23, 24, 25, 26] V1 V' → fa [62, 63, 64, 65, 66, 67, 68, 73] W4 W' → (∀ j, (cL S p w) ≤ j → j < (S 3 p) 4 → V' 22 j = (S 3 p) (45 + j) - 1) → ∀ x10, am_W m_X5_correct (am_ev am_prog (d + 3)) K 347 [some (.inr (.inl r)), some (.inl (p)), some (.inl (w)), some (.inl (k)), some (.inl (130 + 645 * p)), some (.inl ((wfR (S 3 p) w (S 3 p 1).toNat).1)), some (.inl ((wfR (S 3 p) w (S 3 p 1).toNat).2)), some (.inl ((cL S p w))), some (.inl ((S 3 p) 4)), some (.inl ((cA S p w))), some (.inl (x10)), some (.inl ((cN S p w row))), some (.inl (cS S p w row)), some (.inl (j))] [] (mo b r (ms (pkS (setR S p (cR S p w row)) (S 3 p) p (cL S p w) ((S 3 p) 4) (cN S p w row) (cS S p w row) (j - (cL S p w)).toNat)) V' W') := by
        have sb : 0 ≤ cS S p w row ∧ cS S p w row ≤ (S 3 p) 4 - (cL S p w) ∧ cS S p w row ≤ (cN S p w row) - (cL S p w) := smN_b 41 0 (by omega) (by omega) (by omega)
        refine lp_z ?_ ?_
        · intro j j0 j1 hL V' W' fV fW v22 x10
          have q := lb j (by omega) j1
          have jj : (((j - (cL S p w)).toNat : Nat) : Int) = j - (cL S p w) := by omega
          have ej : (j + 1 - (cL S p w)).toNat = (j - (cL S p w)).toNat + 1 := by omega
          have elj : (cL S p w) + (((j - (cL S p w)).toNat : Nat) : Int) = j := by omega
          have es : (pkS (setR S p (cR S p w row)) (S 3 p) p (cL S p w) ((S 3 p) 4) (cN S p w row) (cS S p w row) ((j - (cL S p w)).toNat + 1)) = if (S 3 p) (45 + j) = 0 then (pkS (setR S p (cR S p w row)) (S 3 p) p (cL S p w) ((S 3 p) 4) (cN S p w row) (cS S p w row) (j - (cL S p w)).toNat) else if (S 3 p) 4 - cS S p w row ≤ j then u3 (u3 (u3 (pkS (setR S p (cR S p w row)) (S 3 p) p (cL S p w) ((S 3 p) 4) (cN S p w row) (cS S p w row) (j - (cL S p w)).toNat) 4 ((S 3 p) (45 + j) - 1) 5 (j - (S 3 p) 4 + (cN S p w row))) 4 ((S 3 p) (45 + j) - 1) 6 p) 3 p (45 + (j - (S 3 p) 4 + (cN S p w row))) ((S 3 p) (45 + j)) else u3 (u3 (u3 (pkS (setR S p (cR S p w row)) (S 3 p) p (cL S p w) ((S 3 p) 4) (cN S p w row) (cS S p w row) (j - (cL S p w)).toNat) 4 ((S 3 p) (45 + j) - 1) 4 2) 4 ((S 3 p) (45 + j) - 1) 5 (-1)) 4 ((S 3 p) (45 + j) - 1) 6 (-1) := by
            conv => lhs; unfold pkS
            rw [elj]
          rw [ej, es] at hL
          have nx : ∀ X V' W', fa [11, 12, 13, 14, 15, 16, 17, 18, 20, 21, 22, 23, 24, 25, 26] V1 V' → fa [62, 63, 64, 65, 66, 67, 68, 73] W4 W' → (∀ j, (cL S p w) ≤ j → j < (S 3 p) 4 → V' 22 j = (S 3 p) (45 + j) - 1) → X = (if (S 3 p) (45 + j) = 0 then (pkS (setR S p (cR S p w row)) (S 3 p) p (cL S p w) ((S 3 p) 4) (cN S p w row) (cS S p w row) (j - (cL S p w)).toNat) else if (S 3 p) 4 - cS S p w row ≤ j then u3 (u3 (u3 (pkS (setR S p (cR S p w row)) (S 3 p) p (cL S p w) ((S 3 p) 4) (cN S p w row) (cS S p w row) (j - (cL S p w)).toNat) 4 ((S 3 p) (45 + j) - 1) 5 (j - (S 3 p) 4 + (cN S p w row))) 4 ((S 3 p) (45 + j) - 1) 6 p) 3 p (45 + (j - (S 3 p) 4 + (cN S p w row))) ((S 3 p) (45 + j)) else u3 (u3 (u3 (pkS (setR S p (cR S p w row)) (S 3 p) p (cL S p w) ((S 3 p) 4) (cN S p w row) (cS S p w row) (j - (cL S p w)).toNat) 4 ((S 3 p) (45 + j) - 1) 4 2) 4 ((S 3 p) (45 + j) - 1) 5 (-1)) 4 ((S 3 p) (45 + j) - 1) 6 (-1)) → am_W m_X5_correct (am_ev am_prog (d + 3)) K 381 [some (.inr (.inl r)), some (.inl (p)), some (.inl (w)), some (.inl (k)), some (.inl (130 + 645 * p)), some (.inl ((wfR (S 3 p) w (S 3 p 1).toNat).1)), some (.inl ((wfR (S 3 p) w (S 3 p 1).toNat).2)), some (.inl ((cL S p w))), some (.inl ((S 3 p) 4)), some (.inl ((cA S p w))), some (.inl (x10)), some (.inl ((cN S p w row))), some (.inl (cS S p w row)), some (.inl (j))] [] (mo b r (ms X) V' W') := fun X V' W' fV fW v22 eX => by
            rw [eX]
            exact w_correct_381 ⟨by omega, hL V' W' fV fW v22 _⟩
          generalize (pkS (setR S p (cR S p w row)) (S 3 p) p (cL S p w) ((S 3 p) 4) (cN S p w row) (cS S p w row) (j - (cL S p w)).toNat) = X0 at *
          have e22 := v22 j j0 j1
          refine w_correct_347 ⟨fun z => absurd z (by omega), fun _ => ?_⟩
          rw [e22]
          refine ⟨by omega, fun z => ⟨by omega, fun z2 => ⟨by omega, ?_⟩, fun z2 => ⟨by omega, ?_⟩⟩, fun z => ?_⟩
          · refine c_pots (by omega) (by omega) (am_an (nx _ V' W' fV fW v22 ?_))
            rw [if_neg z, if_neg (by omega), if_neg (by omega)]
          · refine c_puts (by omega) (by omega) pb.1 (by omega) (am_an (w_correct_374 (nx _ V' W' fV fW v22 ?_)))
            have e1 : (S 3 p) (45 + j) - 1 + 1 = (S 3 p) (45 + j) := by omega
            rw [if_neg (by omega), if_pos (by omega), e1]
          · exact nx _ V' W' fV fW v22 (if_pos (by omega)).symm
        · intro V' W' fV fW v22 x10
          have eC : (cN S p w row) - (cL S p w) - cS S p w row = cC S p w row := rfl
          have eQ : (pkS (setR S p (cR S p w row)) (S 3 p) p (cL S p w) ((S 3 p) 4) (cN S p w row) (cS S p w row) ((S 3 p) 4 - (cL S p w)).toNat) = cQ S p w row := rfl
          rw [eQ]
          refine w_correct_347 ⟨fun _ => ?_, fun z => absurd z (by omega)⟩
          rw [eC]
          have cb : -40 ≤ cC S p w row ∧ cC S p w row ≤ 40 := by omega
          refine ⟨by omega, fun z => ?_, fun z => ⟨by omega, ?_⟩⟩
          · have ef : cF S p w k row = cQ S p w row := if_neg (by omega)
            rw [ef] at H7''
            exact H7'' V' W' fV fW
          · have ef : cF S p w k row = jbS (cQ S p w row) k p (cL S p w) ((cL S p w) + cC S p w row) 1 0 := if_pos z
            rw [ef] at H7''
            have q5 : cQ S p w row 5 = S 5 := (pkS_c (by decide) (by decide) _).trans (setR_c (by decide))
            have m29 := (hM k hk.1 (by omega)).2.2.2.1
            refine c_queues (S := cQ S p w row) (by omega) (by omega) (by rw [q5]; omega) (am_av (w_correct_401 ?_))
            exact H7'' V' W' fV fW
      -- how many are the same
      have sam : ∀ (q : Nat) (s : Int), 0 ≤ s → s ≤ (S 3 p) 4 - (cL S p w) → s ≤ (cN S p w row) - (cL S p w) → 41 ≤ s + q → smN (S 3 p) (cR S p w row) ((S 3 p) 4) (cN S p w row) (cL S p w) q s = cS S p w row → ∀ V' W', fa [11, 12, 13, 14, 15, 16, 17, 18, 20, 21, 22, 23, 24, 25, 26] V1 V' → fa [62, 63, 64, 65, 66, 67, 68, 73] W4 W' → (∀ j, (cL S p w) ≤ j → j < (S 3 p) 4 → (V' 21 j = ((lnS (S 3 p) j).length : Int) ∧ V' 22 j = (S 3 p) (45 + j) - 1 ∧ ∀ i : Nat, i < (lnS (S 3 p) j).length → V' 20 (430 * j + i) = gt (lnS (S 3 p) j) i)) → ∀ x10 o13, am_W m_X5_correct (am_ev am_prog (d + 3)) K 319 [some (.inr (.inl r)), some (.inl (p)), some (.inl (w)), some (.inl (k)), some (.inl (130 + 645 * p)), some (.inl ((wfR (S 3 p) w (S 3 p 1).toNat).1)), some (.inl ((wfR (S 3 p) w (S 3 p 1).toNat).2)), some (.inl ((cL S p w))), some (.inl ((S 3 p) 4)), some (.inl ((cA S p w))), some (.inl (x10)), some (.inl ((cN S p w row))), some (.inl (s)), o13] [] (mo b r (ms (setR S p (cR S p w row))) V' W') := by
        intro q
        induction q with
        | zero =>
          intro s a1 a2 a3 a4
          exact absurd a4 (by omega)
        | succ q ih =>
          intro s a1 a2 a3 a4 eS V' W' fV fW old x10 o13
          have eS' : (if (s < (S 3 p) 4 - (cL S p w) ∧ s < (cN S p w row) - (cL S p w)) ∧ lnS (S 3 p) ((S 3 p) 4 - 1 - s) = lnS (cR S p w row) ((cN S p w row) - 1 - s) then smN (S 3 p) (cR S p w row) ((S 3 p) 4) (cN S p w row) (cL S p w) q (s + 1) else s) = cS S p w row := eS
          have stop : ∀ V' W', fa [11, 12, 13, 14, 15, 16, 17, 18, 20, 21, 22, 23, 24, 25, 26] V1 V' → fa [62, 63, 64, 65, 66, 67, 68, 73] W4 W' → (∀ j, (cL S p w) ≤ j → j < (S 3 p) 4 → (V' 21 j = ((lnS (S 3 p) j).length : Int) ∧ V' 22 j = (S 3 p) (45 + j) - 1 ∧ ∀ i : Nat, i < (lnS (S 3 p) j).length → V' 20 (430 * j + i) = gt (lnS (S 3 p) j) i)) → ¬ ((s < (S 3 p) 4 - (cL S p w) ∧ s < (cN S p w row) - (cL S p w)) ∧ lnS (S 3 p) ((S 3 p) 4 - 1 - s) = lnS (cR S p w row) ((cN S p w row) - 1 - s)) → am_W m_X5_correct (am_ev am_prog (d + 3)) K 347 [some (.inr (.inl r)), some (.inl (p)), some (.inl (w)), some (.inl (k)), some (.inl (130 + 645 * p)), some (.inl ((wfR (S 3 p) w (S 3 p 1).toNat).1)), some (.inl ((wfR (S 3 p) w (S 3 p 1).toNat).2)), some (.inl ((cL S p w))), some (.inl ((S 3 p) 4)), some (.inl ((cA S p w))), some (.inl (x10)), some (.inl ((cN S p w row))), some (.inl (s)), some (.inl ((cL S p w)))] [] (mo b r (ms (setR S p (cR S p w row))) V' W') := fun V' W' fV fW old no => by
            rw [if_neg no] at eS'
            rw [eS']
            have q := slg (cL S p w) (by omega) (by omega) V' W' fV fW (fun j a b => (old j a b).2.1) x10
            have e0 : ((cL S p w) - (cL S p w)).toNat = 0 := by omega
            rw [e0] at q
            exact q
          refine w_correct_319 ⟨by omega, fun z => stop V' W' fV fW old (fun y => by omega), fun z => ⟨by omega, fun z2 => stop V' W' fV fW old (fun y => by omega), fun z2 => ⟨by omega, ?_⟩⟩⟩
          have ll := lb ((S 3 p) 4 - 1 - s) (by omega) (by omega)
          have l2 := e5.2.2 ((cN S p w row) - 1 - s) (by omega) (by rw [r24]; omega)
          have od := old ((S 3 p) 4 - 1 - s) (by omega) (by omega)
          have es2 : (setR S p (cR S p w row)) 3 p = (cR S p w row) := setR_p
          refine c_isSame (S := (setR S p (cR S p w row))) (u := lnS (S 3 p) ((S 3 p) 4 - 1 - s)) (by omega) pb.1 (by rw [es2]; exact e3) ll.1 (by omega) (by rw [es2, r24]; omega) (by rw [es2]; omega) (by rw [es2]; omega) (by rw [es2]; exact l2.2) od.1 od.2.2 (fun V2 W2 f2 fw2 => ?_)
          have fV2 : fa [11, 12, 13, 14, 15, 16, 17, 18, 20, 21, 22, 23, 24, 25, 26] V1 V2 := fa_trans fV (fa_sub f2 rfl)
          have fW2 : fa [62, 63, 64, 65, 66, 67, 68, 73] W4 W2 := fa_trans fW (fa_sub fw2 rfl)
          have old2 : ∀ j, (cL S p w) ≤ j → j < (S 3 p) 4 → (V2 21 j = ((lnS (S 3 p) j).length : Int) ∧ V2 22 j = (S 3 p) (45 + j) - 1 ∧ ∀ i : Nat, i < (lnS (S 3 p) j).length → V2 20 (430 * j + i) = gt (lnS (S 3 p) j) i) := fun j a b => by
            rw [f2 20 rfl, f2 21 rfl, f2 22 rfl]
            exact old j a b
          rw [es2]
          refine ⟨fun e => am_av (w_correct_342 ⟨fun z => absurd z (by decide), fun _ => ⟨by omega, ?_⟩⟩), fun e => am_av (w_correct_342 ⟨fun _ => stop V2 W2 fV2 fW2 old2 (fun y => e y.2), fun z => absurd rfl z⟩)⟩
          rw [if_pos ⟨⟨z, z2⟩, e⟩] at eS'
          exact ih (s + 1) (by omega) (by omega) (by omega) (by omega) eS' V2 W2 fV2 fW2 old2 _ _
      -- the lines are set
      have old3 : ∀ j, (cL S p w) ≤ j → j < (S 3 p) 4 → (V3 21 j = ((lnS (S 3 p) j).length : Int) ∧ V3 22 j = (S 3 p) (45 + j) - 1 ∧ ∀ i : Nat, i < (lnS (S 3 p) j).length → V3 20 (430 * j + i) = gt (lnS (S 3 p) j) i) := fun j a b => by
        rw [f3 20 rfl, f3 21 rfl, f3 22 rfl, f2 20 rfl, f2 21 rfl, f2 22 rfl]
        exact old j a b
      have lin : ∀ j, 0 ≤ j → j ≤ ((cT S p row (cA S p w)).2.1) → ∀ o12 o13, am_W m_X5_correct (am_ev am_prog (d + 3)) K 275 [some (.inr (.inl r)), some (.inl (p)), some (.inl (w)), some (.inl (k)), some (.inl (130 + 645 * p)), some (.inl ((wfR (S 3 p) w (S 3 p 1).toNat).1)), some (.inl ((wfR (S 3 p) w (S 3 p 1).toNat).2)), some (.inl ((cL S p w))), some (.inl ((S 3 p) 4)), some (.inl ((cA S p w))), some (.inl (nx (cT S p row) j.toNat (cA S p w))), some (.inl ((cL S p w) + j)), o12, o13] [] (mo b r (ms (setR S p (coJ row (cT S p row) (cA S p w) (cL S p w) j))) V3 W3) := by
        refine lp_z ?_ ?_
        · intro j j0 j1 hL o12 o13
          have ej : (j + 1).toNat = j.toNat + 1 := by omega
          have n7 := e7 j j0 j1
          have td := tbd (nx (cT S p row) j.toNat (cA S p w)) (by omega) (by omega)
          have nk := nx_ok q1 okw tl.1 tl.2.1 tl.2.2.2.1 (mo := moS (setR S p row) p (S 0 0 0)) (n := row 1) (by omega) (a := (cA S p w)) aF.1 (by omega) (by rw [← eT]; exact z) j.toNat
          rw [← eT, ← eTT] at nk
          have ne := (nk (by omega)).2.1
          have v16 := (td.2 ne).2 (by omega)
          have e31 : setR S p (coJ row (cT S p row) (cA S p w) (cL S p w) j) 3 p = coJ row (cT S p row) (cA S p w) (cL S p w) j := setR_p
          have j1' : coJ row (cT S p row) (cA S p w) (cL S p w) j 1 = row 1 := by
            unfold coJ
            rw [if_neg (by omega), if_neg (by omega)]
          refine w_correct_275 ?_
          rw [e31, j1', v16, ← nx_last]
          refine ⟨by omega, fun z => absurd z (by omega), fun _ => ⟨by omega, by omega, by omega, ?_⟩⟩
          rw [setR_u, setR_u, coJ_s ⟨lf.1.1, j0⟩ (by omega)]
          rw [ej] at hL
          have ea : (cL S p w) + j + 1 = (cL S p w) + (j + 1) := by omega
          rw [ea]
          exact hL _ _
        · intro o12 o13
          have e31 : setR S p (coJ row (cT S p row) (cA S p w) (cL S p w) ((cT S p row (cA S p w)).2.1)) 3 p = coJ row (cT S p row) (cA S p w) (cL S p w) ((cT S p row (cA S p w)).2.1) := setR_p
          have j1' : coJ row (cT S p row) (cA S p w) (cL S p w) ((cT S p row (cA S p w)).2.1) 1 = row 1 := by
            unfold coJ
            rw [if_neg (by omega), if_neg (by omega)]
          have nl : nx (cT S p row) (((cT S p row (cA S p w)).2.1)).toNat (cA S p w) = row 1 := by
            have N := nx_lnA q1 okw q2 tl.1 tl.2.1 le1 tl.2.2.2.1 (mo := moS (setR S p row) p (S 0 0 0)) (a := (cA S p w)) aF.1 (by omega) (by rw [← eT]; exact z)
            rw [← eT, ← eTT] at N
            exact N.2.2
          refine w_correct_275 ?_
          rw [e31, j1', nl]
          refine ⟨by omega, fun _ => ⟨by omega, ?_⟩, fun z => absurd z (by omega)⟩
          rw [setR_u, coJ_e lf.1.1]
          exact sam 41 0 (by omega) (by omega) (by omega) (by omega) rfl V3 W3 fV3 fW3 old3 _ _
      have q := lin 0 (by omega) (by omega)
      rw [coJ_0] at q
      have e0 : (cL S p w) + 0 = (cL S p w) := by omega
      rw [e0] at q
      exact q _ _
    · -- nothing stands
      rw [tA.1] at z
      have H6'' := H6' z
      have v23' : ∀ i, 0 ≤ i → i < 645 → V3 23 i = (S 3 p) i := fun i a b => by
        rw [f3 23 rfl, f2 23 rfl]
        exact v23 i a b
      have back : ∀ i, 0 ≤ i → i ≤ 645 → ∀ ro : Int → Int, (∀ j, 0 ≤ j → j < i → ro j = (S 3 p) j) → (∀ j, ¬ (0 ≤ j ∧ j < i) → ro j = row j) → ∀ o11 o12 o13, am_W m_X5_correct (am_ev am_prog (d + 3)) K 254 [some (.inr (.inl r)), some (.inl (p)), some (.inl (w)), some (.inl (k)), some (.inl (130 + 645 * p)), some (.inl ((wfR (S 3 p) w (S 3 p 1).toNat).1)), some (.inl ((wfR (S 3 p) w (S 3 p 1).toNat).2)), some (.inl ((cL S p w))), some (.inl ((S 3 p) 4)), some (.inl ((cA S p w))), some (.inl (i)), o11, o12, o13] [] (mo b r (ms (setR S p ro)) V3 W3) := by
        refine lp_z ?_ ?_
        · intro i i0 i1 hL ro g1 g2 o11 o12 o13
          refine w_correct_254 ⟨fun z => absurd z (by omega), fun _ => ⟨by omega, by omega, ?_⟩⟩
          rw [setR_u, v23' i i0 i1]
          refine hL _ (fun j a b => ?_) (fun j hj => ?_) _ _ _
          · by_cases e : j = i
            · rw [e, am_uz_eq]
            · rw [am_uz_ne e]
              exact g1 j a (by omega)
          · rw [am_uz_ne (by omega)]
            exact g2 j (by omega)
        · intro ro g1 g2 o11 o12 o13
          have er : ro = (S 3 p) := by
            funext j
            by_cases c : 0 ≤ j ∧ j < 645
            · exact g1 j c.1 c.2
            · rw [g2 j c]
              exact cg.2.2.2.2.2.2.2 j (by omega)
          rw [er, setR_id]
          exact w_correct_254 ⟨fun _ => H6'' V3 W3 fV3 fW3, fun z => absurd z (by omega)⟩
      exact back 0 (by omega) (by omega) row (fun j a b => absurd b (by omega)) (fun j _ => rfl) _ _ _
  -- the row is put aside
  have aside : ∀ V' W', fa [11, 12, 13, 14, 15, 16, 17, 18, 20, 21, 22, 23, 24, 25, 26] V1 V' → fa [62, 63, 64, 65, 66, 67, 68, 73] W4 W' → (∀ j, (cL S p w) ≤ j → j < (S 3 p) 4 → (V' 21 j = ((lnS (S 3 p) j).length : Int) ∧ V' 22 j = (S 3 p) (45 + j) - 1 ∧ ∀ i : Nat, i < (lnS (S 3 p) j).length → V' 20 (430 * j + i) = gt (lnS (S 3 p) j) i)) → ∀ o11 o12 o13, am_W m_X5_correct (am_ev am_prog (d + 3)) K 218 [some (.inr (.inl r)), some (.inl (p)), some (.inl (w)), some (.inl (k)), some (.inl (130 + 645 * p)), some (.inl ((wfR (S 3 p) w (S 3 p 1).toNat).1)), some (.inl ((wfR (S 3 p) w (S 3 p 1).toNat).2)), some (.inl ((cL S p w))), some (.inl ((S 3 p) 4)), some (.inl ((cA S p w))), some (.inl (0)), o11, o12, o13] [] (mo b r (ms S) V' W') := by
    intro V' W' fV fW old
    have lp : ∀ i, 0 ≤ i → i ≤ 645 → ∀ V', fa [11, 12, 13, 14, 15, 16, 17, 18, 20, 21, 22, 23, 24, 25, 26] V1 V' → (∀ j, (cL S p w) ≤ j → j < (S 3 p) 4 → (V' 21 j = ((lnS (S 3 p) j).length : Int) ∧ V' 22 j = (S 3 p) (45 + j) - 1 ∧ ∀ i : Nat, i < (lnS (S 3 p) j).length → V' 20 (430 * j + i) = gt (lnS (S 3 p) j) i)) → (∀ j, 0 ≤ j → j < i → V' 23 j = (S 3 p) j) → ∀ o11 o12 o13, am_W m_X5_correct (am_ev am_prog (d + 3)) K 218 [some (.inr (.inl r)), some (.inl (p)), some (.inl (w)), some (.inl (k)), some (.inl (130 + 645 * p)), some (.inl ((wfR (S 3 p) w (S 3 p 1).toNat).1)), some (.inl ((wfR (S 3 p) w (S 3 p 1).toNat).2)), some (.inl ((cL S p w))), some (.inl ((S 3 p) 4)), some (.inl ((cA S p w))), some (.inl (i)), o11, o12, o13] [] (mo b r (ms S) V' W') := by
      refine lp_z ?_ ?_
      · intro i i0 i1 hL V' fV old g o11 o12 o13
        have u23 : am_up V' 23 (am_uz (V' 23) i ((S 3 p) i)) 23 = am_uz (V' 23) i ((S 3 p) i) := am_up_eq
        have u20 : am_up V' 23 (am_uz (V' 23) i ((S 3 p) i)) 20 = V' 20 := am_up_ne (by decide)
        have u21 : am_up V' 23 (am_uz (V' 23) i ((S 3 p) i)) 21 = V' 21 := am_up_ne (by decide)
        have u22 : am_up V' 23 (am_uz (V' 23) i ((S 3 p) i)) 22 = V' 22 := am_up_ne (by decide)
        refine w_correct_218 ⟨fun z => absurd z (by omega), fun _ => ⟨by omega, by omega, hL _ (fa_up fV rfl) (fun j a b => ?_) (fun j a b => ?_) _ _ _⟩⟩
        · rw [u20, u21, u22]
          exact old j a b
        · rw [u23]
          by_cases e : j = i
          · rw [e, am_uz_eq]
          · rw [am_uz_ne e]
            exact g j a (by omega)
      · intro V' fV old g o11 o12 o13
        exact main V' W' fV fW old g _ _ _
    exact lp 0 (by omega) (by omega) V' fV old (fun j a b => absurd b (by omega))
  -- the old lines are put aside
  have olds : ∀ j, (cL S p w) ≤ j → j ≤ (S 3 p) 4 → ∀ V' W', fa [11, 12, 13, 14, 15, 16, 17, 18, 20, 21, 22, 23, 24, 25, 26] V1 V' → fa [62, 63, 64, 65, 66, 67, 68, 73] W4 W' → (∀ y, (cL S p w) ≤ y → y < j → (V' 21 y = ((lnS (S 3 p) y).length : Int) ∧ V' 22 y = (S 3 p) (45 + y) - 1 ∧ ∀ i : Nat, i < (lnS (S 3 p) y).length → V' 20 (430 * y + i) = gt (lnS (S 3 p) y) i)) → ∀ o10 o11 o12 o13, am_W m_X5_correct (am_ev am_prog (d + 3)) K 162 [some (.inr (.inl r)), some (.inl (p)), some (.inl (w)), some (.inl (k)), some (.inl (130 + 645 * p)), some (.inl ((wfR (S 3 p) w (S 3 p 1).toNat).1)), some (.inl ((wfR (S 3 p) w (S 3 p 1).toNat).2)), some (.inl ((cL S p w))), some (.inl ((S 3 p) 4)), some (.inl (j)), o10, o11, o12, o13] [] (mo b r (ms S) V' W') := by
    refine lp_z ?_ ?_
    · intro j j0 j1 hL V' W' fV fW old o10 o11 o12 o13
      have q := lb j (by omega) j1
      refine w_correct_162 ⟨fun z => absurd z (by omega), fun _ => ?_⟩
      refine c_write (by omega) pb.1 ap.1 q.1 p4 q.2.1 q.2.2.1 q.2.2.2.1 (fun V2 W2 f2 fw2 w73 pf _ => am_an (w_correct_169 ⟨by omega, by omega, ?_⟩))
      have fV2 : fa [11, 12, 13, 14, 15, 16, 17, 18, 20, 21, 22, 23, 24, 25, 26] V1 V2 := fa_trans fV (fa_sub f2 rfl)
      have fW2 : fa [62, 63, 64, 65, 66, 67, 68, 73] W4 W2 := fa_trans fW (fa_sub fw2 rfl)
      rw [w73]
      have lp : ∀ i, 0 ≤ i → i ≤ ((lnS (S 3 p) j).length : Int) → ∀ V', fa [11, 12, 13, 14, 15, 16, 17, 18, 20, 21, 22, 23, 24, 25, 26] V1 V' → V' 17 = V2 17 → (∀ y, (cL S p w) ≤ y → y < j → (V' 21 y = ((lnS (S 3 p) y).length : Int) ∧ V' 22 y = (S 3 p) (45 + y) - 1 ∧ ∀ i : Nat, i < (lnS (S 3 p) y).length → V' 20 (430 * y + i) = gt (lnS (S 3 p) y) i)) → V' 21 j = ((lnS (S 3 p) j).length : Int) → V' 22 j = (S 3 p) (45 + j) - 1 → (∀ x : Nat, (x : Int) < i → V' 20 (430 * j + x) = gt (lnS (S 3 p) j) x) → am_W m_X5_correct (am_ev am_prog (d + 3)) K 191 [some (.inr (.inl r)), some (.inl (p)), some (.inl (w)), some (.inl (k)), some (.inl (130 + 645 * p)), some (.inl ((wfR (S 3 p) w (S 3 p 1).toNat).1)), some (.inl ((wfR (S 3 p) w (S 3 p 1).toNat).2)), some (.inl ((cL S p w))), some (.inl ((S 3 p) 4)), some (.inl (j)), some (.inl (i)), o11, o12, o13] [] (mo b r (ms S) V' W2) := by
        refine lp_z ?_ ?_
        · intro i i0 i1 hLi V' fV e17 old g1 g2 g3
          have a17 := pf i.toNat (by omega)
          have ii : ((i.toNat : Nat) : Int) = i := by omega
          rw [ii] at a17
          refine w_correct_191 ⟨fun z => absurd z (by omega), fun _ => ⟨by omega, by omega, ?_⟩⟩
          rw [e17, a17]
          have u20 : am_up V' 20 (am_uz (V' 20) (430 * j + i) (gt (lnS (S 3 p) j) i.toNat)) 20 = am_uz (V' 20) (430 * j + i) (gt (lnS (S 3 p) j) i.toNat) := am_up_eq
          have u21 : am_up V' 20 (am_uz (V' 20) (430 * j + i) (gt (lnS (S 3 p) j) i.toNat)) 21 = V' 21 := am_up_ne (by decide)
          have u22 : am_up V' 20 (am_uz (V' 20) (430 * j + i) (gt (lnS (S 3 p) j) i.toNat)) 22 = V' 22 := am_up_ne (by decide)
          have u17 : am_up V' 20 (am_uz (V' 20) (430 * j + i) (gt (lnS (S 3 p) j) i.toNat)) 17 = V' 17 := am_up_ne (by decide)
          refine hLi _ (fa_up fV rfl) (u17.trans e17) (fun x a b => ?_) (by rw [u21]; exact g1) (by rw [u22]; exact g2) (fun x hx => ?_)
          · obtain ⟨y1, y2, y3⟩ := old x a b
            have l420 := (lb x (by omega) (by omega)).2.2.2.1
            rw [u20, u21, u22]
            refine ⟨y1, y2, fun z hz => ?_⟩
            rw [am_uz_ne (by omega)]
            exact y3 z hz
          · rw [u20]
            by_cases e : x = i.toNat
            · rw [e, ii, am_uz_eq]
            · rw [am_uz_ne (by omega)]
              exact g3 x (by omega)
        · intro V' fV e17 old g1 g2 g3
          refine w_correct_191 ⟨fun _ => ⟨by omega, hL V' W2 fV fW2 (fun x a b => ?_) _ _ _ _⟩, fun z => absurd z (by omega)⟩
          by_cases e : x = j
          · rw [e]
            exact ⟨g1, g2, fun z hz => g3 z (by omega)⟩
          · exact old x a (by omega)
      have u21 : am_up (am_up V2 21 (am_uz (V2 21) j ((lnS (S 3 p) j).length : Int))) 22 (am_uz (V2 22) j ((S 3 p) (45 + j) - 1)) 21 = am_uz (V2 21) j ((lnS (S 3 p) j).length : Int) := (am_up_ne (by decide)).trans am_up_eq
      have u22 : am_up (am_up V2 21 (am_uz (V2 21) j ((lnS (S 3 p) j).length : Int))) 22 (am_uz (V2 22) j ((S 3 p) (45 + j) - 1)) 22 = am_uz (V2 22) j ((S 3 p) (45 + j) - 1) := am_up_eq
      have u20 : am_up (am_up V2 21 (am_uz (V2 21) j ((lnS (S 3 p) j).length : Int))) 22 (am_uz (V2 22) j ((S 3 p) (45 + j) - 1)) 20 = V2 20 := (am_up_ne (by decide)).trans (am_up_ne (by decide))
      refine lp 0 (by omega) (by omega) _ (fa_up (fa_up fV2 rfl) rfl) ((am_up_ne (by decide)).trans (am_up_ne (by decide))) (fun x a b => ?_) (by rw [u21, am_uz_eq]) (by rw [u22, am_uz_eq]) (fun x hx => absurd hx (by omega))
      rw [u20, u21, u22, am_uz_ne (by omega), am_uz_ne (by omega), f2 20 rfl, f2 21 rfl, f2 22 rfl]
      exact old x a b
    · intro V' W' fV fW old o10 o11 o12 o13
      refine w_correct_162 ⟨fun _ => ⟨?_, aside V' W' fV fW old _ _ _⟩, fun z => absurd z (by omega)⟩
      have z4 : -2 ≤ (S 3 p) (4 + (cL S p w)) ∧ (S 3 p) (4 + (cL S p w)) ≤ 1000 := by
        by_cases c : (cL S p w) = 0
        · rw [c]
          have e : (4 : Int) + 0 = 4 := by omega
          rw [e]
          omega
        · have q := lb ((cL S p w) - 1) (by omega) (by omega)
          have e : 5 + ((cL S p w) - 1) = 4 + (cL S p w) := by omega
          rw [e] at q
          omega
      omega
  -- the first line that is another
  have fst : ∀ j, 0 ≤ j → j ≤ (cL S p w) → ∀ o8 o9 o10 o11 o12 o13, am_W m_X5_correct (am_ev am_prog (d + 3)) K 141 [some (.inr (.inl r)), some (.inl (p)), some (.inl (w)), some (.inl (k)), some (.inl (130 + 645 * p)), some (.inl ((wfR (S 3 p) w (S 3 p 1).toNat).1)), some (.inl ((wfR (S 3 p) w (S 3 p 1).toNat).2)), some (.inl (j)), o8, o9, o10, o11, o12, o13] [] (mo b r (ms S) V1 W4) := by
    refine lp_z ?_ ?_
    · intro j j0 j1 hL o8 o9 o10 o11 o12 o13
      have q := lf.2.2 j j0 j1
      exact w_correct_141 ⟨by omega, fun z => absurd z (by omega), fun _ => ⟨by omega, hL _ _ _ _ _ _⟩⟩
    · intro o8 o9 o10 o11 o12 o13
      exact w_correct_141 ⟨by omega, fun _ => ⟨by omega, olds (cL S p w) (by omega) (by omega) V1 W4 fa_refl fa_refl (fun i a b => absurd b (by omega)) _ _ _ _⟩, fun z => absurd z (by omega)⟩
  exact fst 0 (by omega) lf.1.1
end
