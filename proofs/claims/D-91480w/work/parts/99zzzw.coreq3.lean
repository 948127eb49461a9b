set_option maxRecDepth 100000
/-! a corrected part's row -/
theorem chW_ok {S : am_G} {p w : Int} {t row : Int → Int} {l : List am_Pz} (hA : okA S) (ip : isP S p) (hw : 0 ≤ w ∧ w < (S 3 p) 0) (dl : 1 ≤ l.length) (d40 : (S 3 p) 1 - (wfR (S 3 p) w (S 3 p 1).toNat).2 + l.length ≤ 40) (cw : chW t (S 3 p) w l row) : okP row ∧ okN row ∧ row 0 = row (84 + row 1) + 1 ∧ row 0 = (S 3 p) 0 ∧ (∀ j, 2 ≤ j → j < 85 → row j = (S 3 p) j) ∧ row 1 = (S 3 p) 1 + (l.length - (wfR (S 3 p) w (S 3 p 1).toNat).2) := by
  obtain ⟨x, y, cg, rd, hx, hy⟩ := cw
  have ap := hA p ip
  obtain ⟨q1, q2, q3, q4, q5, q6, q7, q8, q9⟩ := chg_ok ap.1 ap.2.1 ap.2.2.1 hw (wf_v ap.2.1 ap.1.1.1 ap.2.2.1 hw) (by omega) hx hy cg
  exact ⟨q1, q2, q3, cg.1, cg.2.1, cg.2.2.1⟩
theorem cL_v {S : am_G} {p w : Int} (hA : okA S) (ip : isP S p) (hw : 0 ≤ w ∧ w < (S 3 p) 0) (s3 : (S 3 p) 3 = 1) : (0 ≤ (cL S p w) ∧ (cL S p w) < (S 3 p) 4) ∧ (wfR (S 3 p) w (S 3 p 1).toNat).1 ≤ (S 3 p) (5 + (cL S p w)) ∧ (∀ k, 0 ≤ k → k < (cL S p w) → (S 3 p) (5 + k) < (wfR (S 3 p) w (S 3 p 1).toNat).1) ∧ 0 ≤ (cA S p w) ∧ (cA S p w) ≤ (wfR (S 3 p) w (S 3 p 1).toNat).1 := by
  have ap := hA p ip
  have p1 := ap.1.1
  have oL := ap.2.2.2.2.2.2.1 s3
  have o4 := oL.1
  have wf := wf_v ap.2.1 p1.1 ap.2.2.1 hw
  have wf1 := wf.1
  have lf : (0 ≤ (cL S p w) ∧ (cL S p w) < (S 3 p) 4) ∧ (wfR (S 3 p) w (S 3 p 1).toNat).1 ≤ (S 3 p) (5 + (cL S p w)) ∧ ∀ k, 0 ≤ k → k < (cL S p w) → (S 3 p) (5 + k) < (wfR (S 3 p) w (S 3 p 1).toNat).1 := lnF_v (v := (S 3 p)) (f := (wfR (S 3 p) w (S 3 p 1).toNat).1) (n := (S 3 p) 4) ((S 3 p) 4).toNat 0 (by omega) (by omega) ⟨(S 3 p) 4 - 1, by omega, by omega, by
    have e : 5 + ((S 3 p) 4 - 1) = 4 + (S 3 p) 4 := by omega
    rw [e, oL.2.1]
    omega⟩ (fun k a b => absurd b (by omega))
  have q := oL.2.2 (cL S p w) lf.1.1 lf.1.2
  refine ⟨lf.1, lf.2.1, lf.2.2, ?_, ?_⟩
  · show 0 ≤ bg (S 3 p) (cL S p w)
    omega
  · show bg (S 3 p) (cL S p w) ≤ (wfR (S 3 p) w (S 3 p 1).toNat).1
    unfold bg
    by_cases c : (cL S p w) = 0
    · rw [if_pos c]
      omega
    · rw [if_neg c]
      have q := lf.2.2 ((cL S p w) - 1) (by omega) (by omega)
      have e : 5 + ((cL S p w) - 1) = 4 + (cL S p w) := by omega
      rw [e] at q
      omega
theorem cR_ok {S : am_G} {p w : Int} {t row : Int → Int} {l : List am_Pz} (hC : okC S) (hF : okF S) (hA : okA S) (hY : okY S) (hY1 : okY1 S) (hW : okWs S) (ip : isP S p) (hw : 0 ≤ w ∧ w < (S 3 p) 0) (s3 : (S 3 p) 3 = 1) (dl : 1 ≤ l.length) (d40 : (S 3 p) 1 - (wfR (S 3 p) w (S 3 p 1).toNat).2 + l.length ≤ 40) (cw : chW t (S 3 p) w l row) (z : ((cT S p row) (cA S p w)).1 ≠ -1) : (1 ≤ ((cT S p row (cA S p w)).2.1) ∧ (cL S p w) + ((cT S p row (cA S p w)).2.1) ≤ row 1) ∧ (okP (cR S p w row) ∧ okN (cR S p w row) ∧ lnOK (cR S p w row)) ∧ ((cR S p w row) 4 = (cN S p w row) ∧ ∀ j, j ≠ 4 → j < 5 ∨ 85 ≤ j → (cR S p w row) j = row j) ∧ (∀ l, 0 ≤ l → l < (cL S p w) → (cR S p w row) (5 + l) = (S 3 p) (5 + l) ∧ (cR S p w row) (45 + l) = (S 3 p) (45 + l) ∧ lnS (cR S p w row) l = lnS (S 3 p) l) ∧ ∀ l, (cL S p w) ≤ l → l < (cN S p w row) → (cR S p w row) (45 + l) = 0 := by
  obtain ⟨q1, q2, q3, q4, q5, q6⟩ := chW_ok hA ip hw dl d40 cw
  obtain ⟨lf1, lf2, lf3, a0, a1⟩ := cL_v hA ip hw s3
  have pb := isP_bd hC hF ip
  have ap := hA p ip
  have p1 := ap.1.1
  have oL := ap.2.2.2.2.2.2.1 s3
  have wf := wf_v ap.2.1 p1.1 ap.2.2.1 hw
  have wf1 := wf.1
  obtain ⟨x, y, cg, rd, hx, hy⟩ := cw
  have c4 := (chg_ok ap.1 ap.2.1 ap.2.2.1 hw wf (by omega) hx hy cg).2.2.2.1
  have Y1 : okY (setR S p row) := by
    unfold okY
    rw [setR_c (by decide), setR_c (by decide)]
    exact hY
  have Y2 : okY1 (setR S p row) := by
    unfold okY1
    rw [setR_c (by decide), setR_c (by decide)]
    exact hY1
  have e3p : (setR S p row) 3 p = row := setR_p
  have tl := tells_bd (S := (setR S p row)) (p := p) (mi := S 0 0 0) Y1
  have le1 := leS_1 (S := (setR S p row)) (p := p) (mi := S 0 0 0) Y1 Y2
  have s2 : (setR S p row) 2 = S 2 := setR_c (by decide)
  have s1 : (setR S p row) 1 = S 1 := setR_c (by decide)
  have okw := hW _ pb.2.2.1.1 pb.2.2.1.2
  have eT : tbS (setR S p row) p (S 0 0 0) = tb row (S 1 (S 2 0 (p / 5))) (meS (setR S p row) p (S 0 0 0)) (leS (setR S p row) p (S 0 0 0)) (moS (setR S p row) p (S 0 0 0)) (coS (setR S p row) p (S 0 0 0)) (row 1) (row 1).toNat := by
    unfold tbS
    rw [e3p, s1, s2]
  have eTT : (cT S p row) = tbS (setR S p row) p (S 0 0 0) := rfl
  have CE := coE_ok (S := S) (p := p) (f := (wfR (S 3 p) w (S 3 p 1).toNat).1) (l0 := (cL S p w)) (row := row) (wi := S 1 (S 2 0 (p / 5))) (me := meS (setR S p row) p (S 0 0 0)) (le := leS (setR S p row) p (S 0 0 0)) (mo := moS (setR S p row) p (S 0 0 0)) (co := coS (setR S p row) p (S 0 0 0)) ap.1 oL q1 q2 okw tl.1 tl.2.1 le1 tl.2.2.2.1 (by omega) lf1 lf3 cg.2.1 cg.2.2.2.1 c4 (a := (cA S p w)) rfl (by rw [← eT]; exact z)
  rw [← eT, ← eTT] at CE
  obtain ⟨e1, e2, e3, e4, e5, e6, e7⟩ := CE
  have r1 := q1.1
  have eR : coE row (cT S p row) (cA S p w) (cL S p w) = (cR S p w row) := rfl
  have eN : (cN S p w row) = (cL S p w) + ((cT S p row (cA S p w)).2.1) := rfl
  rw [eR] at e3 e4 e5 e6
  refine ⟨e2, ⟨e3, e4, e5⟩, ⟨coE_4 lf1.1, fun j j4 jb => coE_o (by omega) (by omega) j4⟩, fun l l0 l1 => ⟨?_, ?_, e6 l l0 l1⟩, fun l l0 l1 => coE_45 (by omega) (by omega) (by omega)⟩
  · exact (coE_o (by omega) (by omega) (by omega)).trans (q5 (5 + l) (by omega) (by omega))
  · exact (coE_o (by omega) (by omega) (by omega)).trans (q5 (45 + l) (by omega) (by omega))
theorem pkS_3 {S2 : am_G} {v : Int → Int} {p l0 n m s : Int} (h0 : 0 ≤ l0) (hm : m ≤ 40) (hs : s ≤ m - l0) {i : Int} (hi : i < 45 ∨ 85 ≤ i) : ∀ j : Nat, l0 + j ≤ n → pkS S2 v p l0 n m s j 3 p i = S2 3 p i
  | 0, _ => rfl
  | j + 1, hj => by
    have ih := pkS_3 (S2 := S2) (v := v) (p := p) (n := n) h0 hm hs hi j (by omega)
    show (if v (45 + (l0 + (j : Int))) = 0 then pkS S2 v p l0 n m s j else if n - s ≤ l0 + (j : Int) then u3 (u3 (u3 (pkS S2 v p l0 n m s j) 4 (v (45 + (l0 + (j : Int))) - 1) 5 (l0 + (j : Int) - n + m)) 4 (v (45 + (l0 + (j : Int))) - 1) 6 p) 3 p (45 + (l0 + (j : Int) - n + m)) (v (45 + (l0 + (j : Int)))) else u3 (u3 (u3 (pkS S2 v p l0 n m s j) 4 (v (45 + (l0 + (j : Int))) - 1) 4 2) 4 (v (45 + (l0 + (j : Int))) - 1) 5 (-1)) 4 (v (45 + (l0 + (j : Int))) - 1) 6 (-1)) 3 p i = S2 3 p i
    split
    · exact ih
    · split
      · next c1 c2 =>
        rw [u3_no (by omega), u3_r (by decide), u3_r (by decide)]
        exact ih
      · rw [u3_r (by decide), u3_r (by decide), u3_r (by decide)]
        exact ih
theorem pkS_3q {S2 : am_G} {v : Int → Int} {p l0 n m s q : Int} (hq : q ≠ p) : ∀ j : Nat, pkS S2 v p l0 n m s j 3 q = S2 3 q
  | 0 => rfl
  | j + 1 => by
    have ih := pkS_3q (S2 := S2) (v := v) (l0 := l0) (n := n) (m := m) (s := s) hq j
    show (if v (45 + (l0 + (j : Int))) = 0 then pkS S2 v p l0 n m s j else if n - s ≤ l0 + (j : Int) then u3 (u3 (u3 (pkS S2 v p l0 n m s j) 4 (v (45 + (l0 + (j : Int))) - 1) 5 (l0 + (j : Int) - n + m)) 4 (v (45 + (l0 + (j : Int))) - 1) 6 p) 3 p (45 + (l0 + (j : Int) - n + m)) (v (45 + (l0 + (j : Int)))) else u3 (u3 (u3 (pkS S2 v p l0 n m s j) 4 (v (45 + (l0 + (j : Int))) - 1) 4 2) 4 (v (45 + (l0 + (j : Int))) - 1) 5 (-1)) 4 (v (45 + (l0 + (j : Int))) - 1) 6 (-1)) 3 q = S2 3 q
    split
    · exact ih
    · split
      · rw [u3_rp hq, u3_r (by decide), u3_r (by decide)]
        exact ih
      · rw [u3_r (by decide), u3_r (by decide), u3_r (by decide)]
        exact ih
theorem cF_c {S : am_G} {p w k : Int} {row : Int → Int} {c : Nat} (h3 : c ≠ 3) (h4 : c ≠ 4) (h5 : c ≠ 5) : cF S p w k row c = S c := by
  have e : cQ S p w row c = S c := (pkS_c h3 h4 _).trans (setR_c h3)
  unfold cF
  split
  · have m : ∀ A : am_G, jbS A k p (cL S p w) ((cL S p w) + cC S p w row) 1 0 c = A c := fun A => by
      unfold jbS
      rw [u3_r h5, u3_r h5, u3_r h5, u3_r h5, u3_r h5, u3_r h5]
    rw [m]
    exact e
  · exact e
theorem cF_3 {S : am_G} {p w k : Int} {row : Int → Int} : cF S p w k row 3 = cQ S p w row 3 := by
  unfold cF
  split
  · unfold jbS
    rw [u3_r (by decide), u3_r (by decide), u3_r (by decide), u3_r (by decide), u3_r (by decide), u3_r (by decide)]
  · rfl
theorem cF_q {S : am_G} {p w k q : Int} {row : Int → Int} (h : q ≠ p) : cF S p w k row 3 q = S 3 q := by
  rw [cF_3]
  exact (pkS_3q h _).trans (setR_q h)
theorem cF_p {S : am_G} {p w k : Int} {t row : Int → Int} {l : List am_Pz} (hC : okC S) (hF : okF S) (hA : okA S) (hY : okY S) (hY1 : okY1 S) (hW : okWs S) (ip : isP S p) (hw : 0 ≤ w ∧ w < (S 3 p) 0) (s3 : (S 3 p) 3 = 1) (dl : 1 ≤ l.length) (d40 : (S 3 p) 1 - (wfR (S 3 p) w (S 3 p 1).toNat).2 + l.length ≤ 40) (cw : chW t (S 3 p) w l row) (z : ((cT S p row) (cA S p w)).1 ≠ -1) {i : Int} (hi : i < 45 ∨ 85 ≤ i) : cF S p w k row 3 p i = (cR S p w row) i := by
  obtain ⟨e2, _⟩ := cR_ok hC hF hA hY hY1 hW ip hw s3 dl d40 cw z
  have q1 := (chW_ok hA ip hw dl d40 cw).1.1
  have lf := (cL_v hA ip hw s3).1
  have eN : (cN S p w row) = (cL S p w) + ((cT S p row (cA S p w)).2.1) := rfl
  have sb : 0 ≤ cS S p w row ∧ cS S p w row ≤ (S 3 p) 4 - (cL S p w) ∧ cS S p w row ≤ (cN S p w row) - (cL S p w) := smN_b 41 0 (by omega) (by omega) (by omega)
  rw [cF_3]
  refine (pkS_3 lf.1 (by omega) (by omega) hi _ (by omega)).trans ?_
  rw [setR_p]
/-- two rows of the same word: the same answer, and states that say the same -/
theorem cor_eq {S : am_G} {p w k : Int} {t r1 r2 : Int → Int} {l : List am_Pz} (hC : okC S) (hF : okF S) (hA : okA S) (hY : okY S) (hY1 : okY1 S) (hW : okWs S) (ip : isP S p) (hw : 0 ≤ w ∧ w < (S 3 p) 0) (s3 : (S 3 p) 3 = 1) (dl : 1 ≤ l.length) (d40 : (S 3 p) 1 - (wfR (S 3 p) w (S 3 p 1).toNat).2 + l.length ≤ 40) (c1 : chW t (S 3 p) w l r1) (c2 : chW t (S 3 p) w l r2) : cT S p r2 = cT S p r1 ∧ ((cT S p r1 (cA S p w)).1 ≠ -1 → cC S p w r2 = cC S p w r1 ∧ eqS (cF S p w k r1) (cF S p w k r2) p) := by
  have q1 := chW_ok hA ip hw dl d40 c1
  have ap := hA p ip
  have wf := wf_v ap.2.1 ap.1.1.1 ap.2.2.1 hw
  have E := chW_eq wf ap.1.1.2 (by omega) q1.1 c1 c2
  have b1 := q1.1.1
  have eT : cT S p r2 = cT S p r1 := tbS_eq (setR_eq E) (by rw [setR_p]; omega)
  refine ⟨eT, fun z => ?_⟩
  obtain ⟨e2, ⟨e3, e4, e5⟩, ⟨e6, e7⟩, e8, e9⟩ := cR_ok hC hF hA hY hY1 hW ip hw s3 dl d40 c1 z
  have lf := (cL_v hA ip hw s3).1
  have eN : cN S p w r2 = cN S p w r1 := by
    unfold cN
    rw [eT]
  have hN : cN S p w r1 = (cL S p w) + (cT S p r1 (cA S p w)).2.1 := rfl
  have ER : eqR (cR S p w r1) (cR S p w r2) := by
    unfold cR
    rw [eT]
    exact coE_eq E ⟨lf.1, by omega⟩
  have eS : cS S p w r2 = cS S p w r1 := by
    unfold cS
    rw [eN]
    refine smN_eq (fun j j0 j1 => ?_) 41 0 (by decide)
    have y := (e5.2.2 j (by omega) (by omega)).1
    exact eq_lnS ER e3 ⟨by omega, by omega⟩ ⟨y.1, y.2.1⟩ (by have := e3.1; omega)
  have eC : cC S p w r2 = cC S p w r1 := by
    unfold cC
    rw [eN, eS]
  have EQ : eqS (cQ S p w r1) (cQ S p w r2) p := by
    unfold cQ
    rw [eN, eS]
    exact pkS_eq (setR_eq ER) lf.1 (by omega) _ (by omega)
  refine ⟨eC, ?_⟩
  unfold cF
  rw [eC]
  by_cases c : 0 < cC S p w r1
  · rw [if_pos c, if_pos c]
    exact jbS_eq EQ
  · rw [if_neg c, if_neg c]
    exact EQ
theorem cor_Nt {h : am_H} {L : am_Lb} {x P N : Nat} {S : am_G} {B : Int} {p w k : Int} {t r1 r2 : Int → Int} {l : List am_Pz} (hC : okC S) (hF : okF S) (hA : okA S) (hY : okY S) (hY1 : okY1 S) (hW : okWs S) (ip : isP S p) (hw : 0 ≤ w ∧ w < (S 3 p) 0) (s3 : (S 3 p) 3 = 1) (dl : 1 ≤ l.length) (d40 : (S 3 p) 1 - (wfR (S 3 p) w (S 3 p 1).toNat).2 + l.length ≤ 40) (c1 : chW t (S 3 p) w l r1) (c2 : chW t (S 3 p) w l r2) (z : (cT S p r1 (cA S p w)).1 ≠ -1) (tt : Nt h L x P N (cF S p w k r1) B) : Nt h L x P N (cF S p w k r2) B := by
  have E := ((cor_eq (k := k) hC hF hA hY hY1 hW ip hw s3 dl d40 c1 c2).2 z).2
  obtain ⟨e2, ⟨e3, e4, e5⟩, ⟨e6, e7⟩, e8, e9⟩ := cR_ok hC hF hA hY hY1 hW ip hw s3 dl d40 c1 z
  have fp := fun i hi => cF_p (k := k) hC hF hA hY hY1 hW ip hw s3 dl d40 c1 z (i := i) hi
  have pb := isP_bd hC hF ip
  have o1 := e3.1
  refine Nt_eqS E pb.1 (fun _ => ⟨?_, fun k a b => ?_, fun k i a b c d => ?_⟩) (fun _ _ => ⟨?_, ?_, fun l a b => ?_⟩) tt
  · rw [fp 1 (by omega)]
    exact o1
  · rw [fp (125 + k) (by omega), fp (85 + k) (by omega)]
    exact e3.2.1 k a b
  · rw [fp _ (by omega)]
    exact e3.2.2 k i a b c d
  · rw [fp 4 (by omega)]
    have := e5.1
    omega
  · rw [fp 4 (by omega)]
    have := e5.1
    omega
  · rw [fp 4 (by omega)] at b
    have y := (e5.2.2 l a b).1
    have eb : bg (cF S p w k r1 3 p) l = bg (cR S p w r1) l := by
      unfold bg
      rw [fp (4 + l) (by have := e5.1; omega)]
    rw [eb, fp (5 + l) (by have := e5.1; omega)]
    exact ⟨⟨y.1, y.2.1⟩, by omega⟩
/-- and where the part is not set -/
theorem cor_Nt0 {h : am_H} {L : am_Lb} {x P N : Nat} {S : am_G} {B : Int} {p w : Int} {t r1 r2 : Int → Int} {l : List am_Pz} (hC : okC S) (hF : okF S) (hA : okA S) (ip : isP S p) (hw : 0 ≤ w ∧ w < (S 3 p) 0) (s3 : (S 3 p) 3 = 0) (dl : 1 ≤ l.length) (d40 : (S 3 p) 1 - (wfR (S 3 p) w (S 3 p 1).toNat).2 + l.length ≤ 40) (c1 : chW t (S 3 p) w l r1) (c2 : chW t (S 3 p) w l r2) (tt : Nt h L x P N (setR S p r1) B) : Nt h L x P N (setR S p r2) B := by
  have q1 := chW_ok hA ip hw dl d40 c1
  have ap := hA p ip
  have wf := wf_v ap.2.1 ap.1.1.1 ap.2.2.1 hw
  have E := chW_eq wf ap.1.1.2 (by omega) q1.1 c1 c2
  have pb := isP_bd hC hF ip
  refine Nt_eqS (setR_eq E) pb.1 (fun _ => by rw [setR_p]; exact q1.1) (fun _ c => absurd ?_ c) tt
  rw [setR_p, q1.2.2.2.2.1 3 (by decide) (by decide)]
  exact s3
