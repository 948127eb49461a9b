set_option maxRecDepth 100000
/-! the component corrects: the lines of a part that is set -/
theorem rPap_sc {X : Nat → Prop} {h h' : am_H} {L : am_Lb} {x P : Nat} (y : rPap h L x P) (a : fx X h h') (hX : ∀ q, X q → q = P ∨ q = am_fr h 12 P ∨ q = am_fr h 13 P ∨ q = am_fr h 14 P) (hr : ∀ f, f ≠ 6 → f ≠ 7 → am_fr h' f P = am_fr h f P) : rPap h' L x P := by
  obtain ⟨y1, y2, y3, y4, y5, y6, y7, l, y8, y9⟩ := y
  have k5 : ¬ X (am_fr h 15 P) := fun z => by
    rcases hX _ z with e | e | e | e
    · exact nd_kne y5 y1 (by decide) e
    · exact nd_kne y5 y2.1 (by decide) e
    · exact nd_kne y5 y3.1 (by decide) e
    · exact nd_kne y5 y4.1 (by decide) e
  have k6 : ¬ X (am_fr h 185 (am_fr h 15 P)) := fun z => by
    rcases hX _ z with e | e | e | e
    · exact nd_kne y6 y1 (by decide) e
    · exact nd_kne y6 y2.1 (by decide) e
    · exact nd_kne y6 y3.1 (by decide) e
    · exact nd_kne y6 y4.1 (by decide) e
  have w5 := nd_fx a (leL_refl (L := L)) y5 k5
  have w6 := nd_fx a (leL_refl (L := L)) y6 k6
  have w1 := nd_fy a (leL_refl (L := L)) y1
  have w2 := nd_fy a (leL_refl (L := L)) y2.1
  have w3 := nd_fy a (leL_refl (L := L)) y3.1
  have w4 := nd_fy a (leL_refl (L := L)) y4.1
  unfold rPap
  rw [hr 12 (by decide) (by decide), hr 13 (by decide) (by decide), hr 14 (by decide) (by decide), hr 15 (by decide) (by decide), w5.2.2.2.1, w2.2, w3.2, w4.2, w6.2.1]
  refine ⟨w1.1, ⟨w2.1, y2.2⟩, ⟨w3.1, y3.2⟩, ⟨w4.1, y4.2⟩, w5.1, w6.1, y7, l, ?_, y9⟩
  unfold xB at y8 ⊢
  rw [w5.1.1, w5.2.2.2.1, w6.1.1, w5.2.2.1, w5.2.2.1, w6.2.1, w6.2.2.2.2.1]
  exact ⟨rfl, rfl, y8.2.2.1, y8.2.2.2.1, y8.2.2.2.2.1, ⟨w5.1.2.1, w6.1.2.1⟩, y8.2.2.2.2.2.2⟩
section
variable {K : am_K} {h : am_H}
/-- the new lines, by the best way -/
theorem x_cor149 {L : am_Lb} {x P N : Nat} {S : am_G} {B : Int} {p w k : Int} {tx row : Int → Int} {l : List am_Pz} {hV h4 h6 : am_H} {T mc r4 r9 q0 d : Nat} (hd : 89 ≤ d + 12) (tt : Nt hV L x P N S B) (hC : okC S) (hF : okF S) (hA : okA S) (hY : okY S) (hY1 : okY1 S) (hW : okWs S) (hM : okM S) (hG : okG S) (hX : okX S) (ip : isP S p) (s3 : (S 3 p) 3 = 1) (hB : B ≤ 1000000) (hk : 0 ≤ k ∧ k < S 0 0 3) (nj : ¬ hsJ S p) (j30 : S 5 k 29 < 30) (hmc : mc = am_ar hV (am_fr hV 23 N) k) (hT : T = am_ar hV (am_fr hV 20 N) p) (hw : 0 ≤ w ∧ w < (S 3 p) 0) (dl : 1 ≤ l.length ∧ (S 3 p) 1 - (wfR (S 3 p) w (S 3 p 1).toNat).2 + l.length ≤ 40) (cw : chW tx (S 3 p) w l row) (hx : am_ty hV x = 1 ∧ x ≤ am_sz hV) (lx : L x = (x, 0, 0, 0)) (hN : am_fr hV 1 x = N) (hP : am_fr hV 0 x = P) (a4 : fx (fun c => c = T) hV h4) (z4 : am_sz h4 = (am_sz hV + 1)) (u4 : am_us h4 ≤ am_us hV + 40) (f113 : am_fr h4 113 T = (am_sz hV + 1)) (i113 : iPc h4 L (am_sz hV + 1) row) (f114 : am_fi h4 114 T = row 0) (frT : ∀ f, f ≠ 113 → am_fr h4 f T = am_fr hV f T) (fiT : ∀ f, f ≠ 114 → am_fi h4 f T = am_fi hV f T) (a6 : fx (fun q => (L q).1 = x ∧ (L q).2.1 = 1) h4 h6) (z6 : am_sz h6 ≤ am_sz h4 + 7) (u6 : am_us h6 ≤ am_us h4 + 73) (p6 : rPap h6 L x P) (b0 : ((cT S p row) (cA S p w)).1 = -1 → q0 = 0) (b1 : ((cT S p row) (cA S p w)).1 ≠ -1 → q0 ≠ 0 ∧ am_ty h6 q0 = 101 ∧ q0 ≤ am_sz h6 ∧ am_ln h6 q0 = ((cT S p row (cA S p w)).2.1) ∧ ∀ i : Nat, (i : Int) < ((cT S p row (cA S p w)).2.1) → am_ai h6 q0 (i : Int) = nx (cT S p row) (i + 1) (cA S p w) - 1) (H6 : ((cT S p row) (cA S p w)).1 = -1 → ∀ h', Nt h' L x P N S B → Out hV L x N h' L 2400 27200 → K (.inl (some (.inl (-1)))) h') (H7 : ((cT S p row) (cA S p w)).1 ≠ -1 → ∀ h' L', Nt h' L' x P N (cF S p w k row) (B + 1) → Out hV L x N h' L' 2400 27200 → K (.inl (some (.inl (cC S p w row)))) h') : ∀ o13, am_W m_X1_correct (am_ev am_prog (d + 12)) K 149 [some (.inr (.inl (x))), some (.inl (p)), some (.inl (w)), some (.inl (k)), some (.inr (.inl (r4))), some (.inr (.inl (T))), some (.inr (.inl (mc))), some (.inl ((wfR (S 3 p) w (S 3 p 1).toNat).1)), some (.inl ((wfR (S 3 p) w (S 3 p 1).toNat).1 + (wfR (S 3 p) w (S 3 p 1).toNat).2)), some (.inr (.inl (r9))), some (.inr (.inl (am_fr hV 113 T))), some (.inr (.inl ((am_sz hV + 1)))), some (.inl ((cL S p w))), o13] [.inr (.inl q0)] h6 := by
  intro o13
  have t := tt
  obtain ⟨x1, x2, x3, x4, x5, x6, x7, x8, x9, x10⟩ := id t.2.2.2.1
  have xN := t.2.2.2.2
  have pb := isP_bd hC hF ip
  have ap := hA p ip
  have p1 := ap.1.1
  have oL := ap.2.2.2.2.2.2.1 s3
  have oL1 := oL.1
  have p4 := ap.2.2.2.2.2.2.2
  have pt := (x3.2.2 p pb.1.1 pb.1.2).2 ip
  rw [← hT] at pt
  have wf := wf_v ap.2.1 p1.1 ap.2.2.1 hw
  have wf1 := wf.1
  have Tz := pt.1.2.1
  have lT : L T = (N, 3, 1, p) := pt.1.2.2.2
  have nTx : ¬ ((L T).1 = x ∧ (L T).2.1 = 1) := fun z => by
    rw [lT] at z
    exact xN.1 z.1.symm
  have T4 := a4.2.2.2 T Tz
  have T6 := a6.2.2.2 T (by omega)
  have T6' := T6.2.2 nTx
  have tT6 : am_ty h6 T = 9 := T6.1.trans (T4.1.trans pt.1.1)
  have a46 : fx (fun q => q = T ∨ ((L q).1 = x ∧ (L q).2.1 = 1)) hV h6 := fx_trans2 (fx_sub a4 (fun q _ e => Or.inl e)) a6 (fun q _ e => Or.inr e)
  have X0l : ∀ q, (fun q => q = T ∨ ((L q).1 = x ∧ (L q).2.1 = 1)) q → (L q).1 ≠ 0 := fun q z => by
    rcases z with z | z
    · rw [z, lT]
      exact xN.2.2
    · rw [z.1]
      exact xN.2.1
  have X0i : ∀ q, q ≤ am_sz hV → (fun q => q = T ∨ ((L q).1 = x ∧ (L q).2.1 = 1)) q → (L q).1 ≠ 0 ∧ ¬ imT (am_ty hV q) := fun q hq z => ⟨X0l q z, fun w => X0l q z (t.1.2.1 q hq w)⟩
  have im4 : ∀ q, q ≤ am_sz h4 → (fun q => (L q).1 = x ∧ (L q).2.1 = 1) q → (L q).1 ≠ 0 ∧ ¬ imT (am_ty h4 q) := fun q hq z => ⟨X0l q (Or.inr z), fun w => X0l q (Or.inr z) ((okLb_fx a4 t.1).2.1 q hq w)⟩
  have i6 : iPc h6 L (am_sz hV + 1) row := iPc_fx a6 leL_refl im4 i113
  have hx6 : am_ty h6 x = 1 := (a46.2.2.2 x hx.2).1.trans hx.1
  have nj' : ∀ k i, 0 ≤ k → k < S 0 0 3 → 0 ≤ i → i < S 5 k 29 → S 5 k (33 + 5 * i) ≠ p := fun k i a b c d e => nj ⟨k, i, ⟨a, b⟩, ⟨c, d⟩, e⟩
  by_cases z : ((cT S p row) (cA S p w)).1 = -1
  · -- no way: the old pieces again
    have e0 := b0 z
    rw [e0]
    refine v_X1_correct_149 ⟨fun c => absurd rfl c, fun _ => ⟨tT6, ?_⟩⟩
    have ia := pt.2.2.2.2.2.2.1
    have iaX := iPc_fx a46 (leL_refl (L := L)) X0i ia
    refine x_has (m := ((S 3 p) 1).toNat) (g := fun k => am_b (ew (S 3 p) k)) (by omega) tT6 (Nat.le_trans Tz a46.1) iaX.1.1 iaX.1.2.2.2 (by rw [iaX.1.2.1]; omega) (by omega) (fun k k0 k1 => ?_) (fun h7 f7 z7 u7 e113 e114 frT7 fiT7 => am_an (v_X1_correct_155 ?_))
    · have q := iaX.1.2.2.1 k k0 (by omega)
      exact ⟨q.1, q.2.2.2, q.2.1, am_bz _⟩
    · have a47 : fx (fun q => q = T ∨ ((L q).1 = x ∧ (L q).2.1 = 1)) hV h7 := fx_trans2 a46 f7 (fun q _ e => Or.inl e)
      have okk := okLb_fx a47 t.1
      have e0 : am_fi h7 114 T = am_fi hV 114 T := by
        rw [e114, ew_sg ap.2.1 p1.1 ap.2.2.1]
        exact pt.2.2.2.2.1.symm
      have fi7 : ∀ f, am_fi h7 f T = am_fi hV f T := fun f => by
        by_cases c : f = 114
        · rw [c]
          exact e0
        · exact (fiT7 f c).trans ((T6'.1 f).trans (fiT f c))
      have fr7 : ∀ f, am_fr h7 f T = am_fr hV f T := fun f => by
        by_cases c : f = 113
        · rw [c]
          exact e113
        · exact (frT7 f c).trans ((T6'.2.1 f).trans (frT f c))
      have T7 := a47.2.2.2 T Tz
      obtain ⟨g1, g2, g3, g4, g5, g6, g7, g8, g9⟩ := pt
      obtain ⟨z1, z2, z3, z4', z5⟩ := g9 (by omega)
      have n118 : ¬ (fun q => q = T ∨ ((L q).1 = x ∧ (L q).2.1 = 1)) (am_fr hV 118 T) := fun e => by
        rcases e with e | e
        · exact nd_kne z3 g1 (by decide) e
        · rw [z3.2.2.2] at e
          exact xN.1 e.1.symm
      have w118 := nd_fx a47 (leL_refl (L := L)) z3 n118
      have pt7 : rPt h7 L N S p T := by
        unfold rPt
        rw [fi7, fi7, fi7, fi7, fi7, fr7, fr7, fr7, fr7, w118.2.1, w118.2.2.2.2.1]
        exact ⟨⟨T7.1.trans g1.1, Nat.le_trans Tz a47.1, g1.2.2⟩, g2, g3, g4, g5, g6, iPc_fx a47 leL_refl X0i g7, fun c => absurd c (by omega), fun _ => ⟨iA_fx a47 leL_refl (fun q hq e => (X0i q hq e).1) z1, iLi_fx a47 leL_refl X0i z2, w118.1, z4', z5⟩⟩
      have p7 : rPap h7 L x P := rPap_fx f7 leL_refl (fun q _ e y => by rw [e] at y; exact nTx y) p6
      have z46 : ∀ q, q ≤ am_sz hV → (fun q => q = T ∨ ((L q).1 = x ∧ (L q).2.1 = 1)) q → zf L N 4 q := fun q hq e => ⟨X0l q e, fun y => by
        rcases e with e | e
        · rw [e, lT] at y
          exact absurd y.2 (by show (3 : Nat) ≠ 4; decide)
        · rw [e.1] at y
          exact xN.1 y.1⟩
      have yG : rG h7 L N (am_fr hV 25 N) S B := rG_fx a47 leL_refl t.1 t.2.1.1 z46 (Int.le_refl _) rfl (fun _ _ _ => rfl) rfl x6
      have t7 : Nt h7 L x P N S B := Nt_cor t hT ip pb.1 (fx_sub a47 (fun q _ e => e.elim Or.inl (fun e => Or.inr (Or.inr e)))) leL_refl okk p7 rfl rfl ⟨rfl, rfl, rfl, rfl, rfl, rfl, rfl⟩ (fun _ _ => rfl) (fun _ _ _ _ _ => rfl) nj' yG pt7
      refine H6 z h7 t7 (Out_X t.1 a47 (fun q hq e => ?_) (by omega) (by omega))
      rcases e with e | e
      · rw [e, lT]
        exact Or.inl rfl
      · exact Or.inr e
  · -- the lines from there on
    obtain ⟨q1, q2, q3, q4, q5⟩ := b1 z
    obtain ⟨xx, yy, cg, rd, hxx, hyy⟩ := cw
    obtain ⟨k1, k2, k3, k4, k5, k6, k7, k8, k9⟩ := chg_ok ap.1 ap.2.1 ap.2.2.1 hw wf (by omega) hxx hyy cg
    have row1 : row 1 = (S 3 p) 1 + ((l.length : Int) - (wfR (S 3 p) w (S 3 p 1).toNat).2) := cg.2.2.1
    have rowb := k1.1
    have lf : (0 ≤ (cL S p w) ∧ (cL S p w) < (S 3 p) 4) ∧ (wfR (S 3 p) w (S 3 p 1).toNat).1 ≤ (S 3 p) (5 + (cL S p w)) ∧ ∀ k, 0 ≤ k → k < (cL S p w) → (S 3 p) (5 + k) < (wfR (S 3 p) w (S 3 p 1).toNat).1 := lnF_v (v := (S 3 p)) (f := (wfR (S 3 p) w (S 3 p 1).toNat).1) (n := (S 3 p) 4) ((S 3 p) 4).toNat 0 (by omega) (by omega) ⟨(S 3 p) 4 - 1, by omega, by omega, by
      have e : 5 + ((S 3 p) 4 - 1) = 4 + (S 3 p) 4 := by omega
      rw [e, oL.2.1]
      omega⟩ (fun k a b => absurd b (by omega))
    have Y1 : okY (setR S p row) := by
      unfold okY
      rw [setR_c (by decide), setR_c (by decide)]
      exact hY
    have Y2 : okY1 (setR S p row) := by
      unfold okY1
      rw [setR_c (by decide), setR_c (by decide)]
      exact hY1
    have tl := tells_bd (S := (setR S p row)) (p := p) (mi := S 0 0 0) Y1
    have le1 := leS_1 (S := (setR S p row)) (p := p) (mi := S 0 0 0) Y1 Y2
    have okw := hW _ pb.2.2.1.1 pb.2.2.1.2
    have eT : (cT S p row) = tb row (S 1 (S 2 0 (p / 5))) (meS (setR S p row) p (S 0 0 0)) (leS (setR S p row) p (S 0 0 0)) (moS (setR S p row) p (S 0 0 0)) (coS (setR S p row) p (S 0 0 0)) (row 1) (row 1).toNat := by
      show tbS (setR S p row) p (S 0 0 0) = _
      unfold tbS
      rw [setR_p, setR_c (by decide), setR_c (by decide)]
    have CE := coE_ok (S := S) (p := p) (f := (wfR (S 3 p) w (S 3 p 1).toNat).1) (l0 := (cL S p w)) (row := row) (wi := S 1 (S 2 0 (p / 5))) (me := meS (setR S p row) p (S 0 0 0)) (le := leS (setR S p row) p (S 0 0 0)) (mo := moS (setR S p row) p (S 0 0 0)) (co := coS (setR S p row) p (S 0 0 0)) ap.1 oL k1 k2 okw tl.1 tl.2.1 le1 tl.2.2.2.1 (by omega) lf.1 lf.2.2 cg.2.1 cg.2.2.2.1 k4 (a := (cA S p w)) rfl (by rw [← eT]; exact z)
    rw [← eT] at CE
    obtain ⟨e1, e2, e3, e4, e5, e6, e7⟩ := CE
    have eN : (cN S p w row) = (cL S p w) + ((cT S p row (cA S p w)).2.1) := rfl
    have eR : coE row (cT S p row) (cA S p w) (cL S p w) = (cR S p w row) := rfl
    rw [eR] at e3 e4 e5 e6
    have r24 : (cR S p w row) 4 = (cN S p w row) := coE_4 lf.1.1
    have ro : ∀ j, ¬ (5 + (cL S p w) ≤ j ∧ j < 5 + (cL S p w) + ((cT S p row (cA S p w)).2.1)) → ¬ (45 + (cL S p w) ≤ j ∧ j < 45 + (cL S p w) + ((cT S p row (cA S p w)).2.1)) → j ≠ 4 → (cR S p w row) j = row j := fun j a b c => coE_o a b c
    have i6u : iPc h6 L (am_sz hV + 1) (cR S p w row) := iPc_d (ro 1 (by omega) (by omega) (by omega)) (fun o ho => ro o (by omega) (by omega) (by omega)) i6
    refine v_X1_correct_149 ⟨fun _ => ⟨hx6, ?_⟩, fun c => absurd c q1⟩
    refine x_opens (u := (cR S p w row)) (n0 := (cN S p w row)) (l0 := (cL S p w)) (k := k) (p := p) (rw := (am_sz hV + 1)) (hb := hV) (dz := 2400) (du := 27200) (by omega) t hC hF hA hG hX ip s3 hT hM hB hk nj' j30 hmc r24 (fun j a b => ?_) (fun j a b => ?_) (fun j a b => coE_45 (by omega) (by omega) lf.1.1) ⟨?_, ?_, ?_⟩ ⟨lf.1.1, lf.1.2, by omega, by omega⟩ e3 e5 hx lx hN hP a46 p6 ((T6'.2.1 113).trans f113) i6u (fun g hg => (T6'.2.1 g).trans (frT g hg)) (fun g hg => (T6'.1 g).trans (fiT g hg)) ?_ ⟨q2, q3, by omega, fun i a b => ?_⟩ (by omega) (by omega) (fun c h' L' t' o' => am_av (v_X1_correct_163 (H7 z h' L' ?_ o'))) (fun c h' L' t' o' => am_av (v_X1_correct_163 (H7 z h' L' ?_ o')))
    · exact (ro _ (by omega) (by omega) (by omega)).trans (cg.2.1 _ (by omega) (by omega))
    · exact (ro _ (by omega) (by omega) (by omega)).trans (cg.2.1 _ (by omega) (by omega))
    · exact (ro _ (by omega) (by omega) (by omega)).trans cg.1
    · exact (ro _ (by omega) (by omega) (by omega)).trans (cg.2.1 _ (by omega) (by omega))
    · exact (ro _ (by omega) (by omega) (by omega)).trans (cg.2.1 _ (by omega) (by omega))
    · exact (T6'.1 114).trans (f114.trans (ro 0 (by omega) (by omega) (by omega)).symm)
    · have ei : ((i.toNat : Nat) : Int) = i := by omega
      have q := q5 i.toNat (by omega)
      rw [ei] at q
      have q6 : (cR S p w row) (5 + ((cL S p w) + i)) = nx (cT S p row) (((cL S p w) + i - (cL S p w)).toNat + 1) (cA S p w) - 1 := coE_5 (by omega)
      have e6 : ((cL S p w) + i - (cL S p w)).toNat = i.toNat := by omega
      rw [q6, e6]
      exact q
    · have e : cF S p w k row = cQ S p w row := if_neg (by
        have c' : cC S p w row ≤ 0 := c
        omega)
      rw [e]
      exact Nt_B (by omega) t'
    · have e : cF S p w k row = jbS (cQ S p w row) k p (cL S p w) ((cL S p w) + cC S p w row) 1 0 := if_pos c
      rw [e]
      exact t'
/-- a part that is set has other pieces: from there on -/
theorem x_cor123 {L : am_Lb} {x P N : Nat} {S : am_G} {B : Int} {p w k : Int} {tx row : Int → Int} {l : List am_Pz} {hV h4 : am_H} {T mc r4 r9 d : Nat} (hd : 89 ≤ d + 12) (tt : Nt hV L x P N S B) (hC : okC S) (hF : okF S) (hA : okA S) (hY : okY S) (hY1 : okY1 S) (hW : okWs S) (hM : okM S) (hG : okG S) (hX : okX S) (ip : isP S p) (s3 : (S 3 p) 3 = 1) (hB : B ≤ 1000000) (hk : 0 ≤ k ∧ k < S 0 0 3) (nj : ¬ hsJ S p) (j30 : S 5 k 29 < 30) (hmc : mc = am_ar hV (am_fr hV 23 N) k) (hT : T = am_ar hV (am_fr hV 20 N) p) (hw : 0 ≤ w ∧ w < (S 3 p) 0) (dl : 1 ≤ l.length ∧ (S 3 p) 1 - (wfR (S 3 p) w (S 3 p 1).toNat).2 + l.length ≤ 40) (cw : chW tx (S 3 p) w l row) (hx : am_ty hV x = 1 ∧ x ≤ am_sz hV) (lx : L x = (x, 0, 0, 0)) (hN : am_fr hV 1 x = N) (hP : am_fr hV 0 x = P) (a4 : fx (fun c => c = T) hV h4) (z4 : am_sz h4 = (am_sz hV + 1)) (u4 : am_us h4 ≤ am_us hV + 40) (f113 : am_fr h4 113 T = (am_sz hV + 1)) (i113 : iPc h4 L (am_sz hV + 1) row) (f114 : am_fi h4 114 T = row 0) (frT : ∀ f, f ≠ 113 → am_fr h4 f T = am_fr hV f T) (fiT : ∀ f, f ≠ 114 → am_fi h4 f T = am_fi hV f T) (H6 : ((cT S p row) (cA S p w)).1 = -1 → ∀ h', Nt h' L x P N S B → Out hV L x N h' L 2400 27200 → K (.inl (some (.inl (-1)))) h') (H7 : ((cT S p row) (cA S p w)).1 ≠ -1 → ∀ h' L', Nt h' L' x P N (cF S p w k row) (B + 1) → Out hV L x N h' L' 2400 27200 → K (.inl (some (.inl (cC S p w row)))) h') : ∀ o12 o13, am_W m_X1_correct (am_ev am_prog (d + 12)) K 123 [some (.inr (.inl (x))), some (.inl (p)), some (.inl (w)), some (.inl (k)), some (.inr (.inl (r4))), some (.inr (.inl (T))), some (.inr (.inl (mc))), some (.inl ((wfR (S 3 p) w (S 3 p 1).toNat).1)), some (.inl ((wfR (S 3 p) w (S 3 p 1).toNat).1 + (wfR (S 3 p) w (S 3 p 1).toNat).2)), some (.inr (.inl (r9))), some (.inr (.inl (am_fr hV 113 T))), some (.inr (.inl ((am_sz hV + 1)))), o12, o13] [] h4 := by
  intro o12 o13
  have t := tt
  obtain ⟨x1, x2, x3, x4, x5, x6, x7, x8, x9, x10⟩ := id t.2.2.2.1
  have xN := t.2.2.2.2
  have pb := isP_bd hC hF ip
  have ap := hA p ip
  have p1 := ap.1.1
  have oL := ap.2.2.2.2.2.2.1 s3
  have oL1 := oL.1
  have p4 := ap.2.2.2.2.2.2.2
  have pt := (x3.2.2 p pb.1.1 pb.1.2).2 ip
  rw [← hT] at pt
  have wf := wf_v ap.2.1 p1.1 ap.2.2.1 hw
  have wf1 := wf.1
  have Tz := pt.1.2.1
  have lT : L T = (N, 3, 1, p) := pt.1.2.2.2
  have T4 := a4.2.2.2 T Tz
  have tT4 : am_ty h4 T = 9 := T4.1.trans pt.1.1
  obtain ⟨z1, z2, z3, z4', z5⟩ := pt.2.2.2.2.2.2.2.2 (by omega)
  have f116 : am_fr h4 116 T = am_fr hV 116 T := frT 116 (by decide)
  have e116 := a4.2.2.2 _ z1.2.1
  have n116 : am_fr hV 116 T ≠ T := fun e => by
    have := z1.2.2.2.1
    rw [e, lT] at this
    exact xN.2.2 this
  have w116 := e116.2.2 n116
  have lf : (0 ≤ (cL S p w) ∧ (cL S p w) < (S 3 p) 4) ∧ (wfR (S 3 p) w (S 3 p 1).toNat).1 ≤ (S 3 p) (5 + (cL S p w)) ∧ ∀ k, 0 ≤ k → k < (cL S p w) → (S 3 p) (5 + k) < (wfR (S 3 p) w (S 3 p 1).toNat).1 := lnF_v (v := (S 3 p)) (f := (wfR (S 3 p) w (S 3 p 1).toNat).1) (n := (S 3 p) 4) ((S 3 p) 4).toNat 0 (by omega) (by omega) ⟨(S 3 p) 4 - 1, by omega, by omega, by
    have e : 5 + ((S 3 p) 4 - 1) = 4 + (S 3 p) 4 := by omega
    rw [e, oL.2.1]
    omega⟩ (fun k a b => absurd b (by omega))
  have ty116 : am_ty h4 (am_fr hV 116 T) = 101 := e116.1.trans z1.1
  have ln116 : am_ln h4 (am_fr hV 116 T) = (S 3 p) 4 := e116.2.1.trans z1.2.2.2.2.1
  have ai116 : ∀ j, 0 ≤ j → j < (S 3 p) 4 → am_ai h4 (am_fr hV 116 T) j = (S 3 p) (5 + j) := fun j a b => by
    rw [w116.2.2.1]
    exact z1.2.2.2.2.2 j a b
  have hx4 := a4.2.2.2 x hx.2
  have nxT : x ≠ T := fun e => by
    rw [← e, lx] at lT
    injection lT with lT _
    exact xN.1 lT
  have nNT : N ≠ T := fun e => by
    have := x1.1.1
    rw [e, pt.1.1] at this
    exact absurd this (by decide)
  have nPT : P ≠ T := fun e => by
    have := t.2.2.1.1.1
    rw [e, pt.1.1] at this
    exact absurd this (by decide)
  have tx4 : am_ty h4 x = 1 := hx4.1.trans hx.1
  have fx4 : am_fr h4 1 x = N := ((hx4.2.2 nxT).2.1 1).trans hN
  have hN4 := a4.2.2.2 N x1.1.2.1
  have tN4 : am_ty h4 N = 3 := hN4.1.trans x1.1.1
  have wN4 := hN4.2.2 nNT
  have f18 : am_fi h4 18 N = S 0 0 0 := (wN4.1 18).trans x1.2.2.1
  refine v_X1_correct_123 ⟨tT4, fun _ => ?_, fun c => absurd (f116.symm.trans c) z1.2.2.1⟩
  have loop : ∀ j, 0 ≤ j → j ≤ (cL S p w) → ∀ o13, am_W m_X1_correct (am_ev am_prog (d + 12)) K 130 [some (.inr (.inl (x))), some (.inl (p)), some (.inl (w)), some (.inl (k)), some (.inr (.inl (r4))), some (.inr (.inl (T))), some (.inr (.inl (mc))), some (.inl ((wfR (S 3 p) w (S 3 p 1).toNat).1)), some (.inl ((wfR (S 3 p) w (S 3 p 1).toNat).1 + (wfR (S 3 p) w (S 3 p 1).toNat).2)), some (.inr (.inl (r9))), some (.inr (.inl (am_fr hV 113 T))), some (.inr (.inl ((am_sz hV + 1)))), some (.inl (j)), o13] [] h4 := by
    refine lp_z ?_ ?_
    · intro j j0 j1 hL o13
      refine v_X1_correct_130 ?_
      rw [f116, ln116, ai116 j j0 (by omega)]
      exact ⟨⟨tT4, Or.inl ty116, by omega⟩, fun c => absurd c (by have := lf.2.2 j j0 j1; omega), fun _ => ⟨by omega, hL _⟩⟩
    · intro o13
      refine v_X1_correct_130 ?_
      rw [f116, ln116, ai116 _ lf.1.1 lf.1.2, fx4, f18]
      refine ⟨⟨tT4, Or.inl ty116, by omega⟩, fun _ => ⟨⟨tx4, tN4⟩, ?_⟩, fun c => absurd c (by have := lf.2.1; omega)⟩
      -- the paper
      have s2 : (setR S p row) 2 = S 2 := setR_c (by decide)
      have s1 : (setR S p row) 1 = S 1 := setR_c (by decide)
      have s6 : (setR S p row) 6 = S 6 := setR_c (by decide)
      have s0 : (setR S p row) 0 = S 0 := setR_c (by decide)
      have s3p : (setR S p row) 3 p = row := setR_p
      have Y1 : okY (setR S p row) := by
        unfold okY
        rw [setR_c (by decide), setR_c (by decide)]
        exact hY
      have hz : ∀ g, g ≠ 3 → ∀ q, q ≤ am_sz hV → q = T → zf L N g q := fun g g3 q hq e => ⟨by rw [e, lT]; exact xN.2.2, fun y => by
        rw [e, lT] at y
        exact g3 y.2.symm⟩
      have w4 := rW_fx a4 (leL_refl (L := L)) t.1 t.2.1.1 (hz 1 (by decide)) (S' := S) rfl x2
      have y4 := rY_fx a4 (leL_refl (L := L)) t.1 t.2.1.1 (hz 6 (by decide)) (Int.le_refl B) (S' := S) rfl rfl x4
      have P4 : rPap h4 L x P := rPap_fx a4 leL_refl (fun q _ e y => by
        rw [e, lT] at y
        exact xN.1 y.1.symm) t.2.2.1
      have xw := w4.2.2 (S 2 0 (p / 5)) pb.2.2.1.1 pb.2.2.1.2
      have hp4 : xPt h4 T (setR S p row) p := by
        unfold xPt
        rw [s2, s3p, fiT 111 (by decide), fiT 112 (by decide), f113]
        exact ⟨tT4, by omega, pt.2.2.1, pt.2.2.2.1, f114, i113.1⟩
      refine x_paper (S := (setR S p row)) (p := p) (by omega) Y1 (by rw [s2]; exact pb.2.2.1) tN4 (by have := x1.1.2.1; omega) (wN4.2.1 22) ((wN4.2.1 17).trans x1.2.1) (wN4.2.1 19) ⟨P4.1.1, P4.1.2.1⟩ ⟨w4.1.1, w4.2.1, w4.1.2.1⟩ (by rw [s1, s2]; exact xw.2) y4.1.1.1 (by rw [s0]; exact y4.1.2.2.2.2.1) (fun k k1 k2 => ?_) hp4 (fun h5 a z u xp hi hr h67 => am_av (v_X1_correct_145 ?_))
      · rw [s6]
        rw [s0] at k2
        exact (y4.2 k k1 k2).1
      · rw [s1, s2, s3p] at xp
        have p5 : rPap h5 L x P := rPap_sc P4 a (fun q e => Or.inl e) hr
        have sc : xScr h5 P := by
          refine sc_P p5 xN.1 (f := S 2 0 (p / 5)) ?_
          rw [h67.2, s2]
          have ne : am_ar h4 (am_fr hV 19 N) (S 2 0 (p / 5)) ≠ P := nd_one_ne xw.1 P4.1 (fun e => xN.1 e.symm)
          exact (nd_fx a (leL_refl (L := L)) xw.1 ne).1
        have xpP : ∀ q, q ≤ am_sz h4 → q = P → (fun q => (L q).1 = x ∧ (L q).2.1 = 1) q := fun q _ e => by
          show (L q).1 = x ∧ (L q).2.1 = 1
          exact sc_lb P4 (Or.inl e)
        obtain ⟨xx, yy, cg, rd, hxx, hyy⟩ := id cw
        obtain ⟨k1, k2, k3, k4, k5, k6, k7, k8, k9⟩ := chg_ok ap.1 ap.2.1 ap.2.2.1 hw wf (by omega) hxx hyy cg
        have row1 : row 1 = (S 3 p) 1 + ((l.length : Int) - (wfR (S 3 p) w (S 3 p 1).toNat).2) := cg.2.2.1
        have tl := tells_bd (S := (setR S p row)) (p := p) (mi := S 0 0 0) Y1
        have okw := hW _ pb.2.2.1.1 pb.2.2.1.2
        have eT : (cT S p row) = tb row (S 1 (S 2 0 (p / 5))) (meS (setR S p row) p (S 0 0 0)) (leS (setR S p row) p (S 0 0 0)) (moS (setR S p row) p (S 0 0 0)) (coS (setR S p row) p (S 0 0 0)) (row 1) (row 1).toNat := by
          show tbS (setR S p row) p (S 0 0 0) = _
          unfold tbS
          rw [setR_p, setR_c (by decide), setR_c (by decide)]
        have qL := oL.2.2 (cL S p w) lf.1.1 lf.1.2
        have aF : 0 ≤ (cA S p w) ∧ (cA S p w) ≤ (wfR (S 3 p) w (S 3 p 1).toNat).1 := by
          refine ⟨qL.1.1, ?_⟩
          show bg (S 3 p) (cL S p w) ≤ (wfR (S 3 p) w (S 3 p 1).toNat).1
          unfold bg
          by_cases c : (cL S p w) = 0
          · rw [if_pos c]
            omega
          · rw [if_neg c]
            have q := lf.2.2 ((cL S p w) - 1) (by omega) (by omega)
            have e : 5 + ((cL S p w) - 1) = 4 + (cL S p w) := by omega
            rw [e] at q
            omega
        have bT := tb_bd k1 okw (mo := moS (setR S p row) p (S 0 0 0)) tl.1 tl.2.1 tl.2.2.2.1 (n := row 1) (by have := k1.1; omega) (row 1).toNat (by omega) (cA S p w) (by omega) (by have := k1.1; omega)
        rw [← eT] at bT
        have T5 := a.2.2.2 T (by omega)
        have tT5 : am_ty h5 T = 9 := T5.1.trans tT4
        have f5 : am_fr h5 116 T = am_fr hV 116 T := ((T5.2.2 (fun e => nPT e.symm)).2.1 116).trans f116
        have q5 := a.2.2.2 (am_fr hV 116 T) (by have := z1.2.1; omega)
        have n5 : am_fr hV 116 T ≠ P := fun e => by
          rw [e, P4.1.1] at ty116
          exact absurd ty116 (by decide)
        have ai5 : ∀ j, 0 ≤ j → j < (S 3 p) 4 → am_ai h5 (am_fr hV 116 T) j = (S 3 p) (5 + j) := fun j b c => by
          rw [(q5.2.2 n5).2.2.1]
          exact ai116 j b c
        have fin : am_ev am_prog (d + 12) 208 [.inr (.inl P), .inl (cA S p w)] h5 (am_aft (am_hand m_X1_correct K (am_W m_X1_correct (am_ev am_prog (d + 12)) K) 148) (am_W m_X1_correct (am_ev am_prog (d + 12)) K) 148 [some (.inr (.inl (x))), some (.inl (p)), some (.inl (w)), some (.inl (k)), some (.inr (.inl (r4))), some (.inr (.inl (T))), some (.inr (.inl (mc))), some (.inl ((wfR (S 3 p) w (S 3 p 1).toNat).1)), some (.inl ((wfR (S 3 p) w (S 3 p 1).toNat).1 + (wfR (S 3 p) w (S 3 p 1).toNat).2)), some (.inr (.inl (r9))), some (.inr (.inl (am_fr hV 113 T))), some (.inr (.inl ((am_sz hV + 1)))), some (.inl ((cL S p w))), o13] []) := by
          refine x_best (by omega) k1 okw k2 xp tl.1 tl.2.1 tl.2.2.1 tl.2.2.2.1 sc (by omega) (fun n h6 a6 z6 u6 i16 hi6 hr6 => am_av ?_) (fun n h6 a6 z6 u6 ty ln ai i16 hi6 hr6 => am_av ?_)
          · rw [← eT] at n
            refine x_cor149 (h4 := h4) (tx := tx) (l := l) hd tt hC hF hA hY hY1 hW hM hG hX ip s3 hB hk nj j30 hmc hT hw dl cw hx lx hN hP a4 z4 u4 f113 i113 f114 frT fiT (fx_trans2 (fx_sub a xpP) a6 (fun q hq e => ?_)) (by omega) (by omega) (rPap_sc p5 a6 (fun q e => e.elim (fun e => Or.inr e) Or.inl) (fun f _ _ => hr6 f)) (fun _ => rfl) (fun c => absurd n c) H6 H7 _
            exact sc_lb p5 (e.elim (fun e => Or.inr e) Or.inl)
          · rw [← eT] at n ln ai u6
            refine x_cor149 (h4 := h4) (tx := tx) (l := l) hd tt hC hF hA hY hY1 hW hM hG hX ip s3 hB hk nj j30 hmc hT hw dl cw hx lx hN hP a4 z4 u4 f113 i113 f114 frT fiT (fx_trans2 (fx_sub a xpP) a6 (fun q hq e => ?_)) (by omega) ?_ (rPap_sc p5 a6 (fun q e => e.elim (fun e => Or.inr e) Or.inl) (fun f _ _ => hr6 f)) (fun c => absurd c n) (fun _ => ⟨by omega, ty, by omega, ln, ai⟩) H6 H7 _
            · exact sc_lb p5 (e.elim (fun e => Or.inr e) Or.inl)
            · rcases bT with e | e
              · exact absurd e n
              · have := e.2.1
                have := k1.1
                omega
        refine ⟨tT5, fun c => ⟨⟨by omega, ?_, ?_, ?_⟩, p5.1.1, ?_⟩, fun c => ⟨p5.1.1, ?_⟩⟩
        · rw [f5]
          exact Or.inl (q5.1.trans ty116)
        · rw [f5, q5.2.1, ln116]
          omega
        · rw [f5, ai5 _ (by omega) (by omega)]
          have q := lf.2.2 ((cL S p w) - 1) (by omega) (by omega)
          have q2 := (oL.2.2 ((cL S p w) - 1) (by omega) (by omega)).1
          omega
        · rw [f5, ai5 _ (by omega) (by omega)]
          have e : (S 3 p) (5 + ((cL S p w) - 1)) + 1 = (cA S p w) := by
            have e : 5 + ((cL S p w) - 1) = 4 + (cL S p w) := by omega
            rw [e]
            exact (if_neg c).symm
          rw [e]
          exact fin
        · have e : (0 : Int) = (cA S p w) := (if_pos c).symm
          have fin' := fin
          rw [← e] at fin'
          exact fin'
  exact loop 0 (by omega) lf.1.1 _
end
