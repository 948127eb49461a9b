set_option maxRecDepth 100000
/-! the component corrects: the whole -/
theorem ew_in {v : Int → Int} {w f o : Int} (wf : wfV v w f o) : (∀ k, f ≤ k → k < f + o - 1 → ¬ ew v k) ∧ ew v (f + o - 1) := by
  obtain ⟨w1, w2, w3, w4⟩ := wf
  refine ⟨fun k a b c => ?_, ?_⟩
  · have q1 := w3 k a (by omega)
    have q2 := w3 (k + 1) (by omega) (by omega)
    have e : 85 + (k + 1) = 86 + k := by omega
    rw [e] at q2
    rcases c with c | c
    · omega
    · exact c (q1.trans q2.symm)
  · by_cases c : f + o - 1 = v 1 - 1
    · exact Or.inl c
    · right
      have q1 := w3 (f + o - 1) (by omega) (by omega)
      have q2 := w4 (f + o) (by omega) (by omega)
      have e : 86 + (f + o - 1) = 85 + (f + o) := by omega
      rw [e]
      omega
/-- a part that is not set: its row is another -/
theorem Nt_row {hV h4 : am_H} {L : am_Lb} {x P N T : Nat} {S : am_G} {B p : Int} {row : Int → Int} (tt : Nt hV L x P N S B) (ip : isP S p) (pb : 0 ≤ p ∧ p < 100) (hT : T = am_ar hV (am_fr hV 20 N) p) (s3 : (S 3 p) 3 = 0) (r2 : row 2 = (S 3 p) 2) (r3 : row 3 = (S 3 p) 3) (a4 : fx (fun c => c = T) hV h4) (f113 : iPc h4 L (am_fr h4 113 T) row) (f114 : am_fi h4 114 T = row 0) (frT : ∀ f, f ≠ 113 → am_fr h4 f T = am_fr hV f T) (fiT : ∀ f, f ≠ 114 → am_fi h4 f T = am_fi hV f T) : Nt h4 L x P N (setR S p row) B := by
  have t := tt
  obtain ⟨x1, x2, x3, x4, x5, x6, x7, x8, x9, x10⟩ := id t.2.2.2.1
  have N0 := t.2.2.2.2.2.2
  have pt := (x3.2.2 p pb.1 pb.2).2 ip
  rw [← hT] at pt
  have s2 : setR S p row 2 = S 2 := setR_c (by decide)
  have s5 : setR S p row 5 = S 5 := setR_c (by decide)
  have s0 : setR S p row 0 = S 0 := setR_c (by decide)
  refine Nt_3 t (Int.le_refl _) a4 leL_refl (okLb_fx a4 t.1) (nd_one pt.1) (fun c c3 _ => setR_c c3) (fun j => by rw [s0]) s2 (fun k i _ _ _ _ => ?_) ?_
  · unfold bhd
    rw [s5]
    by_cases e : S 5 k (33 + 5 * i) = p
    · rw [e, setR_p, r3, s3, if_pos rfl, if_pos rfl]
    · rw [setR_q e]
  · refine rP_one a4 leL_refl t.1 N0 t.2.1.1 (p := p) (S := S) (fun q _ e => by rw [e, pt.1.2.2.2]; exact ⟨rfl, rfl, by show (1 : Nat) ≠ 0; decide, rfl⟩) (by rw [s0]) s2 (fun q hq => setR_q hq) x3 (fun _ => ?_)
    rw [← hT]
    obtain ⟨g1, g2, g3, g4, g5, g6, g7, g8, g9⟩ := pt
    have T4 := a4.2.2.2 T g1.2.1
    have e8 := g8 s3
    unfold rPt
    rw [s2, setR_p, fiT 110 (by decide), fiT 111 (by decide), fiT 112 (by decide), fiT 115 (by decide), frT 116 (by decide), frT 117 (by decide), frT 118 (by decide), r2, r3]
    exact ⟨⟨T4.1.trans g1.1, Nat.le_trans g1.2.1 a4.1, g1.2.2⟩, g2, g3, g4, f114, g6, f113, fun _ => e8, fun c => absurd s3 c⟩
section
variable {K : am_K} {h : am_H}
theorem x_cor122 {L : am_Lb} {x P N : Nat} {S : am_G} {B : Int} {p w k : Int} {tx row : Int → Int} {l : List am_Pz} {h0 hV : am_H} {A T mc r4 q d : Nat} (hd : 89 ≤ d + 12) (tt : Nt hV L x P N S B) (hC : okC S) (hF : okF S) (hA : okA S) (hY : okY S) (hY1 : okY1 S) (hW : okWs S) (hM : okM S) (hG : okG S) (hX : okX S) (ip : isP S p) (hB : B ≤ 1000000) (hk : 0 ≤ k ∧ k < S 0 0 3) (nj : (S 3 p) 3 ≠ 0 → ¬ hsJ S p) (j30 : S 5 k 29 < 30) (hmc : mc = am_ar hV (am_fr hV 23 N) k) (hT : T = am_ar hV (am_fr hV 20 N) p) (hw : 0 ≤ w ∧ w < (S 3 p) 0) (hc : chP tx 0 l 1) (la : laP l) (dl : 1 ≤ l.length ∧ (S 3 p) 1 - (wfR (S 3 p) w (S 3 p 1).toNat).2 + l.length ≤ 40) (cw : chW tx (S 3 p) w l row) (hx : am_ty hV x = 1 ∧ x ≤ am_sz hV) (lx : L x = (x, 0, 0, 0)) (hN : am_fr hV 1 x = N) (hP : am_fr hV 0 x = P) (ac : arC h0 hV A tx q l) (hL : ∀ c, am_sz h0 < c → (am_ty hV c = 102 ∨ am_ty hV c = 122) → (L c).1 = 0) (H5 : (S 3 p) 3 = 0 → ∀ h', Nt h' L x P N (setR S p row) B → Out hV L x N h' L 2400 27200 → K (.inl (some (.inl (0)))) h') (H6 : (S 3 p) 3 ≠ 0 → ((cT S p row) (cA S p w)).1 = -1 → ∀ h', Nt h' L x P N S B → Out hV L x N h' L 2400 27200 → K (.inl (some (.inl (-1)))) h') (H7 : (S 3 p) 3 ≠ 0 → ((cT S p row) (cA S p w)).1 ≠ -1 → ∀ h' L', Nt h' L' x P N (cF S p w k row) (B + 1) → Out hV L x N h' L' 2400 27200 → K (.inl (some (.inl (cC S p w row)))) h') : ∀ o12 o13, am_ev am_prog (d + 12) 274 [.inr (.inl T), .inr (.inl (am_sz hV + 1))] (am_war (am_war (am_war (am_new hV 115 (S 3 p 1 - (wfR (S 3 p) w (S 3 p 1).toNat).2 + (l.length : Int)).toNat) (am_sz hV + 1) (am_cpy (am_ar hV (am_fr hV 113 T)) (fun _ => 0) 0 0 (wfR (S 3 p) w (S 3 p 1).toNat).1)) (am_sz hV + 1) (am_cpy (am_ar hV q) (am_cpy (am_ar hV (am_fr hV 113 T)) (fun _ => 0) 0 0 (wfR (S 3 p) w (S 3 p 1).toNat).1) 0 (wfR (S 3 p) w (S 3 p 1).toNat).1 (l.length : Int))) (am_sz hV + 1) (am_cpy (am_ar hV (am_fr hV 113 T)) (am_cpy (am_ar hV q) (am_cpy (am_ar hV (am_fr hV 113 T)) (fun _ => 0) 0 0 (wfR (S 3 p) w (S 3 p 1).toNat).1) 0 (wfR (S 3 p) w (S 3 p 1).toNat).1 (l.length : Int)) ((wfR (S 3 p) w (S 3 p 1).toNat).1 + (wfR (S 3 p) w (S 3 p 1).toNat).2) ((wfR (S 3 p) w (S 3 p 1).toNat).1 + (l.length : Int)) ((S 3 p) 1 - ((wfR (S 3 p) w (S 3 p 1).toNat).1 + (wfR (S 3 p) w (S 3 p 1).toNat).2)))) (am_aft (am_hand m_X1_correct K (am_W m_X1_correct (am_ev am_prog (d + 12)) K) 122) (am_W m_X1_correct (am_ev am_prog (d + 12)) K) 122 [some (.inr (.inl (x))), some (.inl (p)), some (.inl (w)), some (.inl (k)), some (.inr (.inl (r4))), some (.inr (.inl (T))), some (.inr (.inl (mc))), some (.inl ((wfR (S 3 p) w (S 3 p 1).toNat).1)), some (.inl ((wfR (S 3 p) w (S 3 p 1).toNat).1 + (wfR (S 3 p) w (S 3 p 1).toNat).2)), some (.inr (.inl (q))), some (.inr (.inl (am_fr hV 113 T))), some (.inr (.inl ((am_sz hV + 1)))), o12, o13] []) := by
  intro o12 o13
  have pb := isP_bd hC hF ip
  have ap := hA p ip
  have pt := (tt.2.2.2.1.2.2.1.2.2 p pb.1.1 pb.1.2).2 ip
  rw [← hT] at pt
  refine x_hasW (by omega) tt pt ap.1 ap.2.1 ap.2.2.1 hw hc la dl cw ac hL (fun h4 a4 z4 u4 e113 i113 e114 frT fiT => am_an ?_)
  by_cases s3 : (S 3 p) 3 = 0
  · have r23 : row 2 = (S 3 p) 2 ∧ row 3 = (S 3 p) 3 := by
      obtain ⟨xx, yy, cg, _⟩ := cw
      exact ⟨cg.2.1 2 (by decide) (by decide), cg.2.1 3 (by decide) (by decide)⟩
    have T4 := a4.2.2.2 T pt.1.2.1
    refine v_X1_correct_123 ⟨T4.1.trans pt.1.1, fun c => absurd ((frT 116 (by decide)).trans (pt.2.2.2.2.2.2.2.1 s3).1) c, fun _ => ?_⟩
    exact H5 s3 h4 (Nt_row tt ip pb.1 hT s3 r23.1 r23.2 a4 (by rw [e113]; exact i113) e114 frT fiT) (Out_G tt.1 a4 (nd_one pt.1) (by omega) (by omega))
  · have s1 : (S 3 p) 3 = 1 := by
      have := ap.2.2.2.2.1
      omega
    exact x_cor123 (tx := tx) (l := l) hd tt hC hF hA hY hY1 hW hM hG hX ip s1 hB hk (nj s3) j30 hmc hT hw dl cw hx lx hN hP a4 z4 u4 e113 i113 e114 frT fiT (H6 s3) (H7 s3) _ _
/-- the room's numbers and the frame, behind a piece that left the room's own cell -/
theorem XAF_out {L : am_Lb} {x N : Nat} {hV h' : am_H} {L' : am_Lb} {dz du : Nat} (ok : okLb h L) (hz : x ≤ am_sz h) (hl : L x = (x, 0, 0, 0)) (xN : x ≠ N ∧ x ≠ 0 ∧ N ≠ 0) (f : fx (fun q => q = x) h hV) (hr : ∀ f, am_fr hV f x = am_fr h f x) (hi : ∀ f, f ≠ 4 → f ≠ 5 → am_fi hV f x = am_fi h f x) (o : Out hV L x N h' L' dz du) {dz' du' : Nat} (z : am_sz hV + dz ≤ am_sz h + dz') (u : am_us hV + du ≤ am_us h + du') : OutX h L x N h' L' dz' du' ∧ ∀ g, am_fi h' g x = am_fi hV g x := by
  obtain ⟨o1, o2, o3, o4⟩ := o
  have kx := (o1.2.2.2 x (Nat.le_trans hz f.1)).2.2 (fun e => by
    have e' : (L x).1 = N ∨ ((L x).1 = x ∧ (L x).2.1 = 1) := e
    rw [hl] at e'
    rcases e' with e' | e'
    · exact xN.1 e'
    · exact absurd e'.2 (by show (0 : Nat) ≠ 1; decide))
  refine ⟨⟨fx_trans2 (fx_sub f (fun q _ e => Or.inr (Or.inr e))) o1 (fun q _ e => e.elim Or.inl (fun e => Or.inr (Or.inl ⟨e.1, Or.inl e.2⟩))), fun q hq => o2 q (Nat.le_trans hq f.1), ⟨by omega, by omega⟩, fun q hq => ?_, fun g => (kx.2.1 g).trans (hr g), fun g g4 g5 => (kx.1 g).trans (hi g g4 g5)⟩, kx.1⟩
  by_cases c : q ≤ am_sz hV
  · rw [o2 q c]
    exact Or.inl (ok.2.2 q hq)
  · exact o4 q (by omega)
/-- a word is corrected -/
theorem X_correct {L : am_Lb} {x P N : Nat} {S : am_G} {B : Int} {t : Int → Int} {n p w k : Int} {D : Nat} (hD : 90 ≤ D) (tt : Nt h L x P N S B) (hx : am_ty h x = 1) (hN : am_fr h 1 x = N) (hP : am_fr h 0 x = P) (hz : x ≤ am_sz h) (hl : L x = (x, 0, 0, 0)) (hB : B ≤ 1000000) (hC : okC S) (hF : okF S) (hA : okA S) (hY : okY S) (hY1 : okY1 S) (hW : okWs S) (hM : okM S) (hG : okG S) (hX : okX S) (tp : TpX h L x t n) (H1 : ¬ (isP S p ∧ (0 ≤ k ∧ k < S 0 0 3) ∧ (0 ≤ w ∧ w < S 3 p 0)) → XTF h L x P N S B K 33 (am_fi h 5 x) 4200 34000) (H2 : (isP S p ∧ (0 ≤ k ∧ k < S 0 0 3) ∧ (0 ≤ w ∧ w < S 3 p 0)) → ∀ q, onR t n (S 3 p 1 - (wfR (S 3 p) w (S 3 p 1).toNat).2) = .inl q → XTF h L x P N S B K 35 (q) 4200 34000) (H3 : (isP S p ∧ (0 ≤ k ∧ k < S 0 0 3) ∧ (0 ≤ w ∧ w < S 3 p 0)) → ∀ l, onR t n (S 3 p 1 - (wfR (S 3 p) w (S 3 p 1).toNat).2) = .inr l → (S 3 p) 3 ≠ 0 → hsJ S p → XTF h L x P N S B K 40 (-1) 4200 34000) (H4 : (isP S p ∧ (0 ≤ k ∧ k < S 0 0 3) ∧ (0 ≤ w ∧ w < S 3 p 0)) → ∀ l, onR t n (S 3 p 1 - (wfR (S 3 p) w (S 3 p 1).toNat).2) = .inr l → ¬ ((S 3 p) 3 ≠ 0 ∧ hsJ S p) → S 5 k 29 = 30 → XTF h L x P N S B K 37 (-1) 4200 34000) (H5 : (isP S p ∧ (0 ≤ k ∧ k < S 0 0 3) ∧ (0 ≤ w ∧ w < S 3 p 0)) → ∀ l, onR t n (S 3 p 1 - (wfR (S 3 p) w (S 3 p 1).toNat).2) = .inr l → S 5 k 29 ≠ 30 → ¬ ((S 3 p) 3 ≠ 0 ∧ hsJ S p) → ∃ row, chW t (S 3 p) w l row ∧ ((S 3 p) 3 = 0 → XAF h L x P N (setR S p row) B K (0) (-1) 4200 34000) ∧ ((S 3 p) 3 ≠ 0 → ((cT S p row) (cA S p w)).1 = -1 → XAF h L x P N S B K (-1) (-1) 4200 34000) ∧ ((S 3 p) 3 ≠ 0 → ((cT S p row) (cA S p w)).1 ≠ -1 → XAF h L x P N (cF S p w k row) (B + 1) K (cC S p w row) (-1) 4200 34000)) : am_ev am_prog D 161 [.inr (.inl x), .inl p, .inl w, .inl k] h K := by
  have ok := tt.1
  have xN := tt.2.2.2.2
  have c3 := hC.2.2.1
  obtain ⟨u1, u2, u3', u4, u5, u6, u7, u8, u9⟩ := used_ok tt hx hz hl tp
  obtain ⟨p1, p2, p3, p4, p5⟩ := tp
  obtain ⟨g1, g2, g3, g4⟩ := P_fc tt
  obtain ⟨x1, x2, x3, x4, x5, x6, x7, x8, x9, x10⟩ := id tt.2.2.2.1
  obtain ⟨d, rfl⟩ : ∃ d, D = d + 13 := ⟨D - 13, by omega⟩
  refine am_en p_X1_correct rfl rfl ?_
  refine v_X1_correct_0 ⟨hx, by omega, ⟨hz, p2.2.1, Or.inl p2.1, by omega⟩, ?_⟩
  generalize hh1 : (am_sfi (am_wai (am_new h 102 (am_fi h 4 x).toNat) (am_sz h + 1) (am_cpy (am_ai h (am_fr h 3 x)) (fun _ => 0) 0 0 (am_fi h 4 x))) 4 x 0) = h1 at *
  rw [← u4, hN, x1.2.2.2.2.1, g3, x5.2.1]
  have thr : ¬ (isP S p ∧ (0 ≤ k ∧ k < S 0 0 3) ∧ (0 ≤ w ∧ w < S 3 p 0)) → K (.inr (am_sz h1 + 1)) (am_new h1 33 6) := fun c => XTF_go u3' ok hz u1 u8 (fun g g4 _ => u7 g g4) u6 (u7 5 (by decide)) (by omega) (by omega) (H1 c)
  refine ⟨fun c => thr (fun z => c (by have := isP_bd hC hF z.1; omega)), fun c => ⟨⟨x1.1.2.1, g1, x3.1.2.1, g2, by omega⟩, fun e => thr (fun z => ((g4 p c.1 (by omega)).2 z.1).1.2.2.1 e), fun e => ?_⟩⟩
  have ip : isP S p := Classical.byContradiction fun z => e ((g4 p c.1 (by omega)).1 z)
  have pt0 := (g4 p c.1 (by omega)).2 ip
  have pb := isP_bd hC hF ip
  have ap := hA p ip
  have o1 := ap.1.1
  have w84 := (ap.1.2.1 ((S 3 p) 1 - 1) (by omega) (by omega)).2
  have e84 : 85 + ((S 3 p) 1 - 1) = 84 + (S 3 p) 1 := by omega
  rw [e84] at w84
  have v0 := ap.2.2.1
  rw [pt0.2.2.2.2.1]
  refine ⟨⟨pt0.1.2.1, pt0.1.1, by omega⟩, fun cw => ⟨by omega, fun ck => ⟨⟨x5.1.2.1, x5.1.1, by omega⟩, ?_⟩, fun c => thr (fun z => c (by omega))⟩, fun c => thr (fun z => c (by omega))⟩
  have OK : (isP S p ∧ (0 ≤ k ∧ k < S 0 0 3) ∧ (0 ≤ w ∧ w < S 3 p 0)) := ⟨ip, by omega, by omega⟩
  have H2' := H2 OK
  have H3' := H3 OK
  have H4' := H4 OK
  have H5' := H5 OK
  have wf := wf_v ap.2.1 o1.1 v0 OK.2.2
  have wf1 := wf.1
  have ewi := ew_in wf
  -- the part and the machine, in any later heap
  have nxN : ¬ N = x := fun e => xN.1 e.symm
  have nPx : ¬ am_fr h 20 N = x := fun e => by
    have := x3.1.1
    rw [e, hx] at this
    exact absurd this (by decide)
  have nMx : ¬ am_fr h 23 N = x := fun e => by
    have := x5.1.1
    rw [e, hx] at this
    exact absurd this (by decide)
  have lk : ∀ hV, fx (fun q => q = x) h hV → (am_ar h (am_fr h 20 N) p) = am_ar hV (am_fr hV 20 N) p ∧ (am_ar h (am_fr h 23 N) k) = am_ar hV (am_fr hV 23 N) k := fun hV f => by
    have kN := (f.2.2.2 N x1.1.2.1).2.2 nxN
    have kP := (f.2.2.2 _ x3.1.2.1).2.2 nPx
    have kM := (f.2.2.2 _ x5.1.2.1).2.2 nMx
    rw [kN.2.1 20, kN.2.1 23, kP.2.2.2, kM.2.2.2]
    exact ⟨rfl, rfl⟩
  have ptV : ∀ hV, fx (fun q => q = x) h hV → Nt hV L x P N S B → rPt hV L N S p (am_ar h (am_fr h 20 N) p) := fun hV f t => by
    have q := (t.2.2.2.1.2.2.1.2.2 p pb.1.1 pb.1.2).2 ip
    rw [← (lk hV f).1] at q
    exact q
  have mcV : ∀ hV, fx (fun q => q = x) h hV → Nt hV L x P N S B → rMc hV L N S k (am_ar h (am_fr h 23 N) k) B := fun hV f t => by
    have q := t.2.2.2.1.2.2.2.2.1.2.2 k OK.2.1.1 OK.2.1.2
    rw [← (lk hV f).2] at q
    exact q
  have pt1 := ptV h1 u1 u3'
  have pc1 := pt1.2.2.2.2.2.2.1.1
  refine x_firstW (by omega) pt1.1.1 rfl pc1 ap.1 ap.2.1 wf (am_av (v_X1_correct_22 ?_))
  have u2' : TxT h1 (am_sz h1) t n := by
    rw [u4]
    exact u2
  -- the reader's answer
  have rest : ∀ o9 o10 o11 o12 o13 h3, fx (fun _ => False) h1 h3 → ∀ l r, onR t n (S 3 p 1 - (wfR (S 3 p) w (S 3 p 1).toNat).2) = .inr l → arC h1 h3 (am_sz h1 + 3) t r l → (am_sz h3 : Int) ≤ am_sz h1 + 1303 → (am_us h3 : Int) ≤ am_us h1 + 6025 → am_W m_X1_correct (am_ev am_prog (d + 12)) K 46 [some (.inr (.inl (x))), some (.inl (p)), some (.inl (w)), some (.inl (k)), some (.inr (.inl (am_sz h1))), some (.inr (.inl ((am_ar h (am_fr h 20 N) p)))), some (.inr (.inl ((am_ar h (am_fr h 23 N) k)))), some (.inl ((wfR (S 3 p) w (S 3 p 1).toNat).1)), some (.inl ((wfR (S 3 p) w (S 3 p 1).toNat).1 + (wfR (S 3 p) w (S 3 p 1).toNat).2)), o9, o10, o11, o12, o13] [.inr (.inl r)] h3 := by
    intro o9 o10 o11 o12 o13 h3 f3 l r hl' ac z3 us3
    have ov := onR_v (by omega) hl'
    have xk := f3.2.2.2 x (by have := u1.1; omega)
    have xs := xk.2.2 (fun z => z)
    have tx : am_ty h3 x = 1 := xk.1.trans u9
    have t3 := Nt_fx0 f3 u3'
    have nN : am_fr h3 1 x = N := (xs.2.1 1).trans ((u8 1).trans hN)
    have f13 : fx (fun q => q = x) h h3 := fx_trans2 u1 f3 (fun q _ z => z.elim)
    have f5 : fx (fun q => q = x) h (am_sfi h3 5 x (-1)) := fx_sfi f13 (Or.inr rfl)
    have f35 : fx (fun q => q = x) h3 (am_sfi h3 5 x (-1)) := fx_sfi fx_refl (Or.inr rfl)
    have tB : Nt (am_sfi h3 5 x (-1)) L x P N S B := Nt_x t3 f35 (fun q _ z => by rw [z, hl]; exact ⟨rfl, by show (0 : Nat) ≠ 1; decide⟩)
    have zB : am_sz (am_sfi h3 5 x (-1)) = am_sz h3 := rfl
    have usB : am_us (am_sfi h3 5 x (-1)) = am_us h3 := rfl
    have hrB : ∀ g, am_fr (am_sfi h3 5 x (-1)) g x = am_fr h g x := fun g => (xs.2.1 g).trans (u8 g)
    have hiB : ∀ g, g ≠ 4 → g ≠ 5 → am_fi (am_sfi h3 5 x (-1)) g x = am_fi h g x := fun g g4' g5' => (x_fif g5').trans ((xs.1 g).trans (u7 g g4'))
    have i4B : am_fi (am_sfi h3 5 x (-1)) 4 x = 0 := (x_fif (by decide)).trans ((xs.1 4).trans u6)
    have i5B : am_fi (am_sfi h3 5 x (-1)) 5 x = -1 := x_fie
    have pt3 := ptV h3 f13 t3
    have mc3 := mcV h3 f13 t3
    have rx : r ≠ x := fun e => by
      have := ac.1
      rw [e, tx] at this
      exact absurd this (by decide)
    have acB : arC h1 (am_sfi h3 5 x (-1)) (am_sz h1 + 3) t r l := arC_fx f35 (fun q _ z => by rw [z, tx]; exact ⟨by decide, by decide, by decide, fun y => absurd y (by decide)⟩) ac
    have lab : ∀ c, am_sz h1 < c → (L c).1 = 0 := fun c hc => ok.2.2 c (by have := u1.1; omega)
    -- the answers
    have go : ∀ hV, fx (fun _ => False) (am_sfi h3 5 x (-1)) hV → am_sz hV ≤ am_sz h3 + 4 → am_us hV ≤ am_us h3 + 16 → ((S 3 p) 3 ≠ 0 → ¬ hsJ S p) → S 5 k 29 < 30 → ∀ o12 o13, am_ev am_prog (d + 12) 274 [.inr (.inl (am_ar h (am_fr h 20 N) p)), .inr (.inl (am_sz hV + 1))] (am_war (am_war (am_war (am_new hV 115 (S 3 p 1 - (wfR (S 3 p) w (S 3 p 1).toNat).2 + (l.length : Int)).toNat) (am_sz hV + 1) (am_cpy (am_ar hV (am_fr hV 113 (am_ar h (am_fr h 20 N) p))) (fun _ => 0) 0 0 (wfR (S 3 p) w (S 3 p 1).toNat).1)) (am_sz hV + 1) (am_cpy (am_ar hV r) (am_cpy (am_ar hV (am_fr hV 113 (am_ar h (am_fr h 20 N) p))) (fun _ => 0) 0 0 (wfR (S 3 p) w (S 3 p 1).toNat).1) 0 (wfR (S 3 p) w (S 3 p 1).toNat).1 (l.length : Int))) (am_sz hV + 1) (am_cpy (am_ar hV (am_fr hV 113 (am_ar h (am_fr h 20 N) p))) (am_cpy (am_ar hV r) (am_cpy (am_ar hV (am_fr hV 113 (am_ar h (am_fr h 20 N) p))) (fun _ => 0) 0 0 (wfR (S 3 p) w (S 3 p 1).toNat).1) 0 (wfR (S 3 p) w (S 3 p 1).toNat).1 (l.length : Int)) ((wfR (S 3 p) w (S 3 p 1).toNat).1 + (wfR (S 3 p) w (S 3 p 1).toNat).2) ((wfR (S 3 p) w (S 3 p 1).toNat).1 + (l.length : Int)) ((S 3 p) 1 - ((wfR (S 3 p) w (S 3 p 1).toNat).1 + (wfR (S 3 p) w (S 3 p 1).toNat).2)))) (am_aft (am_hand m_X1_correct K (am_W m_X1_correct (am_ev am_prog (d + 12)) K) 122) (am_W m_X1_correct (am_ev am_prog (d + 12)) K) 122 [some (.inr (.inl (x))), some (.inl (p)), some (.inl (w)), some (.inl (k)), some (.inr (.inl (am_sz h1))), some (.inr (.inl ((am_ar h (am_fr h 20 N) p)))), some (.inr (.inl ((am_ar h (am_fr h 23 N) k)))), some (.inl ((wfR (S 3 p) w (S 3 p 1).toNat).1)), some (.inl ((wfR (S 3 p) w (S 3 p 1).toNat).1 + (wfR (S 3 p) w (S 3 p 1).toNat).2)), some (.inr (.inl (r))), some (.inr (.inl (am_fr hV 113 (am_ar h (am_fr h 20 N) p)))), some (.inr (.inl (am_sz hV + 1))), o12, o13] []) := by
      intro hV fV zV uV nj j30 o12 o13
      obtain ⟨row, cw, G5, G6, G7⟩ := H5' l hl' (by omega) (fun z => nj z.1 z.2)
      have f5V : fx (fun q => q = x) h hV := fx_trans2 f5 fV (fun q _ z => z.elim)
      have tV := Nt_fx0 fV tB
      have xV := fV.2.2.2 x (by have := f5.1; omega)
      have xV' := xV.2.2 (fun z => z)
      have hrV : ∀ g, am_fr hV g x = am_fr h g x := fun g => (xV'.2.1 g).trans (hrB g)
      have hiV : ∀ g, g ≠ 4 → g ≠ 5 → am_fi hV g x = am_fi h g x := fun g a b => (xV'.1 g).trans (hiB g a b)
      have i4V : am_fi hV 4 x = 0 := (xV'.1 4).trans i4B
      have i5V : am_fi hV 5 x = -1 := (xV'.1 5).trans i5B
      have acV : arC h1 hV (am_sz h1 + 3) t r l := arC_fx fV (fun q _ z => z.elim) acB
      refine x_cor122 (row := row) (tx := t) (l := l) (h0 := h1) (A := am_sz h1 + 3) (by omega) tV hC hF hA hY hY1 hW hM hG hX ip hB OK.2.1 nj j30 (lk hV f5V).2 (lk hV f5V).1 OK.2.2 ov.1 ov.2.1 ⟨ov.2.2.2, by have := ov.2.2.1; omega⟩ cw ⟨xV.1.trans (show am_ty (am_sfi h3 5 x (-1)) x = 1 from tx), Nat.le_trans hz f5V.1⟩ hl ((hrV 1).trans hN) ((hrV 0).trans hP) acV (fun c hc _ => lab c hc) (fun s3 h' t' o' => ?_) (fun s3 z h' t' o' => ?_) (fun s3 z h' L' t' o' => ?_) o12 o13
      · obtain ⟨ox, fi'⟩ := XAF_out (dz' := 4200) (du' := 34000) ok hz hl xN f5V hrV hiV o' (by omega) (by omega)
        exact G5 s3 h' L t' ox ((fi' 4).trans i4V) ((fi' 5).trans i5V)
      · obtain ⟨ox, fi'⟩ := XAF_out (dz' := 4200) (du' := 34000) ok hz hl xN f5V hrV hiV o' (by omega) (by omega)
        exact G6 s3 z h' L t' ox ((fi' 4).trans i4V) ((fi' 5).trans i5V)
      · obtain ⟨ox, fi'⟩ := XAF_out (dz' := 4200) (du' := 34000) ok hz hl xN f5V hrV hiV o' (by omega) (by omega)
        exact G7 s3 z h' L' t' ox ((fi' 4).trans i4V) ((fi' 5).trans i5V)
    have fof : (wfR (S 3 p) w (S 3 p 1).toNat).1 + (wfR (S 3 p) w (S 3 p 1).toNat).2 - (wfR (S 3 p) w (S 3 p 1).toNat).1 = (wfR (S 3 p) w (S 3 p 1).toNat).2 := by omega
    refine v_X1_correct_46 ⟨tx, pt3.1.1, ?_⟩
    rw [pt3.2.2.2.2.2.2.1.1.2.1, ac.2.2.1, nN, mc3.2.2.2.2.2.2.2.2.2.1.2.2.2.2.1, fof]
    refine ⟨fun e => ⟨mc3.1.1, mc3.2.2.2.2.2.2.2.2.2.1.1.1.1, fun j => XTF_go tB ok hz f5 hrB hiB i4B i5B (by omega) (by omega) (H4' l hl' (fun z => z.1 ((P_st pt3).1 e)) (by have := (hM k OK.2.1.1 (by omega)).2.2.2.1; omega)), fun j => ?_⟩, fun e => ⟨t3.2.2.2.1.1.1.1, ?_⟩⟩
    · have s3 := (P_st pt3).1 e
      have rl := ov.2.2.1
      refine ⟨⟨pt3.2.2.2.2.2.2.1.1.1, by omega, by omega, ac.1, by omega, by omega⟩, ⟨pt3.2.2.2.2.2.2.1.1.2.2.2, by omega⟩, ⟨ac.2.1.2, by omega⟩, ⟨by omega, by omega, by omega⟩, pt3.1.2.1, ?_⟩
      exact go (am_sfi h3 5 x (-1)) fx_refl (by omega) (by omega) (fun z => absurd s3 z) j _ _
    · have s3 : (S 3 p) 3 ≠ 0 := fun z => e ((P_st pt3).2 z)
      have eT := (lk (am_sfi h3 5 x (-1)) f5).1
      rw [eT]
      refine x_hasJob (by omega) tB hC hF hM ip (fun hV y fV zV uV hj => am_av (v_X1_correct_67 ?_))
      rw [← eT]
      have f5V : fx (fun q => q = x) h hV := fx_trans2 f5 fV (fun q _ z => z.elim)
      have tV := Nt_fx0 fV tB
      have xV := fV.2.2.2 x (by have := f5.1; omega)
      have xV' := xV.2.2 (fun z => z)
      have hrV : ∀ g, am_fr hV g x = am_fr h g x := fun g => (xV'.2.1 g).trans (hrB g)
      have hiV : ∀ g, g ≠ 4 → g ≠ 5 → am_fi hV g x = am_fi h g x := fun g a b => (xV'.1 g).trans (hiB g a b)
      have i4V : am_fi hV 4 x = 0 := (xV'.1 4).trans i4B
      have i5V : am_fi hV 5 x = -1 := (xV'.1 5).trans i5B
      have acV : arC h1 hV (am_sz h1 + 3) t r l := arC_fx fV (fun q _ z => z.elim) acB
      have ptw := ptV hV f5V tV
      have mcw := mcV hV f5V tV
      rw [ptw.2.2.2.2.2.2.1.1.2.1, acV.2.2.1, mcw.2.2.2.2.2.2.2.2.2.1.2.2.2.2.1, fof]
      refine ⟨fun z => XTF_go tV ok hz f5V hrV hiV i4V i5V (by omega) (by omega) (H3' l hl' s3 (hj.1 z)), fun z => ⟨mcw.1.1, mcw.2.2.2.2.2.2.2.2.2.1.1.1.1, fun j => XTF_go tV ok hz f5V hrV hiV i4V i5V (by omega) (by omega) (H4' l hl' (fun y => absurd z (hj.2 y.2)) (by have := (hM k OK.2.1.1 (by omega)).2.2.2.1; omega)), fun j => ?_⟩⟩
      have rl := ov.2.2.1
      refine ⟨⟨ptw.1.1, ptw.2.2.2.2.2.2.1.1.1, by omega, by omega, acV.1, by omega, by omega⟩, ⟨ptw.2.2.2.2.2.2.1.1.2.2.2, by omega⟩, ⟨acV.2.1.2, by omega⟩, ⟨by omega, by omega, by omega⟩, ptw.1.2.1, ?_⟩
      exact go hV fV (by omega) (by omega) (fun _ y => absurd z (hj.2 y)) j _ _
  -- to the word's end
  have loop : ∀ j, (wfR (S 3 p) w (S 3 p 1).toNat).1 ≤ j → j ≤ (wfR (S 3 p) w (S 3 p 1).toNat).1 + (wfR (S 3 p) w (S 3 p 1).toNat).2 - 1 → ∀ o9 o10 o11 o12 o13, am_W m_X1_correct (am_ev am_prog (d + 12)) K 25 [some (.inr (.inl (x))), some (.inl (p)), some (.inl (w)), some (.inl (k)), some (.inr (.inl (am_sz h1))), some (.inr (.inl ((am_ar h (am_fr h 20 N) p)))), some (.inr (.inl ((am_ar h (am_fr h 23 N) k)))), some (.inl ((wfR (S 3 p) w (S 3 p 1).toNat).1)), some (.inl (j)), o9, o10, o11, o12, o13] [] h1 := by
    refine lp_z ?_ ?_
    · intro j j0 j1 hL o9 o10 o11 o12 o13
      have q := pc1.2.2.1 j (by omega) (by omega)
      refine v_X1_correct_25 ?_
      rw [q.2.1, pc1.2.1]
      exact ⟨⟨pt1.1.1, pc1.1, by omega⟩, q.1, am_bz _, fun z => absurd (am_bf (ewi.1 j j0 (by omega))) z, fun _ => ⟨by omega, hL _ _ _ _ _⟩⟩
    · intro o9 o10 o11 o12 o13
      have q := pc1.2.2.1 ((wfR (S 3 p) w (S 3 p 1).toNat).1 + (wfR (S 3 p) w (S 3 p 1).toNat).2 - 1) (by omega) (by omega)
      refine v_X1_correct_25 ?_
      rw [q.2.1, pc1.2.1]
      have e1 : (wfR (S 3 p) w (S 3 p 1).toNat).1 + (wfR (S 3 p) w (S 3 p 1).toNat).2 - 1 + 1 = (wfR (S 3 p) w (S 3 p 1).toNat).1 + (wfR (S 3 p) w (S 3 p 1).toNat).2 := by omega
      refine ⟨⟨pt1.1.1, pc1.1, by omega⟩, q.1, am_bz _, fun _ => ⟨by omega, ?_⟩, fun z => absurd ((am_bt ewi.2).symm.trans z) (by decide)⟩
      rw [e1]
      refine x_rinit (by omega) (Nat.le_refl _) (fun h2 rd z2 us2 => am_an (v_X1_correct_38 ?_))
      have f12 := rd.1
      have k2 := f12.2.2.2 (am_ar h (am_fr h 20 N) p) pt1.1.2.1
      have k2' := k2.2.2 (fun z => z)
      have a2 := f12.2.2.2 _ pc1.2.2.2
      have e3 : am_ln h2 (am_fr h2 113 (am_ar h (am_fr h 20 N) p)) - ((wfR (S 3 p) w (S 3 p 1).toNat).1 + (wfR (S 3 p) w (S 3 p 1).toNat).2 - (wfR (S 3 p) w (S 3 p 1).toNat).1) = (S 3 p) 1 - (wfR (S 3 p) w (S 3 p 1).toNat).2 := by
        rw [k2'.2.1 113, a2.2.1, pc1.2.1]
        omega
      rw [e3, k2'.2.1 113]
      refine ⟨⟨k2.1.trans pt1.1.1, a2.1.trans pc1.1, by omega, by omega⟩, rd.2.2.1, ?_⟩
      refine x_single (by omega) u2' u3'.2.1 rd (by decide) (by omega) (fun q hp h3 E g1 g2 g3 g4 g5 g6 => ?_) (fun l hp h3 r g1 ac g5 g6 => am_av (rest _ _ _ _ _ h3 g1 l r hp ac (by omega) (by omega)))
      have xk := g1.2.2.2 x (by have := u1.1; omega)
      have xs := xk.2.2 (fun z => z)
      have tx : am_ty h3 x = 1 := xk.1.trans u9
      refine am_ah (j := 51) (by rw [g2]; rfl) (v_X1_correct_51 ⟨⟨g2, tx⟩, ?_⟩)
      rw [g4]
      have f5 : fx (fun q => q = x) h (am_sfi h3 5 x q) := fx_sfi (fx_trans2 u1 g1 (fun q _ z => z.elim)) (Or.inr rfl)
      have t3 := Nt_fx0 g1 u3'
      have t5 : Nt (am_sfi h3 5 x q) L x P N S B := Nt_x t3 (fx_sfi fx_refl (Or.inr rfl) : fx (fun q => q = x) h3 (am_sfi h3 5 x q)) (fun q _ z => by rw [z, hl]; exact ⟨rfl, by show (0 : Nat) ≠ 1; decide⟩)
      have z5 : am_sz (am_sfi h3 5 x q) = am_sz h3 := rfl
      have us5 : am_us (am_sfi h3 5 x q) = am_us h3 := rfl
      exact XTF_go t5 ok hz f5 (fun g => (xs.2.1 g).trans (u8 g)) (fun g g4' g5' => (x_fif g5').trans ((xs.1 g).trans (u7 g g4'))) ((x_fif (by decide)).trans ((xs.1 4).trans u6)) x_fie (by omega) (by omega) (H2' q hp)
  exact loop (wfR (S 3 p) w (S 3 p 1).toNat).1 (Int.le_refl _) (by omega) _ _ _ _ _
end
