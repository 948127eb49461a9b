set_option maxRecDepth 100000
/-! the component reads an atom -/
theorem lpR_b {t : Int → Int} {n : Int} {f : Int → am_Rs} {w : List Int} {mk : am_Cd → am_Cd → am_Cd} (hw : w ≠ []) : ∀ (m : Nat) (e : Int) (c : am_Cd), (n - e).toNat ≤ m → ∀ q, lpR t n f w mk e c = .inr q → bE t n q.1 = q.1 := by
  intro m
  induction m with
  | zero =>
    intro e c hm q hq
    have h : ¬ wAt t n (bE t n e) = w := fun h => by
      have := (wAt_b h hw).1
      have := (bE_v (t := t) (n := n) (a := e)).1.1
      omega
    rw [lpR_n h] at hq
    cases hq
    exact bE_b
  | succ m ih =>
    intro e c hm q hq
    by_cases h : wAt t n (bE t n e) = w
    · cases r : f (bE t n e + w.length) with
      | inl x =>
        rw [lpR_y h r] at hq
        cases hq
      | inr p =>
        by_cases g : e < p.1 ∧ p.1 ≤ n
        · rw [lpR_z h r g] at hq
          exact ih p.1 (mk c p.2) (by omega) q hq
        · rw [lpR, if_pos h, r] at hq
          have hq' : (if e < p.1 ∧ p.1 ≤ n then lpR t n f w mk p.1 (mk c p.2) else .inl e) = (.inr q : am_Rs) := hq
          rw [if_neg g] at hq'
          cases hq'
    · rw [lpR_n h] at hq
      cases hq
      exact bE_b
theorem alR_b {t : Int → Int} {n : Int} {f : Int → am_Rs} : ∀ a q, alR t n f a = .inr q → bE t n q.1 = q.1 := fun a q h => by
  unfold alR at h
  cases r : f a with
  | inl x =>
    rw [r] at h
    cases h
  | inr p =>
    rw [r] at h
    exact lpR_b (by decide) _ _ _ (Nat.le_refl _) q h
theorem anR_b {t : Int → Int} {n : Int} {f : Int → am_Rs} : ∀ a q, anR t n f a = .inr q → bE t n q.1 = q.1 := fun a q h => by
  unfold anR at h
  cases r : alR t n f a with
  | inl x =>
    rw [r] at h
    cases h
  | inr p =>
    rw [r] at h
    exact lpR_b (by decide) _ _ _ (Nat.le_refl _) q h
/-- constants of conditions -/
def CsX (h0 : am_H) : Prop := csX h0 27 wNot ∧ csX h0 28 wHead ∧ csX h0 29 wLate ∧ csX h0 30 wCorr ∧ csX h0 31 wWords ∧ csX h0 32 wBits ∧ csX h0 33 wDue ∧ csX h0 34 wMin ∧ csX h0 35 wLett ∧ csX h0 36 wMach ∧ csX h0 23 wAnd ∧ csX h0 20 wOr
section
variable {h0 : am_H} {R T : Nat} {t : Int → Int} {n : Int}
theorem rx_at {N P : Int → am_Rs} {dp : Int} {D0 : Nat} (x : TxT h0 T t n) (cs : CsX h0) (hk : 0 ≤ dp ∧ dp ≤ 5) (hD0 : 45 ≤ D0) (hh : (dp = 5 ∧ N = .inl ∧ P = .inl) ∨ (dp ≠ 5 ∧ ∃ fA fN s g s' g', (∀ a q, a ≤ n → fA a = .inr q → okAt t n s g a q) ∧ (∀ a q, a ≤ n → fN a = .inr q → okAt t n s' g' a q) ∧ (∀ a q, fN a = .inr q → bE t n q.1 = q.1) ∧ RdX h0 R T t n 400 fA D0 (dp + 1) 27 70 0 ∧ RdX h0 R T t n 355 fN D0 (dp + 1) 3 22 2 ∧ N = (fun b => ngM (fA (b + 3))) ∧ P = (fun b => pnM t n (fN (b + 1))))) : RdX h0 R T t n 400 (fun a => atB t n N P (bE t n a)) (D0 + 1) dp 27 70 0 := by
  intro K h a st D hD sy ha H0 H1
  dsimp only at H0 H1
  obtain ⟨c0, c1, c2, c3, c4, c5, c6, c7, c8, c9, cA, cO⟩ := cs
  have n4 := x.2.2.2.1
  have bv := bE_v (t := t) (n := n) (a := a)
  have be := bv.1.2 ha.2
  have lv := lE_v (t := t) (n := n) (a := (bE t n a))
  have le := lv.1.2 be
  obtain ⟨d, rfl⟩ : ∃ d, D = d + 13 := ⟨D - 13, by omega⟩
  refine am_en p_X11_atom rfl rfl ?_
  refine v_X11_atom_0 ⟨sy.2.2.1, xy_sign (by omega) x sy ha (fun h1 nb f1 z1 u1 s1 => am_av (v_X11_atom_3 ⟨fun _ => ⟨s1.2.2.1, ?_⟩, fun z => absurd rfl z⟩)) (fun h1 yb f1 z1 u1 s1 => am_av (v_X11_atom_3 ⟨fun z => absurd z (by decide), fun _ => ⟨s1.2.2.1, ?_⟩⟩))⟩
  · -- a word
    refine xy_word (by omega) x s1 (by omega) (fun h2 wd f2 s2 xs ty wz cz cu => am_av (v_X11_atom_26 ⟨Or.inl ty, ?_⟩))
    rw [bE_b] at s2 xs cz cu
    have f12 : fx (fun q => q = R) h h2 := fx_trans f1 f2
    have ty' : am_ty h2 wd = 30 ∨ am_ty h2 wd = 90 := Or.inl ty
    have cc : ∀ j v, csX h0 j v → csX h2 j v := fun j v c => csX_fx s2.1 c
    have e0 : atB t n N P (bE t n a) = if (wAt t n (bE t n a)) = wNot then N (bE t n a) else if tagW (wAt t n (bE t n a)) ≠ -1 then .inr ((bE t n a) + ((wAt t n (bE t n a))).length, .tag (tagW (wAt t n (bE t n a)))) else if facW (wAt t n (bE t n a)) ≠ -1 then cmR t n (facW (wAt t n (bE t n a))) ((bE t n a) + ((wAt t n (bE t n a))).length) else .inl (bE t n a) := by
      unfold atB
      by_cases e : (wAt t n (bE t n a)) = wNot
      · rw [if_pos e, if_pos e]
      · rw [if_neg e, if_neg e, if_neg nb]
    have wl := wAt_l (rfl : (wAt t n (bE t n a)) = (wAt t n (bE t n a)))
    -- a tag
    have tg : ∀ (k : Int) (tt : Nat), (wAt t n (bE t n a)) ≠ wNot → tagW (wAt t n (bE t n a)) = k → (0 ≤ k ∧ k < 3) → (k = 0 ∧ tt = 13 ∨ k = 1 ∧ tt = 14 ∨ k = 2 ∧ tt = 15) → K (.inl (some (.inr (.inl (am_sz h2 + 1))))) (am_new h2 tt 0) := fun k tt nn ek kb hk => by
      have ne : tagW (wAt t n (bE t n a)) ≠ -1 := by omega
      have tl := tagW_l ne
      have er : atB t n N P (bE t n a) = .inr ((bE t n a) + ((wAt t n (bE t n a))).length, .tag k) := by
        rw [e0, if_neg nn, if_pos ne, ek]
      have fn : fx (fun _ => False) h2 (am_new h2 tt 0) := fx0_new
      have s3 := RyS_fx s2 fn (fun q z _ => z.elim)
      rw [wl] at s3 cz cu
      have z3 : am_sz (am_new h2 tt 0) = am_sz h2 + 1 := rfl
      have u3 : am_us (am_new h2 tt 0) = am_us h2 + 0 := rfl
      have tyn : am_ty (am_new h2 tt 0) (am_sz h2 + 1) = tt := x_tyn0 rfl
      refine H1 _ er _ (am_sz h2 + 1) _ (fx_new f12) s3 ?_ (by have := f12.1; omega) (by show 3 * (((am_sz h2 + 1 : Nat) : Int) - am_sz h) ≤ 12 * ((bE t n a) + (((wAt t n (bE t n a))).length : Int) - a) - 27 + 0 * _; omega) (by show ((am_us h2 + 0 : Nat) : Int) ≤ am_us h + 30 * ((bE t n a) + (((wAt t n (bE t n a))).length : Int) - a) - 70 + 5 * (0 * _); omega)
      show xCd (am_new h2 tt 0) 1 (am_sz h2 + 1) (fun tg _ => tg k)
      refine ⟨Nat.le_refl _, ?_⟩
      rw [tyn]
      rcases hk with ⟨e1, e2⟩ | ⟨e1, e2⟩ | ⟨e1, e2⟩ <;> rw [e1, e2]
      · exact Or.inr (Or.inl ⟨rfl, rfl⟩)
      · exact Or.inr (Or.inr (Or.inl ⟨rfl, rfl⟩))
      · exact Or.inr (Or.inr (Or.inr (Or.inl ⟨rfl, rfl⟩)))
    -- a fact
    have ft : ∀ (k : Int), (wAt t n (bE t n a)) ≠ wNot → tagW (wAt t n (bE t n a)) = -1 → facW (wAt t n (bE t n a)) = k → (0 ≤ k ∧ k < 6) → am_ty h2 R = 10 ∧ am_ev am_prog (d + 12) 420 [.inr (.inl R), .inl k] h2 (am_aft (am_hand m_X11_atom K (am_W m_X11_atom (am_ev am_prog (d + 12)) K) 116) (am_W m_X11_atom (am_ev am_prog (d + 12)) K) 116 [some (.inr (.inl (R))), some (.inr (.inl (wd))), some (.inl (k))] []) := fun k nn nt ek kb => by
      have ne : facW (wAt t n (bE t n a)) ≠ -1 := by omega
      have fl := facW_l ne
      have er : atB t n N P (bE t n a) = cmR t n k ((bE t n a) + ((wAt t n (bE t n a))).length) := by
        rw [e0, if_neg nn, if_neg (fun z => z nt), if_pos ne, ek]
      rw [wl] at s2 cz cu
      have we := wAt_e (rfl : (wAt t n (bE t n a)) = (wAt t n (bE t n a))) be
      refine ⟨s2.2.2.1, xy_test (by omega) x s2 (by omega) (by omega) (fun p hp h4 E g1 g2 g3 g4 g5 g6 => am_ax rfl (H0 p (er.trans hp) h4 E g1 g2 g3 g4 (by omega) (by omega))) (fun q hq h4 c st' f4 s4 xc cz4 z4 u4 => am_av (v_X11_atom_117 ?_))⟩
      have er' := er.trans hq
      have dq : q.2.dp = 1 ∧ (bE t n a) + (((wAt t n (bE t n a))).length : Int) + 2 ≤ q.1 := by
        unfold cmR at hq
        by_cases c5 : bE t n ((bE t n a) + (((wAt t n (bE t n a))).length : Int)) < n ∧ (t (bE t n ((bE t n a) + (((wAt t n (bE t n a))).length : Int))) = 60 ∨ t (bE t n ((bE t n a) + (((wAt t n (bE t n a))).length : Int))) = 62)
        · rw [if_pos c5] at hq
          cases r : nmR t n (bE t n ((bE t n a) + (((wAt t n (bE t n a))).length : Int)) + 1) 0 9999 with
          | inl x =>
            rw [r] at hq
            cases hq
          | inr p =>
            rw [r] at hq
            have nk := nmR_ok r (by omega)
            have b2 := (bE_v (t := t) (n := n) (a := (bE t n a) + (((wAt t n (bE t n a))).length : Int))).1.1
            cases hq
            exact ⟨rfl, by show (bE t n a) + (((wAt t n (bE t n a))).length : Int) + 2 ≤ p.1; omega⟩
        · rw [if_neg c5] at hq
          cases hq
      refine H1 q er' h4 c st' (fx_trans f12 f4) s4 (by rw [dq.1]; exact xc) (by have := f12.1; omega) (by omega) (by omega)
    have eqc : ∀ (j : Nat) (v : List Int) (Q : am_K), csX h0 j v → ((wAt t n (bE t n a)) = v → Q (.inl (some (.inl (1)))) h2) → ((wAt t n (bE t n a)) ≠ v → Q (.inl (some (.inl (0)))) h2) → am_ev am_prog (d + 12) 301 [.inr (.inl wd), .inr (.inl (am_cs h2 j))] h2 Q := fun j v Q c q1 q0 => xy_eq (by omega) xs (cc j v c) q1 q0
    refine eqc 27 wNot _ c0 (fun y0 => am_av (v_X11_atom_30 ⟨fun z => absurd z (by decide), fun _ => ⟨s2.2.2.1, ?_⟩⟩)) (fun n0 => am_av (v_X11_atom_30 ⟨fun _ => ⟨ty', ?_⟩, fun z => absurd rfl z⟩))
    · -- not
      have e3 : lE t n (bE t n a) = (bE t n a) + 3 := wAt_l y0
      have er : atB t n N P (bE t n a) = N (bE t n a) := by
        rw [e0, if_pos y0]
      have we : (bE t n a) + 3 ≤ n := wAt_e y0 be
      rw [e3] at s2 cz cu
      refine xy_deeper (by omega) s2 hk (fun d5 h4 E g1 g2 g3 g4 g5 g6 => am_ax rfl ?_) (fun d5 s3 => am_an (v_X11_atom_33 ⟨s3.2.2.1, ?_⟩))
      · have h5 := hh.resolve_right (fun w => w.1 d5)
        exact H0 (bE t n a) (by rw [er, h5.2.1]) h4 E g1 g2 g3 g4 (by omega) (by omega)
      · obtain ⟨_, fA, fN, s, g, s', g', oA, oN, bN, rA, rN, eN, eP⟩ := hh.resolve_left (fun w => d5 w.1)
        have z3 : am_sz (am_sfi h2 119 R (dp + 1)) = am_sz h2 := rfl
        have u3 : am_us (am_sfi h2 119 R (dp + 1)) = am_us h2 := rfl
        have er' : atB t n N P (bE t n a) = ngM (fA ((bE t n a) + 3)) := by rw [er, eN]
        refine rA _ _ ((bE t n a) + 3) _ _ (by omega) s3 (by omega) (fun p hp h4 E g1 g2 g3 g4 g5 g6 => am_ax rfl (H0 p (by rw [er', hp]; rfl) h4 E g1 g2 g3 g4 (by omega) (by omega))) (fun q hq h4 c st' f4 s4 xc cz4 k1 k2 => am_av (v_X11_atom_35 ?_))
        rw [s4.2.2.2.2.2.2]
        have oq := (oA _ q we hq).1
        have ed : dp + 1 - 1 = dp := by omega
        have s5 := RyS_dp (v := dp) s4
        have f5 : fx (fun q => q = R) h4 (am_sfr (am_new (am_sfi h4 119 R dp) 12 1) 125 (am_sz h4 + 1) c) := fx_sfr (fx_new (fx_sfi fx_refl (Or.inr rfl))) (Or.inl (by omega))
        have f56 : fx (fun q => q = am_sz h4 + 1) (am_sfi h4 119 R dp) (am_sfr (am_new (am_sfi h4 119 R dp) 12 1) 125 (am_sz h4 + 1) c) := fx_sfr (fx_new fx_refl) (Or.inr rfl)
        have s6 := RyS_fx s5 f56 (fun q z _ => by have := s4.2.1; omega)
        have tyR4 := s4.2.2.1
        rw [ed]
        refine ⟨⟨tyR4, by omega⟩, H1 (q.1, .ng q.2) (by rw [er', hq]; rfl) _ (am_sz h4 + 1) _ (fx_trans (fx_trans f12 (fx_sfi fx_refl (Or.inr rfl))) (fx_trans f4 f5)) s6 ?_ ?_ ?_ ?_⟩
        · show xCd _ (q.2.dp + 1) (am_sz h4 + 1) (fun tg fc => am_b (q.2.ev tg fc = 0))
          have e125 : am_fr (am_sfr (am_new (am_sfi h4 119 R dp) 12 1) 125 (am_sz h4 + 1) c) 125 (am_sz h4 + 1) = c := x_fre
          refine ⟨Nat.le_refl _, Or.inl ⟨x_tyn0 (h := am_sfi h4 119 R dp) (t := 12) (n := 1) rfl, q.2.ev, ?_, rfl⟩⟩
          rw [e125]
          exact xCd_fy f5 (fun q z => by rw [z]; exact tyR4) _ _ _ xc
        · have := f4.1
          have := f12.1
          have : am_sz h2 ≤ am_sz h4 := f4.1
          omega
        · show 3 * (((am_sz h4 + 1 : Nat) : Int) - am_sz h) ≤ 12 * (q.1 - a) - 27 + 0 * _
          omega
        · show ((am_us h4 + 1 : Nat) : Int) ≤ am_us h + 30 * (q.1 - a) - 70 + 5 * (0 * _)
          omega
    refine eqc 28 wHead _ c1 (fun y1 => am_av (v_X11_atom_50 ⟨fun z => absurd z (by decide), fun _ => tg 0 13 n0 (if_pos y1) (by omega) (Or.inl ⟨rfl, rfl⟩)⟩)) (fun n1 => am_av (v_X11_atom_50 ⟨fun _ => ⟨ty', ?_⟩, fun z => absurd rfl z⟩))
    refine eqc 29 wLate _ c2 (fun y2 => am_av (v_X11_atom_58 ⟨fun z => absurd z (by decide), fun _ => tg 1 14 n0 ((if_neg n1).trans (if_pos y2)) (by omega) (Or.inr (Or.inl ⟨rfl, rfl⟩))⟩)) (fun n2 => am_av (v_X11_atom_58 ⟨fun _ => ⟨ty', ?_⟩, fun z => absurd rfl z⟩))
    refine eqc 30 wCorr _ c3 (fun y3 => am_av (v_X11_atom_66 ⟨fun z => absurd z (by decide), fun _ => tg 2 15 n0 ((if_neg n1).trans ((if_neg n2).trans (if_pos y3))) (by omega) (Or.inr (Or.inr ⟨rfl, rfl⟩))⟩)) (fun n3 => am_av (v_X11_atom_66 ⟨fun _ => ⟨ty', ?_⟩, fun z => absurd rfl z⟩))
    have nt : tagW (wAt t n (bE t n a)) = -1 := (if_neg n1).trans ((if_neg n2).trans (if_neg n3))
    refine eqc 31 wWords _ c4 (fun y4 => am_av (v_X11_atom_74 ⟨fun z => absurd z (by decide), fun _ => ft 0 n0 nt (if_pos y4) (by omega)⟩)) (fun n4 => am_av (v_X11_atom_74 ⟨fun _ => ⟨ty', ?_⟩, fun z => absurd rfl z⟩))
    refine eqc 32 wBits _ c5 (fun y5 => am_av (v_X11_atom_80 ⟨fun z => absurd z (by decide), fun _ => ft 1 n0 nt ((if_neg n4).trans (if_pos y5)) (by omega)⟩)) (fun n5 => am_av (v_X11_atom_80 ⟨fun _ => ⟨ty', ?_⟩, fun z => absurd rfl z⟩))
    refine eqc 33 wDue _ c6 (fun y6 => am_av (v_X11_atom_86 ⟨fun z => absurd z (by decide), fun _ => ft 2 n0 nt ((if_neg n4).trans ((if_neg n5).trans (if_pos y6))) (by omega)⟩)) (fun n6 => am_av (v_X11_atom_86 ⟨fun _ => ⟨ty', ?_⟩, fun z => absurd rfl z⟩))
    refine eqc 34 wMin _ c7 (fun y7 => am_av (v_X11_atom_92 ⟨fun z => absurd z (by decide), fun _ => ft 3 n0 nt ((if_neg n4).trans ((if_neg n5).trans ((if_neg n6).trans (if_pos y7)))) (by omega)⟩)) (fun n7 => am_av (v_X11_atom_92 ⟨fun _ => ⟨ty', ?_⟩, fun z => absurd rfl z⟩))
    refine eqc 35 wLett _ c8 (fun y8 => am_av (v_X11_atom_98 ⟨fun z => absurd z (by decide), fun _ => ft 4 n0 nt ((if_neg n4).trans ((if_neg n5).trans ((if_neg n6).trans ((if_neg n7).trans (if_pos y8))))) (by omega)⟩)) (fun n8 => am_av (v_X11_atom_98 ⟨fun _ => ⟨ty', ?_⟩, fun z => absurd rfl z⟩))
    refine eqc 36 wMach _ c9 (fun y9 => am_av (v_X11_atom_104 ⟨fun z => absurd z (by decide), fun _ => ft 5 n0 nt ((if_neg n4).trans ((if_neg n5).trans ((if_neg n6).trans ((if_neg n7).trans ((if_neg n8).trans (if_pos y9)))))) (by omega)⟩)) (fun n9 => am_av (v_X11_atom_104 ⟨fun _ => ⟨s2.2.2.1, ?_⟩, fun z => absurd rfl z⟩))
    have nf : facW (wAt t n (bE t n a)) = -1 := (if_neg n4).trans ((if_neg n5).trans ((if_neg n6).trans ((if_neg n7).trans ((if_neg n8).trans (if_neg n9)))))
    refine xy_wrong (by omega) s2 (fun h4 E g1 g2 g3 g4 g5 g6 => am_av (v_X11_atom_113 ⟨g3, H0 (bE t n a) ?_ h4 E g1 g2 g3 g4 (by omega) (by omega)⟩))
    rw [e0, if_neg n0, if_neg (fun z => z nt), if_neg (fun z => z nf)]
  · -- a bracket
    have nn : ¬ (wAt t n (bE t n a)) = wNot := fun e => by
      have := (wAt_b e (by decide)).2
      omega
    have er : atB t n N P (bE t n a) = P (bE t n a) := by
      unfold atB
      rw [if_neg nn, if_pos yb]
    refine xy_deeper (by omega) s1 hk (fun d5 h4 E g1 g2 g3 g4 g5 g6 => am_ax rfl ?_) (fun d5 s3 => am_an (v_X11_atom_6 ⟨s3.2.2.1, ?_⟩))
    · have h5 := hh.resolve_right (fun w => w.1 d5)
      exact H0 (bE t n a) (by rw [er, h5.2.2]) h4 E g1 g2 g3 g4 (by omega) (by omega)
    · obtain ⟨_, fA, fN, s, g, s', g', oA, oN, bN, rA, rN, eN, eP⟩ := hh.resolve_left (fun w => d5 w.1)
      have z3 : am_sz (am_sfi h1 119 R (dp + 1)) = am_sz h1 := rfl
      have u3 : am_us (am_sfi h1 119 R (dp + 1)) = am_us h1 := rfl
      have er' : atB t n N P (bE t n a) = pnM t n (fN ((bE t n a) + 1)) := by rw [er, eP]
      refine rN _ _ ((bE t n a) + 1) _ _ (by omega) s3 (by omega) (fun p hp h4 E g1 g2 g3 g4 g5 g6 => am_ax rfl (H0 p (by rw [er', hp]; rfl) h4 E g1 g2 g3 g4 (by omega) (by omega))) (fun q hq h4 c st' f4 s4 xc cz4 k1 k2 => am_av (v_X11_atom_8 ⟨s4.2.2.1, ?_⟩))
      have oq := (oN _ q (by omega) hq).1
      have bq := bN _ q hq
      have lq := (lE_v (t := t) (n := n) (a := q.1)).1
      have lqe := lq.2 oq.2
      have fh4 : fx (fun q => q = R) h h4 := fx_trans (fx_trans f1 (fx_sfi fx_refl (Or.inr rfl))) f4
      have tyR4 := s4.2.2.1
      refine xy_sign (by omega) x s4 (by omega) (fun h5 nb5 f5 z5 u5 s5 => am_av (v_X11_atom_12 ⟨fun z => absurd rfl z, fun _ => ⟨s5.2.2.1, ?_⟩⟩)) (fun h5 yb5 f5 z5 u5 s5 => am_av (v_X11_atom_12 ⟨fun _ => ?_, fun z => absurd z (by decide)⟩))
      · rw [bq] at nb5 s5
        refine xy_wrong (by omega) s5 (fun h6 E g1 g2 g3 g4 g5 g6 => am_av (v_X11_atom_15 ⟨g3, H0 q.1 ?_ h6 E g1 g2 g3 g4 (by omega) (by omega)⟩))
        rw [er', hq]
        show (if bE t n q.1 < n ∧ t (bE t n q.1) = 41 then _ else _) = _
        rw [bq, if_neg nb5]
      · rw [bq] at yb5 s5
        have l0 : lE t n q.1 = q.1 := lE_0 (fun z => by have := z.2; omega)
        rw [l0] at k1 k2
        rw [s5.2.2.2.2.2.2]
        have ed : dp + 1 - 1 = dp := by omega
        rw [ed]
        have f6 : fx (fun q => q = R) h5 (am_sfi h5 119 R dp) := fx_sfi fx_refl (Or.inr rfl)
        have tyR5 := s5.2.2.1
        refine ⟨⟨s5.2.2.1, by omega⟩, H1 (q.1 + 1, q.2) ?_ _ c _ (fx_trans fh4 (fx_trans f5 f6)) (RyS_dp s5) ?_ ?_ ?_ ?_⟩
        · rw [er', hq]
          show ((if bE t n q.1 < n ∧ t (bE t n q.1) = 41 then .inr (bE t n q.1 + 1, q.2) else .inl (bE t n q.1)) : am_Rs) = _
          rw [bq, if_pos yb5]
        · exact xCd_fy f6 (fun q z => by rw [z]; exact tyR5) _ _ _ (xCd_fy f5 (fun q z => by rw [z]; exact tyR4) _ _ _ xc)
        · have := f1.1
          omega
        · show 3 * ((am_sz h5 : Int) - am_sz h) ≤ 12 * (q.1 + 1 - a) - 27 + 0 * _
          omega
        · show (am_us h5 : Int) ≤ am_us h + 30 * (q.1 + 1 - a) - 70 + 5 * (0 * _)
          omega
theorem rx_atom (x : TxT h0 T t n) (t00 : am_ty h0 0 = 0) (cs : CsX h0) : ∀ k : Nat, k ≤ 5 → RdX h0 R T t n 400 (atR t n k) (46 + 4 * k) (5 - (k : Int)) 27 70 0
  | 0, _ => rx_at x cs (by omega) (Nat.le_refl 45) (Or.inl ⟨rfl, rfl, rfl⟩)
  | k + 1, hk => by
    have i := rx_atom x t00 cs k (by omega)
    have oA : ∀ a q, a ≤ n → atR t n k a = .inr q → okAt t n (3 + 4 * (k : Int)) (1 + 2 * k) a q := fun a q ha h => atR_ok k a q ha h
    have j := rx_cond x t00 cs.2.2.2.2.2.2.2.2.2.2.2 (by omega) alR_b (alR_ok oA) (rx_all x t00 cs.2.2.2.2.2.2.2.2.2.2.1 (by omega) oA i)
    have e : 5 - ((k + 1 : Nat) : Int) + 1 = 5 - (k : Int) := by omega
    have up : ∀ {y f D0 D1 m c1 c2 c3}, RdX h0 R T t n y f D0 m c1 c2 c3 → D0 ≤ D1 → RdX h0 R T t n y f D1 m c1 c2 c3 := fun h le K h' a st D hD => h K h' a st D (Nat.le_trans le hD)
    have q : RdX h0 R T t n 400 (atR t n (k + 1)) (49 + 4 * k + 1) (5 - ((k + 1 : Nat) : Int)) 27 70 0 := by
      refine rx_at (dp := 5 - ((k + 1 : Nat) : Int)) (N := fun b => ngM (atR t n k (b + 3))) (P := fun b => pnM t n (anR t n (atR t n k) (b + 1))) (D0 := 49 + 4 * k) x cs (by omega) (by omega) (Or.inr ⟨by omega, atR t n k, anR t n (atR t n k), _, _, _, _, oA, anR_ok oA, anR_b, ?_, ?_, rfl, rfl⟩)
      · rw [e]
        exact up i (by omega)
      · rw [e, anR_e]
        exact up j (by omega)
    exact up q (by omega)
theorem rx_cnd (x : TxT h0 T t n) (t00 : am_ty h0 0 = 0) (cs : CsX h0) : RdX h0 R T t n 355 (anR t n (atR t n 5)) 68 0 3 22 2 := by
  have i := rx_atom (R := R) x t00 cs 5 (Nat.le_refl _)
  have oA : ∀ a q, a ≤ n → atR t n 5 a = .inr q → okAt t n 23 11 a q := fun a q ha h => atR_ok 5 a q ha h
  exact rx_cond x t00 cs.2.2.2.2.2.2.2.2.2.2.2 (by omega) alR_b (alR_ok oA) (rx_all x t00 cs.2.2.2.2.2.2.2.2.2.2.1 (by omega) oA i)
end
