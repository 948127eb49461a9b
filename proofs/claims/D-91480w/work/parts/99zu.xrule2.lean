set_option maxRecDepth 100000
/-- constants of rules -/
def CsS (h0 : am_H) : Prop := CsX h0 ∧ csX h0 16 wIf ∧ csX h0 9 wMeas ∧ csX h0 10 wSpac ∧ csX h0 11 wPart ∧ csX h0 12 wFat ∧ csX h0 13 wPay ∧ csX h0 14 wFree ∧ csX h0 15 wClos ∧ csX h0 17 wAtt
section
variable {K : am_K} {h0 h : am_H} {R T : Nat} {t : Int → Int} {n a st dp : Int}
theorem xy_rule {x1 : Int} {D : Nat} (hD : 72 ≤ D) (x : TxT h0 T t n) (t00 : am_ty h0 0 = 0) (cs : CsS h0) (s : RyS h0 h R T a st dp) (ha : 0 ≤ a ∧ a ≤ n) (HC : x1 = 12 → ThP h0 h K (bE t n a) n a) (H0 : x1 ≠ 12 → ∀ p, rlR t n (bE t n a) = .inl p → ThP h0 h K p n a) (H1 : x1 ≠ 12 → ∀ q, rlR t n (bE t n a) = .inr q → ∀ h' z st' dp', fx (fun q => q = R) h h' → RyS h0 h' R T q.1 st' dp' → iRu h' z q.2 → am_sz h < z → 3 * ((am_sz h' : Int) - am_sz h) ≤ 12 * (q.1 - a) + 40 + 2 * (lE t n (bE t n (q.1)) - bE t n (q.1)) → (am_us h' : Int) ≤ am_us h + 30 * (q.1 - a) + 100 + 10 * (lE t n (bE t n (q.1)) - bE t n (q.1)) → K (.inl (some (.inr (.inl (z))))) h') : am_ev am_prog D 305 [.inr (.inl R), .inl x1] h K := by
  obtain ⟨cx, ci, cm, csp, cp, cf, cy, cr, cl, ca⟩ := cs
  have bv := bE_v (t := t) (n := n) (a := a)
  have be := bv.1.2 ha.2
  have lv := lE_v (t := t) (n := n) (a := (bE t n a))
  have le := lv.1.2 be
  obtain ⟨d, rfl⟩ : ∃ d, D = d + 13 := ⟨D - 13, by omega⟩
  refine am_en p_X11_rule rfl rfl ?_
  refine v_X11_rule_0 ⟨s.2.2.1, xy_word (by omega) x s ha (fun h2 wd f2 s2 xs ty wz cz cu => am_av (v_X11_rule_2 ⟨fun c12 => ⟨Or.inl ty, ?_⟩, fun c12 => ⟨s2.2.2.1, xy_wrong (by omega) s2 (fun h4 E g1 g2 g3 g4 g5 g6 => am_av (v_X11_rule_8 ⟨g3, HC c12 h4 E g1 g2 g3 g4 (by omega) (by omega)⟩))⟩⟩))⟩
  have H0' := H0 c12
  have H1' := H1 c12
  have ty' : am_ty h2 wd = 30 ∨ am_ty h2 wd = 90 := Or.inl ty
  have cc : ∀ j v, csX h0 j v → csX h2 j v := fun j v c => csX_fx s2.1 c
  have eqc : ∀ (j : Nat) (v : List Int) (Q : am_K), csX h0 j v → ((wAt t n (bE t n a)) = v → Q (.inl (some (.inl (1)))) h2) → ((wAt t n (bE t n a)) ≠ v → Q (.inl (some (.inl (0)))) h2) → am_ev am_prog (d + 12) 301 [.inr (.inl wd), .inr (.inl (am_cs h2 j))] h2 Q := fun j v Q c q1 q0 => xy_eq (by omega) xs (cc j v c) q1 q0
  -- a word that is one of the rules' words
  have at' : ∀ v, (wAt t n (bE t n a)) = v → (lE t n (bE t n a) - bE t n a) = v.length ∧ RyS h0 h2 R T ((bE t n a) + v.length) (bE t n a) dp ∧ (bE t n a) + (v.length : Int) ≤ n := fun v e => by
    have wl := wAt_l e
    rw [wl] at s2
    exact ⟨by omega, s2, wAt_e e be⟩
  have fin : ∀ (h4 : am_H) (z c : Nat) (k f g e st' dp' : Int) (oc : Option am_Cd), fx (fun q => q = R) h h4 → RyS h0 h4 R T e st' dp' → am_ty h4 z = 11 → am_sz h < z ∧ z ≤ am_sz h4 → oCd h4 c oc → rlR t n (bE t n a) = .inr (e, k, f, g, oc) → 3 * ((am_sz h4 : Int) - am_sz h) ≤ 12 * (e - a) + 40 + 2 * (lE t n (bE t n (e)) - bE t n (e)) → (am_us h4 : Int) ≤ am_us h + 30 * (e - a) + 100 + 10 * (lE t n (bE t n (e)) - bE t n (e)) → am_ty h4 z = 11 ∧ (am_ty h4 z = 8 ∨ am_ty h4 z = 11 ∨ am_ty h4 z = 12 ∨ am_ty h4 z = 13 ∨ am_ty h4 z = 14 ∨ am_ty h4 z = 15 ∨ am_ty h4 z = 16 ∨ am_ty h4 z = 17 ∨ am_ty h4 z = 18 ∨ am_ty h4 z = 19 ∨ am_ty h4 z = 20 ∨ am_ty h4 z = 25 ∨ am_ty h4 z = 27) ∧ K (.inl (some (.inr (.inl (z))))) (am_sfr (am_sfi (am_sfi (am_sfi h4 121 z k) 122 z f) 123 z g) 124 z c) := by
    intro h4 z c k f g e st' dp' oc f4 s4 tz hz oc' er k1 k2
    refine ⟨tz, Or.inr (Or.inl tz), ?_⟩
    have f5 : fx (fun q => q = z) h4 (am_sfr (am_sfi (am_sfi (am_sfi h4 121 z k) 122 z f) 123 z g) 124 z c) := fx_sfr (fx_sfi (fx_sfi (fx_sfi fx_refl (Or.inr rfl)) (Or.inr rfl)) (Or.inr rfl)) (Or.inr rfl)
    have s5 := RyS_fx s4 f5 (fun q y hq => ⟨by have := s.1.1; omega, fun y2 => by
      have := s4.2.2.1
      rw [← y2, y, tz] at this
      exact absurd this (by decide)⟩)
    refine H1' _ er _ z st' dp' (fx_trans2 f4 f5 (fun q hq y => absurd hq (by omega))) s5 ⟨tz, ⟨hz.2, by omega⟩, ⟨?_, ?_, ?_⟩, ?_⟩ hz.1 k1 k2
    · show am_fi (am_sfi (am_sfi (am_sfi h4 121 z k) 122 z f) 123 z g) 121 z = k
      exact (x_fif (by decide)).trans ((x_fif (by decide)).trans x_fie)
    · show am_fi (am_sfi (am_sfi (am_sfi h4 121 z k) 122 z f) 123 z g) 122 z = f
      exact (x_fif (by decide)).trans x_fie
    · show am_fi (am_sfi (am_sfi (am_sfi h4 121 z k) 122 z f) 123 z g) 123 z = g
      exact x_fie
    · have e124 : am_fr (am_sfr (am_sfi (am_sfi (am_sfi h4 121 z k) 122 z f) 123 z g) 124 z c) 124 z = c := x_fre
      rw [e124]
      exact oCd_fg f5 (fun q y => by rw [y, tz]; omega) oc'
  have xp : ∀ e, 0 ≤ (lE t n (bE t n (e)) - bE t n (e)) := fun e => by
    have := (lE_v (t := t) (n := n) (a := bE t n e)).1.1
    omega
  -- a new cell
  have nw : ∀ (h3 : am_H) (e st' dp' : Int), RyS h0 h3 R T e st' dp' → RyS h0 (am_new h3 11 4) R T e st' dp' ∧ am_ty (am_new h3 11 4) (am_sz h3 + 1) = 11 ∧ am_sz (am_new h3 11 4) = am_sz h3 + 1 ∧ am_us (am_new h3 11 4) = am_us h3 + 4 := fun h3 e st' dp' s3 => ⟨RyS_fx s3 (fx0_new (t := 11) (n := 4)) (fun q z _ => z.elim), x_tyn0 rfl, rfl, rfl⟩
  refine eqc 9 wMeas _ cm (fun y => am_av (v_X11_rule_12 ⟨fun z => absurd z (by decide), fun _ => ⟨s2.2.2.1, ?_⟩⟩)) (fun n0 => am_av (v_X11_rule_12 ⟨fun _ => ⟨ty', ?_⟩, fun z => absurd rfl z⟩))
  · -- measure
    obtain ⟨el, s3, en⟩ := at' _ y
    have er : rlR t n (bE t n a) = nmT t n ((bE t n a) + 7) 10 400 (fun q => ifT t n false q.1 0 q.2) := by
      unfold rlR
      rw [if_pos y]
    have el' : (lE t n (bE t n a) - bE t n a) = 7 := el
    have en' : (bE t n a) + 7 ≤ n := en
    have s3' : RyS h0 h2 R T ((bE t n a) + 7) (bE t n a) dp := s3
    refine xy_number (by omega) x s3' (by omega) (fun p hp h4 E g1 g2 g3 g4 g5 g6 => am_ax rfl (H0' p (er.trans (nmT_l hp)) h4 E g1 g2 g3 g4 (by omega) (by omega))) (fun q hq h3 f3 z3 u3 s4 => am_av (v_X11_rule_17 ⟨⟨s4.2.1.2, s4.2.2.1⟩, ?_⟩))
    have qk := nmR_ok hq (by omega)
    have er2 := er.trans (nmT_r hq)
    obtain ⟨n1, n2, n3, n4⟩ := nw _ _ _ _ s4
    refine xy_when (by omega) x t00 cx ci n1 (by omega) (fun p hp h4 E g1 g2 g3 g4 g5 g6 => am_ax rfl (H0' p (er2.trans (ifT_l hp)) h4 E g1 g2 g3 g4 (by omega) (by omega))) (fun q2 hq2 h4 c st' f4 s5 oc k1 k2 => am_av (v_X11_rule_25 ?_))
    have xq := xp q2.1
    exact fin h4 _ c _ _ _ q2.1 st' 0 q2.2 (fx_trans f2 (fx_trans f3 (fx_trans2 (fx_new fx_refl) f4 (fun q _ z => z)))) s5 ((f4.2.2.2 _ (by omega)).1.trans n2) ⟨by have := f2.1; omega, by have := f4.1; omega⟩ oc (er2.trans (ifT_r hq2)) (by omega) (by omega)
  refine eqc 10 wSpac _ csp (fun y => am_av (v_X11_rule_30 ⟨fun z => absurd z (by decide), fun _ => ⟨s2.2.2.1, ?_⟩⟩)) (fun n1 => am_av (v_X11_rule_30 ⟨fun _ => ⟨ty', ?_⟩, fun z => absurd rfl z⟩))
  · -- space
    obtain ⟨el, s3, en⟩ := at' _ y
    have er : rlR t n (bE t n a) = nmT t n ((bE t n a) + 5) 1 40 (fun q => nmT t n q.1 q.2 40 (fun p => .inr (p.1, 1, q.2, p.2, none))) := by
      unfold rlR
      rw [if_neg n0, if_pos y]
    have el' : (lE t n (bE t n a) - bE t n a) = 5 := el
    have en' : (bE t n a) + 5 ≤ n := en
    have s3' : RyS h0 h2 R T ((bE t n a) + 5) (bE t n a) dp := s3
    refine xy_number (by omega) x s3' (by omega) (fun p hp h4 E g1 g2 g3 g4 g5 g6 => am_ax rfl (H0' p (er.trans (nmT_l hp)) h4 E g1 g2 g3 g4 (by omega) (by omega))) (fun q hq h3 f3 z3 u3 s4 => am_av (v_X11_rule_35 ⟨⟨s4.2.1.2, s4.2.2.1⟩, ?_⟩))
    have qk := nmR_ok hq (by omega)
    have er2 := er.trans (nmT_r hq)
    obtain ⟨n1, n2, n3, n4⟩ := nw _ _ _ _ s4
    refine xy_number (by omega) x n1 (by omega) (fun p hp h4 E g1 g2 g3 g4 g5 g6 => am_ax rfl (H0' p (er2.trans (nmT_l hp)) h4 E g1 g2 g3 g4 (by omega) (by omega))) (fun q2 hq2 h4 f4 z4 u4 s5 => am_av (v_X11_rule_44 ?_))
    have qk2 := nmR_ok hq2 (by omega)
    have xq := xp q2.1
    exact fin h4 _ 0 _ _ _ q2.1 _ _ none (fx_trans f2 (fx_trans f3 (fx_trans2 (fx_new fx_refl) f4 (fun q _ z => z)))) s5 ((f4.2.2.2 _ (by omega)).1.trans n2) ⟨by have := f2.1; omega, by omega⟩ rfl (er2.trans (nmT_r hq2)) (by omega) (by omega)
  refine eqc 11 wPart _ cp (fun y => am_av (v_X11_rule_50 ⟨fun z => absurd z (by decide), fun _ => ⟨⟨s2.2.1.2, s2.2.2.1⟩, ?_⟩⟩)) (fun n2 => am_av (v_X11_rule_50 ⟨fun _ => ⟨ty', ?_⟩, fun z => absurd rfl z⟩))
  · -- part
    obtain ⟨el, s3, en⟩ := at' _ y
    have er : rlR t n (bE t n a) = nmT t n ((bE t n a) + 4) 0 999 (fun q => .inr (q.1, 2, q.2, 0, none)) := by
      unfold rlR
      rw [if_neg n0, if_neg n1, if_pos y]
    have el' : (lE t n (bE t n a) - bE t n a) = 4 := el
    have en' : (bE t n a) + 4 ≤ n := en
    have s3' : RyS h0 h2 R T ((bE t n a) + 4) (bE t n a) dp := s3
    obtain ⟨n1, n2, n3, n4⟩ := nw _ _ _ _ s3'
    refine xy_number (by omega) x n1 (by omega) (fun p hp h4 E g1 g2 g3 g4 g5 g6 => am_ax rfl (H0' p (er.trans (nmT_l hp)) h4 E g1 g2 g3 g4 (by omega) (by omega))) (fun q2 hq2 h4 f4 z4 u4 s5 => am_av (v_X11_rule_58 ?_))
    have qk2 := nmR_ok hq2 (by omega)
    have xq := xp q2.1
    exact fin h4 _ 0 _ _ _ q2.1 _ _ none (fx_trans f2 (fx_trans2 (fx_new fx_refl) f4 (fun q _ z => z))) s5 ((f4.2.2.2 _ (by omega)).1.trans n2) ⟨by have := f2.1; omega, by omega⟩ rfl (er.trans (nmT_r hq2)) (by omega) (by omega)
  refine eqc 12 wFat _ cf (fun y => am_av (v_X11_rule_65 ⟨fun z => absurd z (by decide), fun _ => ⟨⟨s2.2.1.2, s2.2.2.1⟩, ?_⟩⟩)) (fun n3 => am_av (v_X11_rule_65 ⟨fun _ => ⟨ty', ?_⟩, fun z => absurd rfl z⟩))
  · -- fat
    obtain ⟨el, s3, en⟩ := at' _ y
    have er : rlR t n (bE t n a) = nmT t n ((bE t n a) + 3) 0 99 (fun q => .inr (q.1, 3, q.2, 0, none)) := by
      unfold rlR
      rw [if_neg n0, if_neg n1, if_neg n2, if_pos y]
    have el' : (lE t n (bE t n a) - bE t n a) = 3 := el
    have en' : (bE t n a) + 3 ≤ n := en
    have s3' : RyS h0 h2 R T ((bE t n a) + 3) (bE t n a) dp := s3
    obtain ⟨n1, n2, n3, n4⟩ := nw _ _ _ _ s3'
    refine xy_number (by omega) x n1 (by omega) (fun p hp h4 E g1 g2 g3 g4 g5 g6 => am_ax rfl (H0' p (er.trans (nmT_l hp)) h4 E g1 g2 g3 g4 (by omega) (by omega))) (fun q2 hq2 h4 f4 z4 u4 s5 => am_av (v_X11_rule_73 ?_))
    have qk2 := nmR_ok hq2 (by omega)
    have xq := xp q2.1
    exact fin h4 _ 0 _ _ _ q2.1 _ _ none (fx_trans f2 (fx_trans2 (fx_new fx_refl) f4 (fun q _ z => z))) s5 ((f4.2.2.2 _ (by omega)).1.trans n2) ⟨by have := f2.1; omega, by omega⟩ rfl (er.trans (nmT_r hq2)) (by omega) (by omega)
  refine eqc 13 wPay _ cy (fun y => am_av (v_X11_rule_80 ⟨fun z => absurd z (by decide), fun _ => ⟨s2.2.2.1, ?_⟩⟩)) (fun n4 => am_av (v_X11_rule_80 ⟨fun _ => ⟨ty', ?_⟩, fun z => absurd rfl z⟩))
  · -- pay
    obtain ⟨el, s3, en⟩ := at' _ y
    have er : rlR t n (bE t n a) = nmT t n ((bE t n a) + 3) 0 999 (fun q => ifT t n false q.1 4 q.2) := by
      unfold rlR
      rw [if_neg n0, if_neg n1, if_neg n2, if_neg n3, if_pos y]
    have el' : (lE t n (bE t n a) - bE t n a) = 3 := el
    have en' : (bE t n a) + 3 ≤ n := en
    have s3' : RyS h0 h2 R T ((bE t n a) + 3) (bE t n a) dp := s3
    refine xy_number (by omega) x s3' (by omega) (fun p hp h4 E g1 g2 g3 g4 g5 g6 => am_ax rfl (H0' p (er.trans (nmT_l hp)) h4 E g1 g2 g3 g4 (by omega) (by omega))) (fun q hq h3 f3 z3 u3 s4 => am_av (v_X11_rule_85 ⟨⟨s4.2.1.2, s4.2.2.1⟩, ?_⟩))
    have qk := nmR_ok hq (by omega)
    have er2 := er.trans (nmT_r hq)
    obtain ⟨n1, n2, n3, n4⟩ := nw _ _ _ _ s4
    refine xy_when (by omega) x t00 cx ci n1 (by omega) (fun p hp h4 E g1 g2 g3 g4 g5 g6 => am_ax rfl (H0' p (er2.trans (ifT_l hp)) h4 E g1 g2 g3 g4 (by omega) (by omega))) (fun q2 hq2 h4 c st' f4 s5 oc k1 k2 => am_av (v_X11_rule_93 ?_))
    have xq := xp q2.1
    exact fin h4 _ c _ _ _ q2.1 st' 0 q2.2 (fx_trans f2 (fx_trans f3 (fx_trans2 (fx_new fx_refl) f4 (fun q _ z => z)))) s5 ((f4.2.2.2 _ (by omega)).1.trans n2) ⟨by have := f2.1; omega, by have := f4.1; omega⟩ oc (er2.trans (ifT_r hq2)) (by omega) (by omega)
  have ecs : ∀ {h3 : am_H} (j : Nat), fx (fun _ => False) h0 h3 → am_cs h3 j = am_cs h0 j := fun j f => by rw [f.2.2.1]
  refine eqc 14 wFree _ cr (fun y => am_av (v_X11_rule_98 ⟨fun z => absurd z (by decide), fun _ => ⟨s2.2.2.1, ?_⟩⟩)) (fun n5 => am_av (v_X11_rule_98 ⟨fun _ => ⟨ty', ?_⟩, fun z => absurd rfl z⟩))
  · -- free
    obtain ⟨el, s3, en⟩ := at' _ y
    have er : rlR t n (bE t n a) = ifT t n true ((bE t n a) + 4) 5 0 := by
      unfold rlR
      rw [if_neg n0, if_neg n1, if_neg n2, if_neg n3, if_neg n4, if_pos y]
    have el' : (lE t n (bE t n a) - bE t n a) = 4 := el
    have en' : (bE t n a) + 4 ≤ n := en
    have s3' : RyS h0 h2 R T ((bE t n a) + 4) (bE t n a) dp := s3
    have b4 := bE_v (t := t) (n := n) (a := (bE t n a) + 4)
    have b4e := b4.1.2 en'
    rw [ecs 16 s2.1]
    refine xy_needs (by omega) x s3' (by omega) ci (fun e h4 E g1 g2 g3 g4 g5 g6 => am_ax rfl (H0' _ (er.trans (ifT_l ?_)) h4 E g1 g2 g3 g4 (by omega) (by omega))) (fun h3 e f3 s4 cz3 cu3 => am_an (v_X11_rule_102 ⟨s4.2.2.1, s4.2.1.2, ?_⟩))
    · unfold ifR
      rw [if_neg e]
      rfl
    · have we : bE t n ((bE t n a) + 4) + 2 ≤ n := wAt_e e b4e
      have cz3' : 3 * ((am_sz h3 : Int) - am_sz h2) ≤ 12 + 2 := cz3
      have cu3' : (am_us h3 : Int) ≤ am_us h2 + 24 + 5 * 2 := cu3
      have s4' : RyS h0 h3 R T (bE t n ((bE t n a) + 4) + 2) (bE t n ((bE t n a) + 4)) dp := s4
      have s5 := RyS_dp (v := 0) s4'
      obtain ⟨n1, n2, n3, n4⟩ := nw _ _ _ _ s5
      have n3' : am_sz (am_new (am_sfi h3 119 R 0) 11 4) = am_sz h3 + 1 := n3
      have n4' : am_us (am_new (am_sfi h3 119 R 0) 11 4) = am_us h3 + 4 := n4
      refine rx_cnd x t00 cx _ _ (bE t n ((bE t n a) + 4) + 2) _ _ (by omega) n1 (by omega) (fun p hp h4 E g1 g2 g3 g4 g5 g6 => am_ax rfl (H0' p (er.trans (ifT_l ?_)) h4 E g1 g2 g3 g4 (by omega) (by omega))) (fun q hq h4 c st' f4 s6 xc cz4 k1 k2 => am_av (v_X11_rule_112 ?_))
      · unfold ifR
        rw [if_pos e, hp]
      · have er2 : ifR t n true ((bE t n a) + 4) = .inr (q.1, some q.2) := by
          unfold ifR
          rw [if_pos e, hq]
        have bb : bE t n q.1 = q.1 := anR_b _ _ hq
        have oq := (cnR_ok _ q we hq).1
        have xq := xp q.1
        have xe : (lE t n (bE t n (q.1)) - bE t n (q.1)) = lE t n q.1 - q.1 := by rw [bb]
        exact fin h4 _ c _ _ _ q.1 st' 0 (some q.2) (fx_trans f2 (fx_trans f3 (fx_trans2 (fx_new (fx_sfi fx_refl (Or.inr rfl))) f4 (fun q _ z => z)))) s6 ((f4.2.2.2 _ (by omega)).1.trans n2) ⟨by have := f2.1; have := f3.1; omega, by have := f4.1; omega⟩ ⟨by omega, xc⟩ (er.trans (ifT_r er2)) (by omega) (by omega)
  refine eqc 15 wClos _ cl (fun y => am_av (v_X11_rule_117 ⟨fun _ => ⟨s2.2.2.1, ?_⟩, fun z => absurd z (by decide)⟩)) (fun n6 => am_av (v_X11_rule_117 ⟨fun z => absurd rfl z, fun _ => ⟨s2.2.2.1, xy_wrong (by omega) s2 (fun h4 E g1 g2 g3 g4 g5 g6 => am_av (v_X11_rule_120 ⟨g3, H0' (bE t n a) ?_ h4 E g1 g2 g3 g4 (by omega) (by omega)⟩))⟩⟩))
  · -- close
    obtain ⟨el, s3, en⟩ := at' _ y
    have er : rlR t n (bE t n a) = nmT t n ((bE t n a) + 5) 0 5 (fun q => if wAt t n (bE t n q.1) = wAtt then nmT t n (bE t n q.1 + 2) 0 600 (fun p => .inr (p.1, 6, q.2, p.2, none)) else .inl (bE t n q.1)) := by
      unfold rlR
      rw [if_neg n0, if_neg n1, if_neg n2, if_neg n3, if_neg n4, if_neg n5, if_pos y]
    have el' : (lE t n (bE t n a) - bE t n a) = 5 := el
    have en' : (bE t n a) + 5 ≤ n := en
    have s3' : RyS h0 h2 R T ((bE t n a) + 5) (bE t n a) dp := s3
    refine xy_number (by omega) x s3' (by omega) (fun p hp h4 E g1 g2 g3 g4 g5 g6 => am_ax rfl (H0' p (er.trans (nmT_l hp)) h4 E g1 g2 g3 g4 (by omega) (by omega))) (fun q hq h3 f3 z3 u3 s4 => am_av (v_X11_rule_125 ⟨s4.2.2.1, ?_⟩))
    have qk := nmR_ok hq (by omega)
    have er2 := er.trans (nmT_r hq)
    have b4 := bE_v (t := t) (n := n) (a := q.1)
    have b4e := b4.1.2 (by omega)
    rw [ecs 17 s4.1]
    refine xy_needs (by omega) x s4 (by omega) ca (fun e h4 E g1 g2 g3 g4 g5 g6 => am_ax rfl (H0' (bE t n q.1) ?_ h4 E g1 g2 g3 g4 (by omega) (by omega))) (fun h5 e f5 s5 cz3 cu3 => am_an (v_X11_rule_129 ⟨⟨s5.2.1.2, s5.2.2.1⟩, ?_⟩))
    · rw [er2, if_neg e]
    · have we : bE t n q.1 + 2 ≤ n := wAt_e e b4e
      have cz3' : 3 * ((am_sz h5 : Int) - am_sz h3) ≤ 12 + 2 := cz3
      have cu3' : (am_us h5 : Int) ≤ am_us h3 + 24 + 5 * 2 := cu3
      have s5' : RyS h0 h5 R T (bE t n q.1 + 2) (bE t n q.1) dp := s5
      have er3 : rlR t n (bE t n a) = nmT t n (bE t n q.1 + 2) 0 600 (fun p => .inr (p.1, 6, q.2, p.2, none)) := er2.trans (if_pos e)
      obtain ⟨n1, n2, n3, n4⟩ := nw _ _ _ _ s5'
      refine xy_number (by omega) x n1 (by omega) (fun p hp h4 E g1 g2 g3 g4 g5 g6 => am_ax rfl (H0' p (er3.trans (nmT_l hp)) h4 E g1 g2 g3 g4 (by omega) (by omega))) (fun q2 hq2 h4 f4 z4 u4 s6 => am_av (v_X11_rule_137 ?_))
      have qk2 := nmR_ok hq2 (by omega)
      have xq := xp q2.1
      exact fin h4 _ 0 _ _ _ q2.1 _ _ none (fx_trans f2 (fx_trans f3 (fx_trans f5 (fx_trans2 (fx_new fx_refl) f4 (fun q _ z => z))))) s6 ((f4.2.2.2 _ (by omega)).1.trans n2) ⟨by have := f2.1; have := f5.1; omega, by omega⟩ rfl (er3.trans (nmT_r hq2)) (by omega) (by omega)
  · unfold rlR
    rw [if_neg n0, if_neg n1, if_neg n2, if_neg n3, if_neg n4, if_neg n5, if_neg n6]
end
