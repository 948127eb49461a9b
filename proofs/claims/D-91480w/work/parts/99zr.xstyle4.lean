set_option maxRecDepth 100000
/-! the component reads conditions -/
/-- thrown out of a reader of styles -/
def ThP (h0 h : am_H) (K : am_K) (p n a : Int) : Prop := ∀ h' E, fx (fun _ => False) h0 h' → am_ty h' E = 7 → E ≠ 0 → am_fi h' 107 E = p → 3 * ((am_sz h' : Int) - am_sz h) ≤ 12 * (n - a) + 900 → (am_us h' : Int) ≤ am_us h + 30 * (n - a) + 5000 → K (.inr E) h'
/-- a method of the component that reads a condition -/
def RdX (h0 : am_H) (R T : Nat) (t : Int → Int) (n : Int) (y : Nat) (f : Int → am_Rs) (D0 : Nat) (dp cz cu cl : Int) : Prop := ∀ (K : am_K) (h : am_H) (a st : Int) (D : Nat), D0 ≤ D → RyS h0 h R T a st dp → 0 ≤ a ∧ a ≤ n → (∀ p, f a = .inl p → ThP h0 h K p n a) → (∀ q, f a = .inr q → ∀ h' c st', fx (fun q => q = R) h h' → RyS h0 h' R T q.1 st' dp → xCd h' q.2.dp c q.2.ev → am_sz h < c → 3 * ((am_sz h' : Int) - am_sz h) ≤ 12 * (q.1 - a) - cz + cl * (lE t n q.1 - q.1) → (am_us h' : Int) ≤ am_us h + 30 * (q.1 - a) - cu + 5 * (cl * (lE t n q.1 - q.1)) → K (.inl (some (.inr (.inl (c))))) h') → am_ev am_prog D y [.inr (.inl R)] h K
section
variable {h0 : am_H} {R T : Nat} {t : Int → Int} {n : Int}
/-- a node that is not whole is in no tree -/
theorem xCd_fz {h h' : am_H} {z : Nat} (f : fx (fun q => q = z) h h') (t0 : am_ty h 0 = 0) (hz : (am_ty h z = 17 ∧ am_fr h 129 z = 0) ∨ (am_ty h z = 18 ∧ am_fr h 131 z = 0)) : ∀ (n c : Nat) (val : (Int → Int) → (Int → Int) → Int), xCd h n c val → xCd h' n c val
  | 0, _, _, x => x.elim
  | n + 1, c, val, x => by
    have no : ∀ m v, ¬ xCd h m 0 v := fun m v k => by
      cases m with
      | zero => exact k
      | succ m =>
        have := k.2
        rw [t0] at this
        rcases this with y | y | y | y | y | y | y <;> exact absurd y.1 (by decide)
    obtain ⟨a1, a2, a3⟩ := f.2.2.2 c x.1
    have ne : c ≠ z := fun e => by
      rw [e] at x
      rcases hz with w | w
      · rcases x.2 with y | y | y | y | y | ⟨_, v1, v2, x1, _⟩ | y
        · have := y.1; omega
        · have := y.1; omega
        · have := y.1; omega
        · have := y.1; omega
        · have := y.1; omega
        · rw [w.2] at x1
          exact no _ _ x1
        · have := y.1; omega
      · rcases x.2 with y | y | y | y | y | y | ⟨_, v1, v2, x1, _⟩
        · have := y.1; omega
        · have := y.1; omega
        · have := y.1; omega
        · have := y.1; omega
        · have := y.1; omega
        · have := y.1; omega
        · rw [w.2] at x1
          exact no _ _ x1
    have k := a3 ne
    refine ⟨Nat.le_trans x.1 f.1, ?_⟩
    rw [a1]
    rcases x.2 with ⟨ty, v1, x1, e⟩ | y | y | y | ⟨ty, b1, e⟩ | ⟨ty, v1, v2, x1, x2, e⟩ | ⟨ty, v1, v2, x1, x2, e⟩
    · rw [k.2.1 125]
      exact Or.inl ⟨ty, v1, xCd_fz f t0 hz n _ _ x1, e⟩
    · exact Or.inr (Or.inl y)
    · exact Or.inr (Or.inr (Or.inl y))
    · exact Or.inr (Or.inr (Or.inr (Or.inl y)))
    · rw [k.1 126, k.1 127, k.1 128]
      exact Or.inr (Or.inr (Or.inr (Or.inr (Or.inl ⟨ty, b1, e⟩))))
    · rw [k.2.1 129, k.2.1 130]
      exact Or.inr (Or.inr (Or.inr (Or.inr (Or.inr (Or.inl ⟨ty, v1, v2, xCd_fz f t0 hz n _ _ x1, xCd_fz f t0 hz n _ _ x2, e⟩)))))
    · rw [k.2.1 131, k.2.1 132]
      exact Or.inr (Or.inr (Or.inr (Or.inr (Or.inr (Or.inr ⟨ty, v1, v2, xCd_fz f t0 hz n _ _ x1, xCd_fz f t0 hz n _ _ x2, e⟩)))))
theorem rx_all {f : Int → am_Rs} {s : Int} {g D0 : Nat} {dp : Int} (x : TxT h0 T t n) (t00 : am_ty h0 0 = 0) (cw : csX h0 23 wAnd) (hD0 : 36 ≤ D0) (hf : ∀ a q, a ≤ n → f a = .inr q → okAt t n s g a q) (rd : RdX h0 R T t n 400 f D0 dp 27 70 0) : RdX h0 R T t n 383 (alR t n f) (D0 + 1) dp 15 46 1 := by
  intro K h a st D hD sy ha H0 H1
  have n4 := x.2.2.2.1
  obtain ⟨d, rfl⟩ : ∃ d, D = d + 13 := ⟨D - 13, by omega⟩
  refine am_en p_X11_all rfl rfl ?_
  have loop : ∀ (m : Nat) (e : Int) (cc : am_Cd) (h' : am_H) (c : Nat) (st' : Int), (n - e).toNat ≤ m → okAt t n s (g + 1) a (e, cc) →  fx (fun q => q = R) h h' → RyS h0 h' R T e st' dp → xCd h' cc.dp c cc.ev → am_sz h < c → 3 * ((am_sz h' : Int) - am_sz h) ≤ 12 * (e - a) - 27 + 0 * (lE t n e - e) → (am_us h' : Int) ≤ am_us h + 30 * (e - a) - 70 + 5 * (0 * (lE t n e - e)) → (∀ p, lpR t n f wAnd .an e cc = .inl p → ThP h0 h K p n a) → (∀ q, lpR t n f wAnd .an e cc = .inr q → ∀ h' c st', fx (fun q => q = R) h h' → RyS h0 h' R T q.1 st' dp → xCd h' q.2.dp c q.2.ev → am_sz h < c → 3 * ((am_sz h' : Int) - am_sz h) ≤ 12 * (q.1 - a) - 15 + 1 * (lE t n q.1 - q.1) → (am_us h' : Int) ≤ am_us h + 30 * (q.1 - a) - 46 + 5 * (1 * (lE t n q.1 - q.1)) → K (.inl (some (.inr (.inl (c))))) h') → am_W m_X11_all (am_ev am_prog (d + 12)) K 3 [some (.inr (.inl (R))), some (.inr (.inl (c)))] [] h' := by
    intro m
    induction m with
    | zero =>
      intro e cc h' c st' hm o  fr s' xc cz' k1 k2 G0 G1
      have eo : a + 4 ≤ e ∧ e ≤ n := o.1
      have bv := bE_v (t := t) (n := n) (a := e)
      have be := bv.1.2 eo.2
      have nw : ¬ wAt t n (bE t n e) = wAnd := fun h => by
        have := (wAt_b h (by decide)).1
        omega
      have ecs : am_cs h' 23 = am_cs h0 23 := by rw [s'.1.2.2.1]
      refine v_X11_all_3 ⟨s'.2.2.1, ?_⟩
      rw [ecs]
      refine xy_passes (by omega) x s' (by omega) cw (fun h2 y2 f2 s2 cz2 cu2 => am_av (v_X11_all_6 ⟨fun _ => ?_, fun z => absurd rfl z⟩)) (fun h2 y2 f2 s2 cz2 cu2 => absurd y2 nw)
      have lb := (lE_v (t := t) (n := n) (a := bE t n e)).1.1
      have le' := (lE_v (t := t) (n := n) (a := e)).1.1
      have tr : am_ty h' R = 10 := s'.2.2.1
      skip
      exact G1 (bE t n e, cc) (lpR_n nw) h2 c _ (fx_trans fr f2) s2 (xCd_fy f2 (fun q z => by rw [z]; exact tr) _ _ _ xc) cz' (by show _ ≤ 12 * (bE t n e - a) - 15 + 1 * (lE t n (bE t n e) - bE t n e); omega) (by show _ ≤ _ + 30 * (bE t n e - a) - 46 + 5 * (1 * (lE t n (bE t n e) - bE t n e)); omega)
    | succ m ih =>
      intro e cc h' c st' hm o  fr s' xc cz' k1 k2 G0 G1
      have eo : a + 4 ≤ e ∧ e ≤ n := o.1
      have bv := bE_v (t := t) (n := n) (a := e)
      have be := bv.1.2 eo.2
      have ecs : am_cs h' 23 = am_cs h0 23 := by rw [s'.1.2.2.1]
      have lb := (lE_v (t := t) (n := n) (a := bE t n e)).1.1
      have le' := (lE_v (t := t) (n := n) (a := e)).1.1
      have tr : am_ty h' R = 10 := s'.2.2.1
      refine v_X11_all_3 ⟨s'.2.2.1, ?_⟩
      rw [ecs]
      refine xy_passes (by omega) x s' (by omega) cw (fun h2 y2 f2 s2 cz2 cu2 => am_av (v_X11_all_6 ⟨fun _ => ?_, fun z => absurd rfl z⟩)) (fun h2 y2 f2 s2 cz2 cu2 => am_av (v_X11_all_6 ⟨fun z => absurd z (by decide), fun _ => ⟨⟨s2.2.1.2, s2.2.2.1⟩, ?_⟩⟩))
      · skip
        exact G1 (bE t n e, cc) (lpR_n y2) h2 c _ (fx_trans fr f2) s2 (xCd_fy f2 (fun q z => by rw [z]; exact tr) _ _ _ xc) cz' (by show _ ≤ 12 * (bE t n e - a) - 15 + 1 * (lE t n (bE t n e) - bE t n e); omega) (by show _ ≤ _ + 30 * (bE t n e - a) - 46 + 5 * (1 * (lE t n (bE t n e) - bE t n e)); omega)
      · have we := wAt_e y2 be
        have we' : bE t n e + 3 ≤ n := we
        have wl : lE t n (bE t n e) = bE t n e + 3 := wAt_l y2
        have cz2' : 3 * ((am_sz h2 : Int) - am_sz h') ≤ 12 + 3 := cz2
        have cu2' : (am_us h2 : Int) ≤ am_us h' + 24 + 5 * 3 := cu2
        skip
        have s2' : RyS h0 h2 R T (bE t n e + 3) (bE t n e) dp := s2
        have s3 := RyS_fx s2' (fx0_new (t := 17) (n := 2)) (fun q z _ => z.elim)
        have z3 : am_sz (am_new h2 17 2) = am_sz h2 + 1 := rfl
        have u3 : am_us (am_new h2 17 2) = am_us h2 + 2 := rfl
        refine rd _ (am_new h2 17 2) (bE t n e + 3) _ _ (by omega) s3 (by omega) (fun p hp h4 E g1 g2 g3 g4 g5 g6 => am_ax rfl (G0 p (lpR_y y2 hp) h4 E g1 g2 g3 g4 (by omega) (by omega))) (fun q hq h4 c4 st4 f4 s4 xc4 cz4 k41 k42 => am_av (v_X11_all_12 ?_))
        have oq := hf _ q we' hq
        have j := okAt_j (Or.inl ⟨rfl, rfl⟩) o y2 oq
        have qb : bE t n e + 3 + 4 ≤ q.1 ∧ q.1 ≤ n := oq.1
        have Rz := s2.2.1.2
        have ne : am_sz h2 + 1 ≠ R := by omega
        have kk := f4.2.2.2 (am_sz h2 + 1) (Nat.le_refl _)
        have ty : am_ty h4 (am_sz h2 + 1) = 17 := kk.1.trans (x_tyn0 rfl)
        rw [lpR_z y2 hq j.2] at G0 G1
        have f24 : fx (fun q => q = R) h2 h4 := fx_trans2 (fx_new fx_refl) f4 (fun q _ z => z)
        have tr2 : am_ty h2 R = 10 := s2.2.2.1
        have xcA : xCd h4 cc.dp c cc.ev := xCd_fy f24 (fun q z => by rw [z]; exact tr2) _ _ _ (xCd_fy f2 (fun q z => by rw [z]; exact tr) _ _ _ xc)
        refine ⟨ty, by rw [ty]; omega, ?_⟩
        have fx5 : fx (fun q => q = am_sz h2 + 1) h4 (am_sfr (am_sfr h4 129 (am_sz h2 + 1) c) 130 (am_sz h2 + 1) c4) := fx_sfr (fx_sfr fx_refl (Or.inr rfl)) (Or.inr rfl)
        have z5 : am_sz (am_sfr (am_sfr h4 129 (am_sz h2 + 1) c) 130 (am_sz h2 + 1) c4) = am_sz h4 := rfl
        have u5 : am_us (am_sfr (am_sfr h4 129 (am_sz h2 + 1) c) 130 (am_sz h2 + 1) c4) = am_us h4 := rfl
        have h2z := fr.1
        have h2z' := f2.1
        refine ih q.1 (.an cc q.2) _ (am_sz h2 + 1) st4 (by omega) j.1  (fx_sfr (fx_sfr (fx_trans (fx_trans fr f2) f24) (Or.inl (by omega))) (Or.inl (by omega))) (RyS_fx s4 fx5 (fun q z _ => by have := s2.1.1; omega)) ?_ (by omega) (by rw [z5]; omega) (by rw [u5]; omega) G0 G1
        have eA : am_fr (am_sfr (am_sfr h4 129 (am_sz h2 + 1) c) 130 (am_sz h2 + 1) c4) 129 (am_sz h2 + 1) = c := (x_frf (by decide)).trans x_fre
        have eB : am_fr (am_sfr (am_sfr h4 129 (am_sz h2 + 1) c) 130 (am_sz h2 + 1) c4) 130 (am_sz h2 + 1) = c4 := x_fre
        have t40 : am_ty h4 0 = 0 := (s4.1.2.2.2 0 (Nat.zero_le _)).1.trans t00
        have n4' : am_fr h4 129 (am_sz h2 + 1) = 0 := ((kk.2.2 ne).2.1 129).trans (x_frn0 rfl)
        have old := xCd_fz fx5 t40 (Or.inl ⟨ty, n4'⟩)
        show xCd _ (max cc.dp q.2.dp + 1) (am_sz h2 + 1) _
        refine ⟨by rw [z5]; have := f4.1; have : am_sz h2 + 1 ≤ am_sz h4 := this; omega, Or.inr (Or.inr (Or.inr (Or.inr (Or.inr (Or.inl ⟨ty, cc.ev, q.2.ev, ?_, ?_, rfl⟩)))))⟩
        · rw [eA]
          exact old _ _ _ (xCd_m _ _ _ _ (Nat.le_max_left _ _) xcA)
        · rw [eB]
          exact old _ _ _ (xCd_m _ _ _ _ (Nat.le_max_right _ _) xc4)
  refine v_X11_all_0 ⟨sy.2.2.1, rd _ h a st _ (by omega) sy ha (fun p hp h4 E g1 g2 g3 g4 g5 g6 => am_ax rfl (H0 p ?_ h4 E g1 g2 g3 g4 g5 g6)) (fun q hq h4 c4 st4 f4 s4 xc4 cz4 k41 k42 => am_av (v_X11_all_2 ?_))⟩
  · unfold alR
    rw [hp]
  · have er : alR t n f a = lpR t n f wAnd .an q.1 q.2 := by
      unfold alR
      rw [hq]
    rw [er] at H0 H1
    exact loop _ q.1 q.2 h4 c4 st4 (Nat.le_refl _) (okAt_g (Nat.le_succ _) (hf a q ha.2 hq))  f4 s4 xc4 cz4 k41 k42 H0 H1
theorem rx_cond {f : Int → am_Rs} {s : Int} {g D0 : Nat} {dp : Int} (x : TxT h0 T t n) (t00 : am_ty h0 0 = 0) (cw : csX h0 20 wOr) (hD0 : 36 ≤ D0) (hb : ∀ a q, f a = .inr q → bE t n q.1 = q.1) (hf : ∀ a q, a ≤ n → f a = .inr q → okAt t n s g a q) (rd : RdX h0 R T t n 383 f D0 dp 15 46 1) : RdX h0 R T t n 355 (anR' t n f) (D0 + 1) dp 3 22 2 := by
  intro K h a st D hD sy ha H0 H1
  have n4 := x.2.2.2.1
  obtain ⟨d, rfl⟩ : ∃ d, D = d + 13 := ⟨D - 13, by omega⟩
  refine am_en p_X11_cond rfl rfl ?_
  have loop : ∀ (m : Nat) (e : Int) (cc : am_Cd) (h' : am_H) (c : Nat) (st' : Int), (n - e).toNat ≤ m → okAt t n s (g + 1) a (e, cc) → bE t n e = e → fx (fun q => q = R) h h' → RyS h0 h' R T e st' dp → xCd h' cc.dp c cc.ev → am_sz h < c → 3 * ((am_sz h' : Int) - am_sz h) ≤ 12 * (e - a) - 15 + 1 * (lE t n e - e) → (am_us h' : Int) ≤ am_us h + 30 * (e - a) - 46 + 5 * (1 * (lE t n e - e)) → (∀ p, lpR t n f wOr .oo e cc = .inl p → ThP h0 h K p n a) → (∀ q, lpR t n f wOr .oo e cc = .inr q → ∀ h' c st', fx (fun q => q = R) h h' → RyS h0 h' R T q.1 st' dp → xCd h' q.2.dp c q.2.ev → am_sz h < c → 3 * ((am_sz h' : Int) - am_sz h) ≤ 12 * (q.1 - a) - 3 + 2 * (lE t n q.1 - q.1) → (am_us h' : Int) ≤ am_us h + 30 * (q.1 - a) - 22 + 5 * (2 * (lE t n q.1 - q.1)) → K (.inl (some (.inr (.inl (c))))) h') → am_W m_X11_cond (am_ev am_prog (d + 12)) K 3 [some (.inr (.inl (R))), some (.inr (.inl (c)))] [] h' := by
    intro m
    induction m with
    | zero =>
      intro e cc h' c st' hm o eb fr s' xc cz' k1 k2 G0 G1
      have eo : a + 4 ≤ e ∧ e ≤ n := o.1
      have bv := bE_v (t := t) (n := n) (a := e)
      have be := bv.1.2 eo.2
      have nw : ¬ wAt t n (bE t n e) = wOr := fun h => by
        have := (wAt_b h (by decide)).1
        omega
      have ecs : am_cs h' 20 = am_cs h0 20 := by rw [s'.1.2.2.1]
      refine v_X11_cond_3 ⟨s'.2.2.1, ?_⟩
      rw [ecs]
      refine xy_passes (by omega) x s' (by omega) cw (fun h2 y2 f2 s2 cz2 cu2 => am_av (v_X11_cond_6 ⟨fun _ => ?_, fun z => absurd rfl z⟩)) (fun h2 y2 f2 s2 cz2 cu2 => absurd y2 nw)
      have lb := (lE_v (t := t) (n := n) (a := bE t n e)).1.1
      have le' := (lE_v (t := t) (n := n) (a := e)).1.1
      have tr : am_ty h' R = 10 := s'.2.2.1
      have lx : lE t n (bE t n e) - bE t n e = lE t n e - e := by rw [eb]
      exact G1 (bE t n e, cc) (lpR_n nw) h2 c _ (fx_trans fr f2) s2 (xCd_fy f2 (fun q z => by rw [z]; exact tr) _ _ _ xc) cz' (by show _ ≤ 12 * (bE t n e - a) - 3 + 2 * (lE t n (bE t n e) - bE t n e); omega) (by show _ ≤ _ + 30 * (bE t n e - a) - 22 + 5 * (2 * (lE t n (bE t n e) - bE t n e)); omega)
    | succ m ih =>
      intro e cc h' c st' hm o eb fr s' xc cz' k1 k2 G0 G1
      have eo : a + 4 ≤ e ∧ e ≤ n := o.1
      have bv := bE_v (t := t) (n := n) (a := e)
      have be := bv.1.2 eo.2
      have ecs : am_cs h' 20 = am_cs h0 20 := by rw [s'.1.2.2.1]
      have lb := (lE_v (t := t) (n := n) (a := bE t n e)).1.1
      have le' := (lE_v (t := t) (n := n) (a := e)).1.1
      have tr : am_ty h' R = 10 := s'.2.2.1
      refine v_X11_cond_3 ⟨s'.2.2.1, ?_⟩
      rw [ecs]
      refine xy_passes (by omega) x s' (by omega) cw (fun h2 y2 f2 s2 cz2 cu2 => am_av (v_X11_cond_6 ⟨fun _ => ?_, fun z => absurd rfl z⟩)) (fun h2 y2 f2 s2 cz2 cu2 => am_av (v_X11_cond_6 ⟨fun z => absurd z (by decide), fun _ => ⟨⟨s2.2.1.2, s2.2.2.1⟩, ?_⟩⟩))
      · have lx : lE t n (bE t n e) - bE t n e = lE t n e - e := by rw [eb]
        exact G1 (bE t n e, cc) (lpR_n y2) h2 c _ (fx_trans fr f2) s2 (xCd_fy f2 (fun q z => by rw [z]; exact tr) _ _ _ xc) cz' (by show _ ≤ 12 * (bE t n e - a) - 3 + 2 * (lE t n (bE t n e) - bE t n e); omega) (by show _ ≤ _ + 30 * (bE t n e - a) - 22 + 5 * (2 * (lE t n (bE t n e) - bE t n e)); omega)
      · have we := wAt_e y2 be
        have we' : bE t n e + 2 ≤ n := we
        have wl : lE t n (bE t n e) = bE t n e + 2 := wAt_l y2
        have cz2' : 3 * ((am_sz h2 : Int) - am_sz h') ≤ 12 + 2 := cz2
        have cu2' : (am_us h2 : Int) ≤ am_us h' + 24 + 5 * 2 := cu2
        have lx : lE t n (bE t n e) - bE t n e = lE t n e - e := by rw [eb]
        have s2' : RyS h0 h2 R T (bE t n e + 2) (bE t n e) dp := s2
        have s3 := RyS_fx s2' (fx0_new (t := 18) (n := 2)) (fun q z _ => z.elim)
        have z3 : am_sz (am_new h2 18 2) = am_sz h2 + 1 := rfl
        have u3 : am_us (am_new h2 18 2) = am_us h2 + 2 := rfl
        refine rd _ (am_new h2 18 2) (bE t n e + 2) _ _ (by omega) s3 (by omega) (fun p hp h4 E g1 g2 g3 g4 g5 g6 => am_ax rfl (G0 p (lpR_y y2 hp) h4 E g1 g2 g3 g4 (by omega) (by omega))) (fun q hq h4 c4 st4 f4 s4 xc4 cz4 k41 k42 => am_av (v_X11_cond_12 ?_))
        have oq := hf _ q we' hq
        have j := okAt_j (Or.inr ⟨rfl, rfl⟩) o y2 oq
        have qb : bE t n e + 2 + 4 ≤ q.1 ∧ q.1 ≤ n := oq.1
        have Rz := s2.2.1.2
        have ne : am_sz h2 + 1 ≠ R := by omega
        have kk := f4.2.2.2 (am_sz h2 + 1) (Nat.le_refl _)
        have ty : am_ty h4 (am_sz h2 + 1) = 18 := kk.1.trans (x_tyn0 rfl)
        rw [lpR_z y2 hq j.2] at G0 G1
        have f24 : fx (fun q => q = R) h2 h4 := fx_trans2 (fx_new fx_refl) f4 (fun q _ z => z)
        have tr2 : am_ty h2 R = 10 := s2.2.2.1
        have xcA : xCd h4 cc.dp c cc.ev := xCd_fy f24 (fun q z => by rw [z]; exact tr2) _ _ _ (xCd_fy f2 (fun q z => by rw [z]; exact tr) _ _ _ xc)
        refine ⟨ty, by rw [ty]; omega, ?_⟩
        have fx5 : fx (fun q => q = am_sz h2 + 1) h4 (am_sfr (am_sfr h4 131 (am_sz h2 + 1) c) 132 (am_sz h2 + 1) c4) := fx_sfr (fx_sfr fx_refl (Or.inr rfl)) (Or.inr rfl)
        have z5 : am_sz (am_sfr (am_sfr h4 131 (am_sz h2 + 1) c) 132 (am_sz h2 + 1) c4) = am_sz h4 := rfl
        have u5 : am_us (am_sfr (am_sfr h4 131 (am_sz h2 + 1) c) 132 (am_sz h2 + 1) c4) = am_us h4 := rfl
        have h2z := fr.1
        have h2z' := f2.1
        refine ih q.1 (.oo cc q.2) _ (am_sz h2 + 1) st4 (by omega) j.1 (hb _ _ hq) (fx_sfr (fx_sfr (fx_trans (fx_trans fr f2) f24) (Or.inl (by omega))) (Or.inl (by omega))) (RyS_fx s4 fx5 (fun q z _ => by have := s2.1.1; omega)) ?_ (by omega) (by rw [z5]; omega) (by rw [u5]; omega) G0 G1
        have eA : am_fr (am_sfr (am_sfr h4 131 (am_sz h2 + 1) c) 132 (am_sz h2 + 1) c4) 131 (am_sz h2 + 1) = c := (x_frf (by decide)).trans x_fre
        have eB : am_fr (am_sfr (am_sfr h4 131 (am_sz h2 + 1) c) 132 (am_sz h2 + 1) c4) 132 (am_sz h2 + 1) = c4 := x_fre
        have t40 : am_ty h4 0 = 0 := (s4.1.2.2.2 0 (Nat.zero_le _)).1.trans t00
        have n4' : am_fr h4 131 (am_sz h2 + 1) = 0 := ((kk.2.2 ne).2.1 131).trans (x_frn0 rfl)
        have old := xCd_fz fx5 t40 (Or.inr ⟨ty, n4'⟩)
        show xCd _ (max cc.dp q.2.dp + 1) (am_sz h2 + 1) _
        refine ⟨by rw [z5]; have := f4.1; have : am_sz h2 + 1 ≤ am_sz h4 := this; omega, Or.inr (Or.inr (Or.inr (Or.inr (Or.inr (Or.inr ⟨ty, cc.ev, q.2.ev, ?_, ?_, rfl⟩)))))⟩
        · rw [eA]
          exact old _ _ _ (xCd_m _ _ _ _ (Nat.le_max_left _ _) xcA)
        · rw [eB]
          exact old _ _ _ (xCd_m _ _ _ _ (Nat.le_max_right _ _) xc4)
  refine v_X11_cond_0 ⟨sy.2.2.1, rd _ h a st _ (by omega) sy ha (fun p hp h4 E g1 g2 g3 g4 g5 g6 => am_ax rfl (H0 p ?_ h4 E g1 g2 g3 g4 g5 g6)) (fun q hq h4 c4 st4 f4 s4 xc4 cz4 k41 k42 => am_av (v_X11_cond_2 ?_))⟩
  · unfold anR'
    rw [hp]
  · have er : anR' t n f a = lpR t n f wOr .oo q.1 q.2 := by
      unfold anR'
      rw [hq]
    rw [er] at H0 H1
    exact loop _ q.1 q.2 h4 c4 st4 (Nat.le_refl _) (okAt_g (Nat.le_succ _) (hf a q ha.2 hq)) (hb _ _ hq) f4 s4 xc4 cz4 k41 k42 H0 H1
end
