set_option maxRecDepth 100000
/-! the component reads numbers and comparisons -/
theorem xCd_m {h : am_H} : ∀ (n m c : Nat) (val : (Int → Int) → (Int → Int) → Int), n ≤ m → xCd h n c val → xCd h m c val
  | 0, _, _, _, _, x => x.elim
  | n + 1, 0, _, _, le, _ => absurd le (by omega)
  | n + 1, m + 1, c, val, le, x => by
    refine ⟨x.1, ?_⟩
    rcases x.2 with ⟨ty, v1, x1, e⟩ | y | y | y | y | ⟨ty, v1, v2, x1, x2, e⟩ | ⟨ty, v1, v2, x1, x2, e⟩
    · exact Or.inl ⟨ty, v1, xCd_m n m _ _ (by omega) x1, e⟩
    · exact Or.inr (Or.inl y)
    · exact Or.inr (Or.inr (Or.inl y))
    · exact Or.inr (Or.inr (Or.inr (Or.inl y)))
    · exact Or.inr (Or.inr (Or.inr (Or.inr (Or.inl y))))
    · exact Or.inr (Or.inr (Or.inr (Or.inr (Or.inr (Or.inl ⟨ty, v1, v2, xCd_m n m _ _ (by omega) x1, xCd_m n m _ _ (by omega) x2, e⟩)))))
    · exact Or.inr (Or.inr (Or.inr (Or.inr (Or.inr (Or.inr ⟨ty, v1, v2, xCd_m n m _ _ (by omega) x1, xCd_m n m _ _ (by omega) x2, e⟩)))))
theorem xCd_fy {X : Nat → Prop} {h h' : am_H} (f : fx X h h') (g : ∀ q, X q → am_ty h q = 10) : ∀ (n c : Nat) (val : (Int → Int) → (Int → Int) → Int), xCd h n c val → xCd h' n c val
  | 0, _, _, x => x.elim
  | n + 1, c, val, x => by
    obtain ⟨a1, a2, a3⟩ := f.2.2.2 c x.1
    have go : am_ty h c ≠ 10 → (∀ f, am_fi h' f c = am_fi h f c) ∧ (∀ f, am_fr h' f c = am_fr h f c) := fun ne => by
      have k := a3 (fun z => ne (g c z))
      exact ⟨k.1, k.2.1⟩
    refine ⟨Nat.le_trans x.1 f.1, ?_⟩
    rw [a1]
    rcases x.2 with ⟨ty, v1, x1, e⟩ | y | y | y | ⟨ty, b1, e⟩ | ⟨ty, v1, v2, x1, x2, e⟩ | ⟨ty, v1, v2, x1, x2, e⟩
    · have k := go (by omega)
      rw [k.2 125]
      exact Or.inl ⟨ty, v1, xCd_fy f g n _ _ x1, e⟩
    · exact Or.inr (Or.inl y)
    · exact Or.inr (Or.inr (Or.inl y))
    · exact Or.inr (Or.inr (Or.inr (Or.inl y)))
    · have k := go (by omega)
      rw [k.1, k.1, k.1]
      exact Or.inr (Or.inr (Or.inr (Or.inr (Or.inl ⟨ty, b1, e⟩))))
    · have k := go (by omega)
      rw [k.2 129, k.2 130]
      exact Or.inr (Or.inr (Or.inr (Or.inr (Or.inr (Or.inl ⟨ty, v1, v2, xCd_fy f g n _ _ x1, xCd_fy f g n _ _ x2, e⟩)))))
    · have k := go (by omega)
      rw [k.2 131, k.2 132]
      exact Or.inr (Or.inr (Or.inr (Or.inr (Or.inr (Or.inr ⟨ty, v1, v2, xCd_fy f g n _ _ x1, xCd_fy f g n _ _ x2, e⟩)))))
section
variable {K : am_K} {h0 h : am_H} {R T : Nat} {t : Int → Int} {n a st dp : Int}
theorem xy_number {lo hi : Int} {D : Nat} (hD : 30 ≤ D) (x : TxT h0 T t n) (s : RyS h0 h R T a st dp) (ha : 0 ≤ a ∧ a ≤ n) (H0 : ∀ p, nmR t n a lo hi = .inl p → ThR h0 h K p 1 7) (H1 : ∀ q, nmR t n a lo hi = .inr q → ∀ h', fx (fun q => q = R) h h' → am_sz h' = am_sz h → am_us h' = am_us h → RyS h0 h' R T q.1 (bE t n a) dp → K (.inl (some (.inl (q.2)))) h') : am_ev am_prog D 351 [.inr (.inl R), .inl lo, .inl hi] h K := by
  have bv := bE_v (t := t) (n := n) (a := a)
  have be := bv.1.2 ha.2
  have dv := dE_v (t := t) (n := n) (a := (bE t n a))
  have de := dv.1.2 be
  have n4 := x.2.2.2.1
  obtain ⟨d, rfl⟩ : ∃ d, D = d + 13 := ⟨D - 13, by omega⟩
  refine am_en p_X11_number rfl rfl ?_
  refine v_X11_number_0 ⟨s.2.2.1, xy_blanks (by omega) x s ha (fun h1 f1 z1 u1 s1 => am_an (v_X11_number_2 ⟨s1.2.2.1, ?_⟩))⟩
  rw [s1.2.2.2.2.1]
  have wr : ∀ (h' : am_H) (e v : Int), am_sz h' = am_sz h → am_us h' = am_us h → RyS h0 h' R T e (bE t n a) dp → nmR t n a lo hi = .inl (bE t n a) → am_ev am_prog (d + 12) 307 [.inr (.inl R)] h' (am_aft (am_hand m_X11_number K (am_W m_X11_number (am_ev am_prog (d + 12)) K) 58) (am_W m_X11_number (am_ev am_prog (d + 12)) K) 58 [some (.inr (.inl (R))), some (.inl (lo)), some (.inl (hi)), some (.inl (v))] []) := fun h' e v z u s' er => by
    refine xy_wrong (by omega) s' (fun h2 E g1 g2 g3 g4 g5 g6 => am_av (v_X11_number_59 ⟨g3, ?_⟩))
    exact H0 _ er h2 E g1 g2 g3 g4 (by omega) (by omega)
  have main : ∀ (f : Nat) (k : Nat) (v : Int) (h' : am_H), (n - ((bE t n a) + k)).toNat ≤ f → (bE t n a) + k ≤ dE t n (bE t n a) → dE t n ((bE t n a) + k) = dE t n (bE t n a) → fx (fun q => q = R) h h' → am_sz h' = am_sz h → am_us h' = am_us h → RyS h0 h' R T ((bE t n a) + k) (bE t n a) dp → (k ≤ 4 → v = vF t (bE t n a) k) → (-100000 ≤ v ∧ v ≤ 100000) → am_W m_X11_number (am_ev am_prog (d + 12)) K 8 [some (.inr (.inl (R))), some (.inl (lo)), some (.inl (hi)), some (.inl (v))] [] h' := by
    have ends : ∀ (k : Nat) (v : Int) (h' : am_H), dE t n (bE t n a) = (bE t n a) + k → fx (fun q => q = R) h h' → am_sz h' = am_sz h → am_us h' = am_us h → RyS h0 h' R T ((bE t n a) + k) (bE t n a) dp → (k ≤ 4 → v = vF t (bE t n a) k) → ((bE t n a) + (k : Int) = (bE t n a) → am_ev am_prog (d + 12) 307 [.inr (.inl R)] h' (am_aft (am_hand m_X11_number K (am_W m_X11_number (am_ev am_prog (d + 12)) K) 58) (am_W m_X11_number (am_ev am_prog (d + 12)) K) 58 [some (.inr (.inl (R))), some (.inl (lo)), some (.inl (hi)), some (.inl (v))] [])) ∧ ((bE t n a) + (k : Int) ≠ (bE t n a) → ((-2147483648 ≤ (bE t n a) + (k : Int) - (bE t n a) ∧ (bE t n a) + (k : Int) - (bE t n a) ≤ 2147483647)) ∧ ((4 < ((bE t n a) + (k : Int) - (bE t n a)) → am_ev am_prog (d + 12) 307 [.inr (.inl R)] h' (am_aft (am_hand m_X11_number K (am_W m_X11_number (am_ev am_prog (d + 12)) K) 58) (am_W m_X11_number (am_ev am_prog (d + 12)) K) 58 [some (.inr (.inl (R))), some (.inl (lo)), some (.inl (hi)), some (.inl (v))] [])) ∧ (((bE t n a) + (k : Int) - (bE t n a)) ≤ 4 → (v < lo → am_ev am_prog (d + 12) 307 [.inr (.inl R)] h' (am_aft (am_hand m_X11_number K (am_W m_X11_number (am_ev am_prog (d + 12)) K) 58) (am_W m_X11_number (am_ev am_prog (d + 12)) K) 58 [some (.inr (.inl (R))), some (.inl (lo)), some (.inl (hi)), some (.inl (v))] [])) ∧ (lo ≤ v → (v ≤ hi → K (.inl (some (.inl (v)))) h') ∧ (hi < v → am_ev am_prog (d + 12) 307 [.inr (.inl R)] h' (am_aft (am_hand m_X11_number K (am_W m_X11_number (am_ev am_prog (d + 12)) K) 58) (am_W m_X11_number (am_ev am_prog (d + 12)) K) 58 [some (.inr (.inl (R))), some (.inl (lo)), some (.inl (hi)), some (.inl (v))] [])))))) := by
      intro k v h' hk fr z u s' hv
      have ek : (dE t n (bE t n a) - (bE t n a)).toNat = k := by omega
      have bad : (k = 0 ∨ 4 < k ∨ ¬ (lo ≤ vF t (bE t n a) k ∧ vF t (bE t n a) k ≤ hi)) → nmR t n a lo hi = .inl (bE t n a) := fun z => by
        unfold nmR
        rw [ek]
        exact if_pos (by omega)
      refine ⟨fun y => wr h' _ v z u s' (bad (Or.inl (by omega))), fun y => ⟨by omega, fun y2 => wr h' _ v z u s' (bad (Or.inr (Or.inl (by omega)))), fun y2 => ⟨fun y3 => wr h' _ v z u s' (bad (Or.inr (Or.inr (by have := hv (by omega); omega)))), fun y3 => ⟨fun y4 => ?_, fun y4 => wr h' _ v z u s' (bad (Or.inr (Or.inr (by have := hv (by omega); omega))))⟩⟩⟩⟩
      have ev := hv (by omega)
      have g : nmR t n a lo hi = .inr (dE t n (bE t n a), vF t (bE t n a) k) := by
        unfold nmR
        rw [ek]
        exact if_neg (by omega)
      rw [ev]
      exact H1 _ g h' fr z u (by show RyS h0 h' R T (dE t n (bE t n a)) (bE t n a) dp; rw [hk]; exact s')
    intro f
    induction f with
    | zero =>
      intro k v h' hf hk he fr z u s' hv vb
      obtain ⟨x1, x2, x3, x4, x5⟩ := TxT_fx s'.1 x
      rw [dE_0 (fun y => absurd y.1 (by omega))] at he
      refine v_X11_number_8 ?_
      rw [s'.2.2.2.1, s'.2.2.2.2.1, s'.2.2.2.2.2.1, x3]
      exact ⟨s'.2.2.1, ⟨Or.inr s'.2.2.1, Or.inl x1⟩, fun _ => ends k v h' he.symm fr z u s' hv, fun y => absurd y (by omega)⟩
    | succ f ih =>
      intro k v h' hf hk he fr z u s' hv vb
      obtain ⟨x1, x2, x3, x4, x5⟩ := TxT_fx s'.1 x
      have stop := fun (y : ¬ ((bE t n a) + k < n ∧ (48 ≤ t ((bE t n a) + k) ∧ t ((bE t n a) + k) ≤ 57))) => ends k v h' (by rw [dE_0 y] at he; exact he.symm) fr z u s' hv
      refine v_X11_number_8 ?_
      rw [s'.2.2.2.1, s'.2.2.2.2.1, s'.2.2.2.2.2.1, x3]
      refine ⟨s'.2.2.1, ⟨Or.inr s'.2.2.1, Or.inl x1⟩, fun y => stop (fun w => absurd w.1 (by omega)), fun y => ⟨by omega, ?_⟩⟩
      rw [x5 _ (by omega) y]
      refine ⟨fun w => stop (fun w2 => absurd w2.2.1 (by omega)), fun w => ⟨fun w2 => stop (fun w3 => absurd w3.2.2 (by omega)), fun w2 => ⟨by omega, fun w3 => ⟨by omega, ?_⟩, fun w3 => ⟨by omega, by omega, ?_⟩⟩⟩⟩
      all_goals
        have dg : (bE t n a) + k < n ∧ (48 ≤ t ((bE t n a) + k) ∧ t ((bE t n a) + k) ≤ 57) := ⟨y, w, w2⟩
        have he' : dE t n ((bE t n a) + k + 1) = dE t n (bE t n a) := by
          rw [← dE_s dg]
          exact he
        have hk' : (bE t n a) + k + 1 ≤ dE t n (bE t n a) := by
          rw [← he']
          exact (dE_v (t := t) (n := n) (a := (bE t n a) + k + 1)).1.1
        have ek : (bE t n a) + (k : Int) + 1 = (bE t n a) + ((k + 1 : Nat) : Int) := by omega
      · have s2 := RyS_at (a' := (bE t n a) + k + 1) s'
        rw [ek] at s2 ⊢
        exact ih (k + 1) v _ (by omega) (by omega) (by rw [← ek]; exact he') (fx_sfi fr (Or.inr rfl)) z u s2 (fun y => absurd y (by omega)) vb
      · have s2 := RyS_at (a' := (bE t n a) + k + 1) s'
        rw [ek] at s2 ⊢
        have ev := hv (by omega)
        have vb2 := vF_b (t := t) (a := (bE t n a)) k (fun j j1 j2 => dv.2 _ (by omega) (by omega)) (by omega)
        refine ih (k + 1) _ _ (by omega) (by omega) (by rw [← ek]; exact he') (fx_sfi fr (Or.inr rfl)) z u s2 (fun _ => ?_) (by omega)
        rw [ev]
        rfl
  have e0 : (bE t n a) + ((0 : Nat) : Int) = (bE t n a) := by omega
  refine main _ 0 0 _ (Nat.le_refl _) (by omega) (by rw [e0]) (fx_sfi f1 (Or.inr rfl)) z1 u1 (by rw [e0]; exact RyS_st s1) (fun _ => rfl) (by omega)
theorem xy_deeper {D : Nat} (hD : 25 ≤ D) (s : RyS h0 h R T a st dp) (hd : 0 ≤ dp ∧ dp ≤ 5) (H0 : dp = 5 → ThR h0 h K st 1 7) (H1 : dp ≠ 5 → RyS h0 (am_sfi h 119 R (dp + 1)) R T a st (dp + 1) → K (.inl none) (am_sfi h 119 R (dp + 1))) : am_ev am_prog D 415 [.inr (.inl R)] h K := by
  obtain ⟨d, rfl⟩ : ∃ d, D = d + 13 := ⟨D - 13, by omega⟩
  refine am_en p_X11_deeper rfl rfl ?_
  refine v_X11_deeper_0 ?_
  rw [s.2.2.2.2.2.2]
  refine ⟨s.2.2.1, fun c => ⟨by omega, H1 c (RyS_dp s)⟩, fun c => xy_wrong (by omega) s (fun h2 E g1 g2 g3 g4 g5 g6 => am_av (v_X11_deeper_6 ⟨g3, H0 c h2 E g1 g2 g3 g4 (by omega) (by omega)⟩))⟩
theorem xy_test {f : Int} {D : Nat} (hD : 40 ≤ D) (x : TxT h0 T t n) (s : RyS h0 h R T a st dp) (ha : 0 ≤ a ∧ a ≤ n) (hf : 0 ≤ f ∧ f ≤ 5) (H0 : ∀ p, cmR t n f a = .inl p → ThR h0 h K p 2 10) (H1 : ∀ q, cmR t n f a = .inr q → ∀ h' c st', fx (fun q => q = R) h h' → RyS h0 h' R T q.1 st' dp → xCd h' 1 c q.2.ev → am_sz h < c → am_sz h' = am_sz h + 1 → am_us h' = am_us h + 3 → K (.inl (some (.inr (.inl (c))))) h') : am_ev am_prog D 420 [.inr (.inl R), .inl f] h K := by
  have bv := bE_v (t := t) (n := n) (a := a)
  have be := bv.1.2 ha.2
  obtain ⟨d, rfl⟩ : ∃ d, D = d + 13 := ⟨D - 13, by omega⟩
  refine am_en p_X11_test rfl rfl ?_
  have num : ∀ (h1 : am_H) (fl : Int) (st1 : Int), fx (fun q => q = R) h h1 → am_sz h1 = am_sz h → am_us h1 = am_us h → RyS h0 h1 R T ((bE t n a) + 1) st1 dp → (bE t n a) < n → (t (bE t n a) = 60 ∨ t (bE t n a) = 62) → (fl = 0 ∨ fl = 1) → (fl = 1 ↔ t (bE t n a) = 60) → am_ev am_prog (d + 12) 351 [.inr (.inl R), .inl 0, .inl 9999] (am_new h1 16 3) (am_aft (am_hand m_X11_test K (am_W m_X11_test (am_ev am_prog (d + 12)) K) 20) (am_W m_X11_test (am_ev am_prog (d + 12)) K) 20 [some (.inr (.inl (R))), some (.inl (f)), some (.inl (fl))] [.inl fl, .inl f, .inr (.inl (am_sz h1 + 1)), .inr (.inl (am_sz h1 + 1))]) := by
    intro h1 fl st1 f1 z1 u1 s1 bn sg fl01 hfl
    have s2 := RyS_fx s1 (fx0_new (t := 16) (n := 3)) (fun q z _ => z.elim)
    have z2 : am_sz (am_new h1 16 3) = am_sz h1 + 1 := rfl
    have u2 : am_us (am_new h1 16 3) = am_us h1 + 3 := rfl
    refine xy_number (by omega) x s2 (by omega) (fun p hp h2 E g1 g2 g3 g4 g5 g6 => am_ax rfl (H0 p ?_ h2 E g1 g2 g3 g4 (by omega) (by omega))) (fun q hq h3 f3 z3 u3' s3 => am_av (v_X11_test_21 ?_))
    · unfold cmR
      rw [if_pos ⟨bn, sg⟩, hp]
    · have Rz := s1.2.1.2
      have ne : am_sz h1 + 1 ≠ R := by omega
      have k3 := f3.2.2.2 (am_sz h1 + 1) (Nat.le_refl _)
      have ty : am_ty h3 (am_sz h1 + 1) = 16 := k3.1.trans (x_tyn0 rfl)
      have ec : cmR t n f a = .inr (q.1, .cmp (if t (bE t n a) = 60 then 2 else 3) f q.2) := by
        unfold cmR
        rw [if_pos ⟨bn, sg⟩, hq]
      refine ⟨ty, by omega, fl01, H1 _ ec _ (am_sz h1 + 1) (bE t n ((bE t n a) + 1)) ?_ ?_ ?_ (by omega) (by show am_sz h3 = _; omega) (by show am_us h3 = _; omega)⟩
      · exact fx_sfi (fx_sfi (fx_sfi (fx_trans2 (fx_new f1) f3 (fun q _ z => z)) (Or.inl (by omega))) (Or.inl (by omega))) (Or.inl (by omega))
      · refine RyS_fx s3 (X := fun q => q = am_sz h1 + 1) (fx_sfi (fx_sfi (fx_sfi fx_refl (Or.inr rfl)) (Or.inr rfl)) (Or.inr rfl)) (fun q z _ => ?_)
        have := s1.1.1
        omega
      · have e126 : am_fi (am_sfi (am_sfi (am_sfi h3 126 (am_sz h1 + 1) f) 127 (am_sz h1 + 1) fl) 128 (am_sz h1 + 1) q.2) 126 (am_sz h1 + 1) = f := (x_fif (by decide)).trans ((x_fif (by decide)).trans x_fie)
        have e127 : am_fi (am_sfi (am_sfi (am_sfi h3 126 (am_sz h1 + 1) f) 127 (am_sz h1 + 1) fl) 128 (am_sz h1 + 1) q.2) 127 (am_sz h1 + 1) = fl := (x_fif (by decide)).trans x_fie
        have e128 : am_fi (am_sfi (am_sfi (am_sfi h3 126 (am_sz h1 + 1) f) 127 (am_sz h1 + 1) fl) 128 (am_sz h1 + 1) q.2) 128 (am_sz h1 + 1) = q.2 := x_fie
        refine ⟨?_, Or.inr (Or.inr (Or.inr (Or.inr (Or.inl ⟨ty, by rw [e126]; exact hf, ?_⟩))))⟩
        · show am_sz h1 + 1 ≤ am_sz h3
          omega
        · rw [e126, e127, e128]
          funext tg fc
          show (if (if t (bE t n a) = 60 then (2 : Int) else 3) = 2 then am_b (fc f < q.2) else am_b (q.2 < fc f)) = _
          by_cases c : t (bE t n a) = 60
          · have fl1 := hfl.2 c
            rw [if_pos c, if_pos rfl, if_neg (by omega)]
          · have fl0 : fl = 0 := by
              rcases fl01 with e | e
              · exact e
              · exact absurd (hfl.1 e) c
            rw [if_neg c, if_neg (by decide), if_pos fl0]
  refine v_X11_test_0 ⟨s.2.2.1, xy_sign (by omega) x s ha (fun h1 nb f1 z1 u1 s1 => am_av (v_X11_test_3 ⟨fun z => absurd rfl z, fun _ => ⟨s1.2.2.1, ?_⟩⟩)) (fun h1 yb f1 z1 u1 s1 => am_av (v_X11_test_3 ⟨fun _ => ⟨⟨s1.2.1.2, s1.2.2.1⟩, num h1 1 _ f1 z1 u1 s1 yb.1 (Or.inl yb.2) (Or.inr rfl) ⟨fun _ => yb.2, fun _ => rfl⟩⟩, fun z => absurd z (by decide)⟩))⟩
  refine xy_sign (by omega) x s1 (by omega) (fun h2 nb2 f2 z2 u2 s2 => am_av (v_X11_test_9 ⟨fun z => absurd rfl z, fun _ => ⟨s2.2.2.1, ?_⟩⟩)) (fun h2 yb2 f2 z2 u2 s2 => am_av (v_X11_test_9 ⟨fun _ => ⟨⟨s2.2.1.2, s2.2.2.1⟩, ?_⟩, fun z => absurd z (by decide)⟩))
  · rw [bE_b] at nb2 s2
    refine xy_wrong (by omega) s2 (fun h3 E g1 g2 g3 g4 g5 g6 => am_av (v_X11_test_12 ⟨g3, H0 (bE t n a) ?_ h3 E g1 g2 g3 g4 (by omega) (by omega)⟩))
    unfold cmR
    rw [if_neg (fun y => y.2.elim (fun w => nb ⟨y.1, w⟩) (fun w => nb2 ⟨y.1, w⟩))]
  · rw [bE_b] at yb2 s2
    exact num h2 0 _ (fx_trans f1 f2) (by omega) (by omega) s2 yb2.1 (Or.inr yb2.2) (Or.inl rfl) ⟨fun z => absurd z (by decide), fun z => absurd z (by omega)⟩
end
