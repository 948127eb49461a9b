set_option maxRecDepth 100000
/-! the component reads a style's words -/
/-- a builder is made -/
theorem sb_ok {h : am_H} : fx (fun _ => False) h (am_sfi (am_sfr (am_new (am_new h 29 4) 102 16) 185 (am_sz h + 1) (am_sz h + 1 + 1)) 186 (am_sz h + 1) 0) ∧ xB (am_sfi (am_sfr (am_new (am_new h 29 4) 102 16) 185 (am_sz h + 1) (am_sz h + 1 + 1)) 186 (am_sz h + 1) 0) (am_sz h + 1) [] ∧ (am_ln (am_sfi (am_sfr (am_new (am_new h 29 4) 102 16) 185 (am_sz h + 1) (am_sz h + 1 + 1)) 186 (am_sz h + 1) 0) (am_fr (am_sfi (am_sfr (am_new (am_new h 29 4) 102 16) 185 (am_sz h + 1) (am_sz h + 1 + 1)) 186 (am_sz h + 1) 0) 185 (am_sz h + 1))) = 16 ∧ am_fr (am_sfi (am_sfr (am_new (am_new h 29 4) 102 16) 185 (am_sz h + 1) (am_sz h + 1 + 1)) 186 (am_sz h + 1) 0) 185 (am_sz h + 1) = am_sz h + 2 ∧ am_sz (am_sfi (am_sfr (am_new (am_new h 29 4) 102 16) 185 (am_sz h + 1) (am_sz h + 1 + 1)) 186 (am_sz h + 1) 0) = am_sz h + 2 ∧ am_us (am_sfi (am_sfr (am_new (am_new h 29 4) 102 16) 185 (am_sz h + 1) (am_sz h + 1 + 1)) 186 (am_sz h + 1) 0) = am_us h + 20 := by
  have f185 : am_fr (am_sfi (am_sfr (am_new (am_new h 29 4) 102 16) 185 (am_sz h + 1) (am_sz h + 1 + 1)) 186 (am_sz h + 1) 0) 185 (am_sz h + 1) = am_sz h + 1 + 1 := x_fre
  have tA : am_ty (am_new (am_new h 29 4) 102 16) (am_sz h + 1 + 1) = 102 := x_tyn0 rfl
  have lA : am_ln (am_sfi (am_sfr (am_new (am_new h 29 4) 102 16) 185 (am_sz h + 1) (am_sz h + 1 + 1)) 186 (am_sz h + 1) 0) (am_sz h + 1 + 1) = 16 := x_lnn0 (h := am_new h 29 4) (t := 102) (n := 16) rfl
  have zB : am_sz (am_sfi (am_sfr (am_new (am_new h 29 4) 102 16) 185 (am_sz h + 1) (am_sz h + 1 + 1)) 186 (am_sz h + 1) 0) = am_sz h + 2 := rfl
  refine ⟨fx_sfi (fx_sfr (fx_new (fx_new fx_refl)) (Or.inl (by omega))) (Or.inl (by omega)), ?_, by rw [f185]; exact lA, f185, rfl, rfl⟩
  refine ⟨?_, ?_, x_fie, ?_, ?_, ?_, pf_nil, fun x hx => absurd hx (List.not_mem_nil)⟩
  · show am_ty (am_new (am_new h 29 4) 102 16) (am_sz h + 1) = 29
    rw [x_tyn (by show am_sz h + 1 ≤ am_sz h + 1; omega)]
    exact x_tyn0 rfl
  · rw [f185]
    exact tA
  · show am_fi (am_sfi (am_new (am_new h 29 4) 102 16) 186 (am_sz h + 1) 0) 188 (am_sz h + 1) = 0
    rw [x_fif (by decide), x_fin (by show am_sz h + 1 ≤ am_sz h + 1; omega)]
    exact x_fin0 rfl
  · rw [f185, lA]
    exact ⟨by decide, by decide⟩
  · rw [f185, zB]
    exact ⟨by omega, by omega⟩
section
variable {K : am_K} {h0 h : am_H} {R T : Nat} {t : Int → Int} {n a st dp : Int}
theorem xy_word {D : Nat} (hD : 30 ≤ D) (x : TxT h0 T t n) (s : RyS h0 h R T a st dp) (ha : 0 ≤ a ∧ a ≤ n) (H : ∀ h' w, fx (fun q => q = R) h h' → RyS h0 h' R T (lE t n (bE t n a)) (bE t n a) dp → xSl h' w (wAt t n (bE t n a)) → am_ty h' w = 30 → am_sz h < w → 3 * ((am_sz h' : Int) - am_sz h) ≤ 12 + (lE t n (bE t n a) - bE t n a) → (am_us h' : Int) ≤ am_us h + 24 + 5 * (lE t n (bE t n a) - bE t n a) → K (.inl (some (.inr (.inl (w))))) h') : am_ev am_prog D 350 [.inr (.inl R)] h K := by
  have bv := bE_v (t := t) (n := n) (a := a)
  have be := bv.1.2 ha.2
  have lv := lE_v (t := t) (n := n) (a := (bE t n a))
  have le := lv.1.2 be
  have n4 := x.2.2.2.1
  obtain ⟨d, rfl⟩ : ∃ d, D = d + 13 := ⟨D - 13, by omega⟩
  refine am_en p_X11_word rfl rfl ?_
  refine v_X11_word_0 ⟨s.2.2.1, xy_blanks (by omega) x s ha (fun h1 f1 z1 u1 s1 => am_an (v_X11_word_2 ⟨s1.2.2.1, ?_⟩))⟩
  rw [s1.2.2.2.2.1]
  -- the letters are put together
  have main : ∀ (h2 : am_H), fx (fun q => q = R) h h2 → am_sz h2 = am_sz h → am_us h2 = am_us h → RyS h0 h2 R T (lE t n (bE t n a)) (bE t n a) dp → ∀ (f k : Nat) (h' : am_H) (g : Nat), (lE t n (bE t n a) - (bE t n a)).toNat - k ≤ f → (bE t n a) + k ≤ lE t n (bE t n a) → fx (fun _ => False) h2 h' → xB h' (am_sz h2 + 1) (sgL t (bE t n a) k) → am_sz h2 + 1 < am_fr h' 185 (am_sz h2 + 1) → am_sz h' = am_sz h2 + 2 + g → (am_us h' : Int) ≤ am_us h2 + 20 + (2 * (am_ln h' (am_fr h' 185 (am_sz h2 + 1))) - 32) → 16 + 18 * (g : Int) ≤ (am_ln h' (am_fr h' 185 (am_sz h2 + 1))) → ((am_ln h' (am_fr h' 185 (am_sz h2 + 1))) = 16 ∨ (am_ln h' (am_fr h' 185 (am_sz h2 + 1))) ≤ 2 * (k : Int)) → 3 * g ≤ k → am_W m_X11_word (am_ev am_prog (d + 12)) K 25 [some (.inr (.inl (R))), some (.inr (.inl (am_sz h2 + 1))), some (.inl ((bE t n a) + (k : Int)))] [] h' := by
    intro h2 fh zh uh sh f
    induction f with
    | zero =>
      intro k h' g hf hk fr xb hA hz hu hN1 hN2 hg
      have s' := RyS_fx sh fr (fun q z _ => z.elim)
      have ek : (bE t n a) + (k : Int) = lE t n (bE t n a) := by omega
      refine v_X11_word_25 ?_
      rw [s'.2.2.2.2.1]
      refine ⟨s'.2.2.1, fun _ => ⟨xb.1, ?_⟩, fun z => absurd z (by omega)⟩
      refine c_toS xb (by rw [sgL_l]; omega) (fun h3 f3 z3 u3' xs ty e189 => am_av (v_X11_word_41 ?_))
      rw [sgL_l] at u3'
      have ew : wAt t n (bE t n a) = sgL t (bE t n a) k := by
        unfold wAt
        have : (lE t n (bE t n a) - (bE t n a)).toNat = k := by omega
        rw [this]
      have s3 := RyS_fx s' f3 (fun q z _ => z.elim)
      refine H h3 _ (fx_trans2 (fx_trans2 fh fr (fun q _ z => z.elim)) f3 (fun q _ z => z.elim)) s3 (by rw [ew]; exact xs) ty (by omega) (by omega) (by omega)
    | succ f ih =>
      intro k h' g hf hk fr xb hA hz hu hN1 hN2 hg
      have s' := RyS_fx sh fr (fun q z _ => z.elim)
      obtain ⟨x1, x2, x3, x4, x5⟩ := TxT_fx s'.1 x
      refine v_X11_word_25 ?_
      rw [s'.2.2.2.2.1, s'.2.2.2.1, x3]
      refine ⟨s'.2.2.1, fun z => ⟨xb.1, ?_⟩, fun z => ⟨⟨Or.inl x1, by omega⟩, xb.1, ?_⟩⟩
      · have ek : (bE t n a) + (k : Int) = lE t n (bE t n a) := by omega
        refine c_toS xb (by rw [sgL_l]; omega) (fun h3 f3 z3 u3' xs ty e189 => am_av (v_X11_word_41 ?_))
        rw [sgL_l] at u3'
        have ew : wAt t n (bE t n a) = sgL t (bE t n a) k := by
          unfold wAt
          have : (lE t n (bE t n a) - (bE t n a)).toNat = k := by omega
          rw [this]
        have s3 := RyS_fx s' f3 (fun q z _ => z.elim)
        refine H h3 _ (fx_trans2 (fx_trans2 fh fr (fun q _ z => z.elim)) f3 (fun q _ z => z.elim)) s3 (by rw [ew]; exact xs) ty (by omega) (by omega) (by omega)
      · rw [x5 _ (by omega) (by omega)]
        have lt := lv.2.1 ((bE t n a) + k) (by omega) z
        rw [am_i2c0 (by omega)]
        refine c_appg xb (by omega) (by rw [sgL_l]; omega) (by rcases hN2 with e | e <;> omega) (fun h3 f3 xb3 gr => am_av (v_X11_word_36 ⟨by omega, ?_⟩))
        rw [sgL_l] at gr
        have ek : (bE t n a) + (k : Int) + 1 = (bE t n a) + ((k + 1 : Nat) : Int) := by omega
        rw [ek]
        have fr3 : fx (fun _ => False) h2 h3 := fx_trans2 fr f3 (fun q hq z => by rcases z with z | z <;> omega)
        rcases gr with ⟨g1, g2, g3, g4⟩ | ⟨g1, g2, g3, g4, g5⟩
        · exact ih (k + 1) h3 g (by omega) (by omega) fr3 xb3 (by rw [g3]; exact hA) (by omega) (by rw [g4, g2]; exact hu) (by rw [g4]; exact hN1) (by rw [g4]; rcases hN2 with e | e; exact Or.inl e; exact Or.inr (by omega)) (by omega)
        · exact ih (k + 1) h3 (g + 1) (by omega) (by omega) fr3 xb3 (by have := fr.1; omega) (by omega) (by omega) (by omega) (Or.inr (by omega)) (by omega)
  -- the letters are counted
  have run : ∀ (f : Nat) (e : Int) (h2 : am_H), (n - e).toNat ≤ f → (bE t n a) ≤ e → e ≤ n → lE t n e = lE t n (bE t n a) → fx (fun q => q = R) h h2 → am_sz h2 = am_sz h → am_us h2 = am_us h → RyS h0 h2 R T e (bE t n a) dp → am_W m_X11_word (am_ev am_prog (d + 12)) K 6 [some (.inr (.inl (R))), none, none] [] h2 := by
    have fin : ∀ (h2 : am_H), fx (fun q => q = R) h h2 → am_sz h2 = am_sz h → am_us h2 = am_us h → RyS h0 h2 R T (lE t n (bE t n a)) (bE t n a) dp → R ≤ am_sz h2 ∧ am_W m_X11_word (am_ev am_prog (d + 12)) K 25 [some (.inr (.inl (R))), some (.inr (.inl (am_sz h2 + 1))), some (.inl ((bE t n a)))] [] (am_sfi (am_sfr (am_new (am_new h2 29 4) 102 16) 185 (am_sz h2 + 1) (am_sz h2 + 1 + 1)) 186 (am_sz h2 + 1) 0) := fun h2 f2 z2 u2 s2 => by
      obtain ⟨b1, b2, b3, b4, b5, b6⟩ := sb_ok (h := h2)
      have q := main h2 f2 z2 u2 s2 _ 0 (am_sfi (am_sfr (am_new (am_new h2 29 4) 102 16) 185 (am_sz h2 + 1) (am_sz h2 + 1 + 1)) 186 (am_sz h2 + 1) 0) 0 (Nat.le_refl _) (by omega) b1 b2 (by omega) (by omega) (by rw [b3, b6]; omega) (by rw [b3]; omega) (Or.inl b3) (by omega)
      have e0 : (bE t n a) + ((0 : Nat) : Int) = (bE t n a) := by omega
      rw [e0] at q
      exact ⟨s2.2.1.2, q⟩
    intro f
    induction f with
    | zero =>
      intro e h2 hf he hn' hl f2 z2 u2 s2
      obtain ⟨x1, x2, x3, x4, x5⟩ := TxT_fx s2.1 x
      have ee : lE t n e = e := lE_0 (fun y => absurd y.1 (by omega))
      have s2' := s2
      rw [← ee, hl] at s2'
      refine v_X11_word_6 ?_
      rw [s2.2.2.2.1, s2.2.2.2.2.1, s2.2.2.2.2.2.1, x3]
      exact ⟨s2.2.2.1, ⟨Or.inr s2.2.2.1, Or.inl x1⟩, fun _ => fin h2 f2 z2 u2 s2', fun y => absurd y (by omega)⟩
    | succ f ih =>
      intro e h2 hf he hn' hl f2 z2 u2 s2
      obtain ⟨x1, x2, x3, x4, x5⟩ := TxT_fx s2.1 x
      have stop : ¬ (e < n ∧ (97 ≤ t (e) ∧ t (e) ≤ 122)) → R ≤ am_sz h2 ∧ am_W m_X11_word (am_ev am_prog (d + 12)) K 25 [some (.inr (.inl (R))), some (.inr (.inl (am_sz h2 + 1))), some (.inl ((bE t n a)))] [] (am_sfi (am_sfr (am_new (am_new h2 29 4) 102 16) 185 (am_sz h2 + 1) (am_sz h2 + 1 + 1)) 186 (am_sz h2 + 1) 0) := fun y => by
        have s2' := s2
        rw [lE_0 y] at hl
        rw [hl] at s2'
        exact fin h2 f2 z2 u2 s2'
      refine v_X11_word_6 ?_
      rw [s2.2.2.2.1, s2.2.2.2.2.1, s2.2.2.2.2.2.1, x3]
      refine ⟨s2.2.2.1, ⟨Or.inr s2.2.2.1, Or.inl x1⟩, fun y => stop (fun w => absurd w.1 (by omega)), fun y => ⟨by omega, ?_⟩⟩
      rw [x5 e (by omega) y]
      refine ⟨fun w => stop (fun v => absurd v.2.1 (by omega)), fun w => ⟨fun w2 => stop (fun v => absurd v.2.2 (by omega)), fun w2 => ⟨by omega, ?_⟩⟩⟩
      exact ih (e + 1) _ (by omega) (by omega) (by omega) (by rw [← lE_s ⟨y, w, w2⟩]; exact hl) (fx_sfi f2 (Or.inr rfl)) z2 u2 (RyS_at s2)
  exact run _ (bE t n a) _ (Nat.le_refl _) (Int.le_refl _) be rfl (fx_sfi f1 (Or.inr rfl)) z1 u1 (RyS_st s1)
/-- a constant's text -/
def csX (h : am_H) (j : Nat) (w : List Int) : Prop := xSl h (am_cs h j) w
theorem csX_fx {h' : am_H} {j : Nat} {w : List Int} (f : fx (fun _ => False) h h') (c : csX h j w) : csX h' j w := by
  unfold csX at *
  rw [f.2.2.1]
  obtain ⟨⟨x1, x2, x3, x4, x5, x6⟩, y1, y2⟩ := c
  obtain ⟨a1, a2, a3⟩ := f.2.2.2 _ x5.1
  obtain ⟨b1, b2, b3⟩ := f.2.2.2 _ x5.2
  obtain ⟨c1, c2, c3, c4⟩ := a3 (fun z => z)
  obtain ⟨d1, d2, d3, d4⟩ := b3 (fun z => z)
  refine ⟨⟨?_, ?_, ?_, ?_, ?_, ?_⟩, ?_, ?_⟩
  · rw [a1]; exact x1
  · rw [c2, b1]; exact x2
  · rw [c1]; exact x3
  · rw [c2, b2]; exact x4
  · rw [c2]; exact ⟨Nat.le_trans x5.1 f.1, Nat.le_trans x5.2 f.1⟩
  · rw [c2, b2, d3]; exact x6
  · rw [c2, b2]; exact y1
  · rw [c2, d3]; exact y2
/-- a word and a constant -/
theorem xy_eq {s : Nat} {w v : List Int} {j : Nat} {D : Nat} (hD : 7 ≤ D) (a : xSl h s w) (c : csX h j v) (H1 : w = v → K (.inl (some (.inl (1)))) h) (H0 : w ≠ v → K (.inl (some (.inl (0)))) h) : am_ev am_prog D 301 [.inr (.inl s), .inr (.inl (am_cs h j))] h K := by
  obtain ⟨d, rfl⟩ : ∃ d, D = d + 7 := ⟨D - 7, by omega⟩
  have e := xEq_l a c
  exact c_equals a.1 c.1 (fun z => H1 (e.1 z)) (fun z => H0 (fun y => z (e.2 y)))
/-- a word that may be passed -/
theorem xy_passes {v : List Int} {j : Nat} {D : Nat} (hD : 32 ≤ D) (x : TxT h0 T t n) (s : RyS h0 h R T a st dp) (ha : 0 ≤ a ∧ a ≤ n) (c : csX h0 j v) (H0 : ∀ h', wAt t n (bE t n a) ≠ v → fx (fun q => q = R) h h' → RyS h0 h' R T (bE t n a) (bE t n a) dp → 3 * ((am_sz h' : Int) - am_sz h) ≤ 12 + (lE t n (bE t n a) - bE t n a) → (am_us h' : Int) ≤ am_us h + 24 + 5 * (lE t n (bE t n a) - bE t n a) → K (.inl (some (.inl (0)))) h') (H1 : ∀ h', wAt t n (bE t n a) = v → fx (fun q => q = R) h h' → RyS h0 h' R T ((bE t n a) + v.length) (bE t n a) dp → 3 * ((am_sz h' : Int) - am_sz h) ≤ 12 + v.length → (am_us h' : Int) ≤ am_us h + 24 + 5 * v.length → K (.inl (some (.inl (1)))) h') : am_ev am_prog D 382 [.inr (.inl R), .inr (.inl (am_cs h0 j))] h K := by
  have bv := bE_v (t := t) (n := n) (a := a)
  have be := bv.1.2 ha.2
  obtain ⟨d, rfl⟩ : ∃ d, D = d + 13 := ⟨D - 13, by omega⟩
  refine am_en p_X11_passes rfl rfl ?_
  refine v_X11_passes_0 ⟨s.2.2.1, xy_blanks (by omega) x s ha (fun h1 f1 z1 u1 s1 => am_an (v_X11_passes_2 ⟨s1.2.2.1, ?_⟩))⟩
  rw [s1.2.2.2.2.1]
  refine xy_word (by omega) x s1 (by omega) (fun h2 w f2 s2 xs ty wz cz cu => am_av (v_X11_passes_7 ⟨Or.inl ty, ?_⟩))
  rw [bE_b] at s2 xs cz cu
  have ecs : am_cs h0 j = am_cs h2 j := by rw [s2.1.2.2.1]
  rw [ecs]
  have f12 : fx (fun q => q = R) h h2 := fx_trans f1 f2
  refine xy_eq (by omega) xs (csX_fx s2.1 c) (fun e => am_av (v_X11_passes_9 ⟨fun z => absurd z (by decide), fun _ => ?_⟩)) (fun e => am_av (v_X11_passes_9 ⟨fun _ => ⟨s2.2.2.1, ?_⟩, fun z => absurd rfl z⟩))
  · have wl := wAt_l e
    have el : (lE t n (bE t n a) - bE t n a) = v.length := by omega
    rw [el] at cz cu
    rw [wl] at s2
    exact H1 h2 e f12 s2 (by omega) (by omega)
  · have zz : am_sz (am_sfi h2 97 R (bE t n a)) = am_sz h2 := rfl
    have uu : am_us (am_sfi h2 97 R (bE t n a)) = am_us h2 := rfl
    exact H0 _ e (fx_sfi f12 (Or.inr rfl)) (RyS_at s2) (by omega) (by omega)
end
