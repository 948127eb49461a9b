set_option maxRecDepth 100000
/-! the component reads styles: words, numbers, signs -/
/-- a reader of styles -/
def RyS (h0 h : am_H) (R T : Nat) (a st dp : Int) : Prop := fx (fun _ => False) h0 h ∧ (am_sz h0 < R ∧ R ≤ am_sz h) ∧ am_ty h R = 10 ∧ am_fr h 96 R = T ∧ am_fi h 97 R = a ∧ am_fi h 120 R = st ∧ am_fi h 119 R = dp
section
variable {K : am_K} {h0 h : am_H} {R T : Nat} {t : Int → Int} {n a st dp : Int}
theorem RyS_at {a' : Int} (s : RyS h0 h R T a st dp) : RyS h0 (am_sfi h 97 R a') R T a' st dp := by
  obtain ⟨s1, s2, s3, s4, s5, s6, s7⟩ := s
  exact ⟨fx_sfi s1 (Or.inl s2.1), s2, s3, s4, x_fie, (x_fif (by decide)).trans s6, (x_fif (by decide)).trans s7⟩
theorem RyS_st {v : Int} (s : RyS h0 h R T a st dp) : RyS h0 (am_sfi h 120 R v) R T a v dp := by
  obtain ⟨s1, s2, s3, s4, s5, s6, s7⟩ := s
  exact ⟨fx_sfi s1 (Or.inl s2.1), s2, s3, s4, (x_fif (by decide)).trans s5, x_fie, (x_fif (by decide)).trans s7⟩
theorem RyS_dp {v : Int} (s : RyS h0 h R T a st dp) : RyS h0 (am_sfi h 119 R v) R T a st v := by
  obtain ⟨s1, s2, s3, s4, s5, s6, s7⟩ := s
  exact ⟨fx_sfi s1 (Or.inl s2.1), s2, s3, s4, (x_fif (by decide)).trans s5, (x_fif (by decide)).trans s6, x_fie⟩
theorem RyS_fx {h' : am_H} {X : Nat → Prop} (s : RyS h0 h R T a st dp) (f : fx X h h') (g : ∀ q, X q → q ≤ am_sz h → am_sz h0 < q ∧ q ≠ R) : RyS h0 h' R T a st dp := by
  obtain ⟨s1, s2, s3, s4, s5, s6, s7⟩ := s
  obtain ⟨a1, a2, a3⟩ := f.2.2.2 R s2.2
  obtain ⟨c1, c2, c3, c4⟩ := a3 (fun z => (g R z s2.2).2 rfl)
  exact ⟨fx_trans2 s1 f (fun q hq z => by have := (g q z (Nat.le_trans hq s1.1)).1; omega), ⟨s2.1, Nat.le_trans s2.2 f.1⟩, a1.trans s3, (c2 96).trans s4, (c1 97).trans s5, (c1 120).trans s6, (c1 119).trans s7⟩
theorem xy_blanks {D : Nat} (hD : 13 ≤ D) (x : TxT h0 T t n) (s : RyS h0 h R T a st dp) (ha : 0 ≤ a ∧ a ≤ n) (H : ∀ h', fx (fun q => q = R) h h' → am_sz h' = am_sz h → am_us h' = am_us h → RyS h0 h' R T (bE t n a) st dp → K (.inl none) h') : am_ev am_prog D 330 [.inr (.inl R)] h K := by
  obtain ⟨d, rfl⟩ : ∃ d, D = d + 13 := ⟨D - 13, by omega⟩
  refine am_en p_X6_blanks rfl rfl ?_
  have main : ∀ (f : Nat) (a' : Int) (h' : am_H), (n - a').toNat ≤ f → 0 ≤ a' → a' ≤ n → bE t n a' = (bE t n a) → fx (fun q => q = R) h h' → am_sz h' = am_sz h → am_us h' = am_us h → RyS h0 h' R T a' st dp → am_W m_X6_blanks (am_ev am_prog (d + 12)) K 0 [some (.inr (.inl (R)))] [] h' := by
    intro f
    induction f with
    | zero =>
      intro a' h' hf a0 an eb fr z u s'
      obtain ⟨x1, x2, x3, x4, x5⟩ := TxT_fx s'.1 x
      refine v_X6_blanks_0 ?_
      rw [s'.2.2.2.1, s'.2.2.2.2.1, x3]
      rw [bE_0 (fun y => absurd y.1 (by omega))] at eb
      rw [eb] at s'
      exact ⟨Or.inr s'.2.2.1, Or.inl x1, fun _ => H h' fr z u s', fun y => absurd y (by omega)⟩
    | succ f ih =>
      intro a' h' hf a0 an eb fr z u s'
      obtain ⟨x1, x2, x3, x4, x5⟩ := TxT_fx s'.1 x
      have stop : ¬ (a' < n ∧ t a' = 32) → K (.inl none) h' := fun y => by
        rw [bE_0 y] at eb
        rw [eb] at s'
        exact H h' fr z u s'
      refine v_X6_blanks_0 ?_
      rw [s'.2.2.2.1, s'.2.2.2.2.1, x3]
      refine ⟨Or.inr s'.2.2.1, Or.inl x1, fun y => stop (fun w => absurd w.1 (by omega)), fun y => ⟨by omega, ?_⟩⟩
      rw [x5 a' a0 y]
      refine ⟨fun w => stop (fun v => absurd v.2 (by omega)), fun w => ⟨fun w2 => stop (fun v => absurd v.2 (by omega)), fun w2 => ⟨by omega, ?_⟩⟩⟩
      refine ih (a' + 1) _ (by omega) (by omega) (by omega) ?_ (fx_sfi fr (Or.inr rfl)) z u (RyS_at s')
      rw [← eb, bE_s ⟨y, by omega⟩]
  exact main _ a h (Nat.le_refl _) ha.1 ha.2 rfl fx_refl rfl rfl s
theorem xy_over {D : Nat} (hD : 14 ≤ D) (x : TxT h0 T t n) (s : RyS h0 h R T a st dp) (ha : 0 ≤ a ∧ a ≤ n) (H0 : ∀ h', (bE t n a) < n → fx (fun q => q = R) h h' → am_sz h' = am_sz h → am_us h' = am_us h → RyS h0 h' R T (bE t n a) st dp → K (.inl (some (.inl (0)))) h') (H1 : ∀ h', n ≤ (bE t n a) → fx (fun q => q = R) h h' → am_sz h' = am_sz h → am_us h' = am_us h → RyS h0 h' R T (bE t n a) st dp → K (.inl (some (.inl (1)))) h') : am_ev am_prog D 304 [.inr (.inl R)] h K := by
  have bv := bE_v (t := t) (n := n) (a := a)
  have be := bv.1.2 ha.2
  obtain ⟨d, rfl⟩ : ∃ d, D = d + 13 := ⟨D - 13, by omega⟩
  refine am_en p_X6_over rfl rfl ?_
  refine v_X6_over_0 ⟨Or.inr s.2.2.1, xy_blanks (by omega) x s ha (fun h' f z u s' => am_an (v_X6_over_2 ?_))⟩
  obtain ⟨x1, x2, x3, x4, x5⟩ := TxT_fx s'.1 x
  rw [s'.2.2.2.1, s'.2.2.2.2.1, x3]
  exact ⟨⟨Or.inr s'.2.2.1, Or.inl x1⟩, fun c => H0 h' (by omega) f z u s', fun c => H1 h' (by omega) f z u s'⟩
/-- a sign -/
theorem xy_sign {c : Int} {D : Nat} (hD : 14 ≤ D) (x : TxT h0 T t n) (s : RyS h0 h R T a st dp) (ha : 0 ≤ a ∧ a ≤ n) (H0 : ∀ h', ¬ ((bE t n a) < n ∧ t (bE t n a) = c) → fx (fun q => q = R) h h' → am_sz h' = am_sz h → am_us h' = am_us h → RyS h0 h' R T (bE t n a) (bE t n a) dp → K (.inl (some (.inl (0)))) h') (H1 : ∀ h', (bE t n a) < n ∧ t (bE t n a) = c → fx (fun q => q = R) h h' → am_sz h' = am_sz h → am_us h' = am_us h → RyS h0 h' R T ((bE t n a) + 1) (bE t n a) dp → K (.inl (some (.inl (1)))) h') : am_ev am_prog D 306 [.inr (.inl R), .inl c] h K := by
  have bv := bE_v (t := t) (n := n) (a := a)
  have be := bv.1.2 ha.2
  obtain ⟨d, rfl⟩ : ∃ d, D = d + 13 := ⟨D - 13, by omega⟩
  refine am_en p_X11_sign rfl rfl ?_
  refine v_X11_sign_0 ⟨s.2.2.1, xy_blanks (by omega) x s ha (fun h' f z u s' => am_an (v_X11_sign_2 ?_))⟩
  obtain ⟨x1, x2, x3, x4, x5⟩ := TxT_fx s'.1 x
  have no : ¬ ((bE t n a) < n ∧ t (bE t n a) = c) → K (.inl (some (.inl (0)))) (am_sfi h' 120 R (bE t n a)) := fun y => H0 _ y (fx_sfi f (Or.inr rfl)) z u (RyS_st s')
  rw [s'.2.2.2.1, s'.2.2.2.2.1, x3]
  refine ⟨s'.2.2.1, ⟨Or.inr s'.2.2.1, Or.inl x1⟩, fun w => no (fun y => absurd y.1 (by omega)), fun w => ⟨by omega, ?_⟩⟩
  rw [x5 _ (by omega) w]
  exact ⟨fun w2 => no (fun y => absurd y.2 (by omega)), fun w2 => ⟨fun w3 => no (fun y => absurd y.2 (by omega)), fun w3 => ⟨by omega, H1 _ ⟨w, by omega⟩ (fx_sfi (fx_sfi f (Or.inr rfl)) (Or.inr rfl)) z u (RyS_at (RyS_st s'))⟩⟩⟩
/-- an error at the start of what was read -/
theorem xy_wrong {D : Nat} (hD : 20 ≤ D) (s : RyS h0 h R T a st dp) (H : ∀ h' E, fx (fun _ => False) h0 h' → am_ty h' E = 7 → E ≠ 0 → am_fi h' 107 E = st → am_sz h' = am_sz h + 1 → am_us h' = am_us h + 7 → K (.inl (some (.inr (.inl (E))))) h') : am_ev am_prog D 307 [.inr (.inl R)] h K := by
  obtain ⟨d, rfl⟩ : ∃ d, D = d + 13 := ⟨D - 13, by omega⟩
  refine am_en p_X11_wrong rfl rfl ?_
  refine v_X11_wrong_0 ⟨⟨s.2.1.2, s.2.2.1⟩, ?_⟩
  rw [s.2.2.2.2.2.1]
  refine x_err (by omega) (x_tyn0 rfl) (fun h' f z u ty fi => am_an (v_X11_wrong_5 ?_))
  have z' : am_sz h' = am_sz h + 1 := z
  have u' : am_us h' = am_us h + 7 := u
  refine H h' _ ?_ ty (by omega) fi z' u'
  refine fx_trans2 (fx_new s.1) f (fun q hq e => ?_)
  have := s.1.1
  omega
end
section
variable {K : am_K} {h : am_H}
/-- a sign is put behind; the row grows when it is full -/
theorem c_appg {r : Nat} {l : List Int} {x : Int} {d : Nat} (v : xB h r l) (hx : 0 ≤ x ∧ x ≤ 127) (hl : (l.length : Int) ≤ 1000) (hN : (am_ln h (am_fr h 185 r)) ≤ 3000) (H : ∀ h', fx (fun q => q = r ∨ q = (am_fr h 185 r)) h h' → xB h' r (l ++ [x]) → ((am_sz h' = am_sz h ∧ am_us h' = am_us h ∧ (am_fr h' 185 r) = (am_fr h 185 r) ∧ (am_ln h' (am_fr h' 185 r)) = (am_ln h (am_fr h 185 r))) ∨ ((am_ln h (am_fr h 185 r)) = (l.length : Int) ∧ am_sz h' = am_sz h + 1 ∧ (am_us h' : Int) = am_us h + (am_ln h' (am_fr h' 185 r)) ∧ (am_ln h' (am_fr h' 185 r)) = 2 * (am_ln h (am_fr h 185 r)) + 2 ∧ am_sz h < (am_fr h' 185 r))) → K (.inl (some (.inr (.inl (r))))) h') : am_ev am_prog (d + 8) 381 [.inr (.inl r), .inl x] h K := by
  refine am_en p_J1_append_3 rfl rfl (v_J1_append_3_0 ⟨v.1, ?_⟩)
  obtain ⟨v1, v2, v3, v4, v5, v6, v7, v8⟩ := v
  have vv : xB h r l := ⟨v1, v2, v3, v4, v5, v6, v7, v8⟩
  refine am_en p_J0_append_3 rfl rfl (v_J0_append_3_0 ⟨⟨v1, by omega⟩, ?_⟩)
  have step : ∀ h1, xB h1 r l → (l.length : Int) < (am_ln h1 (am_fr h1 185 r)) → fx (fun q => q = r ∨ q = (am_fr h 185 r)) h h1 → ((am_fr h1 185 r) = (am_fr h 185 r) ∨ am_sz h < (am_fr h1 185 r)) → ((am_sz h1 = am_sz h ∧ am_us h1 = am_us h ∧ (am_fr h1 185 r) = (am_fr h 185 r) ∧ (am_ln h1 (am_fr h1 185 r)) = (am_ln h (am_fr h 185 r))) ∨ ((am_ln h (am_fr h 185 r)) = (l.length : Int) ∧ am_sz h1 = am_sz h + 1 ∧ (am_us h1 : Int) = am_us h + (am_ln h1 (am_fr h1 185 r)) ∧ (am_ln h1 (am_fr h1 185 r)) = 2 * (am_ln h (am_fr h 185 r)) + 2 ∧ am_sz h < (am_fr h1 185 r))) → am_W m_J0_append_3 (am_ev am_prog (d + 5 + 1)) (am_aft (am_hand m_J1_append_3 K (am_W m_J1_append_3 (am_ev am_prog (d + 7)) K) 2) (am_W m_J1_append_3 (am_ev am_prog (d + 7)) K) 2 [some (.inr (.inl (r))), some (.inl (x))] []) 6 [some (.inr (.inl (r))), some (.inl (x))] [] h1 := by
    intro h1 w hlt g1 g5 g2
    obtain ⟨w1, w2, w3, w4, w5, w6, w7, w8⟩ := w
    refine v_J0_append_3_6 ⟨w1, fun c => absurd w3 c, fun _ => ⟨fun c => absurd c (by omega), fun _ => ⟨by omega, ⟨w2, by omega⟩, ?_⟩⟩⟩
    rw [w4, am_i2b0 hx]
    refine am_av (v_J1_append_3_3 (H _ (fx_sai (fx_sfi g1 (Or.inr (Or.inl rfl))) (g5.elim (fun e => Or.inr (Or.inr e)) (fun e => Or.inl e))) ?_ g2))
    refine ⟨w1, w2, w3, ?_, ?_, w6, ?_, ?_⟩
    · rw [len_app1]
      exact x_fie (h := h1) (f := 188) (r := r)
    · rw [len_app1]
      exact ⟨by show (l.length : Int) + 1 ≤ am_ln h1 (am_fr h1 185 r); omega, w5.2⟩
    · have e : am_ai (am_sai (am_sfi h1 188 r ((l.length : Int) + 1)) (am_fr h1 185 r) (l.length : Int) x) (am_fr h1 185 r) = am_uz (am_ai h1 (am_fr h1 185 r)) (l.length : Int) x := x_aise
      show pf (am_ai (am_sai (am_sfi h1 188 r ((l.length : Int) + 1)) (am_fr h1 185 r) (l.length : Int) x) (am_fr h1 185 r)) (l ++ [x])
      rw [e]
      exact pf_app w7 rfl
    · intro y hy
      rcases List.mem_append.mp hy with hy | hy
      · exact w8 y hy
      · have : y = x := List.mem_singleton.mp hy
        rw [this]
        exact hx
  refine c_ensure v1 v2 v3 (by omega) v6 (by omega) (fun c => am_an ?_) (fun m c1 c2 c3 c4 c5 => am_an ?_)
  · exact step h vv (by omega) fx_refl (Or.inl rfl) (Or.inl ⟨rfl, rfl, rfl, rfl⟩)
  · have gr := xB_grow vv (m := m) (by omega) (by omega)
    refine step _ gr.1 ?_ (fx_sfr (fx_wai (fx_new fx_refl) (Or.inl (by omega))) (Or.inr (Or.inl rfl))) ?_ ?_
    · rw [gr.2.2, gr.2.1]
      omega
    · rw [gr.2.2]
      right
      omega
    · right
      rw [gr.2.2, gr.2.1]
      refine ⟨by omega, rfl, ?_, by omega, by omega⟩
      show ((am_us h + m.toNat : Nat) : Int) = _
      omega
end
theorem xEq_l {h : am_H} {s s2 : Nat} {l m : List Int} (a : xSl h s l) (b : xSl h s2 m) : xEq h s s2 ↔ l = m := by
  obtain ⟨a1, a2, a3⟩ := a
  obtain ⟨b1, b2, b3⟩ := b
  constructor
  · intro e
    have el : l.length = m.length := by
      have := e.1
      rw [a2, b2] at this
      omega
    refine gt_ext l m el (fun i hi => ?_)
    have q := e.2 i (by omega) (by rw [a2]; omega)
    rw [a3 i hi, b3 i (by omega)] at q
    exact q
  · intro e
    subst e
    refine ⟨by rw [a2, b2], fun k k1 k2 => ?_⟩
    rw [a2] at k2
    have ek : ((k.toNat : Nat) : Int) = k := by omega
    have p := a3 k.toNat (by omega)
    have q := b3 k.toNat (by omega)
    rw [ek] at p q
    rw [p, q]
