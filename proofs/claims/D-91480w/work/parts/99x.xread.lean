set_option maxRecDepth 100000
/-! the component reads: signs, errors, pieces -/
theorem am_i2c0 {x : Int} (h : 0 ≤ x ∧ x ≤ 127) : am_i2cz x = x := by
  have key : ∀ n : Fin 128, am_i2cz ((n.val : Nat) : Int) = ((n.val : Nat) : Int) := by decide +kernel
  have e := key ⟨x.toNat, by omega⟩
  have e2 : ((x.toNat : Nat) : Int) = x := by omega
  rw [e2] at e
  exact e
def sgL (t : Int → Int) (a : Int) : Nat → List Int
  | 0 => []
  | j + 1 => sgL t a j ++ [t (a + j)]
theorem sgL_l {t : Int → Int} {a : Int} : ∀ j : Nat, (sgL t a j).length = j
  | 0 => rfl
  | j + 1 => by
    show (sgL t a j ++ [t (a + j)]).length = j + 1
    rw [List.length_append, sgL_l j]
    rfl
theorem sgL_g {t : Int → Int} {a : Int} : ∀ (j k : Nat), k < j → gt (sgL t a j) k = t (a + k)
  | 0, k, h => absurd h (Nat.not_lt_zero _)
  | j + 1, k, h => by
    have p : pf (am_uz (fun i => gt (sgL t a j) i.toNat) (j : Int) (t (a + j))) (sgL t a j ++ [t (a + j)]) := pf_app (fun i hi => by
      show gt (sgL t a j) ((i : Int).toNat) = gt (sgL t a j) i
      rfl) (by rw [sgL_l])
    have q := p k (by
      rw [List.length_append, sgL_l]
      exact h)
    show gt (sgL t a j ++ [t (a + j)]) k = _
    rw [← q]
    by_cases c : k = j
    · rw [c, am_uz_eq]
    · rw [am_uz_ne (by omega)]
      show gt (sgL t a j) ((k : Int).toNat) = _
      have e : ((k : Int).toNat) = k := by omega
      rw [e]
      exact sgL_g j k (by omega)
theorem sgL_c {h : am_H} {s j : Nat} {t : Int → Int} {a : Int} (x : xSl h s (sgL t a j)) : xSc h s j (fun i => t (a + i)) := by
  obtain ⟨x1, x2, x3⟩ := x
  rw [sgL_l] at x2
  refine ⟨x1, x2, fun k k1 k2 => ?_⟩
  have e : ((k.toNat : Nat) : Int) = k := by omega
  have q := x3 k.toNat (by rw [sgL_l]; omega)
  rw [e, sgL_g j k.toNat (by omega), e] at q
  exact q
theorem xSc_fx0 {h h' : am_H} {s : Nat} {n : Int} {f : Int → Int} {X : Nat → Prop} (a : fx X h h') (h1 : ¬ X s) (h2 : ¬ X (am_fr h 189 s)) (x : xSc h s n f) : xSc h' s n f ∧ am_fr h' 189 s = am_fr h 189 s := by
  obtain ⟨⟨x1, x2, x3, x4, x5, x6⟩, y1, y2⟩ := x
  obtain ⟨a1, a2, a3⟩ := a.2.2.2 s x5.1
  obtain ⟨b1, b2, b3⟩ := a.2.2.2 _ x5.2
  obtain ⟨c1, c2, c3, c4⟩ := a3 h1
  obtain ⟨d1, d2, d3, d4⟩ := b3 h2
  refine ⟨⟨⟨?_, ?_, ?_, ?_, ?_, ?_⟩, ?_, ?_⟩, c2 189⟩
  · rw [a1]; exact x1
  · rw [c2, b1]; exact x2
  · rw [c1]; exact x3
  · rw [c2, b2]; exact x4
  · rw [c2]; exact ⟨Nat.le_trans x5.1 a.1, Nat.le_trans x5.2 a.1⟩
  · rw [c2, b2, d3]; exact x6
  · rw [c2, b2]; exact y1
  · rw [c2, d3]; exact y2
section
variable {K : am_K} {h : am_H}
theorem c_appc0 {r : Nat} {l : List Int} {x : Int} {d : Nat} (v : xB h r l) (hx : 0 ≤ x ∧ x ≤ 127) (hl : (l.length : Int) + 1 ≤ am_ln h (am_fr h 185 r)) (hN : am_ln h (am_fr h 185 r) ≤ 3000) (H : ∀ h', fx (fun q => q = r ∨ q = am_fr h 185 r) h h' → xB h' r (l ++ [x]) → am_sz h' = am_sz h → am_us h' = am_us h → (∀ f, am_fr h' f r = am_fr h f r) → K (.inl (some (.inr (.inl (r))))) h') : am_ev am_prog (d + 8) 381 [.inr (.inl r), .inl x] h K := by
  refine am_en p_J1_append_3 rfl rfl (v_J1_append_3_0 ⟨v.1, ?_⟩)
  obtain ⟨v1, v2, v3, v4, v5, v6, v7, v8⟩ := v
  refine am_en p_J0_append_3 rfl rfl (v_J0_append_3_0 ⟨⟨v1, by omega⟩, ?_⟩)
  refine c_ensure v1 v2 v3 (by omega) v6 (by omega) (fun c => am_an ?_) (fun m c1 c2 c3 c4 c5 => absurd c1 (by omega))
  refine v_J0_append_3_6 ⟨v1, fun c => absurd v3 c, fun _ => ⟨fun c => absurd c (by omega), fun _ => ⟨by omega, ⟨v2, by omega⟩, ?_⟩⟩⟩
  rw [v4, am_i2b0 hx]
  refine am_av (v_J1_append_3_3 (H _ (fx_sai (fx_sfi fx_refl (Or.inr (Or.inl rfl))) (Or.inr (Or.inr rfl))) ?_ rfl rfl (fun _ => rfl)))
  refine ⟨v1, v2, v3, ?_, ?_, v6, ?_, ?_⟩
  · rw [len_app1]
    exact x_fie (h := h) (f := 188) (r := r)
  · rw [len_app1]
    exact ⟨hl, v5.2⟩
  · have e : am_ai (am_sai (am_sfi h 188 r ((l.length : Int) + 1)) (am_fr h 185 r) (l.length : Int) x) (am_fr h 185 r) = am_uz (am_ai h (am_fr h 185 r)) (l.length : Int) x := x_aise
    show pf (am_ai (am_sai (am_sfi h 188 r ((l.length : Int) + 1)) (am_fr h 185 r) (l.length : Int) x) (am_fr h 185 r)) (l ++ [x])
    rw [e]
    exact pf_app v7 rfl
  · intro y hy
    rcases List.mem_append.mp hy with hy | hy
    · exact v8 y hy
    · have : y = x := List.mem_singleton.mp hy
      rw [this]
      exact hx
/-- an error is made -/
theorem x_err {E : Nat} {p : Int} {D : Nat} (hD : 16 ≤ D) (hty : am_ty h E = 7) (H : ∀ h', fx (fun q => q = E) h h' → am_sz h' = am_sz h → am_us h' = am_us h → am_ty h' E = 7 → am_fi h' 107 E = p → K (.inl none) h') : am_ev am_prog D 313 [.inr (.inl E), .inl p] h K := by
  obtain ⟨d, rfl⟩ : ∃ d, D = d + 13 := ⟨D - 13, by omega⟩
  refine am_en p_X8_init rfl rfl ?_
  refine v_X8_init_0 ⟨hty, ?_⟩
  obtain ⟨d', hd'⟩ : ∃ d', d + 12 = d' + 7 := ⟨d + 5, by omega⟩
  have go : am_ev am_prog (d' + 7) 357 [.inr (.inl E), .inr (.inl 0), .inr (.inl 0), .inl 0, .inl 0] h (am_aft (am_hand m_X8_init K (am_W m_X8_init (am_ev am_prog (d + 12)) K) 5) (am_W m_X8_init (am_ev am_prog (d + 12)) K) 5 [some (.inr (.inl (E))), some (.inl (p))] []) := by
    refine am_en p_J8_init_3 rfl rfl (v_J8_init_3_0 ⟨hty, ?_⟩)
    refine am_en p_J7_init_3 rfl rfl (v_J7_init_3_0 ⟨hty, fun _ => ⟨fun z => absurd rfl z, fun _ => am_an (v_J8_init_3_6 (am_an (v_X8_init_6 ⟨hty, H _ ?_ rfl rfl hty x_fie⟩)))⟩, fun z => absurd rfl z⟩)
    exact fx_sfi (fx_sfr (fx_sfr (fx_sfr (fx_sfr (fx_sfr (fx_sfr (fx_sfr fx_refl (Or.inr rfl)) (Or.inr rfl)) (Or.inr rfl)) (Or.inr rfl)) (Or.inr rfl)) (Or.inr rfl)) (Or.inr rfl)) (Or.inr rfl)
  rw [← hd'] at go
  exact go
end
/-- the bytes that are read -/
def TxT (h : am_H) (T : Nat) (t : Int → Int) (n : Int) : Prop := am_ty h T = 102 ∧ T ≤ am_sz h ∧ am_ln h T = n ∧ (0 ≤ n ∧ n ≤ 400) ∧ ∀ j, 0 ≤ j → j < n → am_ai h T j = t j
theorem TxT_fx {h h' : am_H} {T : Nat} {t : Int → Int} {n : Int} (a : fx (fun _ => False) h h') (x : TxT h T t n) : TxT h' T t n := by
  obtain ⟨x1, x2, x3, x4, x5⟩ := x
  obtain ⟨a1, a2, a3⟩ := a.2.2.2 T x2
  exact ⟨a1.trans x1, Nat.le_trans x2 a.1, a2.trans x3, x4, fun j j1 j2 => by rw [(a3 (fun z => z)).2.2.1]; exact x5 j j1 j2⟩
/-- a reader at a -/
def RdS (h0 h : am_H) (R T B A : Nat) (a c0 : Int) (l : List Int) : Prop := fx (fun _ => False) h0 h ∧ (am_sz h0 < R ∧ R ≤ am_sz h) ∧ am_ty h R = 6 ∧ am_fr h 96 R = T ∧ am_fi h 97 R = a ∧ am_fi h 100 R = c0 ∧ am_fr h 98 R = B ∧ am_fr h 185 B = A ∧ xB h B l ∧ am_ln h A = 16 ∧ am_sz h0 < B ∧ am_sz h0 < A
/-- thrown out of a reader -/
def ThR (h0 h : am_H) (K : am_K) (p : Int) (dz du : Int) : Prop := ∀ h' E, fx (fun _ => False) h0 h' → am_ty h' E = 7 → E ≠ 0 → am_fi h' 107 E = p → (am_sz h' : Int) ≤ am_sz h + dz → (am_us h' : Int) ≤ am_us h + du → K (.inr E) h'
section
variable {K : am_K} {h0 h : am_H} {R T B A : Nat} {t : Int → Int} {n a c0 : Int} {l : List Int}
theorem RdS_ne (s : RdS h0 h R T B A a c0 l) : R ≠ B ∧ R ≠ A ∧ B ≠ A := by
  obtain ⟨s1, s2, s3, s4, s5, s6, s7, s8, s9, s10⟩ := s
  have tB := s9.1
  have tA := s9.2.1
  rw [s8] at tA
  refine ⟨fun e => ?_, fun e => ?_, fun e => ?_⟩
  · rw [e, tB] at s3
    exact absurd s3 (by decide)
  · rw [e, tA] at s3
    exact absurd s3 (by decide)
  · rw [e, tA] at tB
    exact absurd tB (by decide)
theorem xB_fx {h h' : am_H} {X : Nat → Prop} {r : Nat} {l : List Int} (f : fx X h h') (h1 : ¬ X r) (h2 : ¬ X (am_fr h 185 r)) (x : xB h r l) : xB h' r l := by
  obtain ⟨x1, x2, x3, x4, x5, x6, x7, x8⟩ := x
  obtain ⟨a1, a2, a3⟩ := f.2.2.2 r x6.1
  obtain ⟨b1, b2, b3⟩ := f.2.2.2 _ x6.2
  obtain ⟨c1, c2, c3, c4⟩ := a3 h1
  obtain ⟨d1, d2, d3, d4⟩ := b3 h2
  unfold xB
  rw [c2, a1, b1, c1, c1, b2, d3]
  exact ⟨x1, x2, x3, x4, x5, ⟨Nat.le_trans x6.1 f.1, Nat.le_trans x6.2 f.1⟩, x7, x8⟩
/-- the reader's place moves -/
theorem RdS_at {a' : Int} (s : RdS h0 h R T B A a c0 l) : RdS h0 (am_sfi h 97 R a') R T B A a' c0 l := by
  have ne := RdS_ne s
  obtain ⟨s1, s2, s3, s4, s5, s6, s7, s8, s9, s10⟩ := s
  have f : fx (fun q => q = R) h (am_sfi h 97 R a') := fx_sfi fx_refl (Or.inr rfl)
  refine ⟨fx_sfi s1 (Or.inl s2.1), s2, s3, s4, x_fie, (x_fif (by decide)).trans s6, s7, s8, ?_, s10⟩
  refine xB_fx f (fun z => ne.1 z.symm) (fun z => ?_) s9
  rw [s8] at z
  exact ne.2.1 z.symm
/-- other cells change -/
theorem RdS_fx {h' : am_H} {X : Nat → Prop} (s : RdS h0 h R T B A a c0 l) (f : fx X h h') (g : ∀ q, X q → q ≤ am_sz h → am_sz h0 < q ∧ q ≠ R ∧ q ≠ B ∧ q ≠ A) : RdS h0 h' R T B A a c0 l := by
  obtain ⟨s1, s2, s3, s4, s5, s6, s7, s8, s9, s10, s11, s12⟩ := s
  obtain ⟨a1, a2, a3⟩ := f.2.2.2 R s2.2
  have nR : ¬ X R := fun z => (g R z s2.2).2.1 rfl
  have nB : ¬ X B := fun z => (g B z s9.2.2.2.2.2.1.1).2.2.1 rfl
  have Az : A ≤ am_sz h := by
    have := s9.2.2.2.2.2.1.2
    rw [s8] at this
    exact this
  have nA : ¬ X A := fun z => (g A z Az).2.2.2 rfl
  obtain ⟨c1, c2, c3, c4⟩ := a3 nR
  obtain ⟨b1, b2, b3⟩ := f.2.2.2 B s9.2.2.2.2.2.1.1
  obtain ⟨e1, e2, e3⟩ := f.2.2.2 A Az
  have z : fx (fun _ => False) h0 h' := by
    refine ⟨Nat.le_trans s1.1 f.1, Nat.le_trans s1.2.1 f.2.1, f.2.2.1.trans s1.2.2.1, fun q hq => ?_⟩
    have k := s1.2.2.2 q hq
    have w := f.2.2.2 q (Nat.le_trans hq s1.1)
    have nX : ¬ X q := fun y => by
      have := (g q y (Nat.le_trans hq s1.1)).1
      omega
    refine ⟨w.1.trans k.1, w.2.1.trans k.2.1, fun _ => ?_⟩
    have k2 := k.2.2 (fun y => y)
    have w2 := w.2.2 nX
    exact ⟨fun f => (w2.1 f).trans (k2.1 f), fun f => (w2.2.1 f).trans (k2.2.1 f), w2.2.2.1.trans k2.2.2.1, w2.2.2.2.trans k2.2.2.2⟩
  refine ⟨z, ⟨s2.1, Nat.le_trans s2.2 f.1⟩, a1.trans s3, (c2 96).trans s4, (c1 97).trans s5, (c1 100).trans s6, (c2 98).trans s7, ((b3 nB).2.1 185).trans s8, xB_fx f nB (by rw [s8]; exact nA) s9, e2.trans s10, s11, s12⟩
/-- blanks -/
theorem x_blanks {D : Nat} (hD : 13 ≤ D) (x : TxT h0 T t n) (s : RdS h0 h R T B A a c0 l) (ha : 0 ≤ a ∧ a ≤ n) (H : ∀ h', fx (fun q => q = R) h h' → am_sz h' = am_sz h → am_us h' = am_us h → (∀ f, am_fr h' f R = am_fr h f R) → RdS h0 h' R T B A (bE t n a) c0 l → K (.inl none) h') : am_ev am_prog D 330 [.inr (.inl R)] h K := by
  obtain ⟨d, rfl⟩ : ∃ d, D = d + 13 := ⟨D - 13, by omega⟩
  refine am_en p_X6_blanks rfl rfl ?_
  have main : ∀ (f : Nat) (a' : Int) (h' : am_H), (n - a').toNat ≤ f → 0 ≤ a' → a' ≤ n → bE t n a' = bE t n a → fx (fun q => q = R) h h' → am_sz h' = am_sz h → am_us h' = am_us h → (∀ f, am_fr h' f R = am_fr h f R) → RdS h0 h' R T B A a' c0 l → am_W m_X6_blanks (am_ev am_prog (d + 12)) K 0 [some (.inr (.inl (R)))] [] h' := by
    intro f
    induction f with
    | zero =>
      intro a' h' hf a0 an eb fr z u hr s'
      obtain ⟨x1, x2, x3, x4, x5⟩ := TxT_fx s'.1 x
      refine v_X6_blanks_0 ?_
      rw [s'.2.2.2.1, s'.2.2.2.2.1, x3]
      rw [bE_0 (fun y => absurd y.1 (by omega))] at eb
      rw [eb] at s'
      exact ⟨Or.inl s'.2.2.1, Or.inl x1, fun _ => H h' fr z u hr s', fun y => absurd y (by omega)⟩
    | succ f ih =>
      intro a' h' hf a0 an eb fr z u hr s'
      obtain ⟨x1, x2, x3, x4, x5⟩ := TxT_fx s'.1 x
      have stop : ¬ (a' < n ∧ t a' = 32) → K (.inl none) h' := fun y => by
        rw [bE_0 y] at eb
        rw [eb] at s'
        exact H h' fr z u hr s'
      refine v_X6_blanks_0 ?_
      rw [s'.2.2.2.1, s'.2.2.2.2.1, x3]
      refine ⟨Or.inl s'.2.2.1, Or.inl x1, fun y => stop (fun w => absurd w.1 (by omega)), fun y => ⟨by omega, ?_⟩⟩
      rw [x5 a' a0 y]
      refine ⟨fun w => stop (fun v => absurd v.2 (by omega)), fun w => ⟨fun w2 => stop (fun v => absurd v.2 (by omega)), fun w2 => ⟨by omega, ?_⟩⟩⟩
      refine ih (a' + 1) _ (by omega) (by omega) (by omega) ?_ (fx_sfi fr (Or.inr rfl)) z u hr (RdS_at s')
      rw [← eb, bE_s ⟨y, by omega⟩]
  exact main _ a h (Nat.le_refl _) ha.1 ha.2 rfl fx_refl rfl rfl (fun _ => rfl) s
/-- a piece -/
theorem x_bit {m : Int} {Lr : Nat} {D : Nat} (hD : 30 ≤ D) (x : TxT h0 T t n) (s : RdS h0 h R T B A a c0 l) (hl : (l.length : Int) ≤ 12) (ha : 0 ≤ a ∧ a ≤ n) (e99 : am_fr h 99 R = Lr) (tyL : am_ty h Lr = 31) (hc : 0 ≤ am_fi h 195 Lr + c0 ∧ am_fi h 195 Lr + c0 ≤ 1000) (H0 : m = 0 ∨ ¬ (a < n ∧ (97 ≤ t (a) ∧ t (a) ≤ 122)) → ThR h0 h K a 1 7) (H4 : m ≠ 0 → a < n ∧ (97 ≤ t (a) ∧ t (a) ≤ 122) → am_fi h 195 Lr + c0 = 40 → ThR h0 h K a 1 7) (H2 : m ≠ 0 → a < n ∧ (97 ≤ t (a) ∧ t (a) ≤ 122) → am_fi h 195 Lr + c0 ≠ 40 → 12 < (lE t n a) - a → ThR h0 h K (a + 12) 1 7) (H1 : m ≠ 0 → a < n ∧ (97 ≤ t (a) ∧ t (a) ≤ 122) → am_fi h 195 Lr + c0 ≠ 40 → (lE t n a) - a ≤ 12 → ∀ h' s l', fx (fun q => q = R ∨ q = B ∨ q = A) h h' → am_sz h' = am_sz h + 2 → am_us h' ≤ am_us h + 16 → (∀ f, am_fr h' f R = am_fr h f R) → RdS h0 h' R T B A (lE t n a) c0 l' → (l'.length : Int) ≤ 12 → s = am_sz h + 1 → am_ty h' s = 30 → xSc h' s ((lE t n a) - a) (fun i => t (a + i)) → am_fr h' 189 s = am_sz h + 2 → K (.inl (some (.inr (.inl (s))))) h') : am_ev am_prog D 369 [.inr (.inl R), .inl m] h K := by
  have sR := s.2.1
  obtain ⟨x1, x2, x3, x4, x5⟩ := TxT_fx s.1 x
  have f96 := s.2.2.2.1
  have f97 := s.2.2.2.2.1
  have f100 := s.2.2.2.2.2.1
  have f98 := s.2.2.2.2.2.2.1
  have tyR := s.2.2.1
  have ne := RdS_ne s
  obtain ⟨d, rfl⟩ : ∃ d, D = d + 13 := ⟨D - 13, by omega⟩
  refine am_en p_X7_bit rfl rfl ?_
  -- an error
  have err : ∀ h1 : am_H, am_sz h1 = am_sz h → am_us h1 = am_us h → fx (fun _ => False) h0 h1 → ∀ p, ThR h0 h K p 1 7 → am_ev am_prog (d + 12) 313 [.inr (.inl (am_sz h1 + 1)), .inl p] (am_new h1 7 7) (am_aft (am_hand m_X7_bit K (am_W m_X7_bit (am_ev am_prog (d + 12)) K) 19) (am_W m_X7_bit (am_ev am_prog (d + 12)) K) 19 [some (.inr (.inl (R))), some (.inl (m))] [.inr (.inl (am_sz h1 + 1))]) ∧ am_ev am_prog (d + 12) 313 [.inr (.inl (am_sz h1 + 1)), .inl p] (am_new h1 7 7) (am_aft (am_hand m_X7_bit K (am_W m_X7_bit (am_ev am_prog (d + 12)) K) 39) (am_W m_X7_bit (am_ev am_prog (d + 12)) K) 39 [some (.inr (.inl (R))), some (.inl (m))] [.inr (.inl (am_sz h1 + 1))]) := by
    intro h1 z1 u1 f1 p G
    have k : ∀ h', fx (fun q => q = am_sz h1 + 1) (am_new h1 7 7) h' → am_sz h' = am_sz (am_new h1 7 7) → am_us h' = am_us (am_new h1 7 7) → am_ty h' (am_sz h1 + 1) = 7 → am_fi h' 107 (am_sz h1 + 1) = p → K (.inr (am_sz h1 + 1)) h' := fun h' f z u ty fi => by
      have z' : am_sz h' = am_sz h1 + 1 := z
      have u' : am_us h' = am_us h1 + 7 := u
      refine G h' _ ?_ ty (by omega) fi (by omega) (by omega)
      refine fx_trans2 (fx_new f1) f (fun q hq e => ?_)
      have := f1.1
      omega
    exact ⟨x_err (by omega) (x_tyn0 rfl) (fun h' f z u ty fi => am_an (v_X7_bit_20 ⟨by omega, k h' f z u ty fi⟩)), x_err (by omega) (x_tyn0 rfl) (fun h' f z u ty fi => am_an (v_X7_bit_40 ⟨by omega, k h' f z u ty fi⟩))⟩
  have er0 := fun p G => (err h rfl rfl s.1 p G).1
  refine v_X7_bit_0 ?_
  rw [f96, f97, x3, e99, f100, f98]
  refine ⟨fun z => ⟨⟨sR.2, tyR⟩, er0 a (H0 (Or.inl z))⟩, fun m0 => ⟨tyR, ⟨Or.inl tyR, Or.inl x1⟩, fun z => ⟨sR.2, er0 a (H0 (Or.inr (fun w => absurd w.1 (by omega))))⟩, fun z => ⟨by omega, ?_⟩⟩⟩
  rw [x5 a ha.1 z]
  refine ⟨fun z2 => ⟨sR.2, er0 a (H0 (Or.inr (fun w => absurd w.2.1 (by omega))))⟩, fun z2 => ⟨fun z3 => ⟨sR.2, er0 a (H0 (Or.inr (fun w => absurd w.2.2 (by omega))))⟩, fun z3 => ⟨tyL, by omega, fun z4 => ⟨s.2.2.2.2.2.2.2.2.1.1, ?_⟩, fun z4 => ⟨sR.2, er0 a (H4 m0 ⟨z, z2, z3⟩ z4)⟩⟩⟩⟩
  have HH2 := H2 m0 ⟨z, z2, z3⟩ z4
  have HH1 := H1 m0 ⟨z, z2, z3⟩ z4
  have lv := lE_v (t := t) (n := n) (a := a)
  -- letters
  have main : ∀ (g : Nat) (j : Nat) (h' : am_H), 13 - j ≤ g → j ≤ 12 → a + j ≤ (lE t n a) → fx (fun q => q = R ∨ q = B ∨ q = A) h h' → am_sz h' = am_sz h → am_us h' = am_us h → (∀ f, am_fr h' f R = am_fr h f R) → RdS h0 h' R T B A (a + j) c0 (sgL t a j) → am_W m_X7_bit (am_ev am_prog (d + 12)) K 25 [some (.inr (.inl (R))), some (.inl (m))] [] h' := by
    intro g
    induction g with
    | zero =>
      intro j h' hg j12
      omega
    | succ g ih =>
      intro j h' hg j12 je fr zz uu hr s'
      obtain ⟨y1, y2, y3, y4, y5⟩ := TxT_fx s'.1 x
      obtain ⟨s1, s2, s3, s4, s5, s6, s7, s8, s9, s10, s11, s12⟩ := s'
      have ss : RdS h0 h' R T B A (a + j) c0 (sgL t a j) := ⟨s1, s2, s3, s4, s5, s6, s7, s8, s9, s10, s11, s12⟩
      have ends : ¬ (a + j < n ∧ (97 ≤ t (a + j) ∧ t (a + j) ≤ 122)) → am_ty h' B = 29 ∧ am_ev am_prog (d + 12) 279 [.inr (.inl B)] h' (am_aft (am_hand m_X7_bit K (am_W m_X7_bit (am_ev am_prog (d + 12)) K) 60) (am_W m_X7_bit (am_ev am_prog (d + 12)) K) 60 [some (.inr (.inl (R))), some (.inl (m))] []) := fun w => by
        have ee : (lE t n a) = a + j := by
          rw [lE_t (k := a + j) j a rfl je, lE_0 w]
        refine ⟨s9.1, c_toS s9 (by rw [sgL_l]; omega) (fun h2 f2 z2' u2 xs ty2 f189 => am_av (v_X7_bit_61 ?_))⟩
        rw [sgL_l] at u2
        have sc := sgL_c xs
        have ej : ((j : Nat) : Int) = (lE t n a) - a := by omega
        rw [ej] at sc
        rw [zz] at sc ty2 f189 ⊢
        have r2 : RdS h0 h2 R T B A (lE t n a) c0 (sgL t a j) := by
          rw [ee]
          exact RdS_fx ss f2 (fun q y _ => y.elim)
        refine HH1 (by omega) h2 _ _ (fx_trans2 fr f2 (fun q _ y => y.elim)) (by omega) (by omega) (fun f => ?_) r2 (by rw [sgL_l]; omega) rfl ty2 sc f189
        rw [((f2.2.2.2 R s2.2).2.2 (fun y => y)).2.1 f, hr f]
      refine v_X7_bit_25 ?_
      rw [s4, s5, y3, s7, s9.2.2.2.1, sgL_l]
      refine ⟨s3, ⟨Or.inl s3, Or.inl y1⟩, fun w => ends (fun v => absurd v.1 (by omega)), fun w => ⟨by omega, ?_⟩⟩
      rw [y5 (a + j) (by omega) w]
      refine ⟨fun w2 => ends (fun v => absurd v.2.1 (by omega)), fun w2 => ⟨fun w3 => ends (fun v => absurd v.2.2 (by omega)), fun w3 => ⟨s9.1, fun w4 => ?_, fun w4 => ?_⟩⟩⟩
      · have je' : a + j + 1 ≤ (lE t n a) := by
          rw [lE_t (k := a + j) j a rfl je, lE_s ⟨w, w2, w3⟩]
          exact (lE_v (t := t) (n := n) (a := a + j + 1)).1.1
        rw [am_i2c0 (by omega)]
        refine c_appc0 s9 (by omega) (by rw [sgL_l, s8, s10]; omega) (by rw [s8, s10]; decide) (fun h2 f2 xb z2' u2 hr2 => am_av (v_X7_bit_50 ?_))
        rw [s8] at f2
        have nR : ¬ (R = B ∨ R = A) := fun y => y.elim ne.1 ne.2.1
        obtain ⟨a1, a2, a3⟩ := f2.2.2.2 R s2.2
        obtain ⟨c1, c2, c3, c4⟩ := a3 nR
        have f97' : am_fi h2 97 R = a + j := (c1 97).trans s5
        rw [f97']
        refine ⟨⟨a1.trans s3, by omega⟩, ?_⟩
        have sg1 : RdS h0 h2 R T B A (a + j) c0 (sgL t a j ++ [t (a + j)]) := by
          have z0 : fx (fun _ => False) h0 h2 := by
            refine ⟨Nat.le_trans s1.1 f2.1, Nat.le_trans s1.2.1 f2.2.1, f2.2.2.1.trans s1.2.2.1, fun q hq => ?_⟩
            have k := s1.2.2.2 q hq
            have w := f2.2.2.2 q (Nat.le_trans hq s1.1)
            refine ⟨w.1.trans k.1, w.2.1.trans k.2.1, fun _ => ?_⟩
            have k2 := k.2.2 (fun y => y)
            have w2 := w.2.2 (fun y => by omega)
            exact ⟨fun f => (w2.1 f).trans (k2.1 f), fun f => (w2.2.1 f).trans (k2.2.1 f), w2.2.2.1.trans k2.2.2.1, w2.2.2.2.trans k2.2.2.2⟩
          refine ⟨z0, ⟨s2.1, Nat.le_trans s2.2 f2.1⟩, a1.trans s3, (c2 96).trans s4, f97', (c1 100).trans s6, (c2 98).trans s7, (hr2 185).trans s8, xb, ?_, s11, s12⟩
          have Az : A ≤ am_sz h' := by
            have := s9.2.2.2.2.2.1.2
            rw [s8] at this
            exact this
          exact (f2.2.2.2 A Az).2.1.trans s10
        have sg2 := RdS_at (a' := a + j + 1) sg1
        have ej : ((j + 1 : Nat) : Int) = (j : Int) + 1 := by omega
        have e2 : a + ((j + 1 : Nat) : Int) = a + j + 1 := by omega
        refine ih (j + 1) _ (by omega) (by omega) (by omega) (fx_sfi (fx_trans2 fr f2 (fun q _ y => Or.inr y)) (Or.inr (Or.inl rfl))) (z2'.trans zz) (u2.trans uu) (fun f => (c2 f).trans (hr f)) ?_
        rw [e2]
        exact sg2
      · have je' : a + j + 1 ≤ (lE t n a) := by
          rw [lE_t (k := a + j) j a rfl je, lE_s ⟨w, w2, w3⟩]
          exact (lE_v (t := t) (n := n) (a := a + j + 1)).1.1
        have j12' : (j : Int) = 12 := by omega
        rw [j12']
        exact ⟨s2.2, (err h' zz uu s1 (a + 12) (HH2 (by omega))).2⟩
  refine c_set0 s.2.2.2.2.2.2.2.2.1 (by omega) (fun h2 f2 xb z2' u2 e185 => am_an ?_)
  have r2 : RdS h0 h2 R T B A a c0 [] := by
    obtain ⟨s1, s2, s3, s4, s5, s6, s7, s8, s9, s10, s11, s12⟩ := s
    have nR : ¬ (R = B) := ne.1
    obtain ⟨a1, a2, a3⟩ := f2.2.2.2 R s2.2
    obtain ⟨c1, c2, c3, c4⟩ := a3 nR
    have z0 : fx (fun _ => False) h0 h2 := by
      refine ⟨Nat.le_trans s1.1 f2.1, Nat.le_trans s1.2.1 f2.2.1, f2.2.2.1.trans s1.2.2.1, fun q hq => ?_⟩
      have k := s1.2.2.2 q hq
      have w := f2.2.2.2 q (Nat.le_trans hq s1.1)
      refine ⟨w.1.trans k.1, w.2.1.trans k.2.1, fun _ => ?_⟩
      have k2 := k.2.2 (fun y => y)
      have w2 := w.2.2 (fun y => by omega)
      exact ⟨fun f => (w2.1 f).trans (k2.1 f), fun f => (w2.2.1 f).trans (k2.2.1 f), w2.2.2.1.trans k2.2.2.1, w2.2.2.2.trans k2.2.2.2⟩
    refine ⟨z0, ⟨s2.1, Nat.le_trans s2.2 f2.1⟩, a1.trans s3, (c2 96).trans s4, (c1 97).trans s5, (c1 100).trans s6, (c2 98).trans s7, e185.trans s8, xb, ?_, s11, s12⟩
    have Az : A ≤ am_sz h := by
      have := s9.2.2.2.2.2.1.2
      rw [s8] at this
      exact this
    exact (f2.2.2.2 A Az).2.1.trans s10
  have e0 : a + ((0 : Nat) : Int) = a := by omega
  refine main 13 0 h2 (by omega) (by omega) (by omega) (fx_sub f2 (fun q _ y => Or.inr (Or.inl y))) z2' u2 (fun f => ?_) (by rw [e0]; exact r2)
  exact ((f2.2.2.2 R sR.2).2.2 (fun y => ne.1 y)).2.1 f
end
