set_option maxRecDepth 100000
/-! the component reads a part -/
def arC (hb h : am_H) (A : Nat) (t : Int → Int) (r : Nat) (l : List am_Pz) : Prop := am_ty h r = 115 ∧ (am_sz hb < r ∧ r ≤ am_sz h) ∧ am_ln h r = (l.length : Int) ∧ ∀ k : Nat, k < l.length → pcC hb h A t (am_ar h r k) (gP l k)
theorem arC_fx {X : Nat → Prop} {hb h h' : am_H} {A r : Nat} {t : Int → Int} {l : List am_Pz} (f : fx X h h') (g : ∀ q, q ≤ am_sz h → X q → am_ty h q ≠ 8 ∧ am_ty h q ≠ 30 ∧ am_ty h q ≠ 115 ∧ ((am_ty h q = 102 ∨ am_ty h q = 122) → q = A)) (x : arC hb h A t r l) : arC hb h' A t r l := by
  obtain ⟨x1, x2, x3, x4⟩ := x
  obtain ⟨a1, a2, a3⟩ := f.2.2.2 r x2.2
  obtain ⟨c1, c2, c3, c4⟩ := a3 (fun z => (g r x2.2 z).2.2.1 x1)
  refine ⟨a1.trans x1, ⟨x2.1, Nat.le_trans x2.2 f.1⟩, a2.trans x3, fun k hk => ?_⟩
  rw [c4]
  exact pcC_fx f (fun q hq z => ⟨(g q hq z).1, (g q hq z).2.1, (g q hq z).2.2.2⟩) (x4 k hk)
theorem pcC_b {h0 hb h : am_H} {A q : Nat} {t : Int → Int} {p : am_Pz} (e : am_sz h0 ≤ am_sz hb) (x : pcC hb h A t q p) : pcC h0 h A t q p := ⟨x.1, ⟨by have := x.2.1.1; omega, x.2.1.2⟩, x.2.2.1, x.2.2.2.1, ⟨by have := x.2.2.2.2.1.1; omega, x.2.2.2.2.1.2⟩, x.2.2.2.2.2⟩
theorem arC_b {h0 hb h : am_H} {A r : Nat} {t : Int → Int} {l : List am_Pz} (e : am_sz h0 ≤ am_sz hb) (x : arC hb h A t r l) : arC h0 h A t r l := ⟨x.1, ⟨by have := x.2.1.1; omega, x.2.1.2⟩, x.2.2.1, fun k hk => pcC_b e (x.2.2.2 k hk)⟩
section
variable {K : am_K} {h0 hb h : am_H} {R T B A Lr : Nat} {t : Int → Int} {n a c0 : Int} {l : List Int} {cur : List am_Pz}
/-- types of the reader's cells -/
theorem RdS_ty (r : RdS h0 h R T B A a c0 l) : ∀ q, q ≤ am_sz h → (q = R ∨ q = B ∨ q = A) → am_ty h q = 6 ∨ am_ty h q = 29 ∨ (am_ty h q = 102 ∧ q = A) := fun q _ z => by
  obtain ⟨s1, s2, s3, s4, s5, s6, s7, s8, s9, s10⟩ := r
  have tB := s9.1
  have tA := s9.2.1
  rw [s8] at tA
  rcases z with z | z | z
  · rw [z]
    exact Or.inl s3
  · rw [z]
    exact Or.inr (Or.inl tB)
  · rw [z]
    exact Or.inr (Or.inr ⟨tA, rfl⟩)
/-- a list is made -/
theorem nwL (cs : (am_ty h (am_cs h 0) = 134 ∧ am_cs h 0 ≤ am_sz h ∧ am_ln h (am_cs h 0) = 0)) : fx (fun _ => False) h (am_sfr (am_sfi (am_new h 31 3) 193 (am_sz h + 1) 0) 194 (am_sz h + 1) (am_cs h 0)) ∧ xLm (am_sfr (am_sfi (am_new h 31 3) 193 (am_sz h + 1) 0) 194 (am_sz h + 1) (am_cs h 0)) (am_sz h + 1) ∧ am_fi (am_sfr (am_sfi (am_new h 31 3) 193 (am_sz h + 1) 0) 194 (am_sz h + 1) (am_cs h 0)) 195 (am_sz h + 1) = 0 ∧ am_fi (am_sfr (am_sfi (am_new h 31 3) 193 (am_sz h + 1) 0) 194 (am_sz h + 1) (am_cs h 0)) 193 (am_sz h + 1) = 0 ∧ (am_ln (am_sfr (am_sfi (am_new h 31 3) 193 (am_sz h + 1) 0) 194 (am_sz h + 1) (am_cs h 0)) (am_fr (am_sfr (am_sfi (am_new h 31 3) 193 (am_sz h + 1) 0) 194 (am_sz h + 1) (am_cs h 0)) 194 (am_sz h + 1))) = 0 := by
  have f : fx (fun _ => False) h (am_sfr (am_sfi (am_new h 31 3) 193 (am_sz h + 1) 0) 194 (am_sz h + 1) (am_cs h 0)) := fx_sfr (fx_sfi (fx_new fx_refl) (Or.inl (by omega))) (Or.inl (by omega))
  have e194 : (am_fr (am_sfr (am_sfi (am_new h 31 3) 193 (am_sz h + 1) 0) 194 (am_sz h + 1) (am_cs h 0)) 194 (am_sz h + 1)) = am_cs h 0 := x_fre
  have c := f.2.2.2 _ cs.2.1
  have e0 : am_ln (am_sfr (am_sfi (am_new h 31 3) 193 (am_sz h + 1) 0) 194 (am_sz h + 1) (am_cs h 0)) ((am_fr (am_sfr (am_sfi (am_new h 31 3) 193 (am_sz h + 1) 0) 194 (am_sz h + 1) (am_cs h 0)) 194 (am_sz h + 1))) = 0 := by
    rw [e194, c.2.1]
    exact cs.2.2
  have e5 : am_fi (am_sfr (am_sfi (am_new h 31 3) 193 (am_sz h + 1) 0) 194 (am_sz h + 1) (am_cs h 0)) 195 (am_sz h + 1) = 0 := show am_fi (am_sfi (am_new h 31 3) 193 (am_sz h + 1) 0) 195 (am_sz h + 1) = 0 from (x_fif (by decide)).trans (x_fin0 rfl)
  have e3 : am_fi (am_sfr (am_sfi (am_new h 31 3) 193 (am_sz h + 1) 0) 194 (am_sz h + 1) (am_cs h 0)) 193 (am_sz h + 1) = 0 := show am_fi (am_sfi (am_new h 31 3) 193 (am_sz h + 1) 0) 193 (am_sz h + 1) = 0 from x_fie
  refine ⟨f, ⟨⟨x_tyn0 (h := h) (t := 31) (n := 3) rfl, ?_, ?_, ?_, ?_⟩, ?_, ?_, ?_⟩, e5, e3, e0⟩
  · rw [e194, c.1]
    exact Or.inr cs.1
  · rw [e5, e0]
    omega
  · rw [e0]
    decide
  · rw [e194]
    have z : am_sz (am_sfr (am_sfi (am_new h 31 3) 193 (am_sz h + 1) 0) 194 (am_sz h + 1) (am_cs h 0)) = am_sz h + 1 := rfl
    rw [z]
    exact ⟨Nat.le_refl _, by omega⟩
  · rw [e0]
    decide
  · intro _
    exact e194
  · intro z
    rw [e0] at z
    exact absurd z (by decide)
theorem x_row {D : Nat} (hD : 13 ≤ D) (tyR : am_ty h R = 6) (e99 : am_fr h 99 R = Lr) (Rz : R ≤ am_sz h) (ls : LsS hb h Lr A t cur) (hc : (cur.length : Int) ≤ 40) (H : ∀ h' r, fx (fun _ => False) h h' → am_sz h' = am_sz h + 1 → am_us h' = am_us h + cur.length → arC hb h' A t r cur → K (.inl (some (.inr (.inl (r))))) h') : am_ev am_prog D 332 [.inr (.inl R)] h K := by
  obtain ⟨x1, x2, x3, x4, x5, x6⟩ := ls
  have Lz := x1.1.2.2.2.2
  obtain ⟨d, rfl⟩ : ∃ d, D = d + 13 := ⟨D - 13, by omega⟩
  refine am_en p_X7_row rfl rfl ?_
  refine v_X7_row_0 ?_
  rw [e99, x3]
  refine ⟨tyR, x1.1.1, by omega, ?_⟩
  have tn : ((cur.length : Int)).toNat = cur.length := by omega
  rw [tn]
  have main : ∀ k, 0 ≤ k → k ≤ (cur.length : Int) → ∀ h', fx (fun _ => False) h h' → am_sz h' = am_sz h + 1 → am_us h' = am_us h + cur.length → am_ty h' (am_sz h + 1) = 115 → am_ln h' (am_sz h + 1) = (cur.length : Int) → (∀ j, 0 ≤ j → j < k → am_ar h' (am_sz h + 1) j = am_ar h (am_fr h 194 Lr) j) → am_W m_X7_row (am_ev am_prog (d + 12)) K 7 [some (.inr (.inl (R))), some (.inr (.inl (am_sz h + 1))), some (.inl (k))] [] h' := by
    refine lp_z ?_ ?_
    · intro k k1 k2 hL h' f z u ty ln el
      have oR := f.2.2.2 R Rz
      have oL := f.2.2.2 Lr Lz.1
      have oA := f.2.2.2 _ Lz.2
      have r99 : am_fr h' 99 R = Lr := ((oR.2.2 (fun z => z)).2.1 99).trans e99
      have r195 : am_fi h' 195 Lr = (cur.length : Int) := ((oL.2.2 (fun z => z)).1 195).trans x3
      have r194 : am_fr h' 194 Lr = (am_fr h 194 Lr) := (oL.2.2 (fun z => z)).2.1 194
      have rar : am_ar h' (am_fr h 194 Lr) = am_ar h (am_fr h 194 Lr) := (oA.2.2 (fun z => z)).2.2.2
      have pk := x6 k.toNat (by omega)
      have ek : ((k.toNat : Nat) : Int) = k := by omega
      rw [ek] at pk
      have ty8 : am_ty h' (am_ar h (am_fr h 194 Lr) k) = 8 := (f.2.2.2 _ pk.2.1.2).1.trans pk.1
      refine v_X7_row_7 ?_
      rw [ln, r99, r195, r194, rar, ty8]
      refine ⟨ty, fun z => absurd z (by omega), fun _ => ⟨oR.1.trans tyR, oL.1.trans x1.1.1, ⟨?_, by omega⟩, ⟨Or.inr rfl, Or.inr (by simp [am_tin]), by omega⟩, by omega, ?_⟩⟩
      · refine ⟨oL.1.trans x1.1.1, ?_, ?_, ?_, ?_⟩
        · rw [r194, oA.1]
          exact x1.1.2.1
        · rw [r194, r195, oA.2.1, ← x3]
          exact x1.1.2.2.1
        · rw [r194, oA.2.1]
          exact x1.1.2.2.2.1
        · rw [r194]
          exact ⟨by omega, by omega⟩
      · refine hL _ (fx_sar f (Or.inl (by omega))) z u ty ln (fun j j1 j2 => ?_)
        have e : am_ar (am_sar h' (am_sz h + 1) k (am_ar h (am_fr h 194 Lr) k)) (am_sz h + 1) = am_uz (am_ar h' (am_sz h + 1)) k (am_ar h (am_fr h 194 Lr) k) := x_arse
        rw [e]
        by_cases c : j = k
        · rw [c, am_uz_eq]
        · rw [am_uz_ne c]
          exact el j j1 (by omega)
    · intro h' f z u ty ln el
      refine v_X7_row_7 ?_
      rw [ln]
      refine ⟨ty, fun _ => H h' _ f z u ⟨ty, ⟨by omega, by omega⟩, ln, fun k hk => ?_⟩, fun z => absurd z (by omega)⟩
      rw [el k (by omega) (by omega)]
      exact pcC_fx f (fun q _ z => z.elim) (x6 k hk)
  exact main 0 (by omega) (by omega) _ fx0_new rfl rfl (x_tyn0 rfl) (x_lnn0 rfl) (fun j j1 j2 => absurd j1 (by omega))
/-- a part -/
theorem x_part {D : Nat} (hD : 60 ≤ D) (x : TxT h0 T t n) (cs : (am_ty h0 (am_cs h0 0) = 134 ∧ am_cs h0 0 ≤ am_sz h0 ∧ am_ln h0 (am_cs h0 0) = 0)) (rd : RdS h0 h R T B A a 0 l) (hl : (l.length : Int) ≤ 12) (ha : 0 ≤ a ∧ a ≤ n) (H0 : ∀ p, paR t n (bE t n a) 0 [] = .inl p → ThR h0 h K p 1200 6000) (H1 : ∀ q, paR t n (bE t n a) 0 [] = .inr q → ∀ h' r l', fx (fun q => q = R ∨ q = B ∨ q = A) h h' → (∀ f, f ≠ 99 → am_fr h' f R = am_fr h f R) → RdS h0 h' R T B A q.1 0 l' → (l'.length : Int) ≤ 12 → arC h h' A t r q.2.2 → (am_sz h' : Int) ≤ am_sz h + 1200 → (am_us h' : Int) ≤ am_us h + 6000 → K (.inl (some (.inr (.inl (r))))) h') : am_ev am_prog D 311 [.inr (.inl R)] h K := by
  have csh : (am_ty h (am_cs h 0) = 134 ∧ am_cs h 0 ≤ am_sz h ∧ am_ln h (am_cs h 0) = 0) := by
    have k := rd.1.2.2.2 _ cs.2.1
    have e := rd.1.2.2.1
    rw [e]
    exact ⟨k.1.trans cs.1, Nat.le_trans cs.2.1 rd.1.1, k.2.1.trans cs.2.2⟩
  have nl := nwL csh
  have ne := RdS_ne rd
  obtain ⟨d, rfl⟩ : ∃ d, D = d + 13 := ⟨D - 13, by omega⟩
  refine am_en p_X7_part rfl rfl ?_
  refine v_X7_part_0 ⟨⟨rd.2.1.2, rd.2.2.1⟩, ?_⟩
  have Rz := rd.2.1.2
  -- the list
  have rd1 : RdS h0 (am_sfr (am_sfr (am_sfi (am_new h 31 3) 193 (am_sz h + 1) 0) 194 (am_sz h + 1) (am_cs h 0)) 99 R (am_sz h + 1)) R T B A a 0 l := by
    have r1 := RdS_fx rd nl.1 (fun q z _ => z.elim)
    obtain ⟨s1, s2, s3, s4, s5, s6, s7, s8, s9, s10⟩ := r1
    have f : fx (fun q => q = R) (am_sfr (am_sfi (am_new h 31 3) 193 (am_sz h + 1) 0) 194 (am_sz h + 1) (am_cs h 0)) (am_sfr (am_sfr (am_sfi (am_new h 31 3) 193 (am_sz h + 1) 0) 194 (am_sz h + 1) (am_cs h 0)) 99 R (am_sz h + 1)) := fx_sfr fx_refl (Or.inr rfl)
    refine ⟨fx_sfr s1 (Or.inl s2.1), s2, s3, (x_frf (by decide)).trans s4, s5, s6, (x_frf (by decide)).trans s7, (x_frf (by decide)).trans s8, xB_fx f (fun z => ne.1 z.symm) (fun z => ?_) s9, s10⟩
    rw [s8] at z
    exact ne.2.1 z.symm
  have fl : fx (fun q => q = R ∨ q = B ∨ q = A) h (am_sfr (am_sfr (am_sfi (am_new h 31 3) 193 (am_sz h + 1) 0) 194 (am_sz h + 1) (am_cs h 0)) 99 R (am_sz h + 1)) := fx_sfr (fx_sub nl.1 (fun q _ z => z.elim)) (Or.inr (Or.inl rfl))
  have ls1 : LsS h (am_sfr (am_sfr (am_sfi (am_new h 31 3) 193 (am_sz h + 1) 0) 194 (am_sz h + 1) (am_cs h 0)) 99 R (am_sz h + 1)) (am_sz h + 1) A t [] ∧ (am_ln (am_sfr (am_sfr (am_sfi (am_new h 31 3) 193 (am_sz h + 1) 0) 194 (am_sz h + 1) (am_cs h 0)) 99 R (am_sz h + 1)) (am_fr (am_sfr (am_sfr (am_sfi (am_new h 31 3) 193 (am_sz h + 1) 0) 194 (am_sz h + 1) (am_cs h 0)) 99 R (am_sz h + 1)) 194 (am_sz h + 1))) = 0 := by
    have ls0 : LsS h (am_sfr (am_sfi (am_new h 31 3) 193 (am_sz h + 1) 0) 194 (am_sz h + 1) (am_cs h 0)) (am_sz h + 1) A t [] := ⟨nl.2.1, by omega, nl.2.2.1, Or.inl nl.2.2.2.2, by rw [nl.2.2.2.1]; exact ⟨Int.le_refl _, Int.le_refl _⟩, fun k hk => absurd hk (Nat.not_lt_zero _)⟩
    have f : fx (fun q => q = R) (am_sfr (am_sfi (am_new h 31 3) 193 (am_sz h + 1) 0) 194 (am_sz h + 1) (am_cs h 0)) (am_sfr (am_sfr (am_sfi (am_new h 31 3) 193 (am_sz h + 1) 0) 194 (am_sz h + 1) (am_cs h 0)) 99 R (am_sz h + 1)) := fx_sfr fx_refl (Or.inr rfl)
    have tyR : am_ty (am_sfr (am_sfi (am_new h 31 3) 193 (am_sz h + 1) 0) 194 (am_sz h + 1) (am_cs h 0)) R = 6 := (nl.1.2.2.2 R Rz).1.trans rd.2.2.1
    have k := LsS_fx f (fun q hq z => by
      rw [z, tyR]
      exact ⟨by decide, by decide, by decide, by decide, by decide, fun y => absurd y (by decide)⟩) ls0
    exact ⟨k.1, k.2.2.trans nl.2.2.2.2⟩
  have e99 : am_fr (am_sfr (am_sfr (am_sfi (am_new h 31 3) 193 (am_sz h + 1) 0) 194 (am_sz h + 1) (am_cs h 0)) 99 R (am_sz h + 1)) 99 R = am_sz h + 1 := x_fre
  have hr0 : ∀ f, f ≠ 99 → am_fr (am_sfr (am_sfr (am_sfi (am_new h 31 3) 193 (am_sz h + 1) 0) 194 (am_sz h + 1) (am_cs h 0)) 99 R (am_sz h + 1)) f R = am_fr h f R := fun f hf => (x_frf hf).trans (((nl.1.2.2.2 R Rz).2.2 (fun z => z)).2.1 f)
  have zl : am_sz (am_sfr (am_sfr (am_sfi (am_new h 31 3) 193 (am_sz h + 1) 0) 194 (am_sz h + 1) (am_cs h 0)) 99 R (am_sz h + 1)) = am_sz h + 1 := rfl
  have ul : am_us (am_sfr (am_sfr (am_sfi (am_new h 31 3) 193 (am_sz h + 1) 0) 194 (am_sz h + 1) (am_cs h 0)) 99 R (am_sz h + 1)) = am_us h + 3 := rfl
  generalize hh1 : am_sfr (am_sfr (am_sfi (am_new h 31 3) 193 (am_sz h + 1) 0) 194 (am_sz h + 1) (am_cs h 0)) 99 R (am_sz h + 1) = h1 at *
  generalize hLr : am_sz h + 1 = Lr at *
  have main : ∀ (f : Nat) (a nw : Int) (cur : List am_Pz) (h' : am_H) (l : List Int), (n - a).toNat ≤ f → 0 ≤ a → a ≤ n → (0 ≤ nw ∧ nw ≤ 24) → (cur.length : Int) ≤ 40 → RdS h0 h' R T B A a 0 l → (l.length : Int) ≤ 12 → LsS h h' Lr A t cur → am_fr h' 99 R = Lr → fx (fun q => q = R ∨ q = B ∨ q = A) h h' → (∀ f, f ≠ 99 → am_fr h' f R = am_fr h f R) → (am_sz h' : Int) ≤ am_sz h + 1 + (am_ln h' (am_fr h' 194 Lr)) + 3 * (cur.length : Int) → (am_us h' : Int) ≤ am_us h + 3 + 5 * (am_ln h' (am_fr h' 194 Lr)) + 18 * (cur.length : Int) → (∀ p, paR t n a nw cur = .inl p → ThR h0 h K p 1200 6000) → (∀ q, paR t n a nw cur = .inr q → ∀ h' r l', fx (fun q => q = R ∨ q = B ∨ q = A) h h' → (∀ f, f ≠ 99 → am_fr h' f R = am_fr h f R) → RdS h0 h' R T B A q.1 0 l' → (l'.length : Int) ≤ 12 → arC h h' A t r q.2.2 → (am_sz h' : Int) ≤ am_sz h + 1200 → (am_us h' : Int) ≤ am_us h + 6000 → K (.inl (some (.inr (.inl (r))))) h') → am_W m_X7_part (am_ev am_prog (d + 12)) K 9 [some (.inr (.inl (R))), some (.inl (nw))] [] h' := by
    intro f
    induction f with
    | zero =>
      intro a nw cur h' l hf ha han bn cl rd' hl' ls' e99' fr hr cz cu G0 G1
      have N1 : (am_ln h' (am_fr h' 194 Lr)) ≤ 1000 := ls'.1.2.1
      have en : ¬ (a < n ∧ (97 ≤ t (a) ∧ t (a) ≤ 122)) := fun z => absurd z.1 (by omega)
      have go : ∀ m, am_ev am_prog (d + 12) 331 [.inr (.inl R), .inl m] h' (am_aft (am_hand m_X7_part K (am_W m_X7_part (am_ev am_prog (d + 12)) K) 16) (am_W m_X7_part (am_ev am_prog (d + 12)) K) 16 [some (.inr (.inl (R))), some (.inl (nw))] []) := fun m => by
        refine x_word (w := nw) (by omega) rd.1.1 x rd' hl' ls' e99' ⟨ha, han⟩ (by omega) (by omega) (fun p hp h2 E g1 g2 g3 g4 g5 g6 => am_ax rfl ?_) (fun q hq => ?_)
        · rw [if_pos (Or.inr en)] at hp
          exact G0 p ((paR_0 (Or.inr en)).trans (by cases hp; rfl)) h2 E g1 g2 g3 g4 (by omega) (by omega)
        · rw [if_pos (Or.inr en)] at hq
          cases hq
      exact v_X7_part_9 ⟨fun _ => ⟨rd'.2.2.1, go 0⟩, fun _ => ⟨rd'.2.2.1, go 1⟩⟩
    | succ f ih =>
      intro a nw cur h' l hf ha han bn cl rd' hl' ls' e99' fr hr cz cu G0 G1
      have N1 : (am_ln h' (am_fr h' 194 Lr)) ≤ 1000 := ls'.1.2.1
      have go : ∀ m, (m = 0 ↔ nw = 24) → am_ev am_prog (d + 12) 331 [.inr (.inl R), .inl m] h' (am_aft (am_hand m_X7_part K (am_W m_X7_part (am_ev am_prog (d + 12)) K) 16) (am_W m_X7_part (am_ev am_prog (d + 12)) K) 16 [some (.inr (.inl (R))), some (.inl (nw))] []) := fun m hm => by
        have e0 : (0 : Int) + (cur.length : Int) = (cur.length : Int) := by omega
        refine x_word (w := nw) (by omega) rd.1.1 x rd' hl' ls' e99' ⟨ha, han⟩ (by omega) (by omega) (fun p hp h2 E g1 g2 g3 g4 g5 g6 => am_ax rfl ?_) (fun q hq h2 l2 f2 hr2 rd2 hl2 ls2 cz2 cu2 => am_an (v_X7_part_17 ⟨by omega, rd2.2.2.1, ?_⟩))
        · have hp2 : paR t n a nw cur = .inl p := by
            by_cases c : m = 0 ∨ ¬ (a < n ∧ (97 ≤ t (a) ∧ t (a) ≤ 122))
            · rw [if_pos c] at hp
              exact (paR_0 (c.elim (fun v => Or.inl (hm.1 v)) Or.inr)).trans (by cases hp; rfl)
            · rw [if_neg c, e0] at hp
              exact paR_l (fun v => c (v.elim (fun w => Or.inl (hm.2 w)) Or.inr)) hp
          exact G0 p hp2 h2 E g1 g2 g3 g4 (by omega) (by omega)
        · have c : ¬ (m = 0 ∨ ¬ (a < n ∧ (97 ≤ t (a) ∧ t (a) ≤ 122))) := fun c => by
            rw [if_pos c] at hq
            cases hq
          rw [if_neg c, e0] at hq
          have c' : ¬ (nw = 24 ∨ ¬ (a < n ∧ (97 ≤ t (a) ∧ t (a) ≤ 122))) := fun v => c (v.elim (fun w => Or.inl (hm.2 w)) Or.inr)
          have wv := wdR_v (n - a).toNat a cur.length (Nat.le_refl _) (by omega) cl q hq
          have pr := paR_r c' cl hq
          have bv := bE_v (t := t) (n := n) (a := q.1)
          have e99'' : am_fr h2 99 R = Lr := (hr2 99).trans e99'
          refine x_blanks (by omega) x rd2 (by omega) (fun h3 f3 z3 u3' hr3 rd3 => am_an (v_X7_part_20 ?_))
          obtain ⟨y1, y2, y3, y4, y5⟩ := TxT_fx rd3.1 x
          have tyR2 := rd2.2.2.1
          have l3 := LsS_fx f3 (fun q hq z => by
            rw [z, tyR2]
            exact ⟨by decide, by decide, by decide, by decide, by decide, fun y => absurd y (by decide)⟩) ls2
          have len : ((cur ++ q.2).length : Int) ≤ 40 := by
            rw [List.length_append]
            have := wv.2.2.2.1
            omega
          have lap : ((cur ++ q.2).length : Int) = cur.length + q.2.length := by
            rw [List.length_append]
            omega
          have N2 : (am_ln h2 (am_fr h2 194 Lr)) ≤ 1000 := ls2.1.2.1
          have fr3 : fx (fun q => q = R ∨ q = B ∨ q = A) h h3 := by
            refine fx_trans2 (fx_trans2 fr f2 (fun q hq z => ?_)) f3 (fun q _ z => Or.inl z)
            rcases z with z | z | z | z
            · exact Or.inl z
            · exact Or.inr (Or.inl z)
            · exact Or.inr (Or.inr z)
            · exact absurd z (by omega)
          have hr3' : ∀ f, f ≠ 99 → am_fr h3 f R = am_fr h f R := fun f hf => (hr3 f).trans ((hr2 f).trans (hr f hf))
          have ends : ¬ (bE t n q.1 < n ∧ (97 ≤ t (bE t n q.1) ∧ t (bE t n q.1) ≤ 122)) → am_ev am_prog (d + 12) 332 [.inr (.inl R)] h3 (am_aft (am_hand m_X7_part K (am_W m_X7_part (am_ev am_prog (d + 12)) K) 26) (am_W m_X7_part (am_ev am_prog (d + 12)) K) 26 [some (.inr (.inl (R))), some (.inl (nw + 1))] []) := fun w => by
            rw [if_neg w] at pr
            refine x_row (by omega) rd3.2.2.1 ((hr3 99).trans e99'') rd3.2.1.2 l3.1 len (fun h4 r f4 z4 u4 ac => am_av (v_X7_part_27 ?_))
            refine G1 _ pr h4 r l2 (fx_trans2 fr3 f4 (fun q _ z => z.elim)) (fun f hf => ?_) (RdS_fx rd3 f4 (fun q z _ => z.elim)) hl2 ac (by omega) (by omega)
            rw [((f4.2.2.2 R rd3.2.1.2).2.2 (fun z => z)).2.1 f, hr3' f hf]
          rw [rd3.2.2.2.1, rd3.2.2.2.2.1, y3]
          refine ⟨rd3.2.2.1, ⟨Or.inl rd3.2.2.1, Or.inl y1⟩, fun w => ends (fun v => absurd v.1 (by omega)), fun w => ⟨by omega, ?_⟩⟩
          rw [y5 _ (by omega) w]
          refine ⟨fun w2 => ends (fun v => absurd v.2.1 (by omega)), fun w2 => ⟨fun w3 => ends (fun v => absurd v.2.2 (by omega)), fun w3 => ?_⟩⟩
          rw [if_pos ⟨w, w2, w3⟩] at pr
          rw [pr] at G0 G1
          exact ih (bE t n q.1) (nw + 1) (cur ++ q.2) h3 l2 (by omega) (by omega) (by omega) (by omega) len rd3 hl2 l3.1 ((hr3 99).trans e99'') fr3 hr3' (by rw [l3.2.2, lap]; omega) (by rw [l3.2.2, lap]; omega) G0 G1
      exact v_X7_part_9 ⟨fun z => ⟨rd'.2.2.1, go 0 ⟨fun _ => by omega, fun _ => rfl⟩⟩, fun z => ⟨rd'.2.2.1, go 1 ⟨fun y => absurd y (by decide), fun y => absurd y (by omega)⟩⟩⟩
  have bv := bE_v (t := t) (n := n) (a := a)
  refine x_blanks (by omega) x rd1 ha (fun h2 f2 z2 u2 hr2 rd2 => am_an ?_)
  have tyR1 := rd1.2.2.1
  have l2 := LsS_fx f2 (fun q hq z => by
    rw [z, tyR1]
    exact ⟨by decide, by decide, by decide, by decide, by decide, fun y => absurd y (by decide)⟩) ls1.1
  exact main _ (bE t n a) 0 [] h2 l (Nat.le_refl _) (by omega) (bv.1.2 ha.2) (by omega) (by show (0 : Int) ≤ 40; omega) rd2 hl l2.1 ((hr2 99).trans e99) (fx_trans2 fl f2 (fun q _ z => Or.inl z)) (fun f hf => (hr2 f).trans (hr0 f hf)) (by rw [l2.2.2, ls1.2]; show _ ≤ _ + 3 * (0 : Int); omega) (by rw [l2.2.2, ls1.2]; show _ ≤ _ + 18 * (0 : Int); omega) H0 H1
end
