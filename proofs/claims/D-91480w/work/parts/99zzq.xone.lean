set_option maxRecDepth 100000
/-! the component reads one word -/
section
variable {K : am_K} {h : am_H}
variable {h0 : am_H} {R T B A : Nat} {t : Int → Int} {n : Int} {l : List Int}
theorem x_over {a c0 : Int} {D : Nat} (hD : 14 ≤ D) (x : TxT h0 T t n) (s : RdS h0 h R T B A a c0 l) (ha : 0 ≤ a ∧ a ≤ n) (H : ∀ h' v, fx (fun q => q = R) h h' → am_sz h' = am_sz h → am_us h' = am_us h → (∀ f, am_fr h' f R = am_fr h f R) → RdS h0 h' R T B A (bE t n a) c0 l → (v = 0 → bE t n a < n) → (v ≠ 0 → n ≤ bE t n a) → K (.inl (some (.inl (v)))) h') : am_ev am_prog D 304 [.inr (.inl R)] h K := by
  have bv := bE_v (t := t) (n := n) (a := a)
  obtain ⟨d, rfl⟩ : ∃ d, D = d + 13 := ⟨D - 13, by omega⟩
  refine am_en p_X6_over rfl rfl ?_
  refine v_X6_over_0 ⟨Or.inl s.2.2.1, x_blanks (by omega) x s ha (fun h' f z u hr rd => am_an (v_X6_over_2 ?_))⟩
  obtain ⟨y1, y2, y3, y4, y5⟩ := TxT_fx rd.1 x
  rw [rd.2.2.2.1, rd.2.2.2.2.1, y3]
  exact ⟨⟨Or.inl rd.2.2.1, Or.inl y1⟩, fun e => H h' 0 f z u hr rd (fun _ => by omega) (fun w => absurd rfl w), fun e => H h' 1 f z u hr rd (fun w => absurd w (by decide)) (fun _ => by omega)⟩
theorem x_single {c0 c1 : Int} {D : Nat} (hD : 65 ≤ D) (x : TxT h0 T t n) (cs : (am_ty h0 (am_cs h0 0) = 134 ∧ am_cs h0 0 ≤ am_sz h0 ∧ am_ln h0 (am_cs h0 0) = 0)) (rd : RdS h0 h R T B A 0 c1 l) (hl : (l.length : Int) ≤ 12) (hc : 0 ≤ c0 ∧ c0 ≤ 40) (H0 : ∀ p, onR t n c0 = .inl p → ThR h0 h K p 1300 6000) (H1 : ∀ q, onR t n c0 = .inr q → ∀ h' r, fx (fun _ => False) h0 h' → arC h0 h' A t r q → (am_sz h' : Int) ≤ am_sz h + 1300 → (am_us h' : Int) ≤ am_us h + 6000 → K (.inl (some (.inr (.inl (r))))) h') : am_ev am_prog D 271 [.inr (.inl R), .inl c0] h K := by
  have n0 := x.2.2.2.1
  have ne := RdS_ne rd
  have Rz := rd.2.1.2
  -- the number of the other pieces
  have rdg : RdS h0 (am_sfi h 100 R c0) R T B A 0 c0 l := by
    obtain ⟨s1, s2, s3, s4, s5, s6, s7, s8, s9, s10⟩ := rd
    have f : fx (fun q => q = R) h (am_sfi h 100 R c0) := fx_sfi fx_refl (Or.inr rfl)
    exact ⟨fx_sfi s1 (Or.inl s2.1), s2, s3, s4, (x_fif (by decide)).trans s5, x_fie, s7, s8, xB_fx f (fun z => ne.1 z.symm) (fun z => ne.2.1 (by rw [s8] at z; exact z.symm)) s9, s10⟩
  have csg : (am_ty (am_sfi h 100 R c0) (am_cs (am_sfi h 100 R c0) 0) = 134 ∧ am_cs (am_sfi h 100 R c0) 0 ≤ am_sz (am_sfi h 100 R c0) ∧ am_ln (am_sfi h 100 R c0) (am_cs (am_sfi h 100 R c0) 0) = 0) := by
    have k := rd.1.2.2.2 _ cs.2.1
    have e := rd.1.2.2.1
    show am_ty h (am_cs h 0) = 134 ∧ am_cs h 0 ≤ am_sz h ∧ am_ln h (am_cs h 0) = 0
    rw [e]
    exact ⟨k.1.trans cs.1, Nat.le_trans cs.2.1 rd.1.1, k.2.1.trans cs.2.2⟩
  have nl : fx (fun _ => False) (am_sfi h 100 R c0) (am_sfr (am_sfi (am_new (am_sfi h 100 R c0) 31 3) 193 (am_sz h + 1) 0) 194 (am_sz h + 1) (am_cs h 0)) ∧ xLm (am_sfr (am_sfi (am_new (am_sfi h 100 R c0) 31 3) 193 (am_sz h + 1) 0) 194 (am_sz h + 1) (am_cs h 0)) (am_sz h + 1) ∧ am_fi (am_sfr (am_sfi (am_new (am_sfi h 100 R c0) 31 3) 193 (am_sz h + 1) 0) 194 (am_sz h + 1) (am_cs h 0)) 195 (am_sz h + 1) = 0 ∧ am_fi (am_sfr (am_sfi (am_new (am_sfi h 100 R c0) 31 3) 193 (am_sz h + 1) 0) 194 (am_sz h + 1) (am_cs h 0)) 193 (am_sz h + 1) = 0 ∧ (am_ln (am_sfr (am_sfi (am_new (am_sfi h 100 R c0) 31 3) 193 (am_sz h + 1) 0) 194 (am_sz h + 1) (am_cs h 0)) (am_fr (am_sfr (am_sfi (am_new (am_sfi h 100 R c0) 31 3) 193 (am_sz h + 1) 0) 194 (am_sz h + 1) (am_cs h 0)) 194 (am_sz h + 1))) = 0 := nwL (h := (am_sfi h 100 R c0)) csg
  obtain ⟨d, rfl⟩ : ∃ d, D = d + 13 := ⟨D - 13, by omega⟩
  refine am_en p_X7_single rfl rfl ?_
  refine v_X7_single_0 ⟨rd.2.2.1, Rz, ?_⟩
  have fg : fx (fun q => q = R ∨ q = B ∨ q = A) h (am_sfi h 100 R c0) := fx_sfi fx_refl (Or.inr (Or.inl rfl))
  have rd1 : RdS h0 (am_sfr (am_sfr (am_sfi (am_new (am_sfi h 100 R c0) 31 3) 193 (am_sz h + 1) 0) 194 (am_sz h + 1) (am_cs h 0)) 99 R (am_sz h + 1)) R T B A 0 c0 l := by
    have r1 := RdS_fx rdg nl.1 (fun q z _ => z.elim)
    obtain ⟨s1, s2, s3, s4, s5, s6, s7, s8, s9, s10⟩ := r1
    have f : fx (fun q => q = R) (am_sfr (am_sfi (am_new (am_sfi h 100 R c0) 31 3) 193 (am_sz h + 1) 0) 194 (am_sz h + 1) (am_cs h 0)) (am_sfr (am_sfr (am_sfi (am_new (am_sfi h 100 R c0) 31 3) 193 (am_sz h + 1) 0) 194 (am_sz h + 1) (am_cs h 0)) 99 R (am_sz h + 1)) := fx_sfr fx_refl (Or.inr rfl)
    refine ⟨fx_sfr s1 (Or.inl s2.1), s2, s3, (x_frf (by decide)).trans s4, s5, s6, (x_frf (by decide)).trans s7, (x_frf (by decide)).trans s8, xB_fx f (fun z => ne.1 z.symm) (fun z => ?_) s9, s10⟩
    rw [s8] at z
    exact ne.2.1 z.symm
  have ls1 : LsS h0 (am_sfr (am_sfr (am_sfi (am_new (am_sfi h 100 R c0) 31 3) 193 (am_sz h + 1) 0) 194 (am_sz h + 1) (am_cs h 0)) 99 R (am_sz h + 1)) (am_sz h + 1) A t [] ∧ (am_ln (am_sfr (am_sfr (am_sfi (am_new (am_sfi h 100 R c0) 31 3) 193 (am_sz h + 1) 0) 194 (am_sz h + 1) (am_cs h 0)) 99 R (am_sz h + 1)) (am_fr (am_sfr (am_sfr (am_sfi (am_new (am_sfi h 100 R c0) 31 3) 193 (am_sz h + 1) 0) 194 (am_sz h + 1) (am_cs h 0)) 99 R (am_sz h + 1)) 194 (am_sz h + 1))) = 0 := by
    have ls0 : LsS h0 (am_sfr (am_sfi (am_new (am_sfi h 100 R c0) 31 3) 193 (am_sz h + 1) 0) 194 (am_sz h + 1) (am_cs h 0)) (am_sz h + 1) A t [] := ⟨nl.2.1, by have := rd.1.1; omega, nl.2.2.1, Or.inl nl.2.2.2.2, by rw [nl.2.2.2.1]; exact ⟨Int.le_refl _, Int.le_refl _⟩, fun k hk => absurd hk (Nat.not_lt_zero _)⟩
    have f : fx (fun q => q = R) (am_sfr (am_sfi (am_new (am_sfi h 100 R c0) 31 3) 193 (am_sz h + 1) 0) 194 (am_sz h + 1) (am_cs h 0)) (am_sfr (am_sfr (am_sfi (am_new (am_sfi h 100 R c0) 31 3) 193 (am_sz h + 1) 0) 194 (am_sz h + 1) (am_cs h 0)) 99 R (am_sz h + 1)) := fx_sfr fx_refl (Or.inr rfl)
    have tyR : am_ty (am_sfr (am_sfi (am_new (am_sfi h 100 R c0) 31 3) 193 (am_sz h + 1) 0) 194 (am_sz h + 1) (am_cs h 0)) R = 6 := (nl.1.2.2.2 R Rz).1.trans rd.2.2.1
    have k := LsS_fx f (fun q hq z => by
      rw [z, tyR]
      exact ⟨by decide, by decide, by decide, by decide, by decide, fun y => absurd y (by decide)⟩) ls0
    exact ⟨k.1, k.2.2.trans nl.2.2.2.2⟩
  have e99 : am_fr (am_sfr (am_sfr (am_sfi (am_new (am_sfi h 100 R c0) 31 3) 193 (am_sz h + 1) 0) 194 (am_sz h + 1) (am_cs h 0)) 99 R (am_sz h + 1)) 99 R = am_sz h + 1 := x_fre
  have zl : am_sz (am_sfr (am_sfr (am_sfi (am_new (am_sfi h 100 R c0) 31 3) 193 (am_sz h + 1) 0) 194 (am_sz h + 1) (am_cs h 0)) 99 R (am_sz h + 1)) = am_sz h + 1 := rfl
  have ul : am_us (am_sfr (am_sfr (am_sfi (am_new (am_sfi h 100 R c0) 31 3) 193 (am_sz h + 1) 0) 194 (am_sz h + 1) (am_cs h 0)) 99 R (am_sz h + 1)) = am_us h + 3 := rfl
  generalize hh1 : am_sfr (am_sfr (am_sfi (am_new (am_sfi h 100 R c0) 31 3) 193 (am_sz h + 1) 0) 194 (am_sz h + 1) (am_cs h 0)) 99 R (am_sz h + 1) = h1 at *
  generalize hLr : am_sz h + 1 = Lr at *
  have bv := bE_v (t := t) (n := n) (a := 0)
  refine x_blanks (by omega) x rd1 (by omega) (fun h2 f2 z2 u2 hr2 rd2 => am_an (v_X7_single_10 ⟨rd2.2.2.1, ?_⟩))
  have tyR1 := rd1.2.2.1
  have l2 := LsS_fx f2 (fun q hq z => by
    rw [z, tyR1]
    exact ⟨by decide, by decide, by decide, by decide, by decide, fun y => absurd y (by decide)⟩) ls1.1
  have LN2 : (am_ln h2 (am_fr h2 194 Lr)) = 0 := l2.2.2.trans ls1.2
  have en : c0 + (([] : List am_Pz).length : Int) = c0 := by
    show c0 + 0 = c0
    omega
  refine x_word (m := 1) (w := 0) (by omega) (Nat.le_refl _) x rd2 hl l2.1 ((hr2 99).trans e99) (by omega) hc.1 (by omega) (fun p hp h3 E g1 g2 g3 g4 g5 g6 => am_ax rfl ?_) (fun q hq h3 l3 f3 hr3 rd3 hl3 ls3 cz3 cu3 => am_an (v_X7_single_13 ⟨rd3.2.2.1, ?_⟩))
  · rw [LN2, en] at g5 g6
    rw [en] at hp
    have hp2 : onR t n c0 = .inl p := by
      by_cases c : (bE t n 0) < n ∧ (97 ≤ t ((bE t n 0)) ∧ t ((bE t n 0)) ≤ 122)
      · rw [if_neg (fun z => z.elim (by decide) (fun w => w c))] at hp
        exact onR_l c hp
      · rw [if_pos (Or.inr c)] at hp
        rw [onR_0 c]
        cases hp
        rfl
    exact H0 p hp2 h3 E g1 g2 g3 g4 (by omega) (by omega)
  · rw [LN2] at cz3 cu3
    rw [en] at hq
    have c : (bE t n 0) < n ∧ (97 ≤ t ((bE t n 0)) ∧ t ((bE t n 0)) ≤ 122) := Classical.byContradiction fun c => by
      rw [if_pos (Or.inr c)] at hq
      cases hq
    rw [if_neg (fun z => z.elim (by decide) (fun w => w c))] at hq
    have wv := wdR_v (n - (bE t n 0)).toNat (bE t n 0) c0 (Nat.le_refl _) c hc.2 q hq
    have er := onR_r c hq
    have N3 : (am_ln h3 (am_fr h3 194 Lr)) ≤ 1000 := ls3.1.2.1
    have ql := wv.2.2.2.1
    refine x_over (by omega) x rd3 (by omega) (fun h4 v f4 z4 u4 hr4 rd4 hv0 hv1 => am_av (v_X7_single_15 ⟨fun e => ⟨rd4.2.2.1, ?_⟩, fun e => ⟨⟨rd4.2.1.2, rd4.2.2.1⟩, ?_⟩⟩))
    · rw [if_pos (hv1 e)] at er
      have tyR3 := rd3.2.2.1
      have l4 := LsS_fx f4 (fun q hq z => by
        rw [z, tyR3]
        exact ⟨by decide, by decide, by decide, by decide, by decide, fun y => absurd y (by decide)⟩) ls3
      rw [List.nil_append] at l4
      refine x_row (by omega) rd4.2.2.1 ((hr4 99).trans ((hr3 99).trans ((hr2 99).trans e99))) rd4.2.1.2 l4.1 (by omega) (fun h5 r f5 z5 u5 ac => am_av (v_X7_single_24 ?_))
      exact H1 q.2 er h5 r (fx_trans2 rd4.1 f5 (fun _ _ z => z.elim)) ac (by omega) (by omega)
    · rw [if_neg (by have := hv0 e; omega)] at er
      rw [rd4.2.2.2.2.1]
      refine x_err (by omega) (x_tyn0 rfl) (fun h5 f5 z5 u5 ty5 e107 => am_an (v_X7_single_21 ⟨by omega, ?_⟩))
      refine H0 _ er h5 _ (fx_trans2 (fx_new rd4.1) f5 (fun q hq z => ?_)) ty5 (by omega) e107 (by rw [z5, x_sz_new]; omega) (by rw [u5, x_us_new]; omega)
      have := rd4.1.1
      omega
end
