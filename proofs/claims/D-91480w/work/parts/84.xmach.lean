set_option maxRecDepth 100000
/-- cells of the night, its parts, slugs, machines, rows are others -/
theorem Nt_all {X : Nat → Prop} {h h' : am_H} {L L' : am_Lb} {x P N : Nat} {S S' : am_G} {B B' : Int} (t : Nt h L x P N S B) (hB : B ≤ B') (a : fx X h h') (le : leL h L L') (ok2 : okLb h' L') (hX : ∀ q, q ≤ am_sz h → X q → (L q).1 = N ∧ ((L q).2.1 = 0 ∨ (L q).2.1 = 3 ∨ (L q).2.1 = 4 ∨ (L q).2.1 = 5 ∨ (L q).2.1 = 10)) (hr : ∀ f, am_fr h' f N = am_fr h f N) (eS : S' 1 = S 1 ∧ S' 6 = S 6 ∧ S' 7 = S 7 ∧ S' 8 = S 8 ∧ S' 9 = S 9) (e0 : S' 0 0 2 = S 0 0 2 ∧ S' 0 0 5 = S 0 0 5 ∧ S' 0 0 6 = S 0 0 6) (y0 : rN h' L' N P S') (y3 : rP h' L' N (am_fr h 20 N) S') (y5 : rM h' L' N (am_fr h 23 N) S' B') (y4 : rG h' L' N (am_fr h 25 N) S' B') (y10 : rR h' L' N (am_fr h 30 N) (am_fr h 31 N) S') : Nt h' L' x P N S' B' := by
  obtain ⟨t1, t2, t3, ⟨x1, x2, x3, x4, x5, x6, x7, x8, x9, x10⟩, t5⟩ := t
  have z : ∀ g, g ≠ 0 → g ≠ 3 → g ≠ 4 → g ≠ 5 → g ≠ 10 → ∀ q, q ≤ am_sz h → X q → zf L N g q := fun g g0 g3 g4 g5 g10 q hq w => ⟨by rw [(hX q hq w).1]; exact t5.2.2, fun u => by
    have := (hX q hq w).2
    rw [u.2] at this
    omega⟩
  exact ⟨ok2, cs_fx a t2, rPap_fx a le (fun q hq w u => t5.1 (u.1.symm.trans (hX q hq w).1)) t3, Rep_mk (h := h) hr ⟨y0, rW_fx a le t1 t2.1 (z 1 (by decide) (by decide) (by decide) (by decide) (by decide)) eS.1 x2, y3, rY_fx a le t1 t2.1 (z 6 (by decide) (by decide) (by decide) (by decide) (by decide)) hB e0.1 eS.2.1 x4, y5, y4, rT_fx a le t1 t2.1 (z 7 (by decide) (by decide) (by decide) (by decide) (by decide)) hB e0.2.1 eS.2.2.1 x7, rH_fx a le t1 t2.1 (z 8 (by decide) (by decide) (by decide) (by decide) (by decide)) eS.2.2.2.1 x8, rE_fx a le t1 t2.1 (z 9 (by decide) (by decide) (by decide) (by decide) (by decide)) hB e0.2.2 eS.2.2.2.2 x9, y10⟩, t5⟩
/-- a machine, the row of machines may be another -/
theorem rMc_fx2 {X : Nat → Prop} {h h' : am_H} {L L' : am_Lb} {N : Nat} (a : fx X h h') (le : leL h L L') (ok : okLb h L) {m : Nat} {k B B' : Int} (hB : B ≤ B') {S S' : am_G} (e5 : S' 5 k = S 5 k) (eb : ∀ i, 0 ≤ i → i < S 5 k 29 → bhd S' k i = bhd S k i) (c0 : am_ty h (am_cs h 0) = 134) (hz : ∀ q, q ≤ am_sz h → X q → (L q).1 ≠ 0 ∧ ¬ ((L q).1 = N ∧ (L q).2.1 = 5 ∧ (L q).2.2.1 ≠ 0 ∧ (L q).2.2.2 = k)) (x : rMc h L N S k m B) : rMc h' L' N S' k m B' := by
  obtain ⟨x1, x2, x3, x4, x5, x6, x7, x8, x9, x10, x11, x12⟩ := x
  have nn : ∀ q t kd, nd h L q t N 5 kd k → kd ≠ 0 → ¬ X q := fun q t kd x k0 z => (hz q x.2.1 z).2 (by rw [x.2.2.2]; exact ⟨rfl, rfl, k0, rfl⟩)
  have y := nd_fx a le x1 (nn _ _ _ x1 (by decide))
  have w := nd_fx a le x2 (nn _ _ _ x2 (by decide))
  have l1 : ¬ X (am_fr h 147 m) := fun z => (hz _ x10.1.1.2.2.2.2.1 z).2 (by rw [x10.2.2.1]; exact ⟨rfl, rfl, by show (3 : Nat) ≠ 0; decide, rfl⟩)
  have l2 : ¬ X (am_fr h 194 (am_fr h 147 m)) := fun z => by
    have zz := hz _ x10.1.1.2.2.2.2.2 z
    by_cases c : 0 < am_ln h (am_fr h 194 (am_fr h 147 m))
    · exact zz.2 (by rw [x10.2.2.2.1 c]; exact ⟨rfl, rfl, by show (4 : Nat) ≠ 0; decide, rfl⟩)
    · have e := x10.1.2.2.1 (by have := x10.1.1.2.2.1; omega)
      have e2 := x10.1.1.2.2.2.2.2
      rw [e] at zz e2
      exact zz.1 (ok.2.1 _ e2 (by unfold imT; omega))
  have r := rL_fx a le hB x10 l1 l2
  unfold rMc rQ
  rw [y.2.2.1, y.2.2.1, y.2.2.1, y.2.2.1, y.2.2.1, y.2.2.2.1, y.2.2.2.1, w.2.1, w.2.2.2.2.1, e5, r.2.1, r.2.2]
  refine ⟨y.1, w.1, x3, x4, x5, x6, x7, x8, x9, r.1, fun i i1 i2 => ?_, x12⟩
  have xj := x11 i i1 i2
  exact rJ_fx a le (fun o _ _ => by rw [e5]) (eb i i1 i2) xj (nn _ _ _ xj.1 (by decide))
section
variable {K : am_K} {h : am_H}
/-- a machine is set up -/
theorem X_machine {L : am_Lb} {x P N : Nat} {S : am_G} {B : Int} {S' : am_G} {v w : Int} {D : Nat} (hD : 90 ≤ D) (t : Nt h L x P N S B) (hx : am_ty h x = 1) (hN : am_fr h 1 x = N) (hC : okC S) (hz : x ≤ am_sz h) (hl : L x = (x, 0, 0, 0)) (hB : B ≤ 1000000) (eS : ∀ c, c ≠ 5 → c ≠ 0 → S' c = S c) (e0 : ∀ j, j ≠ 3 → S' 0 0 j = S 0 0 j) (e3 : S' 0 0 3 = (S 0 0 3) + 1) (e5 : ∀ q, q ≠ (S 0 0 3) → S' 5 q = S 5 q) (eb : ∀ c, 0 ≤ c → c < 27 → S' 5 (S 0 0 3) c = v) (e27 : S' 5 (S 0 0 3) 27 = w) (ez : S' 5 (S 0 0 3) 28 = 0 ∧ S' 5 (S 0 0 3) 29 = 0 ∧ S' 5 (S 0 0 3) 30 = 0 ∧ S' 5 (S 0 0 3) 31 = 0 ∧ S' 5 (S 0 0 3) 32 = 0) (H0 : ¬ ((0 ≤ v ∧ v ≤ 40) ∧ (0 ≤ w ∧ w ≤ 9)) → XT h L x P N S B K 35) (H2 : (0 ≤ v ∧ v ≤ 40) ∧ (0 ≤ w ∧ w ≤ 9) → (S 0 0 3) = 4 → XT h L x P N S B K 37) (H1 : (0 ≤ v ∧ v ≤ 40) ∧ (0 ≤ w ∧ w ≤ 9) → (S 0 0 3) ≠ 4 → XA h L x P N S' B K (S 0 0 3) 3 37) (hB0 : 0 ≤ B) : am_ev am_prog D 135 [.inr (.inl x), .inl v, .inl w] h K := by
  obtain ⟨x1, x2, x3, x4, x5, x6, x7, x8, x9, x10⟩ := t.2.2.2.1
  have c3 := hC.2.2.1
  have cs := t.2.1
  obtain ⟨d, rfl⟩ : ∃ d, D = d + 13 := ⟨D - 13, by omega⟩
  refine am_en p_X1_machine rfl rfl ?_
  refine v_X1_machine_0 ?_
  rw [hN, x1.2.2.2.2.1]
  refine ⟨fun c => XT_go t (H0 (by omega)), fun c => ⟨fun dd => XT_go t (H0 (by omega)), fun dd => ⟨⟨hx, x1.1.1⟩, fun e => XT_go t (H2 (by omega) (by omega)), fun e => ?_⟩⟩⟩
  have HH := H1 (by omega) (by omega)
  have main : ∀ k, 0 ≤ k → k ≤ 27 → ∀ hk, fx (fun _ => False) h hk → am_sz hk = am_sz h + 3 → am_us hk = am_us h + 37 → (am_ty hk (am_sz h + 1) = 21 ∧ am_ty hk (am_sz h + 1 + 1) = 101 ∧ am_ty hk (am_sz h + 1 + 1 + 1) = 31 ∧ am_ln hk (am_sz h + 1 + 1) = 27) → (am_fr hk 144 (am_sz h + 1) = (am_sz h + 1 + 1) ∧ am_fr hk 147 (am_sz h + 1) = (am_sz h + 1 + 1 + 1) ∧ am_fr hk 194 (am_sz h + 1 + 1 + 1) = am_cs h 0) → (am_fi hk 145 (am_sz h + 1) = w ∧ am_fi hk 146 (am_sz h + 1) = 0 ∧ am_fi hk 148 (am_sz h + 1) = 0 ∧ am_fi hk 149 (am_sz h + 1) = 0 ∧ am_fi hk 150 (am_sz h + 1) = 0 ∧ am_fi hk 193 (am_sz h + 1 + 1 + 1) = 0 ∧ am_fi hk 195 (am_sz h + 1 + 1 + 1) = 0) → (∀ c, 0 ≤ c → c < k → am_ai hk (am_sz h + 1 + 1) c = v) → am_W m_X1_machine (am_ev am_prog (d + 12)) K 30 [some (.inr (.inl (x))), some (.inl (v)), some (.inl (w)), some (.inr (.inl ((am_sz h + 1)))), some (.inl (k))] [] hk := by
    refine lp_z ?_ ?_
    · intro k k1 k2 hL hk a z u ty fr fi ai
      refine v_X1_machine_30 ?_
      rw [fr.1, ty.2.2.2]
      refine ⟨fun f => absurd f (by omega), fun _ => ⟨⟨ty.1, ty.2.1, by omega⟩, by omega, ?_⟩⟩
      refine hL _ (fx_sai a (Or.inl (by omega))) z u ty fr fi (fun c c1 c2 => ?_)
      rw [x_aise]
      by_cases ec : c = k
      · rw [ec, am_uz_eq]
      · rw [am_uz_ne ec]
        exact ai c c1 (by omega)
    · intro hk a z u ty fr fi ai
      have hNk : am_fr hk 1 x = N := (((a.2.2.2 x hz).2.2 id).2.1 1).trans hN
      have aN := a.2.2.2 N x1.1.2.1
      have aM := a.2.2.2 _ x5.1.2.1
      have e23 : am_fr hk 23 N = am_fr h 23 N := (aN.2.2 id).2.1 23
      have e24 : am_fi hk 24 N = (S 0 0 3) := ((aN.2.2 id).1 24).trans x1.2.2.2.2.1
      refine v_X1_machine_30 ?_
      rw [hNk, e23, e24]
      refine ⟨fun _ => ⟨⟨(a.2.2.2 x hz).1.trans hx, aN.1.trans x1.1.1, aM.1.trans x5.1.1, Or.inr (by rw [ty.1]; simp [am_tin]), by rw [aM.2.1, x5.2.1]; omega⟩, by omega, by omega, ?_⟩, fun f => absurd f (by omega)⟩
      have en : (S 0 0 3) + 1 - 1 = (S 0 0 3) := by omega
      rw [en]
      -- labels of the new cells
      generalize hL1 : (fun q => if q = (am_sz h + 1) then (N, 5, 1, (S 0 0 3)) else if q = (am_sz h + 1 + 1) then (N, 5, 2, (S 0 0 3)) else if q = (am_sz h + 1 + 1 + 1) then (N, 5, 3, (S 0 0 3)) else L q : am_Lb) = L1
      have l1 : L1 (am_sz h + 1) = (N, 5, 1, (S 0 0 3)) := by rw [← hL1]; exact if_pos rfl
      have l2 : L1 (am_sz h + 1 + 1) = (N, 5, 2, (S 0 0 3)) := by rw [← hL1]; exact (if_neg (by omega)).trans (if_pos rfl)
      have l3 : L1 (am_sz h + 1 + 1 + 1) = (N, 5, 3, (S 0 0 3)) := by rw [← hL1]; exact (if_neg (by omega)).trans ((if_neg (by omega)).trans (if_pos rfl))
      have lo : ∀ q, q ≠ (am_sz h + 1) → q ≠ (am_sz h + 1 + 1) → q ≠ (am_sz h + 1 + 1 + 1) → L1 q = L q := fun q q1 q2 q3 => by rw [← hL1]; exact (if_neg q1).trans ((if_neg q2).trans (if_neg q3))
      have le : leL h L L1 := fun q hq => lo q (by omega) (by omega) (by omega)
      generalize hh3 : am_sfi (am_sar hk (am_fr h 23 N) (S 0 0 3) (am_sz h + 1)) 24 N ((S 0 0 3) + 1) = h3
      have a3 : fx (fun q => q = am_fr h 23 N ∨ q = N) h h3 := by
        rw [← hh3]
        exact fx_sfi (fx_sar (fx_sub a (fun _ _ z => z.elim)) (Or.inr (Or.inl rfl))) (Or.inr (Or.inr rfl))
      have z3 : am_sz h3 = am_sz h + 3 := by rw [← hh3]; exact z
      have u3' : am_us h3 = am_us h + 37 := by rw [← hh3]; exact u
      have nMN : am_fr h 23 N ≠ N := fun z => by
        have e1 := x5.1.1
        rw [z, x1.1.1] at e1
        exact absurd e1 (by decide)
      have sM := x5.1.2.1
      have sN := x1.1.2.1
      -- what stands in the new cells
      have ty3 : am_ty h3 (am_sz h + 1) = 21 ∧ am_ty h3 (am_sz h + 1 + 1) = 101 ∧ am_ty h3 (am_sz h + 1 + 1 + 1) = 31 ∧ am_ln h3 (am_sz h + 1 + 1) = 27 := by rw [← hh3]; exact ty
      have fr3 : am_fr h3 144 (am_sz h + 1) = (am_sz h + 1 + 1) ∧ am_fr h3 147 (am_sz h + 1) = (am_sz h + 1 + 1 + 1) ∧ am_fr h3 194 (am_sz h + 1 + 1 + 1) = am_cs h 0 := by rw [← hh3]; exact fr
      have fi3 : ∀ f q, q ≠ N → am_fi h3 f q = am_fi hk f q := fun f q hq => by
        rw [← hh3]
        by_cases f24 : f = 24
        · rw [f24, x_fir hq]
          rfl
        · rw [x_fif f24]
          rfl
      have ai3 : am_ai h3 (am_sz h + 1 + 1) = am_ai hk (am_sz h + 1 + 1) := by rw [← hh3]; rfl
      have ar3 : am_ar h3 (am_fr h 23 N) = am_uz (am_ar h (am_fr h 23 N)) (S 0 0 3) (am_sz h + 1) := by
        rw [← hh3]
        have e1 : am_ar (am_sar hk (am_fr h 23 N) (S 0 0 3) (am_sz h + 1)) (am_fr h 23 N) = am_uz (am_ar hk (am_fr h 23 N)) (S 0 0 3) (am_sz h + 1) := x_arse
        rw [(aM.2.2 id).2.2.2] at e1
        exact e1
      have csl := a3.2.2.2 _ cs.2.1
      have ncs : ∀ q, imT (am_ty h q) → ¬ (q = am_fr h 23 N ∨ q = N) := fun q y z => by
        rcases z with e | e
        · rw [e, x5.1.1] at y
          unfold imT at y
          omega
        · rw [e, x1.1.1] at y
          unfold imT at y
          omega
      have ok2 : okLb h3 L1 := by
        refine ⟨(a3.2.2.2 0 (Nat.zero_le _)).1.trans t.1.1, fun q hq y => ?_, fun q hq => ?_⟩
        · by_cases q1 : q = (am_sz h + 1)
          · rw [q1, ty3.1] at y
            unfold imT at y
            omega
          · by_cases q2 : q = (am_sz h + 1 + 1)
            · rw [q2, ty3.2.1] at y
              unfold imT at y
              omega
            · by_cases q3 : q = (am_sz h + 1 + 1 + 1)
              · rw [q3, ty3.2.2.1] at y
                unfold imT at y
                omega
              · rw [lo q q1 q2 q3]
                rw [(a3.2.2.2 q (by omega)).1] at y
                exact t.1.2.1 q (by omega) y
        · rw [lo q (by omega) (by omega) (by omega)]
          exact t.1.2.2 q (by omega)
      have hX : ∀ q, q ≤ am_sz h → (q = am_fr h 23 N ∨ q = N) → (L q).1 = N ∧ ((L q).2.1 = 0 ∨ (L q).2.1 = 5) ∧ (L q).2.2.1 = 0 := fun q hq z => by
        rcases z with e | e
        · rw [e, x5.1.2.2.2]
          exact ⟨rfl, Or.inr rfl, rfl⟩
        · rw [e, x1.1.2.2.2]
          exact ⟨rfl, Or.inl rfl, rfl⟩
      have zf' : ∀ g, g ≠ 0 → g ≠ 5 → ∀ q, q ≤ am_sz h → (q = am_fr h 23 N ∨ q = N) → zf L N g q := fun g g0 g5 q hq w => ⟨by rw [(hX q hq w).1]; exact t.2.2.2.2.2.2, fun u => by
        have := (hX q hq w).2.1
        rw [u.2] at this
        omega⟩
      have hrN : ∀ f, am_fr h3 f N = am_fr h f N := fun f => by
        rw [← hh3]
        exact (aN.2.2 id).2.1 f
      have es4 := eS 4 (by decide) (by decide)
      have t' : Nt h3 L1 x P N S' B := by
        refine Nt_all t (Int.le_refl _) a3 le ok2 (fun q hq z => ⟨(hX q hq z).1, by have := (hX q hq z).2.1; omega⟩) hrN ⟨eS 1 (by decide) (by decide), eS 6 (by decide) (by decide), eS 7 (by decide) (by decide), eS 8 (by decide) (by decide), eS 9 (by decide) (by decide)⟩ ⟨e0 2 (by decide), e0 5 (by decide), e0 6 (by decide)⟩ ?_ ?_ ?_ ?_ ?_
        · have f3 : ∀ f, f ≠ 24 → am_fi h3 f N = am_fi h f N := fun f hf => by
            rw [← hh3, x_fif hf]
            exact (aN.2.2 id).1 f
          refine ⟨(nd_fy a3 le x1.1).1, (hrN 17).trans x1.2.1, ?_, ?_, ?_, ?_, ?_⟩
          · rw [f3 18 (by decide), e0 0 (by decide)]
            exact x1.2.2.1
          · rw [f3 21 (by decide), e0 1 (by decide)]
            exact x1.2.2.2.1
          · rw [← hh3, x_fie, e3]
          · rw [f3 32 (by decide), e0 7 (by decide)]
            exact x1.2.2.2.2.2.1
          · rw [f3 29 (by decide), crN_c es4 (e0 4 (by decide))]
            exact x1.2.2.2.2.2.2
        · exact rP_fx a3 le t.1 cs.1 (zf' 3 (by decide) (by decide)) (e0 1 (by decide)) (eS 2 (by decide) (by decide)) (eS 3 (by decide) (by decide)) x3
        · refine ⟨(nd_fy a3 le x5.1).1, (a3.2.2.2 _ sM).2.1.trans x5.2.1, fun k k1 k2 => ?_⟩
          rw [e3] at k2
          rw [ar3]
          by_cases ek : k = (S 0 0 3)
          · rw [ek, am_uz_eq]
            have q1 : (am_sz h + 1) ≠ N := by omega
            have q3 : (am_sz h + 1 + 1 + 1) ≠ N := by omega
            unfold rMc rQ
            rw [fr3.1, fr3.2.1, fi3 145 _ q1, fi3 146 _ q1, fi3 148 _ q1, fi3 149 _ q1, fi3 150 _ q1, ai3, ty3.2.2.2, e27, ez.1, ez.2.1, ez.2.2.1, ez.2.2.2.1, ez.2.2.2.2]
            refine ⟨⟨ty3.1, by omega, by omega, l1⟩, ⟨ty3.2.1, by omega, by omega, l2⟩, rfl, fun c c1 c2 => ?_, fi.1, fi.2.1, fi.2.2.1, fi.2.2.2.1, fi.2.2.2.2.1, ?_, fun i i1 i2 => absurd i2 (by omega), fun i j i1 i2 i3 => absurd i3 (by omega)⟩
            · rw [ai c c1 c2, eb c c1 c2]
            · have e195 : am_fi h3 195 (am_sz h + 1 + 1 + 1) = 0 := (fi3 195 _ q3).trans fi.2.2.2.2.2.2
              have e193 : am_fi h3 193 (am_sz h + 1 + 1 + 1) = 0 := (fi3 193 _ q3).trans fi.2.2.2.2.2.1
              have ln0 : am_ln h3 (am_cs h 0) = 0 := csl.2.1.trans cs.2.2
              have tc : am_ty h3 (am_cs h 0) = 134 := csl.1.trans cs.1
              unfold rL xLm xL
              rw [fr3.2.2, e195, e193, ln0, tc, ty3.2.2.1, a3.2.2.1]
              exact ⟨⟨⟨rfl, Or.inr rfl, ⟨Int.le_refl _, Int.le_refl _⟩, by decide, by omega, by have := cs.2.1; omega⟩, by decide, fun _ => rfl, fun z => absurd z (by decide)⟩, by omega, l3, fun z => absurd z (by decide), rfl, Int.le_refl _, hB0⟩
          · rw [am_uz_ne ek]
            refine rMc_fx2 a3 le t.1 (Int.le_refl _) (e5 k ek) (fun i i1 i2 => ?_) cs.1 (fun q hq z => ⟨by rw [(hX q hq z).1]; exact t.2.2.2.2.2.2, fun u => u.2.2.1 (hX q hq z).2.2⟩) (x5.2.2 k k1 (by omega))
            unfold bhd
            rw [e5 k ek, eS 3 (by decide) (by decide)]
        · exact rG_fx a3 le t.1 cs.1 (zf' 4 (by decide) (by decide)) (Int.le_refl _) (e0 4 (by decide)) (fun _ _ _ => by rw [eS 2 (by decide) (by decide)]) es4 x6
        · exact rR_fx a3 le t.1 cs.1 (zf' 10 (by decide) (by decide)) (e0 7 (by decide)) (eS 10 (by decide) (by decide)) (fun i k _ _ _ _ => by rw [e0 4 (by decide)]; exact lsG_c es4 _) x10
      refine HH h3 L1 t' ⟨fx_sub a3 (fun q hq z => Or.inl (hX q hq z).1), le, ⟨by omega, by omega⟩, fun q hq => ?_⟩
      by_cases q1 : q = (am_sz h + 1)
      · rw [q1, l1]
        exact Or.inr (Or.inl rfl)
      · by_cases q2 : q = (am_sz h + 1 + 1)
        · rw [q2, l2]
          exact Or.inr (Or.inl rfl)
        · by_cases q3 : q = (am_sz h + 1 + 1 + 1)
          · rw [q3, l3]
            exact Or.inr (Or.inl rfl)
          · rw [lo q q1 q2 q3]
            exact Or.inl (t.1.2.2 q hq)
  have aa : fx (fun _ => False) h (am_sfi (am_sfr (am_sfr (am_sfi (am_new (am_sfr (am_new (am_new h 21 7) 101 27) 144 (am_sz h + 1) (am_sz h + 1 + 1)) 31 3) 193 (am_sz h + 1 + 1 + 1) 0) 194 (am_sz h + 1 + 1 + 1) (am_cs h 0)) 147 (am_sz h + 1) (am_sz h + 1 + 1 + 1)) 145 (am_sz h + 1) w) := fx_sfi (fx_sfr (fx_sfr (fx_sfi (fx_new (fx_sfr (fx_new (fx_new fx_refl)) (Or.inl (by omega)))) (Or.inl (by omega))) (Or.inl (by omega))) (Or.inl (by omega))) (Or.inl (by omega))
  have s1 : (am_sz h + 1) ≤ am_sz (am_sfr (am_new (am_new h 21 7) 101 27) 144 (am_sz h + 1) (am_sz h + 1 + 1)) := Nat.le_succ _
  have s2 : (am_sz h + 1 + 1) ≤ am_sz (am_sfr (am_new (am_new h 21 7) 101 27) 144 (am_sz h + 1) (am_sz h + 1 + 1)) := Nat.le_refl _
  have rd : ∀ f, f ≠ 145 → f ≠ 193 → am_fi (am_sfi (am_sfr (am_sfr (am_sfi (am_new (am_sfr (am_new (am_new h 21 7) 101 27) 144 (am_sz h + 1) (am_sz h + 1 + 1)) 31 3) 193 (am_sz h + 1 + 1 + 1) 0) 194 (am_sz h + 1 + 1 + 1) (am_cs h 0)) 147 (am_sz h + 1) (am_sz h + 1 + 1 + 1)) 145 (am_sz h + 1) w) f (am_sz h + 1) = 0 := fun f f1 f2 => (x_fif f1).trans ((show am_fi (am_sfi (am_new (am_sfr (am_new (am_new h 21 7) 101 27) 144 (am_sz h + 1) (am_sz h + 1 + 1)) 31 3) 193 (am_sz h + 1 + 1 + 1) 0) f (am_sz h + 1) = _ from x_fif f2).trans ((x_fin s1).trans ((show am_fi (am_new (am_new h 21 7) 101 27) f (am_sz h + 1) = _ from x_fin (Nat.le_refl _)).trans (x_fin0 rfl))))
  refine main 0 (by omega) (by omega) _ aa rfl rfl ⟨?_, ?_, ?_, ?_⟩ ⟨?_, ?_, ?_⟩ ⟨x_fie, rd 146 (by decide) (by decide), rd 148 (by decide) (by decide), rd 149 (by decide) (by decide), rd 150 (by decide) (by decide), ?_, ?_⟩ (fun c c1 c2 => absurd c2 (by omega))
  · exact (x_tyn (t := 31) (n := 3) s1).trans ((show am_ty (am_new (am_new h 21 7) 101 27) (am_sz h + 1) = _ from x_tyn (Nat.le_refl _)).trans (x_tyn0 rfl))
  · exact (x_tyn (t := 31) (n := 3) s2).trans (show am_ty (am_new (am_new h 21 7) 101 27) (am_sz h + 1 + 1) = _ from x_tyn0 rfl)
  · exact x_tyn0 (h := am_sfr (am_new (am_new h 21 7) 101 27) 144 (am_sz h + 1) (am_sz h + 1 + 1)) (t := 31) (n := 3) rfl
  · exact (x_lnn (t := 31) (n := 3) s2).trans (show am_ln (am_new (am_new h 21 7) 101 27) (am_sz h + 1 + 1) = _ from x_lnn0 rfl)
  · show am_fr (am_sfr (am_sfr (am_sfi (am_new (am_sfr (am_new (am_new h 21 7) 101 27) 144 (am_sz h + 1) (am_sz h + 1 + 1)) 31 3) 193 (am_sz h + 1 + 1 + 1) 0) 194 (am_sz h + 1 + 1 + 1) (am_cs h 0)) 147 (am_sz h + 1) (am_sz h + 1 + 1 + 1)) 144 (am_sz h + 1) = _
    rw [x_frf (by decide), x_frf (by decide)]
    show am_fr (am_new (am_sfr (am_new (am_new h 21 7) 101 27) 144 (am_sz h + 1) (am_sz h + 1 + 1)) 31 3) 144 (am_sz h + 1) = _
    rw [x_frn s1, x_fre]
  · exact x_fre
  · show am_fr (am_sfr (am_sfr (am_sfi (am_new (am_sfr (am_new (am_new h 21 7) 101 27) 144 (am_sz h + 1) (am_sz h + 1 + 1)) 31 3) 193 (am_sz h + 1 + 1 + 1) 0) 194 (am_sz h + 1 + 1 + 1) (am_cs h 0)) 147 (am_sz h + 1) (am_sz h + 1 + 1 + 1)) 194 (am_sz h + 1 + 1 + 1) = _
    rw [x_frf (by decide), x_fre]
  · rw [x_fif (by decide)]
    show am_fi (am_sfi (am_new (am_sfr (am_new (am_new h 21 7) 101 27) 144 (am_sz h + 1) (am_sz h + 1 + 1)) 31 3) 193 (am_sz h + 1 + 1 + 1) 0) 193 (am_sz h + 1 + 1 + 1) = 0
    exact x_fie
  · rw [x_fif (by decide)]
    exact (show am_fi (am_sfi (am_new (am_sfr (am_new (am_new h 21 7) 101 27) 144 (am_sz h + 1) (am_sz h + 1 + 1)) 31 3) 193 (am_sz h + 1 + 1 + 1) 0) 195 (am_sz h + 1 + 1 + 1) = _ from x_fif (by decide)).trans (x_fin0 rfl)
end
