set_option maxRecDepth 100000
/-! the component reads the rules of a style -/
def RLs (hb h : am_H) (Lr : Nat) (done : List am_Ru) : Prop := xLm h Lr ∧ am_sz hb < Lr ∧ am_fi h 195 Lr = (done.length : Int) ∧ ((am_ln h (am_fr h 194 Lr)) = 0 ∨ am_sz hb < (am_fr h 194 Lr)) ∧ (0 ≤ am_fi h 193 Lr ∧ am_fi h 193 Lr ≤ (done.length : Int)) ∧ (∀ k : Nat, k < done.length → iRu h (am_ar h (am_fr h 194 Lr) k) (gR done k)) ∧ ∀ i j : Int, 0 ≤ i → i < j → j < (done.length : Int) → am_ar h (am_fr h 194 Lr) i ≠ am_ar h (am_fr h 194 Lr) j
theorem RLs_fg {X : Nat → Prop} {hb h h' : am_H} {Lr : Nat} {done : List am_Ru} (f : fx X h h') (g : ∀ q, X q → am_ty h q < 11) (ls : RLs hb h Lr done) : RLs hb h' Lr done ∧ (am_ln h' (am_fr h' 194 Lr)) = (am_ln h (am_fr h 194 Lr)) := by
  obtain ⟨x1, x2, x3, x4, x5, x6, x7⟩ := ls
  obtain ⟨⟨v1, v2, v3, v4, v5⟩, w1, w2, w3⟩ := x1
  obtain ⟨a1, a2, a3⟩ := f.2.2.2 Lr v5.1
  obtain ⟨b1, b2, b3⟩ := f.2.2.2 _ v5.2
  obtain ⟨c1, c2, c3, c4⟩ := a3 (fun z => by
    have := g Lr z
    omega)
  obtain ⟨d1, d2, d3, d4⟩ := b3 (fun z => by
    have := g _ z
    omega)
  refine ⟨⟨⟨⟨?_, ?_, ?_, ?_, ?_⟩, ?_, ?_, ?_⟩, x2, ?_, ?_, ?_, fun k hk => ?_, ?_⟩, by rw [c2, b2]⟩
  · rw [a1]; exact v1
  · rw [c2, b1]; exact v2
  · rw [c1, c2, b2]; exact v3
  · rw [c2, b2]; exact v4
  · rw [c2]; exact ⟨Nat.le_trans v5.1 f.1, Nat.le_trans v5.2 f.1⟩
  · rw [c2, b2]; exact w1
  · rw [c2, b2, f.2.2.1]; exact w2
  · rw [c2, b2, b1]; exact w3
  · rw [c1]; exact x3
  · rw [c2, b2]; exact x4
  · rw [c1]; exact x5
  · rw [c2, d4]
    exact iRu_fg f (fun q z => Or.inl (g q z)) (x6 k hk)
  · rw [c2, d4]
    exact x7
section
variable {K : am_K} {h0 h : am_H} {R T : Nat} {t : Int → Int} {n a st dp : Int}
theorem xy_addR {r Lr D : Nat} {p : am_Ru} {done : List am_Ru} (hD : 20 ≤ D) (s : RyS h0 h R T a st dp) (ls : RLs h0 h Lr done) (hc : (done.length : Int) ≤ 40) (ac : iRu h r p) (nu : ∀ k, 0 ≤ k → k < (done.length : Int) → am_ar h (am_fr h 194 Lr) k ≠ r) (H : ∀ h2, RyS h0 h2 R T a st dp → RLs h0 h2 Lr (done ++ [p]) → (am_sz h2 : Int) + (am_ln h (am_fr h 194 Lr)) ≤ am_sz h + (am_ln h2 (am_fr h2 194 Lr)) → (am_us h2 : Int) + 5 * (am_ln h (am_fr h 194 Lr)) ≤ am_us h + 5 * (am_ln h2 (am_fr h2 194 Lr)) → K (.inl (some (.inl (1)))) h2) : am_ev am_prog D 205 [.inr (.inl Lr), .inr (.inl r)] h K := by
  obtain ⟨x1, x2, x3, x4, x5, x6, x7⟩ := ls
  obtain ⟨d, rfl⟩ : ∃ d, D = d + 9 := ⟨D - 9, by omega⟩
  have ty := ac.1
  refine c_add x1 (fun e => by rw [← e, x3]; omega) ⟨ac.2.1.2, by rw [ty]; simp [am_tin]⟩ ac.2.1.1 (by omega) (fun h2 fr xm e5 e3 el en hA hs hu hg => ?_)
  have tyX : ∀ q, (q = Lr ∨ (q = (am_fr h 194 Lr) ∧ am_fi h 195 Lr < (am_ln h (am_fr h 194 Lr)))) → am_sz h0 < q ∧ (am_ty h q = 31 ∨ am_ty h q = 114) := fun q z => by
    rcases z with z | ⟨z, z2⟩
    · rw [z]
      exact ⟨x2, Or.inl x1.1.1⟩
    · rw [z]
      exact ⟨x4.resolve_left (by omega), Or.inr (x1.2.2.2 (by omega))⟩
  have s2 := RyS_fx s fr (fun q z hq => ⟨(tyX q z).1, fun e => by
    have k := (tyX q z).2
    rw [e, s.2.2.1] at k
    omega⟩)
  have lap : ((done ++ [p]).length : Int) = done.length + 1 := by
    rw [List.length_append]
    rfl
  have gX : ∀ q, (q = Lr ∨ (q = (am_fr h 194 Lr) ∧ am_fi h 195 Lr < (am_ln h (am_fr h 194 Lr)))) → am_ty h q < 11 ∨ 18 < am_ty h q := fun q z => by
    have k := (tyX q z).2
    omega
  rw [x3] at en el
  refine H h2 s2 ⟨xm, x2, by rw [e5, x3, lap], ?_, ?_, fun k hk => ?_, fun i j i1 i2 i3 => ?_⟩ hs hu
  · rcases hA with e | e
    · rw [e]
      rcases x4 with y | y
      · left
        have g3 := (fr.2.2.2 _ x1.1.2.2.2.2.2).2.1
        rw [g3]
        exact y
      · exact Or.inr y
    · right
      have := x1.1.2.2.2.2.1
      omega
  · rw [e3, lap]
    omega
  · rw [List.length_append] at hk
    have hk' : k < done.length + 1 := hk
    rw [gR_ap done k (by omega)]
    by_cases c : k < done.length
    · rw [if_pos c, el k (by omega) (by omega)]
      exact iRu_fg fr gX (x6 k c)
    · rw [if_neg c]
      have ek : k = done.length := by omega
      rw [ek, en]
      exact iRu_fg fr gX ac
  · rw [lap] at i3
    rw [el i i1 (by omega)]
    by_cases c : j < (done.length : Int)
    · rw [el j (by omega) c]
      exact x7 i j i1 i2 c
    · have ej : j = done.length := by omega
      rw [ej, en]
      exact nu i i1 (by omega)
theorem syR_s {f : Nat} {e : Int} {done : List am_Ru} (h : done.length ≠ 12) : syR t n (f + 1) e done = match rlR t n (bE t n e) with
    | .inl x => .inl x
    | .inr q => if n ≤ bE t n q.1 then .inr (done ++ [q.2]) else if t (bE t n q.1) = 59 then syR t n f (bE t n q.1 + 1) (done ++ [q.2]) else .inl (bE t n q.1) := if_neg h
theorem xy_rules {D : Nat} (hD : 75 ≤ D) (x : TxT h0 T t n) (t00 : am_ty h0 0 = 0) (c0 : (am_ty h0 (am_cs h0 0) = 134 ∧ am_cs h0 0 ≤ am_sz h0 ∧ am_ln h0 (am_cs h0 0) = 0)) (cs : CsS h0) (s : RyS h0 h R T 0 st dp) (H0 : ∀ p, styR t n = .inl p → ThR h0 h K p 3600 30000) (H1 : ∀ l, styR t n = .inr l → ∀ h' r, fx (fun _ => False) h0 h' → RLs h0 h' r l → (am_sz h' : Int) ≤ am_sz h + 3600 → (am_us h' : Int) ≤ am_us h + 30000 → K (.inl (some (.inr (.inl (r))))) h') : am_ev am_prog D 224 [.inr (.inl R)] h K := by
  have csh : (am_ty h (am_cs h 0) = 134 ∧ am_cs h 0 ≤ am_sz h ∧ am_ln h (am_cs h 0) = 0) := by
    have k := s.1.2.2.2 _ c0.2.1
    have e := s.1.2.2.1
    rw [e]
    exact ⟨k.1.trans c0.1, Nat.le_trans c0.2.1 s.1.1, k.2.1.trans c0.2.2⟩
  have nl := nwL csh
  have n4 := x.2.2.2.1
  obtain ⟨d, rfl⟩ : ∃ d, D = d + 13 := ⟨D - 13, by omega⟩
  refine am_en p_X11_rules rfl rfl ?_
  refine v_X11_rules_0 ⟨⟨s.2.1.2, s.2.2.1⟩, ?_⟩
  have s1 := RyS_fx s nl.1 (fun q z _ => z.elim)
  have ls1 : RLs h0 (am_sfr (am_sfi (am_new h 31 3) 193 (am_sz h + 1) 0) 194 (am_sz h + 1) (am_cs h 0)) (am_sz h + 1) [] := ⟨nl.2.1, by have := s.1.1; omega, nl.2.2.1, Or.inl nl.2.2.2.2, by rw [nl.2.2.2.1]; exact ⟨Int.le_refl _, Int.le_refl _⟩, fun k hk => absurd hk (Nat.not_lt_zero _), fun i j i1 i2 i3 => absurd (Int.lt_trans (Int.lt_of_le_of_lt i1 i2) i3) (by decide)⟩
  have zl : am_sz (am_sfr (am_sfi (am_new h 31 3) 193 (am_sz h + 1) 0) 194 (am_sz h + 1) (am_cs h 0)) = am_sz h + 1 := rfl
  have ul : am_us (am_sfr (am_sfi (am_new h 31 3) 193 (am_sz h + 1) 0) 194 (am_sz h + 1) (am_cs h 0)) = am_us h + 3 := rfl
  have fl := nl.1
  generalize hh1 : (am_sfr (am_sfi (am_new h 31 3) 193 (am_sz h + 1) 0) 194 (am_sz h + 1) (am_cs h 0)) = h1 at *
  generalize hLr : am_sz h + 1 = Lr at *
  have main : ∀ (f : Nat) (e : Int) (done : List am_Ru) (h' : am_H) (st' dp' : Int), done.length + f = 13 → done.length ≤ 12 → (0 ≤ e ∧ e ≤ n) → RyS h0 h' R T e st' dp' → RLs h0 h' Lr done → 3 * ((am_sz h' : Int) - am_sz h) ≤ 12 * e + 40 * (done.length : Int) + 3 * (am_ln h' (am_fr h' 194 Lr)) + 2 * (lE t n (bE t n (e)) - bE t n (e)) + 3 → (am_us h' : Int) ≤ am_us h + 30 * e + 100 * (done.length : Int) + 5 * (am_ln h' (am_fr h' 194 Lr)) + 10 * (lE t n (bE t n (e)) - bE t n (e)) + 3 → (∀ p, (if n ≤ bE t n e then .inr done else if t (bE t n e) = 59 then syR t n f (bE t n e + 1) done else .inl (bE t n e)) = .inl p → ThR h0 h K p 3600 30000) → (∀ l, (if n ≤ bE t n e then .inr done else if t (bE t n e) = 59 then syR t n f (bE t n e + 1) done else .inl (bE t n e)) = .inr l → ∀ h' r, fx (fun _ => False) h0 h' → RLs h0 h' r l → (am_sz h' : Int) ≤ am_sz h + 3600 → (am_us h' : Int) ≤ am_us h + 30000 → K (.inl (some (.inr (.inl (r))))) h') → am_W m_X11_rules (am_ev am_prog (d + 12)) K 15 [some (.inr (.inl (R))), some (.inr (.inl (Lr)))] [] h' := by
    intro f
    induction f with
    | zero =>
      intro e done h' st' dp' hf h12
      omega
    | succ f ih =>
      intro e done h' st' dp' hf h12 he s' ls cz cu G0 G1
      have bv := bE_v (t := t) (n := n) (a := e)
      have be := bv.1.2 he.2
      have lv := lE_v (t := t) (n := n) (a := bE t n e)
      have le := lv.1.2 be
      have N1 : (am_ln h' (am_fr h' 194 Lr)) ≤ 1000 := ls.1.2.1
      have tR : ∀ {h4 : am_H}, RyS h0 h4 R T e st' dp' → ∀ q, q = R → am_ty h4 q < 11 := fun s4 q z => by rw [z, s4.2.2.1]; omega
      refine v_X11_rules_15 ⟨s'.2.2.1, xy_over (by omega) x s' he (fun h2 c f2 z2 u2 s2 => am_av (v_X11_rules_17 ⟨fun z => absurd rfl z, fun _ => ⟨s2.2.2.1, ?_⟩⟩)) (fun h2 c f2 z2 u2 s2 => am_av (v_X11_rules_17 ⟨fun _ => ?_, fun z => absurd z (by decide)⟩))⟩
      · have l2 := RLs_fg f2 (fun q z => by rw [z, s'.2.2.1]; omega) ls
        refine xy_sign (by omega) x s2 (by omega) (fun h3 c3 f3 z3 u3 s3 => am_av (v_X11_rules_21 ⟨fun z => absurd rfl z, fun _ => ⟨s3.2.2.1, xy_wrong (by omega) s3 (fun h4 E g1 g2 g3 g4 g5 g6 => am_av (v_X11_rules_24 ⟨g3, ?_⟩))⟩⟩)) (fun h3 c3 f3 z3 u3 s3 => am_av (v_X11_rules_21 ⟨fun _ => ⟨?_, s3.2.2.1, ?_⟩, fun z => absurd z (by decide)⟩))
        · rw [bE_b] at c3 g4
          refine G0 _ ?_ h4 E g1 g2 g3 g4 (by omega) (by omega)
          rw [if_neg (by omega), if_neg (fun w => c3 ⟨c, w⟩)]
        · exact (RLs_fg f3 (fun q z => by rw [z, s2.2.2.1]; omega) l2.1).1.1.1.1
        · have l3 := RLs_fg f3 (fun q z => by rw [z, s2.2.2.1]; omega) l2.1
          rw [bE_b] at c3 s3
          have eL : (am_ln h3 (am_fr h3 194 Lr)) = (am_ln h' (am_fr h' 194 Lr)) := l3.2.trans l2.2
          rw [l3.1.2.2.1]
          rw [if_neg (by omega), if_pos c3.2] at G0 G1
          have l0 : lE t n (bE t n e) = bE t n e := lE_0 (fun z => by have := z.2; have := c3.2; omega)
          have b1 := bE_v (t := t) (n := n) (a := bE t n e + 1)
          refine xy_rule (by omega) x t00 cs s3 (by omega) (fun c12 h4 E g1 g2 g3 g4 g5 g6 => am_ax rfl (G0 _ ?_ h4 E g1 g2 g3 g4 (by omega) (by omega))) (fun c12 p hp h4 E g1 g2 g3 g4 g5 g6 => am_ax rfl (G0 p ?_ h4 E g1 g2 g3 g4 (by omega) (by omega))) (fun c12 q hq h4 z st4 dp4 f4 s4 ru zz k1 k2 => am_av (v_X11_rules_30 ?_))
          · show ((if done.length = 12 then .inl (bE t n (bE t n e + 1)) else _) : Int ⊕ List am_Ru) = _
            rw [if_pos (by omega)]
          · rw [syR_s (by omega), hp]
          · have l4 := RLs_fg f4 (fun q z => by rw [z, s3.2.2.1]; omega) l3.1
            have ar4 : ∀ k, 0 ≤ k → k < (done.length : Int) → am_ar h4 (am_fr h4 194 Lr) k ≠ z := fun k k1 k2 e => by
              have i4 := l3.1.2.2.2.2.2.1 k.toNat (by omega)
              have ek : ((k.toNat : Nat) : Int) = k := by omega
              rw [ek] at i4
              have i5 := i4.2.1.1
              have v5 := l3.1.1.1.2.2.2.2
              have a5 := f4.2.2.2 Lr v5.1
              have c5 := a5.2.2 (fun z => by have := s3.2.2.1; rw [← z, l3.1.1.1.1] at this; exact absurd this (by decide))
              have b5 := f4.2.2.2 _ v5.2
              have d5 := b5.2.2 (fun z => by
                have := s3.2.2.1
                rw [← z] at this
                have := l3.1.1.1.2.1
                omega)
              rw [c5.2.1, d5.2.2.2] at e
              omega
            have rk := rlR_ok n4.2 (by omega) (by omega) hq
            refine ⟨l4.1.1.1.1, xy_addR (p := q.2) (by omega) s4 l4.1 (by omega) ru ar4 (fun h5 s5 l5 cz5 cu5 => am_av (v_X11_rules_31 ?_))⟩
            have ld : (done ++ [q.2]).length = done.length + 1 := by
              rw [List.length_append]
              rfl
            have ldi : ((done ++ [q.2]).length : Int) = (done.length : Int) + 1 := by omega
            have er : syR t n (f + 1) (bE t n e + 1) done = (if n ≤ bE t n q.1 then .inr (done ++ [q.2]) else if t (bE t n q.1) = 59 then syR t n f (bE t n q.1 + 1) (done ++ [q.2]) else .inl (bE t n q.1)) := by
              rw [syR_s (by omega), hq]
            rw [er] at G0 G1
            have xq := (lE_v (t := t) (n := n) (a := bE t n q.1)).1.1
            rw [l4.2, eL] at cz5 cu5
            exact ih q.1 (done ++ [q.2]) h5 st4 dp4 (by omega) (by omega) (by omega) s5 l5 (by rw [ldi]; omega) (by rw [ldi]; omega) G0 G1
      · have l2 := RLs_fg f2 (fun q z => by rw [z, s'.2.2.1]; omega) ls
        exact G1 done (if_pos c) h2 Lr s2.1 l2.1 (by omega) (by omega)
  have b0 := bE_v (t := t) (n := n) (a := 0)
  have b0e := b0.1.2 n4.1
  refine xy_over (by omega) x s1 (by omega) (fun h2 c f2 z2 u2 s2 => am_av (v_X11_rules_6 ⟨fun _ => ⟨s2.2.2.1, ?_⟩, fun z => absurd rfl z⟩)) (fun h2 c f2 z2 u2 s2 => am_av (v_X11_rules_6 ⟨fun z => absurd z (by decide), fun _ => ?_⟩))
  · have er : styR t n = syR t n 13 0 [] := if_neg (by omega)
    have l2 := RLs_fg f2 (fun q z => by rw [z, s1.2.2.1]; omega) ls1
    have L0 : (am_ln h1 (am_fr h1 194 Lr)) = 0 := nl.2.2.2.2
    refine xy_rule (by omega) x t00 cs s2 (by omega) (fun c12 => absurd c12 (by decide)) (fun c12 p hp h4 E g1 g2 g3 g4 g5 g6 => am_ax rfl (H0 p ?_ h4 E g1 g2 g3 g4 (by omega) (by omega))) (fun c12 q hq h4 z st4 dp4 f4 s4 ru zz k1 k2 => am_av (v_X11_rules_13 ?_))
    · rw [bE_b] at hp
      rw [er, syR_s (by show (0 : Nat) ≠ 12; decide), hp]
    · have l4 := RLs_fg f4 (fun q z => by rw [z, s2.2.2.1]; omega) l2.1
      rw [bE_b] at hq
      have rk := rlR_ok n4.2 (by omega) (by omega) hq
      refine ⟨l4.1.1.1.1, xy_addR (p := q.2) (by omega) s4 l4.1 (by decide) ru (fun k k1 k2 => absurd (Int.lt_of_le_of_lt k1 k2) (by decide)) (fun h5 s5 l5 cz5 cu5 => am_av (v_X11_rules_14 ?_))⟩
      have er2 : styR t n = (if n ≤ bE t n q.1 then .inr ([] ++ [q.2]) else if t (bE t n q.1) = 59 then syR t n 12 (bE t n q.1 + 1) ([] ++ [q.2]) else .inl (bE t n q.1)) := by
        rw [er, syR_s (by show (0 : Nat) ≠ 12; decide), hq]
      rw [er2] at H0 H1
      have xq := (lE_v (t := t) (n := n) (a := bE t n q.1)).1.1
      rw [l4.2, l2.2, L0] at cz5 cu5
      have ld : (([] ++ [q.2] : List am_Ru).length : Int) = 1 := rfl
      exact main 12 q.1 ([] ++ [q.2]) h5 st4 dp4 rfl (by show 1 ≤ 12; omega) (by omega) s5 l5 (by rw [ld]; omega) (by rw [ld]; omega) H0 H1
  · have er : styR t n = .inr [] := if_pos c
    have l2 := RLs_fg f2 (fun q z => by rw [z, s1.2.2.1]; omega) ls1
    exact H1 [] er h2 Lr s2.1 l2.1 (by omega) (by omega)
end
