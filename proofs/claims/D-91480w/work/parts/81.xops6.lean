set_option maxRecDepth 100000
/-- what a rule says of a part -/
def ruR (S : am_G) (p mi w : Int) : Int := if w = 0 then meS S p mi else if w = 1 then leS S p mi else if w = 2 then moS S p mi else if w = 3 then coS S p mi else if w = 4 then ftS S p mi else mrS S p mi
theorem nX0 {h : am_H} : ∀ q, (fun _ : Nat => False) q → am_ty h q = 101 ∨ am_ty h q = 2 ∨ am_ty h q = 3 := fun _ z => z.elim
section
variable {K : am_K} {h : am_H}
theorem xSt_0 (e0 : am_ty h (am_cs h 0) = 134 ∧ am_cs h 0 ≤ am_sz h ∧ am_ln h (am_cs h 0) = 0) : xSt (am_sfr (am_sfi (am_sfr (am_sfi (am_new (am_new h 19 2) 31 3) 193 (am_sz h + 1 + 1) 0) 194 (am_sz h + 1 + 1) (am_cs h 0)) 133 (am_sz h + 1) 0) 134 (am_sz h + 1) (am_sz h + 1 + 1)) (am_sz h + 1) (fun _ => 0) := by
  have f : fx (fun _ => False) h (am_sfr (am_sfi (am_sfr (am_sfi (am_new (am_new h 19 2) 31 3) 193 (am_sz h + 1 + 1) 0) 194 (am_sz h + 1 + 1) (am_cs h 0)) 133 (am_sz h + 1) 0) 134 (am_sz h + 1) (am_sz h + 1 + 1)) := fx_sfr (fx_sfi (fx_sfr (fx_sfi (fx_new (fx_new fx_refl)) (Or.inl (by omega))) (Or.inl (by omega))) (Or.inl (by omega))) (Or.inl (by omega))
  obtain ⟨f1, f2, f3⟩ := f.2.2.2 _ e0.2.1
  have e1 : am_fr (am_sfr (am_sfi (am_sfr (am_sfi (am_new (am_new h 19 2) 31 3) 193 (am_sz h + 1 + 1) 0) 194 (am_sz h + 1 + 1) (am_cs h 0)) 133 (am_sz h + 1) 0) 134 (am_sz h + 1) (am_sz h + 1 + 1)) 134 (am_sz h + 1) = am_sz h + 1 + 1 := x_fre
  have e2 : am_fr (am_sfr (am_sfi (am_sfr (am_sfi (am_new (am_new h 19 2) 31 3) 193 (am_sz h + 1 + 1) 0) 194 (am_sz h + 1 + 1) (am_cs h 0)) 133 (am_sz h + 1) 0) 134 (am_sz h + 1) (am_sz h + 1 + 1)) 194 (am_sz h + 1 + 1) = am_cs h 0 := by
    rw [x_frf (by decide)]
    show am_fr (am_sfr (am_sfi (am_new (am_new h 19 2) 31 3) 193 (am_sz h + 1 + 1) 0) 194 (am_sz h + 1 + 1) (am_cs h 0)) 194 (am_sz h + 1 + 1) = am_cs h 0
    exact x_fre
  have e3 : am_ty (am_sfr (am_sfi (am_sfr (am_sfi (am_new (am_new h 19 2) 31 3) 193 (am_sz h + 1 + 1) 0) 194 (am_sz h + 1 + 1) (am_cs h 0)) 133 (am_sz h + 1) 0) 134 (am_sz h + 1) (am_sz h + 1 + 1)) (am_sz h + 1 + 1) = 31 := x_tyn0 (h := am_new h 19 2) (t := 31) (n := 3) rfl
  have e4 : am_ty (am_sfr (am_sfi (am_sfr (am_sfi (am_new (am_new h 19 2) 31 3) 193 (am_sz h + 1 + 1) 0) 194 (am_sz h + 1 + 1) (am_cs h 0)) 133 (am_sz h + 1) 0) 134 (am_sz h + 1) (am_sz h + 1 + 1)) (am_sz h + 1) = 19 := (x_tyn (h := am_new h 19 2) (t := 31) (n := 3) (Nat.le_refl _)).trans (x_tyn0 (h := h) (t := 19) (n := 2) rfl)
  have e5 : am_fi (am_sfr (am_sfi (am_sfr (am_sfi (am_new (am_new h 19 2) 31 3) 193 (am_sz h + 1 + 1) 0) 194 (am_sz h + 1 + 1) (am_cs h 0)) 133 (am_sz h + 1) 0) 134 (am_sz h + 1) (am_sz h + 1 + 1)) 133 (am_sz h + 1) = 0 := by
    show am_fi (am_sfi (am_sfr (am_sfi (am_new (am_new h 19 2) 31 3) 193 (am_sz h + 1 + 1) 0) 194 (am_sz h + 1 + 1) (am_cs h 0)) 133 (am_sz h + 1) 0) 133 (am_sz h + 1) = 0
    exact x_fie
  have e6 : am_fi (am_sfr (am_sfi (am_sfr (am_sfi (am_new (am_new h 19 2) 31 3) 193 (am_sz h + 1 + 1) 0) 194 (am_sz h + 1 + 1) (am_cs h 0)) 133 (am_sz h + 1) 0) 134 (am_sz h + 1) (am_sz h + 1 + 1)) 195 (am_sz h + 1 + 1) = 0 := by
    show am_fi (am_sfi (am_sfr (am_sfi (am_new (am_new h 19 2) 31 3) 193 (am_sz h + 1 + 1) 0) 194 (am_sz h + 1 + 1) (am_cs h 0)) 133 (am_sz h + 1) 0) 195 (am_sz h + 1 + 1) = 0
    rw [x_fif (by decide)]
    show am_fi (am_sfi (am_new (am_new h 19 2) 31 3) 193 (am_sz h + 1 + 1) 0) 195 (am_sz h + 1 + 1) = 0
    rw [x_fif (by decide)]
    exact x_fin0 rfl
  unfold xSt xL
  rw [e1, e2, e3, e4, e5, e6, f1, f2, e0.2.2]
  exact ⟨rfl, Nat.le_succ _, Nat.succ_ne_zero _, rfl, ⟨rfl, Or.inr e0.1, ⟨Int.le_refl _, Int.le_refl _⟩, by decide, Nat.le_refl _, Nat.le_succ_of_le (Nat.le_succ_of_le e0.2.1)⟩, rfl, Or.inr e0.1, fun q q1 q2 => absurd (show q < 0 from q2) (by omega)⟩
theorem X_rule {L : am_Lb} {x P N : Nat} {S : am_G} {B : Int} {p mi w : Int} {D : Nat} (hD : 90 ≤ D) (t : Nt h L x P N S B) (hx : am_ty h x = 1) (hN : am_fr h 1 x = N) (hC : okC S) (hz : x ≤ am_sz h) (hF : okF S) (hY : okY S) (H0 : ¬ isP S p → XT h L x P N S B K 33) (H2 : isP S p → ¬ (0 ≤ mi ∧ mi ≤ 600) → XT h L x P N S B K 35) (H3 : isP S p → 0 ≤ mi ∧ mi ≤ 600 → ¬ (0 ≤ w ∧ w ≤ 5) → XT h L x P N S B K 39) (H1 : isP S p → 0 ≤ mi ∧ mi ≤ 600 → 0 ≤ w ∧ w ≤ 5 → XA h L x P N S B K (ruR S p mi w) 6 30) : am_ev am_prog D 158 [.inr (.inl x), .inl p, .inl mi, .inl w] h K := by
  obtain ⟨g1, g2, g3, g4⟩ := P_fc t
  obtain ⟨y1, y2, y3⟩ := Y_fc t
  obtain ⟨d, rfl⟩ : ∃ d, D = d + 13 := ⟨D - 13, by omega⟩
  refine am_en p_X1_rule rfl rfl ?_
  refine v_X1_rule_0 ?_
  rw [hN, g3]
  refine ⟨hx, fun c => XT_go t (H0 (fun z => c (by have := isP_bd hC hF z; omega))), fun c => ⟨⟨g1, g2, by omega⟩, fun dd => XT_go t (H0 (fun z => ((g4 p c.1 (by omega)).2 z).1.2.2.1 dd)), fun dd => ?_⟩⟩
  have ip : isP S p := Classical.byContradiction fun z => dd ((g4 p c.1 (by omega)).1 z)
  have q := (g4 p c.1 (by omega)).2 ip
  refine ⟨fun e => ⟨fun e2 => ?_, fun e2 => XT_go t (H3 ip e e2)⟩, fun e => XT_go t (H2 ip e)⟩
  have HH := H1 ip e e2
  have hs := sty_bd (mi := mi) hY
  -- the end
  have tail : ∀ (h3 : am_H) (s f : Nat) (y : Int → Int), fx (fun _ => False) h h3 → am_sz h3 ≤ am_sz h + 4 → am_us h3 ≤ am_us h + 18 → xSt h3 s y → (∀ i j, 0 ≤ i → i < j → j < y 1 → am_ar h3 (am_fr h3 194 (am_fr h3 134 s)) i ≠ am_ar h3 (am_fr h3 194 (am_fr h3 134 s)) j) → xF h3 f (tgs S p mi 0) (fcs S p mi 0 99) → f ≤ am_sz h3 → (∀ w, lastR y (tgs S p mi 0) (fcs S p mi 0 99) w (y 1).toNat = lrl S (tgs S p mi 0) (fcs S p mi 0 99) mi w) → (∀ w j, lrl S (tgs S p mi 0) (fcs S p mi 0 99) mi w ≠ -1 → y (2 + 5 * lrl S (tgs S p mi 0) (fcs S p mi 0 99) mi w + j) = S 6 (sty S mi) (2 + 5 * lrl S (tgs S p mi 0) (fcs S p mi 0 99) mi w + j)) → am_ev am_prog (d + 12) 261 [.inr (.inl s), .inl 1, .inr (.inl f)] h3 (am_aft (am_hand m_X1_rule K (am_W m_X1_rule (am_ev am_prog (d + 12)) K) 38) (am_W m_X1_rule (am_ev am_prog (d + 12)) K) 38 [some (.inr (.inl (x))), some (.inl (p)), some (.inl (mi)), some (.inl (w)), some (.inr (.inl ((am_ar h (am_fr h 20 N) p)))), some (.inr (.inl (s))), some (.inr (.inl (f))), none, none, none, none] []) := by
    intro h3 s f y a z u st ds xf hf E E2
    have bl := fun w => lastR_bd (y := y) (tg := (tgs S p mi 0)) (fc := (fcs S p mi 0 99)) (w := w) (y 1).toNat
    have lw := fun w => lastR_w (y := y) (tg := (tgs S p mi 0)) (fc := (fcs S p mi 0 99)) (w := w) (y 1).toNat
    refine x_last (by omega) st xf hf (fun h4 a4 z4 u4 => am_av (v_X1_rule_39 ?_))
    have st4 := xSt_fx a4 (nX0 (h := h3)) st
    have f4 := xF_fx a4 (nX0 (h := h3)) hf xf
    have a04 := fx_trans a a4
    -- a number of a rule, or the one without
    have fst : ∀ (k wo : Int), (if lastR y (tgs S p mi 0) (fcs S p mi 0 99) k (y 1).toNat = -1 then wo else y (2 + 5 * lastR y (tgs S p mi 0) (fcs S p mi 0 99) k (y 1).toNat + 1)) = sdd S mi (lrl S (tgs S p mi 0) (fcs S p mi 0 99) mi k) 1 wo := fun k wo => by
      unfold sdd
      rw [E]
      by_cases c : lrl S (tgs S p mi 0) (fcs S p mi 0 99) mi k = -1
      · rw [if_pos c, if_pos c]
      · rw [if_neg c, if_neg c, E2 k 1 c]
    have fin : ∀ a h5, fx (fun _ => False) h4 h5 → am_sz h5 ≤ am_sz h4 + 1 → am_us h5 ≤ am_us h4 + 4 → a = ruR S p mi w → K (.inl (some (.inl (a)))) h5 := fun a h5 a5 z5 u5 e => XA_f t (XA_v HH e.symm) (fx_trans a04 a5) (by omega) (by omega)
    have fin0 : ∀ a, a = ruR S p mi w → K (.inl (some (.inl (a)))) h4 := fun a e => fin a h4 fx_refl (by omega) (by omega) e
    have el := E 1
    refine ⟨fun c => ⟨st4.1.1, x_first (by omega) st4.1 f4 (by omega) (fun h5 a5 z5 u5 => am_av (v_X1_rule_47 (fin _ h5 a5 (by omega) (by omega) ?_)))⟩, fun c => ⟨fun r => ?_, fun r => fin0 _ ?_⟩, fun c => ⟨fun r => ?_, fun r => fin0 _ ?_⟩, fun c => ⟨st4.1.1, x_first (by omega) st4.1 f4 (by omega) (fun h5 a5 z5 u5 => am_av (v_X1_rule_67 (fin _ h5 a5 (by omega) (by omega) ?_)))⟩, fun c => ⟨st4.1.1, x_first (by omega) st4.1 f4 (by omega) (fun h5 a5 z5 u5 => am_av (v_X1_rule_73 (fin _ h5 a5 (by omega) (by omega) ?_)))⟩, fun c => ⟨st4.1.1, ?_⟩⟩
    · rw [fst, c]
      rfl
    · by_cases c1 : lastR y (tgs S p mi 0) (fcs S p mi 0 99) 1 (y 1).toNat = -1
      · rw [if_pos c1] at r
        exact absurd rfl r
      · rw [if_neg c1]
        obtain ⟨w1, w2, w3, n, val, w4, w5, w6⟩ := st.2.2.2.2.2.2.2 (lastR y (tgs S p mi 0) (fcs S p mi 0 99) 1 (y 1).toNat) (by have := bl 1; omega) (by have := bl 1; omega)
        obtain ⟨v1, v2, v3⟩ := a4.2.2.2 _ w5.2.1
        refine ⟨v1.trans w5.1, fin0 _ ?_⟩
        rw [(v3 id).1 122, w2, c]
        show _ = sdd S mi (lrl S (tgs S p mi 0) (fcs S p mi 0 99) mi 1) 1 2
        unfold sdd
        rw [← el, if_neg c1, el, ← E2 1 1 (by rw [← el]; exact c1)]
        congr 1
        omega
    · have c1 : lastR y (tgs S p mi 0) (fcs S p mi 0 99) 1 (y 1).toNat = -1 := by
        by_cases c1 : lastR y (tgs S p mi 0) (fcs S p mi 0 99) 1 (y 1).toNat = -1
        · exact c1
        · rw [if_neg c1] at r
          obtain ⟨w1, w2, w3, n, val, w4, w5, w6⟩ := st.2.2.2.2.2.2.2 (lastR y (tgs S p mi 0) (fcs S p mi 0 99) 1 (y 1).toNat) (by have := bl 1; omega) (by have := bl 1; omega)
          exact absurd r w5.2.2.1
      rw [c]
      show 2 = sdd S mi (lrl S (tgs S p mi 0) (fcs S p mi 0 99) mi 1) 1 2
      unfold sdd
      rw [← el, if_pos c1]
    · by_cases c1 : lastR y (tgs S p mi 0) (fcs S p mi 0 99) 1 (y 1).toNat = -1
      · rw [if_pos c1] at r
        exact absurd rfl r
      · rw [if_neg c1]
        obtain ⟨w1, w2, w3, n, val, w4, w5, w6⟩ := st.2.2.2.2.2.2.2 (lastR y (tgs S p mi 0) (fcs S p mi 0 99) 1 (y 1).toNat) (by have := bl 1; omega) (by have := bl 1; omega)
        obtain ⟨v1, v2, v3⟩ := a4.2.2.2 _ w5.2.1
        refine ⟨v1.trans w5.1, fin0 _ ?_⟩
        rw [(v3 id).1 123, w3, c]
        show _ = sdd S mi (lrl S (tgs S p mi 0) (fcs S p mi 0 99) mi 1) 2 6
        unfold sdd
        rw [← el, if_neg c1, el, ← E2 1 2 (by rw [← el]; exact c1)]
        congr 1
        omega
    · have c1 : lastR y (tgs S p mi 0) (fcs S p mi 0 99) 1 (y 1).toNat = -1 := by
        by_cases c1 : lastR y (tgs S p mi 0) (fcs S p mi 0 99) 1 (y 1).toNat = -1
        · exact c1
        · rw [if_neg c1] at r
          obtain ⟨w1, w2, w3, n, val, w4, w5, w6⟩ := st.2.2.2.2.2.2.2 (lastR y (tgs S p mi 0) (fcs S p mi 0 99) 1 (y 1).toNat) (by have := bl 1; omega) (by have := bl 1; omega)
          exact absurd r w5.2.2.1
      rw [c]
      show 6 = sdd S mi (lrl S (tgs S p mi 0) (fcs S p mi 0 99) mi 1) 2 6
      unfold sdd
      rw [← el, if_pos c1]
    · rw [fst, c]
      rfl
    · rw [fst, c]
      rfl
    · have ew : w = 5 := by omega
      refine x_last (by omega) st4.1 f4 (by omega) (fun h5 a5 z5 u5 => am_av (v_X1_rule_78 ?_))
      have st5 := xSt_fx a5 (nX0 (h := h4)) st4.1
      -- the row is the same
      have rw5 : am_ar h5 (am_fr h5 194 (am_fr h5 134 s)) = am_ar h3 (am_fr h3 194 (am_fr h3 134 s)) ∧ am_ar h4 (am_fr h4 194 (am_fr h4 134 s)) = am_ar h3 (am_fr h3 194 (am_fr h3 134 s)) := by
        have k1 := st.2.1
        have k2 := st.2.2.2.2.1.2.2.2.2
        obtain ⟨p1, p2, p3⟩ := a4.2.2.2 _ k1
        obtain ⟨q1, q2, q3⟩ := a4.2.2.2 _ k2.1
        obtain ⟨r1, r2, r3⟩ := a4.2.2.2 _ k2.2
        obtain ⟨p1', p2', p3'⟩ := a5.2.2.2 _ (Nat.le_trans k1 a4.1)
        obtain ⟨q1', q2', q3'⟩ := a5.2.2.2 _ (Nat.le_trans k2.1 a4.1)
        obtain ⟨r1', r2', r3'⟩ := a5.2.2.2 _ (Nat.le_trans k2.2 a4.1)
        rw [(p3' id).2.1, (p3 id).2.1, (q3' id).2.1, (q3 id).2.1, (r3' id).2.2.2, (r3 id).2.2.2]
        exact ⟨rfl, rfl⟩
      rw [rw5.2]
      have e0 : lastR y (tgs S p mi 0) (fcs S p mi 0 99) 0 (y 1).toNat = ruR S p mi w := by
        rw [E, ew]
        rfl
      have b0 := bl 0
      generalize lastR y (tgs S p mi 0) (fcs S p mi 0 99) 0 (y 1).toNat = m at e0 b0 ⊢
      have y1 : 0 ≤ y 1 := by
        have k1 := st.2.2.2.2.1.2.2.1.1
        rw [st.2.2.2.2.2.1] at k1
        exact k1
      have y1b : y 1 ≤ 1000000 := by
        have k1 := st.2.2.2.2.1.2.2.1.2
        have k2 := st.2.2.2.2.1.2.2.2.1
        rw [st.2.2.2.2.2.1] at k1
        omega
      have nz : ∀ k, 0 ≤ k → k < y 1 → am_ar h3 (am_fr h3 194 (am_fr h3 134 s)) k ≠ 0 := fun k k1 k2 => by
        obtain ⟨w1, w2, w3, n, val, w4, w5, w6⟩ := st.2.2.2.2.2.2.2 k k1 k2
        exact w5.2.2.1
      have main : ∀ k, 0 ≤ k → k ≤ y 1 → am_W m_X1_rule (am_ev am_prog (d + 12)) K 83 [some (.inr (.inl (x))), some (.inl (p)), some (.inl (mi)), some (.inl (w)), some (.inr (.inl ((am_ar h (am_fr h 20 N) p)))), some (.inr (.inl (s))), some (.inr (.inl (f))), some (.inr (.inl (if lrl S (tgs S p mi 0) (fcs S p mi 0 99) mi 1 = -1 then 0 else am_ar h3 (am_fr h3 194 (am_fr h3 134 s)) (lrl S (tgs S p mi 0) (fcs S p mi 0 99) mi 1)))), some (.inr (.inl (if m = -1 then 0 else am_ar h3 (am_fr h3 194 (am_fr h3 134 s)) m))), some (.inl (if m < k then m else -1)), some (.inl (k))] [] h5 := by
        refine lp_z ?_ ?_
        · intro k k1 k2 hL
          refine v_X1_rule_83 ?_
          rw [st5.1.2.2.2.2.2.1, rw5.1]
          refine ⟨st5.1.1, st5.1.2.2.2.2.1.1, fun c => absurd c (by omega), fun _ => ⟨⟨st5.1.2.2.2.2.1, by omega⟩, fun c => ⟨by omega, ?_⟩, fun c => ⟨by omega, ?_⟩⟩⟩
          · have e1 : (if m < k then m else -1) = (if m < k + 1 then m else -1) := by
              by_cases v : m < k
              · rw [if_pos v, if_pos (by omega)]
              · by_cases v2 : m = k
                · exfalso
                  rw [if_neg (by omega), v2] at c
                  exact c rfl
                · rw [if_neg v, if_neg (by omega)]
            rw [e1]
            exact hL
          · have e1 : k = (if m < k + 1 then m else -1) := by
              by_cases v : m = -1
              · rw [if_pos v] at c
                exact absurd c (nz k k1 k2)
              · rw [if_neg v] at c
                by_cases v2 : m = k
                · rw [if_pos (by omega), v2]
                · exfalso
                  by_cases v3 : m < k
                  · exact ds m k (by omega) v3 k2 c.symm
                  · exact ds k m k1 (by omega) (by omega) c
            have hL' := hL
            rw [← e1] at hL'
            exact hL'
        · refine v_X1_rule_83 ?_
          rw [st5.1.2.2.2.2.2.1]
          refine ⟨st5.1.1, st5.1.2.2.2.2.1.1, fun _ => fin _ h5 a5 (by omega) (by omega) ?_, fun c => absurd c (by omega)⟩
          rw [if_pos (by omega), e0]
      have m0 := main 0 (by omega) y1
      have em : (if m < 0 then m else -1) = -1 := by
        by_cases v : m < 0
        · rw [if_pos v]
          omega
        · rw [if_neg v]
      rw [em] at m0
      rw [E]
      exact m0
  have hee : ∀ k, 0 ≤ k → k < am_fi h 195 (am_fr h 22 N) → am_ty h (am_ar h (am_fr h 194 (am_fr h 22 N)) k) = 19 ∧ am_ar h (am_fr h 194 (am_fr h 22 N)) k ≠ 0 ∧ am_ar h (am_fr h 194 (am_fr h 22 N)) k ≤ am_sz h ∧ am_fi h 133 (am_ar h (am_fr h 194 (am_fr h 22 N)) k) = (fun k => S 6 k 0) k := by
    intro k k1 k2
    have x := (y3 k k1 (by omega)).1
    exact ⟨x.1, x.2.2.1, x.2.1, x.2.2.2.1⟩
  refine x_style (by omega) g1 t.2.2.2.1.1.1.2.1 rfl y1 hee (fun h' a z u => am_av (v_X1_rule_18 ?_))
  have es : stI (fun k => S 6 k 0) mi (am_fi h 195 (am_fr h 22 N)).toNat = sty S mi := by
    rw [y2]
    rfl
  rw [es]
  obtain ⟨n1, n2, n3⟩ := a.2.2.2 N t.2.2.2.1.1.1.2.1
  obtain ⟨b1, b2, b3⟩ := a.2.2.2 x hz
  rw [((b3 id).2.1 1).trans hN]
  refine ⟨b1.trans hx, n1.trans g1, x_facts (by omega) (xPt_fx a (nX0 (h := h)) (PT_x q)).1 (fun h2 a2 z2 u2 xf => am_av (v_X1_rule_24 ?_))⟩
  by_cases c : sty S mi = -1
  · rw [if_pos c]
    refine ⟨fun r => absurd rfl r, fun _ => ?_⟩
    have e0 := cs_fx (fx_trans a a2) t.2.1
    have fn : fx (fun _ => False) h2 (am_sfr (am_sfi (am_sfr (am_sfi (am_new (am_new h2 19 2) 31 3) 193 (am_sz h2 + 1 + 1) 0) 194 (am_sz h2 + 1 + 1) (am_cs h2 0)) 133 (am_sz h2 + 1) 0) 134 (am_sz h2 + 1) (am_sz h2 + 1 + 1)) := fx_sfr (fx_sfi (fx_sfr (fx_sfi (fx_new (fx_new fx_refl)) (Or.inl (by omega))) (Or.inl (by omega))) (Or.inl (by omega))) (Or.inl (by omega))
    have zz : am_sz (am_sfr (am_sfi (am_sfr (am_sfi (am_new (am_new h2 19 2) 31 3) 193 (am_sz h2 + 1 + 1) 0) 194 (am_sz h2 + 1 + 1) (am_cs h2 0)) 133 (am_sz h2 + 1) 0) 134 (am_sz h2 + 1) (am_sz h2 + 1 + 1)) = am_sz h2 + 2 := rfl
    have uu : am_us (am_sfr (am_sfi (am_sfr (am_sfi (am_new (am_new h2 19 2) 31 3) 193 (am_sz h2 + 1 + 1) 0) 194 (am_sz h2 + 1 + 1) (am_cs h2 0)) 133 (am_sz h2 + 1) 0) 134 (am_sz h2 + 1) (am_sz h2 + 1 + 1)) = am_us h2 + 5 := rfl
    exact tail _ _ _ (fun _ => 0) (fx_trans (fx_trans a a2) fn) (by omega) (by omega) (xSt_0 e0) (fun i j i0 ij j2 => absurd (show j < 0 from j2) (by omega)) (xF_fx fn (nX0 (h := h2)) (by omega) xf) (by omega) (fun w => (if_pos c).symm) (fun w j nn => absurd (if_pos c) nn)
  · rw [if_neg c]
    have st := y3 (sty S mi) (by omega) (by omega)
    have i2 := iSt_fx (fx_trans a a2) (leL_refl (L := L)) (fun _ _ z => z.elim) st
    exact ⟨fun _ => ⟨i2.1.1, tail h2 _ _ (S 6 (sty S mi)) (fx_trans a a2) (by omega) (by omega) i2.1 i2.2.2.2 xf (by omega) (fun w => (if_neg c).symm) (fun w j _ => rfl)⟩, fun r => absurd r st.1.2.2.1⟩
/-! what is new on a page -/
def sdN (S : am_G) (p e : Int) : Int := if e = -1 then S 8 p 2 else S 9 (6 * e + p) 0
def sdE (S : am_G) (p e i : Int) : Int := if e = -1 then S 8 p (5 + i) else S 9 (6 * e + p) (1 + i)
/-- 1 if v is among the first n of f -/
def hsE (f : Int → Int) (v : Int) : Nat → Int
  | 0 => 0
  | n + 1 => if hsE f v n = 0 then am_b (v = f (n : Int)) else 1
theorem hsE_01 {f : Int → Int} {v : Int} : ∀ n : Nat, hsE f v n = 0 ∨ hsE f v n = 1
  | 0 => Or.inl rfl
  | n + 1 => by
    unfold hsE am_b
    split
    · split
      · exact Or.inr rfl
      · exact Or.inl rfl
    · exact Or.inr rfl
def chF (S : am_G) (p a b i : Int) : Int := if hsE (sdE S p a) (sdE S p b i) (sdN S p a).toNat = 0 then 1 else 0
def chR (S : am_G) (p a b : Int) : Int := sg (chF S p a b) 0 (sdN S p b).toNat
theorem chF_01 {S : am_G} {p a b i : Int} : 0 ≤ chF S p a b i ∧ chF S p a b i ≤ 1 := by
  unfold chF
  split <;> omega
theorem x_chg {L : am_Lb} {x r4 r5 : Nat} {p a b : Int} {S : am_G} {d : Nat} (ha : iA h L r4 (sdN S p a) (sdE S p a)) (hb : iA h L r5 (sdN S p b) (sdE S p b)) (na : 0 ≤ sdN S p a ∧ sdN S p a ≤ 180) (nb : 0 ≤ sdN S p b ∧ sdN S p b ≤ 180) (H : K (.inl (some (.inl (chR S p a b)))) h) : am_W m_X1_changed (am_ev am_prog (d + 12)) K 23 [some (.inr (.inl (x))), some (.inl (p)), some (.inl (a)), some (.inl (b)), some (.inr (.inl (r4))), some (.inr (.inl (r5))), some (.inl (0)), some (.inr (.inl (r5))), some (.inl (sdN S p b)), some (.inl (0)), none, none, none, none, none, none] [] h := by
  have main : ∀ i, 0 ≤ i → i ≤ sdN S p b → ∀ o10 o11 o12 o13 o14 o15, am_W m_X1_changed (am_ev am_prog (d + 12)) K 23 [some (.inr (.inl (x))), some (.inl (p)), some (.inl (a)), some (.inl (b)), some (.inr (.inl (r4))), some (.inr (.inl (r5))), some (.inl (sg (chF S p a b) 0 i.toNat)), some (.inr (.inl (r5))), some (.inl (sdN S p b)), some (.inl (i)), o10, o11, o12, o13, o14, o15] [] h := by
    refine lp_z ?_ ?_
    · intro i i1 i2 hL o10 o11 o12 o13 o14 o15
      have bd := sg_bd (c := 1) (f := chF S p a b) i.toNat 0 (fun j _ _ => chF_01)
      rw [sg_s i1] at hL
      refine v_X1_changed_23 ?_
      rw [ha.2.2.2.2.1, hb.2.2.2.2.1, hb.2.2.2.2.2 i i1 i2]
      refine ⟨fun c => absurd c (by omega), fun _ => ⟨⟨Or.inl hb.1, by omega, Or.inl ha.1⟩, ?_⟩⟩
      have inn : ∀ j, 0 ≤ j → j ≤ sdN S p a → ∀ o15, am_W m_X1_changed (am_ev am_prog (d + 12)) K 39 [some (.inr (.inl (x))), some (.inl (p)), some (.inl (a)), some (.inl (b)), some (.inr (.inl (r4))), some (.inr (.inl (r5))), some (.inl (sg (chF S p a b) 0 i.toNat)), some (.inr (.inl (r5))), some (.inl (sdN S p b)), some (.inl (i)), some (.inl (sdE S p b i)), some (.inl (hsE (sdE S p a) (sdE S p b i) j.toNat)), some (.inr (.inl (r4))), some (.inl (sdN S p a)), some (.inl (j)), o15] [] h := by
        refine lp_z ?_ ?_
        · intro j j1 j2 hL2 o15
          have e1 : (j + 1).toNat = j.toNat + 1 := by omega
          have e2 : ((j.toNat : Nat) : Int) = j := by omega
          have es : hsE (sdE S p a) (sdE S p b i) (j.toNat + 1) = if hsE (sdE S p a) (sdE S p b i) j.toNat = 0 then am_b (sdE S p b i = sdE S p a j) else 1 := by
            show (if hsE (sdE S p a) (sdE S p b i) j.toNat = 0 then am_b (sdE S p b i = sdE S p a ((j.toNat : Nat) : Int)) else 1) = _
            rw [e2]
          rw [e1, es] at hL2
          refine v_X1_changed_39 ?_
          rw [ha.2.2.2.2.1, ha.2.2.2.2.2 j j1 j2]
          refine ⟨fun c => absurd c (by omega), fun _ => ⟨⟨Or.inl ha.1, by omega⟩, fun c => ⟨by omega, ?_⟩, fun c => ⟨fun f => ⟨by omega, ?_⟩, fun f => ⟨by omega, ?_⟩⟩⟩⟩
          · rw [if_neg c] at hL2
            exact hL2 _
          · rw [if_pos c, am_bf f] at hL2
            exact hL2 _
          · rw [if_pos c, am_bt f] at hL2
            exact hL2 _
        · intro o15
          refine v_X1_changed_39 ⟨fun _ => ⟨fun c => ⟨by omega, ?_⟩, fun c => ⟨by omega, ?_⟩⟩, fun c => absurd c (by omega)⟩
          · have e : chF S p a b i = 1 := if_pos c
            rw [e] at hL
            exact hL _ _ _ _ _ _
          · have e : chF S p a b i = 0 := if_neg c
            rw [e] at hL
            exact hL _ _ _ _ _ _
      exact inn 0 (by omega) na.1 _
    · intro o10 o11 o12 o13 o14 o15
      exact v_X1_changed_23 ⟨fun _ => H, fun c => absurd c (by omega)⟩
  exact main 0 (by omega) nb.1 _ _ _ _ _ _
theorem X_changed {L : am_Lb} {x P N : Nat} {S : am_G} {B : Int} {p a b : Int} {D : Nat} (hD : 90 ≤ D) (t : Nt h L x P N S B) (hx : am_ty h x = 1) (hN : am_fr h 1 x = N) (hC : okC S) (hH : okH S) (hE : okE S) (H0 : ¬ ((0 ≤ p ∧ p < 6) ∧ (-1 ≤ a ∧ a < S 0 0 6) ∧ (-1 ≤ b ∧ b < S 0 0 6)) → XT h L x P N S B K 33) (H1 : (0 ≤ p ∧ p < 6) ∧ (-1 ≤ a ∧ a < S 0 0 6) ∧ (-1 ≤ b ∧ b < S 0 0 6) → XA h L x P N S B K (chR S p a b) 0 0) : am_ev am_prog D 160 [.inr (.inl x), .inl p, .inl a, .inl b] h K := by
  obtain ⟨x1, x2, x3, x4, x5, x6, x7, x8, x9, x10⟩ := t.2.2.2.1
  have c6 := hC.2.2.2.2.1
  have y1 := x9.1.1.1
  have y2 := x9.1.2.2.2.2.1
  -- an edition's page, the page now
  have ed : ∀ e, 0 ≤ e → e < S 0 0 6 → 0 ≤ p → p < 6 → am_ty h (am_ar h (am_fr h 194 (am_fr h 28 N)) e) = 27 ∧ am_ty h (am_fr h 178 (am_ar h (am_fr h 194 (am_fr h 28 N)) e)) = 110 ∧ am_ln h (am_fr h 178 (am_ar h (am_fr h 194 (am_fr h 28 N)) e)) = 6 ∧ iA h L (am_ar h (am_fr h 178 (am_ar h (am_fr h 194 (am_fr h 28 N)) e)) p) (sdN S p e) (sdE S p e) ∧ (0 ≤ sdN S p e ∧ sdN S p e ≤ 180) := by
    intro e e1 e2 p1 p2
    obtain ⟨z1, z2, z3, z4, z5, z6, z7, z8⟩ := x9.2 e e1 e2
    have n1 : sdN S p e = S 9 (6 * e + p) 0 := if_neg (by omega)
    have n2 : sdE S p e = fun i => S 9 (6 * e + p) (1 + i) := by
      funext i
      exact if_neg (by omega)
    rw [n1, n2]
    exact ⟨z1, z4, z7, z8 p p1 p2, hE e p e1 e2 p1 p2⟩
  have pg : 0 ≤ p → p < 6 → am_ty h (am_ar h (am_fr h 27 N) p) = 4 ∧ iA h L (am_fr h 37 (am_ar h (am_fr h 27 N) p)) (sdN S p (-1)) (sdE S p (-1)) ∧ (0 ≤ sdN S p (-1) ∧ sdN S p (-1) ≤ 180) := by
    intro p1 p2
    obtain ⟨m1, m2, m3, m4, m5, m6⟩ := x8.2.2 p p1 p2
    exact ⟨m1.1, m6, (hH p p1 p2).2.2⟩
  obtain ⟨d, rfl⟩ : ∃ d, D = d + 13 := ⟨D - 13, by omega⟩
  refine am_en p_X1_changed rfl rfl ?_
  refine v_X1_changed_0 ?_
  rw [hN, x8.2.1, y2]
  refine ⟨hx, fun c => ⟨⟨x1.1.1, x8.1.1, by omega⟩, y1.1, by omega, fun d => ⟨fun f => ?_, fun f => ⟨fun _ => ?_, fun z => absurd z (by omega)⟩⟩, fun d => XT_go t (H0 (by omega))⟩, fun c => XT_go t (H0 (by omega))⟩
  · obtain ⟨e1, e2, e3, e4, e5⟩ := ed a f (by omega) c.1 (by omega)
    rw [e3]
    refine ⟨⟨y1, by omega⟩, Or.inr e1, e1, ⟨e2, by omega⟩, fun g => ⟨fun u => ?_, fun u => ⟨fun _ => ?_, fun z => absurd z (by omega)⟩⟩, fun g => XT_go t (H0 (by omega))⟩
    · obtain ⟨v1, v2, v3, v4, v5⟩ := ed b u (by omega) c.1 (by omega)
      rw [v3, v4.2.2.2.2.1]
      exact ⟨by omega, Or.inr v1, v1, ⟨v2, by omega⟩, Or.inl v4.1, x_chg e4 v4 e5 v5 (XA_id t (H1 (by omega)))⟩
    · obtain ⟨v1, v4, v5⟩ := pg c.1 (by omega)
      have eb : b = -1 := by omega
      subst eb
      rw [v4.2.2.2.2.1]
      exact ⟨v1, Or.inl v4.1, x_chg e4 v4 e5 v5 (XA_id t (H1 (by omega)))⟩
  · obtain ⟨e1, e4, e5⟩ := pg c.1 (by omega)
    have ea : a = -1 := by omega
    subst ea
    refine ⟨e1, fun g => ⟨fun u => ?_, fun u => ⟨fun _ => ?_, fun z => absurd z (by omega)⟩⟩, fun g => XT_go t (H0 (by omega))⟩
    · obtain ⟨v1, v2, v3, v4, v5⟩ := ed b u (by omega) c.1 (by omega)
      rw [v3, v4.2.2.2.2.1]
      exact ⟨⟨y1, by omega⟩, Or.inr v1, v1, ⟨v2, by omega⟩, Or.inl v4.1, x_chg e4 v4 e5 v5 (XA_id t (H1 (by omega)))⟩
    · have eb : b = -1 := by omega
      subst eb
      rw [e4.2.2.2.2.1]
      exact ⟨Or.inl e4.1, x_chg e4 e4 e5 e5 (XA_id t (H1 (by omega)))⟩
/-! proofs -/
def pf2 (S : am_G) (s : Int) : Int := if S 4 s 4 = 0 then S 4 s 10 else 0
def pf3 (S : am_G) (s : Int) : Int := if S 4 s 4 = 0 then S 4 s 11 else 0
def pf4 (S : am_G) (s : Int) : Int := if S 4 s 4 = 0 then S 4 s 10 * S 4 s 11 else 0
noncomputable def pf5 (S : am_G) (s : Int) : Int := if S 4 s 4 = 0 then (if 0 < S 4 s 10 + S 4 s 11 then 1 - wb S s else 0) else 0
noncomputable def pf6 (S : am_G) (s : Int) : Int := if S 4 s 4 = 0 then (if S 4 s 10 + S 4 s 11 = 0 then wb S s else 0) else 0
noncomputable def pf0 (S : am_G) (w : Int) (s : Int) : Int := if w = 0 then pf2 S s else if w = 1 then pf3 S s else if w = 2 then pf4 S s else if w = 4 then pf5 S s else pf6 S s
noncomputable def pfR (S : am_G) (w : Int) : Int := if w = 3 then (if sg (pf4 S) 0 (S 0 0 4).toNat = 0 then -1 else (sg (pf2 S) 0 (S 0 0 4).toNat - sg (pf4 S) 0 (S 0 0 4).toNat) * (sg (pf3 S) 0 (S 0 0 4).toNat - sg (pf4 S) 0 (S 0 0 4).toNat) / sg (pf4 S) 0 (S 0 0 4).toNat) else if w = 0 then sg (pf2 S) 0 (S 0 0 4).toNat else if w = 1 then sg (pf3 S) 0 (S 0 0 4).toNat else if w = 2 then sg (pf4 S) 0 (S 0 0 4).toNat else if w = 4 then sg (pf5 S) 0 (S 0 0 4).toNat else sg (pf6 S) 0 (S 0 0 4).toNat
theorem mk_a {a b : Int} (ha : a = 0 ∨ a = 1) (hb : b = 0 ∨ b = 1) : am_andz (a + 2 * b) 1 = a ∧ am_shrz (a + 2 * b) 1 = b := by
  rcases ha with rfl | rfl <;> rcases hb with rfl | rfl <;> decide
theorem sg_mono {f g : Int → Int} : ∀ (n : Nat) (i : Int), (∀ j, i ≤ j → j < i + n → f j ≤ g j) → sg f i n ≤ sg g i n
  | 0, _, _ => Int.le_refl _
  | n + 1, i, h => by
    show f i + sg f (i + 1) n ≤ g i + sg g (i + 1) n
    have h1 := h i (by omega) (by omega)
    have h2 := sg_mono (f := f) (g := g) n (i + 1) (fun j a b => h j (by omega) (by omega))
    omega
theorem pf_bd {S : am_G} (hG : okG S) (hg : okg S) {k : Int} (hk : 0 ≤ k ∧ k ≤ S 0 0 4) : (0 ≤ sg (pf2 S) 0 k.toNat ∧ sg (pf2 S) 0 k.toNat ≤ 300) ∧ (0 ≤ sg (pf3 S) 0 k.toNat ∧ sg (pf3 S) 0 k.toNat ≤ 300) ∧ (0 ≤ sg (pf4 S) 0 k.toNat ∧ sg (pf4 S) 0 k.toNat ≤ 300) ∧ (0 ≤ sg (pf5 S) 0 k.toNat ∧ sg (pf5 S) 0 k.toNat ≤ 300) ∧ (0 ≤ sg (pf6 S) 0 k.toNat ∧ sg (pf6 S) 0 k.toNat ≤ 300) ∧ sg (pf4 S) 0 k.toNat ≤ sg (pf2 S) 0 k.toNat ∧ sg (pf4 S) 0 k.toNat ≤ sg (pf3 S) 0 k.toNat := by
  have c4 := hG.1
  have o := fun j (j1 : 0 ≤ j) (j2 : j < 0 + (k.toNat : Int)) => hg j j1 (by omega)
  have p4 : ∀ j, 0 ≤ j → j < 0 + (k.toNat : Int) → (0 ≤ pf4 S j ∧ pf4 S j ≤ 1) ∧ pf4 S j ≤ pf2 S j ∧ pf4 S j ≤ pf3 S j := fun j j1 j2 => by
    obtain ⟨o1, o2, o3, o4, o5⟩ := o j j1 j2
    unfold pf4 pf2 pf3
    rcases o3 with e | e <;> rcases o4 with f | f <;> rw [e, f] <;> split <;> omega
  have b2 := sg_bd (c := 1) (f := pf2 S) k.toNat 0 (fun j j1 j2 => by
    obtain ⟨o1, o2, o3, o4, o5⟩ := o j j1 j2
    unfold pf2
    split <;> omega)
  have b3 := sg_bd (c := 1) (f := pf3 S) k.toNat 0 (fun j j1 j2 => by
    obtain ⟨o1, o2, o3, o4, o5⟩ := o j j1 j2
    unfold pf3
    split <;> omega)
  have b4 := sg_bd (c := 1) (f := pf4 S) k.toNat 0 (fun j j1 j2 => (p4 j j1 j2).1)
  have b5 := sg_bd (c := 1) (f := pf5 S) k.toNat 0 (fun j j1 j2 => by
    have := wb_01 (S := S) (s := j)
    unfold pf5
    split
    · split <;> omega
    · omega)
  have b6 := sg_bd (c := 1) (f := pf6 S) k.toNat 0 (fun j j1 j2 => by
    have := wb_01 (S := S) (s := j)
    unfold pf6
    split
    · split <;> omega
    · omega)
  have m2 := sg_mono (f := pf4 S) (g := pf2 S) k.toNat 0 (fun j j1 j2 => (p4 j j1 j2).2.1)
  have m3 := sg_mono (f := pf4 S) (g := pf3 S) k.toNat 0 (fun j j1 j2 => (p4 j j1 j2).2.2)
  refine ⟨by omega, by omega, by omega, by omega, by omega, m2, m3⟩
theorem X_proof {L : am_Lb} {x P N : Nat} {S : am_G} {B : Int} {w : Int} {D : Nat} (hD : 90 ≤ D) (t : Nt h L x P N S B) (hx : am_ty h x = 1) (hN : am_fr h 1 x = N) (hC : okC S) (hG : okG S) (hg : okg S) (H0 : ¬ (0 ≤ w ∧ w ≤ 5) → XT h L x P N S B K 39) (H1 : 0 ≤ w ∧ w ≤ 5 → XA h L x P N S B K (pfR S w) 1 4) : am_ev am_prog D 122 [.inr (.inl x), .inl w] h K := by
  obtain ⟨g1, g2, g3, g4⟩ := G_fc t
  have c4 := hG.1
  obtain ⟨d, rfl⟩ : ∃ d, D = d + 13 := ⟨D - 13, by omega⟩
  refine am_en p_X1_proof rfl rfl ?_
  refine v_X1_proof_0 ?_
  rw [hN]
  refine ⟨fun c => ⟨⟨hx, g3⟩, g1.1, c_iterator g1.1 g1.2.2.2.2.1 (am_av (v_X1_proof_19 ?_))⟩, fun c => XT_go t (H0 c)⟩
  have HH := H1 c
  have main : ∀ k, 0 ≤ k → k ≤ S 0 0 4 → ∀ z o8, am_W m_X1_proof (am_ev am_prog (d + 12)) K 20 [some (.inr (.inl (x))), some (.inl (w)), some (.inl (sg (pf2 S) 0 k.toNat)), some (.inl (sg (pf3 S) 0 k.toNat)), some (.inl (sg (pf4 S) 0 k.toNat)), some (.inl (sg (pf5 S) 0 k.toNat)), some (.inl (sg (pf6 S) 0 k.toNat)), some (.inr (.inl ((am_sz h + 1)))), o8] [] (itH h (am_fr h 25 N) k z) := by
    refine lp_z ?_ ?_
    · intro k k1 k2 hL z o8
      obtain ⟨i1, i2, i3, i4, i5, i6, i7⟩ := IT_G t (k := k) (z := z)
      have q := i7 k k1 k2
      have q' := (IT_G t (k := k + 1) (z := k)).2.2.2.2.2.2 k k1 k2
      have q12 := q'.2.2.2.2.2.2.2.2.2.2.2
      have bd := pf_bd hG hg (k := k) (by omega)
      obtain ⟨o1, o2, o3, o4, o5⟩ := hg k k1 k2
      have m := mk_a o3 o4
      rw [sg_s k1, sg_s k1, sg_s k1, sg_s k1, sg_s k1] at hL
      have hL' : ∀ a2 a3 a4 a5 a6, a2 = pf2 S k → a3 = pf3 S k → a4 = pf4 S k → a5 = pf5 S k → a6 = pf6 S k → ∀ o8, am_W m_X1_proof (am_ev am_prog (d + 12)) K 20 [some (.inr (.inl (x))), some (.inl (w)), some (.inl (sg (pf2 S) 0 k.toNat + a2)), some (.inl (sg (pf3 S) 0 k.toNat + a3)), some (.inl (sg (pf4 S) 0 k.toNat + a4)), some (.inl (sg (pf5 S) 0 k.toNat + a5)), some (.inl (sg (pf6 S) 0 k.toNat + a6)), some (.inr (.inl ((am_sz h + 1)))), o8] [] (itH h (am_fr h 25 N) (k + 1) k) := by
        intro a2 a3 a4 a5 a6 e2 e3 e4 e5 e6 o8
        rw [e2, e3, e4, e5, e6]
        exact hL k o8
      refine v_X1_proof_20 ?_
      rw [i2, i3, i5, it_next, q.2.2.2.2.2.2.2.2.2.1, q.2.2.2.2.2.2.2.2.2.2.2, m.1, m.2]
      refine ⟨i1, i4, fun c => absurd c (by omega), fun _ => ⟨i6 k1 k2, Or.inr (G_ty q), G_ty q, fun c => ?_, fun c => ⟨by omega, ?_⟩⟩⟩
      · have r := hL' 0 0 0 0 0 (if_neg c).symm (if_neg c).symm (if_neg c).symm (if_neg c).symm (if_neg c).symm
        simp only [Int.add_zero] at r
        exact r _
      · have e2 : pf2 S k = S 4 k 10 := if_pos c
        have e3 : pf3 S k = S 4 k 11 := if_pos c
        have e4 : pf4 S k = S 4 k 10 * S 4 k 11 := if_pos c
        have e5 : pf5 S k = if 0 < S 4 k 10 + S 4 k 11 then 1 - wb S k else 0 := if_pos c
        have e6 : pf6 S k = if S 4 k 10 + S 4 k 11 = 0 then wb S k else 0 := if_pos c
        -- one mark at least
        have some : ∀ a4, a4 = pf4 S k → 0 < S 4 k 10 + S 4 k 11 → am_ev am_prog (d + 12) 214 [.inr (.inl (am_ar (itH h (am_fr h 25 N) k z) (am_fr (itH h (am_fr h 25 N) k z) 194 (am_fr h 25 N)) k))] (itH h (am_fr h 25 N) (k + 1) k) (am_aft (am_hand m_X1_proof K (am_W m_X1_proof (am_ev am_prog (d + 12)) K) 60) (am_W m_X1_proof (am_ev am_prog (d + 12)) K) 60 [some (.inr (.inl (x))), some (.inl (w)), some (.inl (sg (pf2 S) 0 k.toNat + S 4 k 10)), some (.inl (sg (pf3 S) 0 k.toNat + S 4 k 11)), some (.inl (sg (pf4 S) 0 k.toNat + a4)), some (.inl (sg (pf5 S) 0 k.toNat)), some (.inl (sg (pf6 S) 0 k.toNat)), some (.inr (.inl ((am_sz h + 1)))), some (.inr (.inl (am_ar (itH h (am_fr h 25 N) k z) (am_fr (itH h (am_fr h 25 N) k z) 194 (am_fr h 25 N)) k)))] [.inl (sg (pf5 S) 0 k.toNat)]) := by
          intro a4 h4 hp
          have nz : ¬ (S 4 k 10 + S 4 k 11 = 0) := by omega
          rw [if_pos hp] at e5
          rw [if_neg nz] at e6
          refine x_wrong (by omega) q' (fun v => am_av (v_X1_proof_61 ⟨fun _ => ⟨⟨by omega, G_ty q'⟩, fun _ => ⟨by omega, hL' _ _ _ _ _ e2.symm e3.symm h4 ?_ e6.symm _⟩, fun y => ?_⟩, fun y => absurd y (by decide)⟩)) (fun v => am_av (v_X1_proof_61 ⟨fun y => absurd rfl y, fun _ => ⟨⟨by omega, G_ty q'⟩, fun _ => ⟨by omega, hL' _ _ _ _ _ e2.symm e3.symm h4 ?_ e6.symm _⟩, fun y => ?_⟩⟩))
          · rw [e5, wb_t v]
            rfl
          · exfalso
            have y2 := q12.symm.trans y
            omega
          · rw [e5, wb_f v]
            rfl
          · exfalso
            have y2 := q12.symm.trans y
            omega
        rcases o3 with f | f <;> rcases o4 with g | g
        · have e5' : pf5 S k = 0 := by rw [e5, if_neg (by omega)]
          have e6' : pf6 S k = wb S k := by rw [e6, if_pos (by omega)]
          have e4' : (0 : Int) = pf4 S k := by rw [e4, f, g]; rfl
          refine ⟨fun _ => ⟨by omega, fun _ => ⟨by omega, fun y => absurd (by omega) y, fun _ => ?_⟩, fun y => absurd y (by omega)⟩, fun y => absurd y (by omega)⟩
          refine x_wrong (by omega) q' (fun v => am_av (v_X1_proof_73 ⟨fun y => absurd y (by decide), fun _ => ⟨by omega, hL' _ _ _ _ _ e2.symm e3.symm e4' e5'.symm ?_ _⟩⟩)) (fun v => am_av (v_X1_proof_73 ⟨fun _ => ⟨by omega, hL' _ _ _ _ _ e2.symm e3.symm e4' e5'.symm ?_ _⟩, fun y => absurd rfl y⟩))
          · rw [e6', wb_t v]
          · rw [e6', wb_f v]
        · have e4' : (0 : Int) = pf4 S k := by rw [e4, f, g]; rfl
          exact ⟨fun _ => ⟨by omega, fun y => absurd y (by omega), fun _ => some 0 e4' (by omega)⟩, fun y => absurd y (by omega)⟩
        · have e4' : (0 : Int) = pf4 S k := by rw [e4, f, g]; rfl
          exact ⟨fun _ => ⟨by omega, fun y => absurd y (by omega), fun _ => some 0 e4' (by omega)⟩, fun y => absurd y (by omega)⟩
        · have e4' : (1 : Int) = pf4 S k := by rw [e4, f, g]; rfl
          exact ⟨fun y => absurd (by omega) y, fun _ => ⟨by omega, fun y => absurd y (by omega), fun _ => some 1 e4' (by omega)⟩⟩
    · intro z o8
      obtain ⟨i1, i2, i3, i4, i5, i6, i7⟩ := IT_G t (k := S 0 0 4) (z := z)
      have bd := pf_bd hG hg (k := S 0 0 4) (by omega)
      have go : ∀ a, a = pfR S w → K (.inl (some (.inl (a)))) (itH h (am_fr h 25 N) (S 0 0 4) z) := fun a e => XA_f t (XA_v HH e.symm) it_fx (Nat.le_refl _) (Nat.le_refl _)
      refine v_X1_proof_20 ?_
      rw [i2, i3, i5]
      refine ⟨i1, i4, fun _ => ⟨fun e => go _ (by rw [e]; rfl), fun e => go _ (by rw [e]; rfl), fun e => go _ (by rw [e]; rfl), fun e => ⟨fun f => ⟨?_, go _ ?_⟩, fun f => go _ ?_⟩, fun e => go _ (by rw [e]; rfl), fun e => go _ ?_⟩, fun c => absurd rfl c⟩
      · have mm := mul_in (x := sg (pf2 S) 0 (S 0 0 4).toNat - sg (pf4 S) 0 (S 0 0 4).toNat) (y := sg (pf3 S) 0 (S 0 0 4).toNat - sg (pf4 S) 0 (S 0 0 4).toNat) (c := 300) (e := 300) (by omega) (by omega)
        have m0 := Int.mul_nonneg (a := sg (pf2 S) 0 (S 0 0 4).toNat - sg (pf4 S) 0 (S 0 0 4).toNat) (b := sg (pf3 S) 0 (S 0 0 4).toNat - sg (pf4 S) 0 (S 0 0 4).toNat) (by omega) (by omega)
        refine ⟨by omega, by omega, by omega, by omega, by omega⟩
      · unfold pfR
        rw [if_pos e, if_neg f]
      · unfold pfR
        rw [if_pos e, if_pos f]
      · unfold pfR
        rw [if_neg (by omega), if_neg (by omega), if_neg (by omega), if_neg (by omega), if_neg (by omega)]
  exact main 0 (by omega) c4.1 _ _
end
