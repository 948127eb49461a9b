set_option maxRecDepth 100000
section
variable {K : am_K} {h : am_H}
theorem x_reach {r : Nat} {v w : Int → Int} {me le mo co : Int} {D : Nat} (hD : 16 ≤ D) (ho : okP v) (hw : okW w) (hn : okN v) (hx : xPp h r v w me le mo co) (hme : 0 ≤ me ∧ me ≤ 400) (hle : 0 ≤ le ∧ le ≤ 40) (hmo : 0 ≤ mo ∧ mo ≤ 40) (hs : xScr h r) (H : ∀ h', fx (fun q => q = (am_fr h 13 r)) h h' → am_sz h' = am_sz h → am_us h' = am_us h → K (.inl (some (.inl (frR v w me le mo (v 1).toNat)))) h') : am_ev am_prog D 245 [.inr (.inl r)] h K := by
  have h1 := ho.1
  obtain ⟨_, s2, _, _, s5⟩ := hs
  have hX : ∀ q, (fun q => q = (am_fr h 13 r)) q → am_ty h q = 101 ∧ q ≠ am_fr h 7 r := fun q e => by
    rw [e]
    exact ⟨s2.1, s5.2.1⟩
  have st : ∀ h', fx (fun q => q = (am_fr h 13 r)) h h' → xPp h' r v w me le mo co ∧ am_fr h' 13 r = (am_fr h 13 r) ∧ am_ty h' (am_fr h 13 r) = 101 ∧ am_ln h' (am_fr h 13 r) = 41 := by
    intro h' f
    have px := xPp_fx f hX hx
    have f2 := f.2.2.2 _ s2.2.2
    exact ⟨px.1, px.2 13, f2.1.trans s2.1, f2.2.1.trans s2.2.1⟩
  obtain ⟨d, rfl⟩ : ∃ d, D = d + 13 := ⟨D - 13, by omega⟩
  refine am_en p_X2_reach rfl rfl ?_
  refine v_X2_reach_0 ?_
  have main : ∀ i, 0 ≤ i → i ≤ v 1 → ∀ h' o3, fx (fun q => q = (am_fr h 13 r)) h h' → am_sz h' = am_sz h → am_us h' = am_us h → (∀ j, 0 ≤ j → j ≤ v 1 → am_ai h' (am_fr h 13 r) j = cnR v w me le mo i.toNat j) → am_W m_X2_reach (am_ev am_prog (d + 12)) K 21 [some (.inr (.inl (r))), some (.inl (frR v w me le mo i.toNat)), some (.inl (i)), o3] [] h' := by
    refine lp_z ?_ ?_
    · intro i g1 g2 hL h' o3 f z u hq
      obtain ⟨p1, p2, p3, p4⟩ := st h' f
      have e1 : (i + 1).toNat = i.toNat + 1 := by omega
      have ei : ((i.toNat : Nat) : Int) = i := by omega
      rw [e1] at hL
      refine v_X2_reach_21 ⟨p1.1, p1.2.1.1, ?_⟩
      rw [p1.2.1.2.1]
      refine ⟨fun c => absurd c (by omega), fun _ => ?_⟩
      have fin : ∀ h', fx (fun q => q = (am_fr h 13 r)) h h' → am_sz h' = am_sz h → am_us h' = am_us h → (∀ j, 0 ≤ j → j ≤ v 1 → am_ai h' (am_fr h 13 r) j = cnR v w me le mo (i.toNat + 1) j) → ∀ o3, (am_ai h' (am_fr h 13 r) (i + 1) ≠ 1 → am_W m_X2_reach (am_ev am_prog (d + 12)) K 21 [some (.inr (.inl (r))), some (.inl (frR v w me le mo i.toNat)), some (.inl (i + 1)), o3] [] h') ∧ (am_ai h' (am_fr h 13 r) (i + 1) = 1 → am_W m_X2_reach (am_ev am_prog (d + 12)) K 21 [some (.inr (.inl (r))), some (.inl (i + 1)), some (.inl (i + 1)), o3] [] h') := by
        intro h' f z u hq o3
        have hL1 := hL h' o3 f z u hq
        have q1 := hq (i + 1) (by omega) (by omega)
        have q01 := cnR_01 (v := v) (w := w) (me := me) (le := le) (mo := mo) (i.toNat + 1) (i + 1)
        have ef : frR v w me le mo (i.toNat + 1) = if cnR v w me le mo (i.toNat + 1) (i + 1) ≠ 0 then i + 1 else frR v w me le mo i.toNat := by
          show (if cnR v w me le mo (i.toNat + 1) (((i.toNat : Nat) : Int) + 1) ≠ 0 then ((i.toNat : Nat) : Int) + 1 else _) = _
          rw [ei]
        rw [ef] at hL1
        refine ⟨fun c => ?_, fun c => ?_⟩
        · rw [if_neg (by omega)] at hL1
          exact hL1
        · rw [if_pos (by omega)] at hL1
          exact hL1
      have inner : ∀ j, i ≤ j → j ≤ v 1 → ∀ h', fx (fun q => q = (am_fr h 13 r)) h h' → am_sz h' = am_sz h → am_us h' = am_us h → (∀ q, 0 ≤ q → q ≤ v 1 → am_ai h' (am_fr h 13 r) q = if q ≤ j then cnR v w me le mo (i.toNat + 1) q else cnR v w me le mo i.toNat q) → am_W m_X2_reach (am_ev am_prog (d + 12)) K 27 [some (.inr (.inl (r))), some (.inl (frR v w me le mo i.toNat)), some (.inl (i)), some (.inl (j))] [] h' := by
        refine lp_z ?_ ?_
        · intro j k1 k2 jL h' f z u hq
          obtain ⟨p1, p2, p3, p4⟩ := st h' f
          have ci2 : cnR v w me le mo (i.toNat + 1) i = cnR v w me le mo i.toNat i := by
            show (if _ then _ else _) = _
            rw [if_neg (by rw [ei]; omega)]
          have qi := hq i g1 (by omega)
          rw [if_pos k1, ci2] at qi
          have c01 := cnR_01 (v := v) (w := w) (me := me) (le := le) (mo := mo) i.toNat i
          have cj : cnR v w me le mo (i.toNat + 1) (j + 1) = if (i < j + 1 ∧ j + 1 ≤ v 1 ∧ cnR v w me le mo i.toNat i ≠ 0 ∧ stn v w me le mo i j) then 1 else cnR v w me le mo i.toNat (j + 1) := by
            show (if ((i.toNat : Nat) : Int) < j + 1 ∧ j + 1 ≤ v 1 ∧ cnR v w me le mo i.toNat ((i.toNat : Nat) : Int) ≠ 0 ∧ stn v w me le mo ((i.toNat : Nat) : Int) (j + 1 - 1) then 1 else _) = _
            have ej : j + 1 - 1 = j := by omega
            rw [ei, ej]
          have qj := hq (j + 1) (by omega) (by omega)
          rw [if_neg (by omega)] at qj
          refine v_X2_reach_27 ⟨⟨p1.1, by rw [p2]; exact Or.inl p3, by rw [p2, p4]; omega⟩, ?_⟩
          rw [p2, p4, qi, p1.2.1.2.1]
          refine ⟨fun c => ⟨by omega, ?_⟩, fun c => ⟨p1.2.1.1, fun d => absurd d (by omega), fun _ => ?_⟩⟩
          · have all : ∀ q, 0 ≤ q → q ≤ v 1 → am_ai h' (am_fr h 13 r) q = cnR v w me le mo (i.toNat + 1) q := by
              intro q y1 y2
              rw [hq q y1 y2]
              split
              · rfl
              · show _ = (if ((i.toNat : Nat) : Int) < q ∧ q ≤ v 1 ∧ cnR v w me le mo i.toNat ((i.toNat : Nat) : Int) ≠ 0 ∧ stn v w me le mo ((i.toNat : Nat) : Int) (q - 1) then 1 else _)
                rw [ei, if_neg (fun y => by have := y.2.2.1; omega)]
            exact fin h' f z u all _
          · refine x_stands (by omega) ho hw hn p1 hme hle hmo g1 k1 k2 (am_av ?_)
            refine v_X2_reach_41 ⟨fun d => ⟨by omega, jL h' f z u ?_⟩, fun d => ⟨⟨p1.1, by omega, by rw [p2]; exact p3, by rw [p2, p4]; omega⟩, ?_⟩⟩
            · intro q y1 y2
              rw [hq q y1 y2]
              by_cases e : q = j + 1
              · subst e
                rw [if_neg (by omega), if_pos (by omega), cj, if_neg (fun y => am_b0 d y.2.2.2)]
              · by_cases e2 : q ≤ j
                · rw [if_pos e2, if_pos (by omega)]
                · rw [if_neg e2, if_neg (by omega)]
            · rw [p2]
              refine jL _ (fx_sai f (Or.inr rfl)) z u ?_
              intro q y1 y2
              rw [x_aise]
              by_cases e : q = j + 1
              · subst e
                rw [am_uz_eq, if_pos (by omega), cj, if_pos ⟨by omega, by omega, by omega, am_b1 d⟩]
              · rw [am_uz_ne e, hq q y1 y2]
                by_cases e2 : q ≤ j
                · rw [if_pos e2, if_pos (by omega)]
                · rw [if_neg e2, if_neg (by omega)]
        · intro h' f z u hq
          obtain ⟨p1, p2, p3, p4⟩ := st h' f
          have all : ∀ q, 0 ≤ q → q ≤ v 1 → am_ai h' (am_fr h 13 r) q = cnR v w me le mo (i.toNat + 1) q := by
            intro q y1 y2
            rw [hq q y1 y2, if_pos y2]
          have ff := fin h' f z u all (some (.inl (v 1)))
          refine v_X2_reach_27 ⟨⟨p1.1, by rw [p2]; exact Or.inl p3, by rw [p2, p4]; omega⟩, ?_⟩
          rw [p2, p4, p1.2.1.2.1]
          exact ⟨fun c => ⟨by omega, ff⟩, fun c => ⟨p1.2.1.1, fun d => ⟨by omega, ff⟩, fun d => absurd d (by omega)⟩⟩
      refine inner i (by omega) (by omega) h' f z u ?_
      intro q y1 y2
      rw [hq q y1 y2]
      split
      · show _ = (if ((i.toNat : Nat) : Int) < q ∧ _ then 1 else _)
        rw [ei, if_neg (by omega)]
      · rfl
    · intro h' o3 f z u hq
      obtain ⟨p1, p2, p3, p4⟩ := st h' f
      refine v_X2_reach_21 ⟨p1.1, p1.2.1.1, ?_⟩
      rw [p1.2.1.2.1]
      exact ⟨fun _ => H h' f z u, fun c => absurd c (by omega)⟩
  have m0 : ∀ k, 0 ≤ k → k ≤ v 1 + 1 → ∀ h' o3, fx (fun q => q = (am_fr h 13 r)) h h' → am_sz h' = am_sz h → am_us h' = am_us h → (∀ j, 0 ≤ j → j < k → am_ai h' (am_fr h 13 r) j = am_b (j = 0)) → am_W m_X2_reach (am_ev am_prog (d + 12)) K 4 [some (.inr (.inl (r))), some (.inl (0)), some (.inl (k)), o3] [] h' := by
    refine lp_z ?_ ?_
    · intro k g1 g2 hL h' o3 f z u hq
      obtain ⟨p1, p2, p3, p4⟩ := st h' f
      refine v_X2_reach_4 ⟨p1.1, p1.2.1.1, ?_⟩
      rw [p1.2.1.2.1, p2, p4]
      have nx : ∀ x, x = am_b (k = 0) → am_W m_X2_reach (am_ev am_prog (d + 12)) K 4 [some (.inr (.inl (r))), some (.inl (0)), some (.inl (k + 1)), o3] [] (am_sai h' (am_fr h 13 r) k x) := by
        intro x hx
        refine hL _ _ (fx_sai f (Or.inr rfl)) z u ?_
        intro j y1 y2
        rw [x_aise]
        by_cases e : j = k
        · subst e
          rw [am_uz_eq]
          exact hx
        · rw [am_uz_ne e]
          exact hq j y1 (by omega)
      exact ⟨fun c => absurd c (by omega), fun _ => ⟨fun c => ⟨⟨p3, by omega⟩, by omega, nx 0 (am_bf c).symm⟩, fun c => ⟨⟨p3, by omega⟩, by omega, nx 1 (am_bt c).symm⟩⟩⟩
    · intro h' o3 f z u hq
      obtain ⟨p1, p2, p3, p4⟩ := st h' f
      refine v_X2_reach_4 ⟨p1.1, p1.2.1.1, ?_⟩
      rw [p1.2.1.2.1]
      refine ⟨fun _ => main 0 (by omega) (by omega) h' o3 f z u (fun j y1 y2 => hq j y1 (by omega)), fun c => absurd c (by omega)⟩
  exact m0 0 (by omega) (by omega) h _ fx_refl rfl rfl (fun j y1 y2 => absurd y2 (by omega))
theorem x_hand {r : Nat} {v w : Int → Int} {me le mo co : Int} {sl : Int} {D : Nat} (hD : 16 ≤ D) (ho : okP v) (hw : okW w) (hn : okN v) (hx : xPp h r v w me le mo co) (hme : 0 ≤ me ∧ me ≤ 400) (hle : 0 ≤ le ∧ le ≤ 40) (hmo : 0 ≤ mo ∧ mo ≤ 40) (H : K (.inl (some (.inl (match hnd v w me le mo 41 0 0 0 with | some q => if sl = 0 then q.1 else q.2 | none => -1)))) h) : am_ev am_prog D 254 [.inr (.inl r), .inl sl] h K := by
  have h1 := ho.1
  have x3 := hx.2.1.2.1
  obtain ⟨d, rfl⟩ : ∃ d, D = d + 13 := ⟨D - 13, by omega⟩
  refine am_en p_X2_hand rfl rfl ?_
  refine v_X2_hand_0 ?_
  have main : ∀ (t : Nat) (i x y : Int) (o5 o6 : Option am_V), 0 ≤ i → v 1 - i < t → (0 ≤ x ∧ x ≤ i) → (0 ≤ y ∧ y ≤ i) → i ≤ v 1 → K (.inl (some (.inl (match hnd v w me le mo t i x y with | some q => if sl = 0 then q.1 else q.2 | none => -1)))) h → am_W m_X2_hand (am_ev am_prog (d + 12)) K 6 [some (.inr (.inl (r))), some (.inl (sl)), some (.inl (x)), some (.inl (y)), some (.inl (i)), o5, o6] [] h := by
    intro t
    induction t with
    | zero => exact fun i x y o5 o6 g1 g2 g3 g4 g5 HK => absurd g2 (by omega)
    | succ t ih =>
      intro i x y o5 o6 g1 g2 g3 g4 g5 HK
      have e : hnd v w me le mo (t + 1) i x y = if v 1 ≤ i then some (x, y) else if lj v w me le i (v 1 - i).toNat = -1 then none else hnd v w me le mo t (lj v w me le i (v 1 - i).toNat + 1) (x + 1) (y + am_b (¬ stn v w me le mo i (lj v w me le i (v 1 - i).toNat))) := rfl
      rw [e] at HK
      refine v_X2_hand_6 ⟨hx.1, hx.2.1.1, ?_⟩
      rw [x3]
      by_cases c0 : v 1 ≤ i
      · rw [if_pos c0] at HK
        exact ⟨fun _ => ⟨fun z => am_uv HK (if_pos z), fun z => am_uv HK (if_neg z)⟩, fun c => absurd c (by omega)⟩
      rw [if_neg c0] at HK
      refine ⟨fun c => absurd c c0, fun _ => ?_⟩
      have inner : ∀ j, i ≤ j → j ≤ v 1 → am_W m_X2_hand (am_ev am_prog (d + 12)) K 14 [some (.inr (.inl (r))), some (.inl (sl)), some (.inl (x)), some (.inl (y)), some (.inl (i)), some (.inl (lj v w me le i (j - i).toNat)), some (.inl (j))] [] h := by
        refine lp_z ?_ ?_
        · intro j f1 f2 fL
          have e1 : (j + 1 - i).toNat = (j - i).toNat + 1 := by omega
          have e2 : i + (((j - i).toNat : Nat) : Int) = j := by omega
          have e3 : lj v w me le i ((j - i).toNat + 1) = if tgt v w le i j ≤ me then j else lj v w me le i (j - i).toNat := by
            show (if tgt v w le i (i + (((j - i).toNat : Nat) : Int)) ≤ _ then i + (((j - i).toNat : Nat) : Int) else _) = _
            rw [e2]
          rw [e1, e3] at fL
          refine v_X2_hand_14 ⟨hx.1, hx.2.1.1, ?_⟩
          rw [x3]
          refine ⟨fun c => absurd c (by omega), fun _ => x_loose (by omega) ho hw hn hx hme hle g1 f1 f2 (am_av ?_)⟩
          refine v_X2_hand_22 ⟨fun c => ⟨by omega, ?_⟩, fun c => ⟨by omega, ?_⟩⟩
          · rw [if_neg (by omega)] at fL
            exact fL
          · rw [if_pos (by omega)] at fL
            exact fL
        · have lb := lj_bd (v := v) (w := w) (me := me) (le := le) g1 (v 1 - i).toNat
          refine v_X2_hand_14 ⟨hx.1, hx.2.1.1, ?_⟩
          rw [x3]
          refine ⟨fun _ => ⟨fun c => ⟨by omega, ?_⟩, fun c => ?_⟩, fun c => absurd c (by omega)⟩
          · rw [if_neg (by omega)] at HK
            generalize lj v w me le i (v 1 - i).toNat = q at lb c HK ⊢
            refine x_stands (by omega) ho hw hn hx hme hle hmo g1 (by omega) (by omega) (am_av ?_)
            have e01 := am_bz (¬ stn v w me le mo i q)
            refine v_X2_hand_37 ⟨fun d => ?_, fun d => ?_⟩
            · rw [am_bt (am_b0 d)] at HK
              exact ⟨by omega, ih _ _ _ _ _ (by omega) (by omega) (by omega) (by omega) (by omega) HK⟩
            · rw [am_bf (fun z => z (am_b1 d))] at HK
              exact ⟨by omega, ih _ _ _ _ _ (by omega) (by omega) (by omega) (by omega) (by omega) HK⟩
          · rw [if_pos (by omega)] at HK
            exact HK
      have e0 : (i - i).toNat = 0 := by omega
      have i0 := inner i (by omega) (by omega)
      rw [e0] at i0
      exact i0
  exact main 41 0 0 0 _ _ (by omega) (by omega) (by omega) (by omega) (by omega) H
end
