set_option maxRecDepth 100000
section
variable {K : am_K} {b : am_H} {r : Nat} {S : am_G} {V : Nat → Int → Int} {W : Nat → Int}
theorem c_styleOf {mi : Int} {D : Nat} (hD : 4 ≤ D) (hY : okY S) (H : K (.inl (some (.inl (adr (sty S mi))))) (mo b r (ms S) V W)) : am_ev am_prog D 141 [.inr (.inl r), .inl mi] (mo b r (ms S) V W) K := by
  have h0 := hY.1
  obtain ⟨d, rfl⟩ : ∃ d, D = d + 4 := ⟨D - 4, by omega⟩
  refine am_en p_X5_styleOf rfl rfl ?_
  refine w_styleOf_0 ?_
  have main : ∀ k, 0 ≤ k → k ≤ S 0 0 2 → ∀ o : Option am_V, am_W m_X5_styleOf (am_ev am_prog (d + 3)) K 4 [some (.inr (.inl r)), some (.inl (mi)), some (.inl (adr (stI (fun k => S 6 k 0) mi k.toNat))), some (.inl (k)), o] [] (mo b r (ms S) V W) := by
    refine lp_z ?_ ?_
    · intro k h1 h2 hL o
      have e1 : (k + 1).toNat = k.toNat + 1 := by omega
      have e2 : ((k.toNat : Nat) : Int) = k := by omega
      have e3 := stI_bd (g := fun k => S 6 k 0) (mi := mi) k.toNat
      rw [e1] at hL
      unfold stI at hL
      simp only [e2] at hL
      rw [e2] at e3
      generalize stI (fun k => S 6 k 0) mi k.toNat = q at hL e3 ⊢
      refine w_styleOf_4 (p2 := q) ⟨fun c => absurd c (by omega), fun c => ⟨by omega, fun c2 => ⟨by omega, ?_⟩, fun c2 => ⟨fun c3 => ⟨by omega, ?_⟩, fun c3 => ?_⟩⟩⟩
      · rw [if_neg (by omega)] at hL
        exact hL _
      · have e4 : q = -1 := by
          by_cases w : q = -1
          · exact w
          · rw [adr_p (by omega)] at c3
            omega
        rw [if_pos ⟨c2, Or.inl e4⟩, adr_p h1] at hL
        exact hL _
      · have e4 : q ≠ -1 := fun w => c3 (by rw [w]; exact adr_n)
        have e5 : adr q = 320962 + 562 * q := adr_p (by omega)
        refine ⟨⟨by omega, e5, by omega⟩, fun c4 => ⟨by omega, ?_⟩, fun c4 => ⟨by omega, ?_⟩⟩
        · rw [if_neg (by omega)] at hL
          exact hL _
        · rw [if_pos ⟨c2, Or.inr c4⟩, adr_p h1] at hL
          exact hL _
    · intro o
      exact w_styleOf_4 (p2 := 0) ⟨fun c => H, fun c => absurd c (by omega)⟩
  exact main 0 (by omega) h0.1 _
theorem c_said {q k wh wo : Int} {D : Nat} (hD : 4 ≤ D) (hk : k = -1 ∨ ((0 ≤ q ∧ q < 10) ∧ (0 ≤ k ∧ k < 12))) (hw : 0 ≤ wh ∧ wh ≤ 4) (H : K (.inl (some (.inl (if k = -1 then wo else S 6 q (2 + 5 * k + wh))))) (mo b r (ms S) V W)) : am_ev am_prog D 184 [.inr (.inl r), .inl (adr q), .inl k, .inl wh, .inl wo] (mo b r (ms S) V W) K := by
  obtain ⟨d, rfl⟩ : ∃ d, D = d + 4 := ⟨D - 4, by omega⟩
  refine am_en p_X5_said rfl rfl ?_
  refine w_said_0 (p1 := q) ⟨fun c => ?_, fun c => am_uv H (if_pos c)⟩
  rcases hk with hk | hk
  · exact absurd hk c
  · have e := adr_p hk.1.1
    refine ⟨⟨by omega, by omega, by omega, by omega, e, by omega, by omega⟩, am_uv H (if_neg c)⟩
theorem c_lastRule {q w : Int} {D : Nat} (hD : 5 ≤ D) (hY : okY S) (hq : q = -1 ∨ (0 ≤ q ∧ q < S 0 0 2)) (ht : ∀ i, 0 ≤ i → i < 3 → V 11 i = 0 ∨ V 11 i = 1) (H : ∀ V' W', fa [13] V V' → fa [62] W W' → K (.inl (some (.inl (if q = -1 then -1 else lastR (S 6 q) (V 11) (V 12) w (S 6 q 1).toNat)))) (mo b r (ms S) V' W')) : am_ev am_prog D 183 [.inr (.inl r), .inl (adr q), .inl w] (mo b r (ms S) V W) K := by
  obtain ⟨d, rfl⟩ : ∃ d, D = d + 4 := ⟨D - 4, by omega⟩
  refine am_en p_X5_lastRule rfl rfl ?_
  refine w_lastRule_0 ?_
  rcases hq with hq | hq
  · subst hq
    refine w_lastRule_4 (p1 := 0) ⟨fun c => ?_, fun c => absurd adr_n c⟩
    exact H V W fa_refl fa_refl
  · have h0 := hY.1
    have h1 := hY.2 q hq.1 hq.2
    have e := adr_p hq.1
    rw [if_neg (show ¬ (q = -1) by omega)] at H
    rw [e]
    have main : ∀ k, 0 ≤ k → k ≤ S 6 q 1 → ∀ V' W', fa [13] V V' → fa [62] W W' → am_W m_X5_lastRule (am_ev am_prog (d + 3)) K 4 [some (.inr (.inl r)), some (.inl (320962 + 562 * q)), some (.inl (w)), some (.inl (lastR (S 6 q) (V 11) (V 12) w k.toNat)), some (.inl (k))] [] (mo b r (ms S) V' W') := by
      refine lp_z ?_ ?_
      · intro k g1 g2 hL V' W' hV hW
        have e1 : (k + 1).toNat = k.toNat + 1 := by omega
        have e2 : ((k.toNat : Nat) : Int) = k := by omega
        have e11 : V' 11 = V 11 := hV 11 rfl
        have e12 : V' 12 = V 12 := hV 12 rfl
        have g3 := h1.2.2 k g1 g2
        rw [e1] at hL
        unfold lastR at hL
        simp only [e2] at hL
        generalize lastR (S 6 q) (V 11) (V 12) w k.toNat = z at hL ⊢
        refine w_lastRule_4 (p1 := q) ⟨fun c => absurd c (by omega), fun c => ⟨⟨by omega, rfl, by omega⟩, fun c => absurd c (by omega), fun c2 => ⟨⟨by omega, by omega, by omega, rfl, by omega, by omega⟩, fun c3 => ⟨by omega, ?_⟩, fun c3 => ?_⟩⟩⟩
        · have := hL V' W' hV hW
          rw [if_neg (fun w => c3 w.1)] at this
          exact this
        · refine c_holds (by omega) (by omega) (by omega) g3.1 (by rw [e11]; exact ht) (fun V2 W2 a1 a2 => am_av ?_)
          rw [e11, e12]
          have := hL V2 W2 (fa_trans hV a1) (fa_trans hW a2)
          refine w_lastRule_31 ⟨fun c4 => ⟨by omega, ?_⟩, fun c4 => ⟨by omega, ?_⟩⟩
          · rw [if_neg (fun w => w.2 c4)] at this
            exact this
          · rw [if_pos ⟨c3, c4⟩] at this
            exact this
      · intro V' W' hV hW
        exact w_lastRule_4 (p1 := q) ⟨fun c => absurd c (by omega), fun c => ⟨⟨by omega, rfl, by omega⟩, fun c => H V' W' hV hW, fun c => absurd c (by omega)⟩⟩
    exact main 0 (by omega) (by omega) V W fa_refl fa_refl
theorem c_factsOf {p mi : Int} {D : Nat} (hD : 4 ≤ D) (hp : 0 ≤ p ∧ p < 100) (H : ∀ V', fa [11, 12] V V' → (∀ i, 0 ≤ i → i < 3 → V' 11 i = tgs S p mi 0 i) → (∀ i, 0 ≤ i → i < 6 → V' 12 i = fcs S p mi 0 99 i) → K (.inl none) (mo b r (ms S) V' W)) : am_ev am_prog D 182 [.inr (.inl r), .inl p, .inl mi] (mo b r (ms S) V W) K := by
  obtain ⟨d, rfl⟩ : ∃ d, D = d + 4 := ⟨D - 4, by omega⟩
  refine am_en p_X5_factsOf rfl rfl ?_
  refine w_factsOf_0 ⟨by omega, by omega, by omega, by omega, H _ (fa_up (fa_up fa_refl rfl) rfl) ?_ ?_⟩
  · intro i h1 h2
    rw [am_up_ne (by decide), am_up_eq]
    unfold am_uz tgs
    have h3 : i = 0 ∨ i = 1 ∨ i = 2 := by omega
    rcases h3 with h3 | h3 | h3 <;> subst h3 <;> rfl
  · intro i h1 h2
    rw [am_up_eq]
    unfold am_uz fcs
    have h3 : i = 0 ∨ i = 1 ∨ i = 2 ∨ i = 3 ∨ i = 4 ∨ i = 5 := by omega
    rcases h3 with h3 | h3 | h3 | h3 | h3 | h3 <;> subst h3 <;> rfl
theorem c_tells {p mi : Int} {D : Nat} (hD : 6 ≤ D) (hY : okY S) (hp : 0 ≤ p ∧ p < 100) (H : ∀ V' W', fa [11, 12, 13] V V' → fa [62, 63, 64, 65, 66, 67, 68] W W' → W' 63 = meS S p mi → W' 64 = mrS S p mi → W' 65 = leS S p mi → W' 66 = moS S p mi → W' 67 = coS S p mi → W' 68 = ftS S p mi → K (.inl none) (mo b r (ms S) V' W')) : am_ev am_prog D 178 [.inr (.inl r), .inl p, .inl mi] (mo b r (ms S) V W) K := by
  have h0 := hY.1
  have hs := sty_bd (mi := mi) hY
  have hq : sty S mi = -1 ∨ (0 ≤ sty S mi ∧ sty S mi < S 0 0 2) := by omega
  obtain ⟨d, rfl⟩ : ∃ d, D = d + 4 := ⟨D - 4, by omega⟩
  refine am_en p_X5_tells rfl rfl ?_
  refine w_tells_0 (c_factsOf (by omega) hp (fun V1 a1 t1 f1 => am_an ?_))
  have ht : ∀ V' : Nat → Int → Int, V' 11 = V1 11 → ∀ i, 0 ≤ i → i < 3 → V' 11 i = 0 ∨ V' 11 i = 1 := fun V' e i x y => by
    rw [e, t1 i x y]
    exact tgs_01 (Or.inl rfl) i
  have hl : ∀ (V' : Nat → Int → Int) (w : Int), V' 11 = V1 11 → V' 12 = V1 12 → (if sty S mi = -1 then -1 else lastR (S 6 (sty S mi)) (V' 11) (V' 12) w (S 6 (sty S mi) 1).toNat) = lrl S (tgs S p mi 0) (fcs S p mi 0 99) mi w := fun V' w e1 e2 => by
    unfold lrl
    rw [e1, e2, lastR_cg t1 f1]
  have hk : ∀ w, lrl S (tgs S p mi 0) (fcs S p mi 0 99) mi w = -1 ∨ ((0 ≤ sty S mi ∧ sty S mi < 10) ∧ (0 ≤ lrl S (tgs S p mi 0) (fcs S p mi 0 99) mi w ∧ lrl S (tgs S p mi 0) (fcs S p mi 0 99) mi w < 12)) := fun w => by
    rcases lrl_bd (tg := tgs S p mi 0) (fc := fcs S p mi 0 99) (mi := mi) (w := w) hY with e | ⟨e1, e2, e3⟩
    · exact Or.inl e
    · have := (hY.2 _ e1.1 e1.2).2.1
      exact Or.inr ⟨by omega, by omega⟩
  refine w_tells_4 (c_styleOf (by omega) hY (am_av ?_))
  refine w_tells_7 (c_lastRule (by omega) hY hq (ht _ rfl) (fun V2 W2 a2 b2 => am_av ?_))
  rw [hl _ _ rfl rfl]
  refine w_tells_13 (c_said (by omega) (hk 0) (by omega) (am_av ?_))
  refine w_tells_22 (c_lastRule (by omega) hY hq (ht _ (a2 11 rfl)) (fun V3 W3 a3 b3 => am_av ?_))
  rw [hl _ _ (a2 11 rfl) (a2 12 rfl)]
  refine w_tells_27 (c_said (by omega) (hk 1) (by omega) (am_av ?_))
  refine w_tells_35 (c_said (by omega) (hk 1) (by omega) (am_av ?_))
  refine w_tells_43 (c_lastRule (by omega) hY hq (ht _ ((a3 11 rfl).trans (a2 11 rfl))) (fun V4 W4 a4 b4 => am_av ?_))
  rw [hl _ _ ((a3 11 rfl).trans (a2 11 rfl)) ((a3 12 rfl).trans (a2 12 rfl))]
  refine w_tells_51 (c_said (by omega) (hk 2) (by omega) (am_av ?_))
  refine w_tells_54 (c_lastRule (by omega) hY hq (ht _ ((a4 11 rfl).trans ((a3 11 rfl).trans (a2 11 rfl)))) (fun V5 W5 a5 b5 => am_av ?_))
  rw [hl _ _ ((a4 11 rfl).trans ((a3 11 rfl).trans (a2 11 rfl))) ((a4 12 rfl).trans ((a3 12 rfl).trans (a2 12 rfl)))]
  refine w_tells_62 (c_said (by omega) (hk 3) (by omega) (am_av ?_))
  refine w_tells_65 ?_
  have c63 : W5 63 = meS S p mi := (b5 63 rfl).trans ((am_up_ne (by decide)).trans ((b4 63 rfl).trans ((am_up_ne (by decide)).trans ((am_up_ne (by decide)).trans ((b3 63 rfl).trans am_up_eq)))))
  have c64 : W5 64 = mrS S p mi := (b5 64 rfl).trans ((am_up_ne (by decide)).trans ((b4 64 rfl).trans ((am_up_ne (by decide)).trans ((am_up_ne (by decide)).trans ((b3 64 rfl).trans ((am_up_ne (by decide)).trans am_up_eq))))))
  have c65 : W5 65 = leS S p mi := (b5 65 rfl).trans ((am_up_ne (by decide)).trans ((b4 65 rfl).trans ((am_up_ne (by decide)).trans am_up_eq)))
  have c66 : W5 66 = moS S p mi := (b5 66 rfl).trans ((am_up_ne (by decide)).trans ((b4 66 rfl).trans am_up_eq))
  have c67 : W5 67 = coS S p mi := (b5 67 rfl).trans am_up_eq
  refine H V5 _ ?_ ?_ ((am_up_ne (by decide)).trans c63) ((am_up_ne (by decide)).trans c64) ((am_up_ne (by decide)).trans c65) ((am_up_ne (by decide)).trans c66) ((am_up_ne (by decide)).trans c67) am_up_eq
  · exact fa_trans (fa_sub a1 rfl) (fa_trans (fa_sub a2 rfl) (fa_trans (fa_sub a3 rfl) (fa_trans (fa_sub a4 rfl) (fa_sub a5 rfl))))
  · refine fa_up ?_ rfl
    refine fa_trans ?_ (fa_sub b5 rfl)
    refine fa_up ?_ rfl
    refine fa_trans ?_ (fa_sub b4 rfl)
    refine fa_up (fa_up ?_ rfl) rfl
    refine fa_trans ?_ (fa_sub b3 rfl)
    exact fa_up (fa_up (fa_sub b2 rfl) rfl) rfl
end
