set_option maxRecDepth 100000
/-! the model is made -/
theorem mo_big {f : Nat} (h : 94 ≤ f) : mo_f f = 0 := by
  unfold mo_f mo_fl
  simp only [am_lk]
  repeat rw [if_neg (by omega)]
theorem mo_inj0 : ∀ f g : Fin 94, mo_f f.val = mo_f g.val → mo_f f.val ≠ 0 → f.val = g.val := by decide +kernel
theorem mo_inj {f g : Nat} (e : mo_f f = mo_f g) (n : mo_f f ≠ 0) : f = g := by
  have f1 : f < 94 := by
    by_cases c : 94 ≤ f
    · exact absurd (mo_big c) n
    · omega
  have g1 : g < 94 := by
    by_cases c : 94 ≤ g
    · rw [e] at n
      exact absurd (mo_big c) n
    · omega
  exact mo_inj0 ⟨f, f1⟩ ⟨g, g1⟩ e n
/-- slots of the first j arrays -/
def mo_s : Nat → Int
  | 0 => 0
  | j + 1 => mo_s j + mo_n (j + 1)
/-- a heap that holds the model is told by it -/
theorem mo_id {h : am_H} {r : Nat} {m : Int → Int} {V : Nat → Int → Int} {W : Nat → Int} (t : am_ty h r = 5) (tj : ∀ j, 0 < j → j ≤ 35 → am_ty h (r + j) = mo_t j ∧ am_ln h (r + j) = mo_n j) (fi : ∀ f, am_fi h f r = W f) (fr : ∀ f, am_fr h f r = if mo_f f = 0 then 0 else r + mo_f f) (a1 : am_ai h (r + 1) = m) (aj : ∀ j, 1 < j → j ≤ 35 → am_ai h (r + j) = V j) : h = mo h r m V W := by
  obtain ⟨h1, h2, h3, h4, h5, h6, h7, h8, h9⟩ := h
  have t' : h3 r = 5 := t
  have tj' : ∀ j, 0 < j → j ≤ 35 → h3 (r + j) = mo_t j ∧ h4 (r + j) = mo_n j := tj
  have fi' : ∀ f, h5 f r = W f := fi
  have fr' : ∀ f, h6 f r = if mo_f f = 0 then 0 else r + mo_f f := fr
  have a1' : h7 (r + 1) = m := a1
  have aj' : ∀ j, 1 < j → j ≤ 35 → h7 (r + j) = V j := aj
  unfold mo
  simp only [Prod.mk.injEq, true_and, and_true]
  refine ⟨?_, ?_, ?_, ?_, ?_⟩
  · funext q
    by_cases c : q = r
    · rw [if_pos c, c]
      exact t'
    · rw [if_neg c]
      by_cases c2 : r < q ∧ q ≤ r + 35
      · rw [if_pos c2]
        have e := (tj' (q - r) (by omega) (by omega)).1
        have e2 : r + (q - r) = q := by omega
        rw [e2] at e
        exact e
      · rw [if_neg c2]
  · funext q
    by_cases c2 : r < q ∧ q ≤ r + 35
    · rw [if_pos c2]
      have e := (tj' (q - r) (by omega) (by omega)).2
      have e2 : r + (q - r) = q := by omega
      rw [e2] at e
      exact e
    · rw [if_neg c2]
  · funext f q
    by_cases c : q = r
    · rw [if_pos c, c]
      exact fi' f
    · rw [if_neg c]
  · funext f q
    by_cases c : q = r
    · rw [if_pos c, c]
      exact fr' f
    · rw [if_neg c]
  · funext q
    by_cases c2 : r < q ∧ q ≤ r + 35
    · rw [if_pos c2]
      by_cases c3 : q = r + 1
      · rw [if_pos c3, c3]
        exact a1'
      · rw [if_neg c3]
        have e := aj' (q - r) (by omega) (by omega)
        have e2 : r + (q - r) = q := by omega
        rw [e2] at e
        exact e
    · rw [if_neg c2]
/-- the first j arrays are there -/
def MoP (b h : am_H) (r j : Nat) (W : Nat → Int) : Prop := fx (fun q => q = r) b h ∧ (am_sz h = r + j ∧ (am_us h : Int) = am_us b + mo_s j) ∧ am_ty h r = 5 ∧ (∀ f, am_fi h f r = W f) ∧ (∀ f, am_fr h f r = if mo_f f ≠ 0 ∧ mo_f f ≤ j then r + mo_f f else 0) ∧ ∀ i, 0 < i → i ≤ j → am_ty h (r + i) = mo_t i ∧ am_ln h (r + i) = mo_n i ∧ am_ai h (r + i) = fun _ => 0
theorem MoP_z {b h : am_H} {r j : Nat} {W : Nat → Int} (x : MoP b h r j W) : r ≤ am_sz h := by
  have := x.2.1.1
  omega
theorem MoP_i {b h : am_H} {r j f : Nat} {v : Int} {W : Nat → Int} (x : MoP b h r j W) : MoP b (am_sfi h f r v) r j (am_up W f v) := by
  obtain ⟨x1, x2, x3, x4, x5, x6⟩ := x
  refine ⟨fx_sfi x1 (Or.inr rfl), x2, x3, fun g => ?_, x5, x6⟩
  by_cases e : g = f
  · rw [e, x_fie, am_up_eq]
  · rw [x_fif e, am_up_ne e]
    exact x4 g
theorem MoP_s {b h : am_H} {r j f t n : Nat} {W : Nat → Int} (x : MoP b h r j W) (ht : mo_t (j + 1) = t) (hn : mo_n (j + 1) = (n : Int)) (hf : mo_f f = j + 1) : MoP b (am_sfr (am_new h t n) f r (am_sz h + 1)) r (j + 1) W := by
  have z := MoP_z x
  obtain ⟨x1, x2, x3, x4, x5, x6⟩ := x
  refine ⟨fx_sfr (fx_new x1) (Or.inr rfl), ⟨?_, ?_⟩, (x_tyn (h := h) (t := t) (n := n) z).trans x3, fun g => (x_fin (h := h) (t := t) (n := n) z).trans (x4 g), fun g => ?_, fun i i0 i1 => ?_⟩
  · show am_sz h + 1 = r + (j + 1)
    omega
  · show ((am_us h + n : Nat) : Int) = am_us b + (mo_s j + mo_n (j + 1))
    rw [hn]
    omega
  · by_cases e : g = f
    · rw [e, x_fre, if_pos ⟨by omega, by omega⟩, hf]
      omega
    · rw [x_frf e, x_frn z, x5 g]
      have ne : mo_f g ≠ j + 1 := fun q => e (mo_inj (q.trans hf.symm) (by omega))
      by_cases c : mo_f g ≠ 0 ∧ mo_f g ≤ j
      · rw [if_pos c, if_pos ⟨c.1, by omega⟩]
      · rw [if_neg c, if_neg (fun y => c ⟨y.1, by omega⟩)]
  · by_cases e : i = j + 1
    · rw [e]
      have er : r + (j + 1) = am_sz h + 1 := by omega
      rw [er]
      exact ⟨(x_tyn0 (h := h) (t := t) (n := n) rfl).trans ht.symm, (x_lnn0 (h := h) (t := t) (n := n) rfl).trans hn.symm, x_ain0 (h := h) (t := t) (n := n) rfl⟩
    · have q := x6 i i0 (by omega)
      have iz : r + i ≤ am_sz h := by omega
      exact ⟨(x_tyn (h := h) (t := t) (n := n) iz).trans q.1, (x_lnn (h := h) (t := t) (n := n) iz).trans q.2.1, (x_ain (h := h) (t := t) (n := n) iz).trans q.2.2⟩
/-- the row as the constructor fills it: widths, then pages ahead of p -/
def mi1 (k : Int) : Int → Int := fun j => if 16 ≤ j ∧ j < 16 + k then 4 else 0
def mi2 (p : Int) : Int → Int := fun j => if 16 ≤ j ∧ j < 70 then 4 else if 327382 ≤ j ∧ j < 327382 + 185 * p then (if (j - 327382) % 185 = 0 then 1 else if (j - 327382) % 185 = 1 then 20 else if (j - 327382) % 185 = 3 then -1 else 0) else 0
theorem mi1_s {k : Int} (h : 0 ≤ k ∧ k < 54) : am_uz (mi1 k) (16 + k) 4 = mi1 (k + 1) := by
  funext j
  unfold am_uz mi1
  by_cases e : j = 16 + k
  · rw [if_pos e, if_pos (by omega)]
  · rw [if_neg e]
    by_cases c : 16 ≤ j ∧ j < 16 + k
    · rw [if_pos c, if_pos (by omega)]
    · rw [if_neg c, if_neg (by omega)]
theorem mi1_e : mi1 54 = mi2 0 := by
  funext j
  unfold mi1 mi2
  by_cases c : 16 ≤ j ∧ j < 70
  · rw [if_pos (by omega), if_pos c]
  · rw [if_neg (by omega), if_neg c, if_neg (by omega)]
theorem mi2_s {p : Int} (h : 0 ≤ p ∧ p < 6) : am_uz (am_uz (am_uz (mi2 p) (327382 + 185 * p) 1) (327382 + 185 * p + 1) 20) (327382 + 185 * p + 3) (-1) = mi2 (p + 1) := by
  funext j
  unfold am_uz mi2
  by_cases e3 : j = 327382 + 185 * p + 3
  · rw [if_pos e3, if_neg (by omega), if_pos (by omega), if_neg (by omega), if_neg (by omega), if_pos (by omega)]
  · rw [if_neg e3]
    by_cases e1 : j = 327382 + 185 * p + 1
    · rw [if_pos e1, if_neg (by omega), if_pos (by omega), if_neg (by omega), if_pos (by omega)]
    · rw [if_neg e1]
      by_cases e0 : j = 327382 + 185 * p
      · rw [if_pos e0, if_neg (by omega), if_pos (by omega), if_pos (by omega)]
      · rw [if_neg e0]
        by_cases c : 16 ≤ j ∧ j < 70
        · rw [if_pos c, if_pos c]
        · rw [if_neg c, if_neg c]
          by_cases c2 : 327382 ≤ j ∧ j < 327382 + 185 * p
          · rw [if_pos c2, if_pos (show 327382 ≤ j ∧ j < 327382 + 185 * (p + 1) by omega)]
          · rw [if_neg c2]
            by_cases c3 : 327382 ≤ j ∧ j < 327382 + 185 * (p + 1)
            · rw [if_pos c3, if_neg (by omega), if_neg (by omega), if_neg (by omega)]
            · rw [if_neg c3]
theorem mi2_e : mi2 6 = ms nt0 := by
  funext j
  unfold ms
  by_cases c : 0 ≤ j ∧ j < 337220
  · rw [if_pos c]
    unfold rc mi2
    by_cases c1 : j < 16
    · rw [if_pos c1, if_neg (by omega), if_neg (by omega)]
      rfl
    · rw [if_neg c1]
      by_cases c2 : j < 70
      · rw [if_pos c2, if_pos (by omega)]
        rfl
      · rw [if_neg c2, if_neg (by omega)]
        by_cases c3 : j < 130
        · rw [if_pos c3, if_neg (by omega)]
          rfl
        · rw [if_neg c3]
          by_cases c4 : j < 64630
          · rw [if_pos c4, if_neg (by omega)]
            rfl
          · rw [if_neg c4]
            by_cases c5 : j < 320230
            · rw [if_pos c5, if_neg (by omega)]
              rfl
            · rw [if_neg c5]
              by_cases c6 : j < 320962
              · rw [if_pos c6, if_neg (by omega)]
                rfl
              · rw [if_neg c6]
                by_cases c7 : j < 326582
                · rw [if_pos c7, if_neg (by omega)]
                  rfl
                · rw [if_neg c7]
                  by_cases c8 : j < 327382
                  · rw [if_pos c8, if_neg (by omega)]
                    rfl
                  · rw [if_neg c8]
                    by_cases c9 : j < 328492
                    · rw [if_pos c9, if_pos (by omega)]
                      rfl
                    · rw [if_neg c9, if_neg (by omega)]
                      by_cases c10 : j < 337180
                      · rw [if_pos c10]
                        rfl
                      · rw [if_neg c10]
                        rfl
  · rw [if_neg c]
    unfold mi2
    rw [if_neg (by omega), if_neg (by omega)]
section
variable {K : am_K} {r : Nat}
/-- the arrays are made: on from there -/
theorem M_init1 {b h0 : am_H} {d : Nat} {W : Nat → Int} {o1 : Option am_V} (M0 : MoP b h0 r 0 W) (H : ∀ h', MoP b h' r 35 (am_up W 47 (-1)) → ∀ o1, am_W m_X5_init (am_ev am_prog (d + 3)) K 145 [some (.inr (.inl r)), o1] [] h') : am_W m_X5_init (am_ev am_prog (d + 3)) K 0 [some (.inr (.inl r)), o1] [] h0 := by
  have M1 := MoP_s (f := 39) (t := 101) (n := Int.toNat 337220) M0 rfl (by decide) rfl
  refine r_X5_init_0 ⟨M0.2.2.1, by decide, r_X5_init_5 ⟨(x_tyn (MoP_z M0)).trans M0.2.2.1, ?_⟩⟩
  generalize am_sfr (am_new h0 101 (Int.toNat 337220)) 39 r (am_sz h0 + 1) = h1 at *
  have M2 := MoP_s (f := 40) (t := 101) (n := Int.toNat 337220) M1 rfl (by decide) rfl
  refine r_X5_init_6 ⟨by decide, r_X5_init_9 ⟨(x_tyn (MoP_z M1)).trans M1.2.2.1, ?_⟩⟩
  generalize am_sfr (am_new h1 101 (Int.toNat 337220)) 40 r (am_sz h1 + 1) = h2 at *
  clear M1
  have M3 := MoP_s (f := 41) (t := 101) (n := Int.toNat 337220) M2 rfl (by decide) rfl
  refine r_X5_init_10 ⟨by decide, r_X5_init_13 ⟨(x_tyn (MoP_z M2)).trans M2.2.2.1, ?_⟩⟩
  generalize am_sfr (am_new h2 101 (Int.toNat 337220)) 41 r (am_sz h2 + 1) = h3 at *
  clear M2
  have M4 := MoP_s (f := 43) (t := 101) (n := Int.toNat 400) M3 rfl (by decide) rfl
  refine r_X5_init_14 ⟨by decide, r_X5_init_17 ⟨(x_tyn (MoP_z M3)).trans M3.2.2.1, ?_⟩⟩
  generalize am_sfr (am_new h3 101 (Int.toNat 400)) 43 r (am_sz h3 + 1) = h4 at *
  clear M3
  have N4 := MoP_i (f := 47) (v := -1) M4
  refine r_X5_init_18 ⟨M4.2.2.1, ?_⟩
  generalize am_sfi h4 47 r (-1) = g4 at *
  clear M4
  have M5 := MoP_s (f := 50) (t := 101) (n := Int.toNat 200) N4 rfl (by decide) rfl
  refine r_X5_init_21 ⟨by decide, r_X5_init_24 ⟨(x_tyn (MoP_z N4)).trans N4.2.2.1, ?_⟩⟩
  generalize am_sfr (am_new g4 101 (Int.toNat 200)) 50 r (am_sz g4 + 1) = h5 at *
  clear N4
  have M6 := MoP_s (f := 51) (t := 101) (n := Int.toNat 200) M5 rfl (by decide) rfl
  refine r_X5_init_25 ⟨by decide, r_X5_init_28 ⟨(x_tyn (MoP_z M5)).trans M5.2.2.1, ?_⟩⟩
  generalize am_sfr (am_new h5 101 (Int.toNat 200)) 51 r (am_sz h5 + 1) = h6 at *
  clear M5
  have M7 := MoP_s (f := 52) (t := 101) (n := Int.toNat 2400) M6 rfl (by decide) rfl
  refine r_X5_init_29 ⟨by decide, r_X5_init_32 ⟨(x_tyn (MoP_z M6)).trans M6.2.2.1, ?_⟩⟩
  generalize am_sfr (am_new h6 101 (Int.toNat 2400)) 52 r (am_sz h6 + 1) = h7 at *
  clear M6
  have M8 := MoP_s (f := 53) (t := 101) (n := Int.toNat 5) M7 rfl (by decide) rfl
  refine r_X5_init_33 ⟨by decide, r_X5_init_36 ⟨(x_tyn (MoP_z M7)).trans M7.2.2.1, ?_⟩⟩
  generalize am_sfr (am_new h7 101 (Int.toNat 5)) 53 r (am_sz h7 + 1) = h8 at *
  clear M7
  have M9 := MoP_s (f := 54) (t := 101) (n := Int.toNat 5) M8 rfl (by decide) rfl
  refine r_X5_init_37 ⟨by decide, r_X5_init_40 ⟨(x_tyn (MoP_z M8)).trans M8.2.2.1, ?_⟩⟩
  generalize am_sfr (am_new h8 101 (Int.toNat 5)) 54 r (am_sz h8 + 1) = h9 at *
  clear M8
  have M10 := MoP_s (f := 56) (t := 101) (n := Int.toNat 562) M9 rfl (by decide) rfl
  refine r_X5_init_41 ⟨by decide, r_X5_init_44 ⟨(x_tyn (MoP_z M9)).trans M9.2.2.1, ?_⟩⟩
  generalize am_sfr (am_new h9 101 (Int.toNat 562)) 56 r (am_sz h9 + 1) = h10 at *
  clear M9
  have M11 := MoP_s (f := 59) (t := 103) (n := Int.toNat 3) M10 rfl (by decide) rfl
  refine r_X5_init_45 ⟨by decide, r_X5_init_48 ⟨(x_tyn (MoP_z M10)).trans M10.2.2.1, ?_⟩⟩
  generalize am_sfr (am_new h10 103 (Int.toNat 3)) 59 r (am_sz h10 + 1) = h11 at *
  clear M10
  have M12 := MoP_s (f := 60) (t := 101) (n := Int.toNat 6) M11 rfl (by decide) rfl
  refine r_X5_init_49 ⟨by decide, r_X5_init_52 ⟨(x_tyn (MoP_z M11)).trans M11.2.2.1, ?_⟩⟩
  generalize am_sfr (am_new h11 101 (Int.toNat 6)) 60 r (am_sz h11 + 1) = h12 at *
  clear M11
  have M13 := MoP_s (f := 61) (t := 103) (n := Int.toNat 100) M12 rfl (by decide) rfl
  refine r_X5_init_53 ⟨by decide, r_X5_init_56 ⟨(x_tyn (MoP_z M12)).trans M12.2.2.1, ?_⟩⟩
  generalize am_sfr (am_new h12 103 (Int.toNat 100)) 61 r (am_sz h12 + 1) = h13 at *
  clear M12
  have M14 := MoP_s (f := 69) (t := 101) (n := Int.toNat 41) M13 rfl (by decide) rfl
  refine r_X5_init_57 ⟨by decide, r_X5_init_60 ⟨(x_tyn (MoP_z M13)).trans M13.2.2.1, ?_⟩⟩
  generalize am_sfr (am_new h13 101 (Int.toNat 41)) 69 r (am_sz h13 + 1) = h14 at *
  clear M13
  have M15 := MoP_s (f := 70) (t := 101) (n := Int.toNat 41) M14 rfl (by decide) rfl
  refine r_X5_init_61 ⟨by decide, r_X5_init_64 ⟨(x_tyn (MoP_z M14)).trans M14.2.2.1, ?_⟩⟩
  generalize am_sfr (am_new h14 101 (Int.toNat 41)) 70 r (am_sz h14 + 1) = h15 at *
  clear M14
  have M16 := MoP_s (f := 71) (t := 101) (n := Int.toNat 41) M15 rfl (by decide) rfl
  refine r_X5_init_65 ⟨by decide, r_X5_init_68 ⟨(x_tyn (MoP_z M15)).trans M15.2.2.1, ?_⟩⟩
  generalize am_sfr (am_new h15 101 (Int.toNat 41)) 71 r (am_sz h15 + 1) = h16 at *
  clear M15
  have M17 := MoP_s (f := 72) (t := 101) (n := Int.toNat 430) M16 rfl (by decide) rfl
  refine r_X5_init_69 ⟨by decide, r_X5_init_72 ⟨(x_tyn (MoP_z M16)).trans M16.2.2.1, ?_⟩⟩
  generalize am_sfr (am_new h16 101 (Int.toNat 430)) 72 r (am_sz h16 + 1) = h17 at *
  clear M16
  have M18 := MoP_s (f := 74) (t := 101) (n := Int.toNat 27) M17 rfl (by decide) rfl
  refine r_X5_init_73 ⟨by decide, r_X5_init_76 ⟨(x_tyn (MoP_z M17)).trans M17.2.2.1, ?_⟩⟩
  generalize am_sfr (am_new h17 101 (Int.toNat 27)) 74 r (am_sz h17 + 1) = h18 at *
  clear M17
  have M19 := MoP_s (f := 75) (t := 103) (n := Int.toNat 41) M18 rfl (by decide) rfl
  refine r_X5_init_77 ⟨by decide, r_X5_init_80 ⟨(x_tyn (MoP_z M18)).trans M18.2.2.1, ?_⟩⟩
  generalize am_sfr (am_new h18 103 (Int.toNat 41)) 75 r (am_sz h18 + 1) = h19 at *
  clear M18
  have M20 := MoP_s (f := 76) (t := 101) (n := Int.toNat 17200) M19 rfl (by decide) rfl
  refine r_X5_init_81 ⟨by decide, r_X5_init_84 ⟨(x_tyn (MoP_z M19)).trans M19.2.2.1, ?_⟩⟩
  generalize am_sfr (am_new h19 101 (Int.toNat 17200)) 76 r (am_sz h19 + 1) = h20 at *
  clear M19
  have M21 := MoP_s (f := 77) (t := 101) (n := Int.toNat 40) M20 rfl (by decide) rfl
  refine r_X5_init_85 ⟨by decide, r_X5_init_88 ⟨(x_tyn (MoP_z M20)).trans M20.2.2.1, ?_⟩⟩
  generalize am_sfr (am_new h20 101 (Int.toNat 40)) 77 r (am_sz h20 + 1) = h21 at *
  clear M20
  have M22 := MoP_s (f := 78) (t := 101) (n := Int.toNat 40) M21 rfl (by decide) rfl
  refine r_X5_init_89 ⟨by decide, r_X5_init_92 ⟨(x_tyn (MoP_z M21)).trans M21.2.2.1, ?_⟩⟩
  generalize am_sfr (am_new h21 101 (Int.toNat 40)) 78 r (am_sz h21 + 1) = h22 at *
  clear M21
  have M23 := MoP_s (f := 79) (t := 101) (n := Int.toNat 645) M22 rfl (by decide) rfl
  refine r_X5_init_93 ⟨by decide, r_X5_init_96 ⟨(x_tyn (MoP_z M22)).trans M22.2.2.1, ?_⟩⟩
  generalize am_sfr (am_new h22 101 (Int.toNat 645)) 79 r (am_sz h22 + 1) = h23 at *
  clear M22
  have M24 := MoP_s (f := 80) (t := 101) (n := Int.toNat 40) M23 rfl (by decide) rfl
  refine r_X5_init_97 ⟨by decide, r_X5_init_100 ⟨(x_tyn (MoP_z M23)).trans M23.2.2.1, ?_⟩⟩
  generalize am_sfr (am_new h23 101 (Int.toNat 40)) 80 r (am_sz h23 + 1) = h24 at *
  clear M23
  have M25 := MoP_s (f := 81) (t := 101) (n := Int.toNat 40) M24 rfl (by decide) rfl
  refine r_X5_init_101 ⟨by decide, r_X5_init_104 ⟨(x_tyn (MoP_z M24)).trans M24.2.2.1, ?_⟩⟩
  generalize am_sfr (am_new h24 101 (Int.toNat 40)) 81 r (am_sz h24 + 1) = h25 at *
  clear M24
  have M26 := MoP_s (f := 82) (t := 101) (n := Int.toNat 480) M25 rfl (by decide) rfl
  refine r_X5_init_105 ⟨by decide, r_X5_init_108 ⟨(x_tyn (MoP_z M25)).trans M25.2.2.1, ?_⟩⟩
  generalize am_sfr (am_new h25 101 (Int.toNat 480)) 82 r (am_sz h25 + 1) = h26 at *
  clear M25
  have M27 := MoP_s (f := 83) (t := 101) (n := Int.toNat 4) M26 rfl (by decide) rfl
  refine r_X5_init_109 ⟨by decide, r_X5_init_112 ⟨(x_tyn (MoP_z M26)).trans M26.2.2.1, ?_⟩⟩
  generalize am_sfr (am_new h26 101 (Int.toNat 4)) 83 r (am_sz h26 + 1) = h27 at *
  clear M26
  have M28 := MoP_s (f := 84) (t := 101) (n := Int.toNat 4) M27 rfl (by decide) rfl
  refine r_X5_init_113 ⟨by decide, r_X5_init_116 ⟨(x_tyn (MoP_z M27)).trans M27.2.2.1, ?_⟩⟩
  generalize am_sfr (am_new h27 101 (Int.toNat 4)) 84 r (am_sz h27 + 1) = h28 at *
  clear M27
  have M29 := MoP_s (f := 85) (t := 101) (n := Int.toNat 4) M28 rfl (by decide) rfl
  refine r_X5_init_117 ⟨by decide, r_X5_init_120 ⟨(x_tyn (MoP_z M28)).trans M28.2.2.1, ?_⟩⟩
  generalize am_sfr (am_new h28 101 (Int.toNat 4)) 85 r (am_sz h28 + 1) = h29 at *
  clear M28
  have M30 := MoP_s (f := 86) (t := 101) (n := Int.toNat 4) M29 rfl (by decide) rfl
  refine r_X5_init_121 ⟨by decide, r_X5_init_124 ⟨(x_tyn (MoP_z M29)).trans M29.2.2.1, ?_⟩⟩
  generalize am_sfr (am_new h29 101 (Int.toNat 4)) 86 r (am_sz h29 + 1) = h30 at *
  clear M29
  have M31 := MoP_s (f := 87) (t := 101) (n := Int.toNat 4) M30 rfl (by decide) rfl
  refine r_X5_init_125 ⟨by decide, r_X5_init_128 ⟨(x_tyn (MoP_z M30)).trans M30.2.2.1, ?_⟩⟩
  generalize am_sfr (am_new h30 101 (Int.toNat 4)) 87 r (am_sz h30 + 1) = h31 at *
  clear M30
  have M32 := MoP_s (f := 88) (t := 101) (n := Int.toNat 3) M31 rfl (by decide) rfl
  refine r_X5_init_129 ⟨by decide, r_X5_init_132 ⟨(x_tyn (MoP_z M31)).trans M31.2.2.1, ?_⟩⟩
  generalize am_sfr (am_new h31 101 (Int.toNat 3)) 88 r (am_sz h31 + 1) = h32 at *
  clear M31
  have M33 := MoP_s (f := 91) (t := 101) (n := Int.toNat 5) M32 rfl (by decide) rfl
  refine r_X5_init_133 ⟨by decide, r_X5_init_136 ⟨(x_tyn (MoP_z M32)).trans M32.2.2.1, ?_⟩⟩
  generalize am_sfr (am_new h32 101 (Int.toNat 5)) 91 r (am_sz h32 + 1) = h33 at *
  clear M32
  have M34 := MoP_s (f := 92) (t := 101) (n := Int.toNat 5) M33 rfl (by decide) rfl
  refine r_X5_init_137 ⟨by decide, r_X5_init_140 ⟨(x_tyn (MoP_z M33)).trans M33.2.2.1, ?_⟩⟩
  generalize am_sfr (am_new h33 101 (Int.toNat 5)) 92 r (am_sz h33 + 1) = h34 at *
  clear M33
  have M35 := MoP_s (f := 93) (t := 101) (n := Int.toNat 4) M34 rfl (by decide) rfl
  refine r_X5_init_141 ⟨by decide, r_X5_init_144 ⟨(x_tyn (MoP_z M34)).trans M34.2.2.1, ?_⟩⟩
  generalize am_sfr (am_new h34 101 (Int.toNat 4)) 93 r (am_sz h34 + 1) = h35 at *
  clear M34
  exact H _ M35 _
theorem M_init {h : am_H} {D : Nat} (hD : 90 ≤ D) (hr : r = am_sz h + 1) (H : ∀ h', fx (fun q => q = r) (am_new h 5 58) h' → h' = mo h' r (ms nt0) (fun _ _ => 0) (am_up (fun _ => 0) 47 (-1)) → am_sz h' = r + 35 → (am_us h' : Int) = am_us h + 58 + mo_s 35 → K (.inl none) h') : am_ev am_prog D 2 [.inr (.inl r)] (am_new h 5 58) K := by
  obtain ⟨d, rfl⟩ : ∃ d, D = d + 4 := ⟨D - 4, by omega⟩
  refine am_en p_X5_init rfl rfl ?_
  have M0 : MoP (am_new h 5 58) (am_new h 5 58) r 0 (fun _ => 0) := by
    refine ⟨fx_refl, ⟨by rw [hr]; rfl, ?_⟩, x_tyn0 hr, fun f => x_fin0 hr, fun f => ?_, fun i i0 i1 => absurd i0 (by omega)⟩
    · show (am_us (am_new h 5 58) : Int) = am_us (am_new h 5 58) + 0
      omega
    · rw [x_frn0 hr, if_neg (fun y => y.1 (by omega))]
  refine M_init1 M0 (fun h1 M o1 => r_X5_init_145 ?_)
  obtain ⟨x1, x2, x3, x4, x5, x6⟩ := M
  have w35 : ∀ f, mo_f f ≤ 35 := fun f => by
    by_cases c : 94 ≤ f
    · rw [mo_big c]
      omega
    · have k : ∀ f : Fin 94, mo_f f.val ≤ 35 := by decide +kernel
      exact k ⟨f, by omega⟩
  have e1 : h1 = mo h1 r (mi1 0) (fun _ _ => 0) (am_up (fun _ => 0) 47 (-1)) := by
    refine mo_id x3 (fun j j0 j1 => ⟨(x6 j j0 j1).1, (x6 j j0 j1).2.1⟩) x4 (fun f => ?_) ?_ (fun j j0 j1 => (x6 j (by omega) j1).2.2)
    · rw [x5 f]
      by_cases c : mo_f f = 0
      · rw [if_pos c, if_neg (fun y => y.1 c)]
      · rw [if_neg c, if_pos ⟨c, w35 f⟩]
    · rw [(x6 1 (by decide) (by decide)).2.2]
      funext j
      unfold mi1
      rw [if_neg (by omega)]
  have H2 : K (.inl none) (mo h1 r (ms nt0) (fun _ _ => 0) (am_up (fun _ => 0) 47 (-1))) := by
    have fm : fx (fun q => q = r) (am_new h 5 58) (mo h1 r (ms nt0) (fun _ _ => 0) (am_up (fun _ => 0) 47 (-1))) := by
      have q : mo h1 r (ms nt0) (fun _ _ => 0) (am_up (fun _ => 0) 47 (-1)) = am_wai h1 (r + 1) (ms nt0) := by
        have e2 : am_wai (mo h1 r (mi1 0) (fun _ _ => 0) (am_up (fun _ => 0) 47 (-1))) (r + 1) (ms nt0) = mo h1 r (ms nt0) (fun _ _ => 0) (am_up (fun _ => 0) 47 (-1)) := mo_w1
        rw [← e1] at e2
        exact e2.symm
      rw [q]
      exact fx_wai x1 (Or.inl (by show am_sz h + 1 < r + 1; omega))
    refine H _ fm ?_ x2.1 ?_
    · unfold mo
      simp only [Prod.mk.injEq, true_and, and_true]
      refine ⟨?_, ?_, ?_, ?_, ?_⟩
      · funext q
        by_cases c : q = r
        · rw [if_pos c, if_pos c]
        · rw [if_neg c, if_neg c]
          by_cases c2 : r < q ∧ q ≤ r + 35
          · rw [if_pos c2, if_pos c2]
          · rw [if_neg c2, if_neg c2]
      · funext q
        by_cases c2 : r < q ∧ q ≤ r + 35
        · rw [if_pos c2, if_pos c2]
        · rw [if_neg c2, if_neg c2]
      · funext f q
        by_cases c : q = r
        · rw [if_pos c, if_pos c]
        · rw [if_neg c, if_neg c]
      · funext f q
        by_cases c : q = r
        · rw [if_pos c, if_pos c]
        · rw [if_neg c, if_neg c]
      · funext q
        by_cases c2 : r < q ∧ q ≤ r + 35
        · rw [if_pos c2, if_pos c2]
        · rw [if_neg c2, if_neg c2]
    · have u := x2.2
      have u0 : am_us (am_new h 5 58) = am_us h + 58 := rfl
      rw [u0] at u
      show (am_us h1 : Int) = am_us h + 58 + mo_s 35
      omega
  have loop2 : ∀ p, 0 ≤ p → p ≤ 6 → am_W m_X5_init (am_ev am_prog (d + 3)) K 161 [some (.inr (.inl r)), some (.inl (p))] [] (mo h1 r (mi2 p) (fun _ _ => 0) (am_up (fun _ => 0) 47 (-1))) := by
    refine lp_z ?_ ?_
    · intro p p0 p1 hL
      refine r_X5_init_161 ⟨fun c => absurd c (by omega), fun _ => r_X5_init_164 ?_⟩
      rw [mo_f39, mo_t1, mo_n1, mo_s1]
      refine ⟨mo_ty, ⟨by omega, by omega⟩, ⟨by omega, by omega⟩, rfl, by omega, r_X5_init_173 ?_⟩
      rw [mo_f39, mo_t1, mo_n1, mo_s1]
      refine ⟨mo_ty, ⟨by omega, by omega⟩, ⟨by omega, by omega⟩, ⟨by omega, by omega⟩, rfl, by omega, r_X5_init_184 ?_⟩
      rw [mo_f39, mo_t1, mo_n1, mo_s1, mi2_s ⟨p0, p1⟩]
      exact ⟨mo_ty, ⟨by omega, by omega⟩, ⟨by omega, by omega⟩, ⟨by omega, by omega⟩, rfl, by omega, r_X5_init_195 ⟨⟨by omega, by omega⟩, hL⟩⟩
    · refine r_X5_init_161 ⟨fun _ => r_X5_init_197 ?_, fun c => absurd c (by omega)⟩
      rw [mi2_e]
      exact H2
  have loop1 : ∀ k, 0 ≤ k → k ≤ 54 → am_W m_X5_init (am_ev am_prog (d + 3)) K 147 [some (.inr (.inl r)), some (.inl (k))] [] (mo h1 r (mi1 k) (fun _ _ => 0) (am_up (fun _ => 0) 47 (-1))) := by
    refine lp_z ?_ ?_
    · intro k k0 k1 hL
      refine r_X5_init_147 ⟨fun c => absurd c (by omega), fun _ => r_X5_init_150 ?_⟩
      rw [mo_f39, mo_t1, mo_n1, mo_s1, mi1_s ⟨k0, k1⟩]
      exact ⟨mo_ty, ⟨by omega, by omega⟩, rfl, by omega, r_X5_init_157 ⟨⟨by omega, by omega⟩, hL⟩⟩
    · refine r_X5_init_147 ⟨fun _ => r_X5_init_159 ?_, fun c => absurd c (by omega)⟩
      rw [mi1_e]
      exact loop2 0 (by omega) (by omega)
  have q := loop1 0 (by omega) (by omega)
  rw [← e1] at q
  exact q
end
