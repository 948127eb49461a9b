set_option maxRecDepth 100000
/-! the component's fit -/
/-- thrown, with more garbage -/
def XTd (h : am_H) (L : am_Lb) (x P N : Nat) (S : am_G) (B : Int) (K : am_K) (ty dz du : Nat) : Prop := ∀ h' q, Nt h' L x P N S B → Out h L x N h' L dz du → am_ty h' q = ty → K (.inr q) h'
theorem bcn_top {x c : Nat} (h : x < 2 ^ c) : ∀ k, bcn x (c + k) = bcn x c ∧ skL x (c + k) = skL x c
  | 0 => ⟨rfl, rfl⟩
  | k + 1 => by
    have ih := bcn_top h k
    have z : x / 2 ^ (c + k) = 0 := Nat.div_eq_of_lt (Nat.lt_of_lt_of_le h (Nat.pow_le_pow_right (by omega) (by omega)))
    have e1 : bcn x (c + (k + 1)) = bcn x (c + k) + x / 2 ^ (c + k) % 2 := rfl
    have e2 : skL x (c + (k + 1)) = skL x (c + k) := if_neg (by show ¬ x / 2 ^ (c + k) % 2 = 1; rw [z]; decide)
    rw [e1, e2, z, ih.1, ih.2]
    exact ⟨rfl, rfl⟩
theorem skL_sur (x : Nat) : ∀ (m : Nat) (s : Int), 0 ≤ s → s < (m : Int) → bt (x : Int) s = 1 → ∃ j, 0 ≤ j ∧ j < ((bcn x m : Nat) : Int) ∧ skL x m j = s
  | 0, s, h1, h2, _ => absurd h2 (by omega)
  | m + 1, s, h1, h2, hb => by
    have e : bcn x (m + 1) = bcn x m + x / 2 ^ m % 2 := rfl
    have es : ∀ j, skL x (m + 1) j = (if x / 2 ^ m % 2 = 1 then am_uz (skL x m) (bcn x m : Nat) (m : Nat) else skL x m) j := fun _ => rfl
    by_cases c : s = (m : Int)
    · have b1 : x / 2 ^ m % 2 = 1 := by
        rw [c] at hb
        unfold bt at hb
        have e1 : ((x : Int)).toNat = x := by omega
        have e2 : ((m : Int)).toNat = m := by omega
        rw [e1, e2] at hb
        omega
      refine ⟨((bcn x m : Nat) : Int), by omega, by omega, ?_⟩
      rw [es, if_pos b1, am_uz_eq, c]
    · obtain ⟨j, j0, j1, ej⟩ := skL_sur x m s h1 (by omega) hb
      refine ⟨j, j0, by omega, ?_⟩
      rw [es]
      by_cases b1 : x / 2 ^ m % 2 = 1
      · rw [if_pos b1, am_uz_ne (by omega)]
        exact ej
      · rw [if_neg b1]
        exact ej
theorem ar_new {h : am_H} {r0 n fld k : Nat} (hr : r0 ≤ am_sz h) (hk : k = am_sz h + 1) : ∃ h', h' = am_sfr (am_new h 101 n) fld r0 k ∧ fx (fun q => q = r0) h h' ∧ am_sz h' = k ∧ am_us h' = am_us h + n ∧ am_fr h' fld r0 = k ∧ (∀ f, f ≠ fld → am_fr h' f r0 = am_fr h f r0) ∧ (∀ f, am_fi h' f r0 = am_fi h f r0) ∧ am_ty h' k = 101 ∧ am_ln h' k = n := by
  exact ⟨_, rfl, fx_sfr (fx_new fx_refl) (Or.inr rfl), hk.symm, rfl, x_fre, fun f e => (x_frf e).trans (x_frn hr), fun f => x_fin (t := 101) (n := n) hr, x_tyn0 (t := 101) (n := n) hk, x_lnn0 (t := 101) (n := n) hk⟩
theorem ne_new {q a : Nat} (h : q ≤ a) (e : q = a + 2) : False := by omega
theorem fi_c {a b : Nat} (h : a = b + 2 + 1 + 1 + 1 + 1) : b + 2 ≤ a := by omega
theorem fi_a {a b c d w : Nat} (h1 : a ≤ b + w) (h2 : b = c + 2 + 1 + 1 + 1 + 1) (h3 : d = c + 2) (h4 : w ≤ 81) : a ≤ d + 85 := by omega
theorem fi_b {a b c d e f g w : Nat} {n : Int} (h1 : a ≤ b + 3 * w) (h2 : b = c + n.toNat) (h3 : c = d + n.toNat) (h4 : d = e + n.toNat) (h5 : e = f + n.toNat) (h6 : f = g) (h7 : w ≤ 81) (h8 : 0 ≤ n ∧ n ≤ 4) : a ≤ g + 259 := by omega
def fA (h0 : am_H) (i : Nat) : Nat := if i = 2 then am_sz h0 + 1 else am_sz h0 + i
section
variable {K : am_K} {h : am_H}
theorem x_init {L : am_Lb} {x P N : Nat} {S : am_G} {B : Int} {h0 : am_H} {pg n : Int} {st : Int → Int} {D : Nat} (hD : 60 ≤ D) (t : Nt h0 L x P N S B) (hC : okC S) (hF : okF S) (hA : okA S) (hH : okH S) (hp : 0 ≤ pg ∧ pg < 6) (hn : 0 ≤ n ∧ n ≤ 4) (hs : ∀ j, 0 ≤ j → j < n → (0 ≤ st j ∧ st j < (S 0 0 1)) ∧ ∀ k, 0 ≤ k → k < S 2 2 (st j) → S 3 (5 * st j + k) 3 ≠ 0) (b : fx (fun _ => False) h0 h) (z : am_sz h = am_sz h0 + 2) (ty26 : am_ty h (am_sz h0 + 2) = 26) (ty1 : am_ty h (am_sz h0 + 1) = 101) (ln1 : am_ln h (am_sz h0 + 1) = n) (ai1 : ∀ j, 0 ≤ j → j < n → am_ai h (am_sz h0 + 1) j = st j) (H : ∀ h', FtX h0 h' (am_sz h0 + 2) N (am_ar h0 (am_fr h0 27 N) pg) (fA h0) n st → FtY h' (am_sz h0 + 2) (fA h0) n (fiR S pg st n.toNat) → am_sz h' ≤ am_sz h + 85 → am_us h' ≤ am_us h + 259 → K (.inl none) h') : am_ev am_prog D 309 [.inr (.inl (am_sz h0 + 2)), .inr (.inl N), .inr (.inl (am_ar h0 (am_fr h0 27 N) pg)), .inr (.inl (am_sz h0 + 1))] h K := by
  obtain ⟨d, rfl⟩ : ∃ d, D = d + 13 := ⟨D - 13, by omega⟩
  refine am_en p_X28_init rfl rfl ?_
  refine v_X28_init_0 ?_
  rw [ln1]
  refine ⟨ty26, ⟨Or.inl ty1, by omega⟩, by omega, by omega, ?_⟩
  have q1 : fx (fun q => q = am_sz h0 + 2) h (am_sfr (am_sfr (am_sfr (am_sfi h 177 (am_sz h0 + 2) (-1)) 170 (am_sz h0 + 2) N) 171 (am_sz h0 + 2) (am_ar h0 (am_fr h0 27 N) pg)) 172 (am_sz h0 + 2) (am_sz h0 + 1)) := fx_sfr (fx_sfr (fx_sfr (fx_sfi fx_refl (Or.inr rfl)) (Or.inr rfl)) (Or.inr rfl)) (Or.inr rfl)
  have q2 : am_sz (am_sfr (am_sfr (am_sfr (am_sfi h 177 (am_sz h0 + 2) (-1)) 170 (am_sz h0 + 2) N) 171 (am_sz h0 + 2) (am_ar h0 (am_fr h0 27 N) pg)) 172 (am_sz h0 + 2) (am_sz h0 + 1)) = am_sz h0 + 2 := z
  have q3 : am_us (am_sfr (am_sfr (am_sfr (am_sfi h 177 (am_sz h0 + 2) (-1)) 170 (am_sz h0 + 2) N) 171 (am_sz h0 + 2) (am_ar h0 (am_fr h0 27 N) pg)) 172 (am_sz h0 + 2) (am_sz h0 + 1)) = am_us h := rfl
  have q4 : am_fr (am_sfr (am_sfr (am_sfr (am_sfi h 177 (am_sz h0 + 2) (-1)) 170 (am_sz h0 + 2) N) 171 (am_sz h0 + 2) (am_ar h0 (am_fr h0 27 N) pg)) 172 (am_sz h0 + 2) (am_sz h0 + 1)) 170 (am_sz h0 + 2) = N := (x_frf (by decide)).trans ((x_frf (by decide)).trans x_fre)
  have q5 : am_fr (am_sfr (am_sfr (am_sfr (am_sfi h 177 (am_sz h0 + 2) (-1)) 170 (am_sz h0 + 2) N) 171 (am_sz h0 + 2) (am_ar h0 (am_fr h0 27 N) pg)) 172 (am_sz h0 + 2) (am_sz h0 + 1)) 171 (am_sz h0 + 2) = (am_ar h0 (am_fr h0 27 N) pg) := (x_frf (by decide)).trans x_fre
  have q6 : am_fr (am_sfr (am_sfr (am_sfr (am_sfi h 177 (am_sz h0 + 2) (-1)) 170 (am_sz h0 + 2) N) 171 (am_sz h0 + 2) (am_ar h0 (am_fr h0 27 N) pg)) 172 (am_sz h0 + 2) (am_sz h0 + 1)) 172 (am_sz h0 + 2) = am_sz h0 + 1 := x_fre
  have q7 : am_fi (am_sfr (am_sfr (am_sfr (am_sfi h 177 (am_sz h0 + 2) (-1)) 170 (am_sz h0 + 2) N) 171 (am_sz h0 + 2) (am_ar h0 (am_fr h0 27 N) pg)) 172 (am_sz h0 + 2) (am_sz h0 + 1)) 177 (am_sz h0 + 2) = -1 := x_fie (h := h) (f := 177) (r := am_sz h0 + 2) (x := -1)
  generalize am_sfr (am_sfr (am_sfr (am_sfi h 177 (am_sz h0 + 2) (-1)) 170 (am_sz h0 + 2) N) 171 (am_sz h0 + 2) (am_ar h0 (am_fr h0 27 N) pg)) 172 (am_sz h0 + 2) (am_sz h0 + 1) = h1 at *
  rw [z]
  obtain ⟨h2, e2, a2, s2, u2, f2, g2, i2, t2, l2⟩ := ar_new (h := h1) (r0 := am_sz h0 + 2) (n := n.toNat) (fld := 173) (k := am_sz h0 + 2 + 1) (by omega) (by omega)
  rw [← e2]
  obtain ⟨h3, e3, a3, s3, u3, f3, g3, i3, t3, l3⟩ := ar_new (h := h2) (r0 := am_sz h0 + 2) (n := n.toNat) (fld := 174) (k := am_sz h0 + 2 + 1 + 1) (by omega) (by omega)
  rw [← e3]
  obtain ⟨h4, e4, a4, s4, u4, f4, g4, i4, t4, l4⟩ := ar_new (h := h3) (r0 := am_sz h0 + 2) (n := n.toNat) (fld := 175) (k := am_sz h0 + 2 + 1 + 1 + 1) (by omega) (by omega)
  rw [← e4]
  obtain ⟨h5, e5, a5, s5, u5, f5, g5, i5, t5, l5⟩ := ar_new (h := h4) (r0 := am_sz h0 + 2) (n := n.toNat) (fld := 176) (k := am_sz h0 + 2 + 1 + 1 + 1 + 1) (by omega) (by omega)
  rw [← e5]
  have b45 := a5
  have b35 : fx (fun q => q = am_sz h0 + 2) h3 h5 := fx_trans a4 a5
  have b25 : fx (fun q => q = am_sz h0 + 2) h2 h5 := fx_trans a3 b35
  have b15 : fx (fun q => q = am_sz h0 + 2) h1 h5 := fx_trans a2 b25
  have bh5 : fx (fun q => q = am_sz h0 + 2) h h5 := fx_trans q1 b15
  have w0 := bh5.2.2.2 (am_sz h0 + 1) (by omega)
  have w2 := bh5.2.2.2 (am_sz h0 + 2) (by omega)
  have w3 := b25.2.2.2 (am_sz h0 + 2 + 1) (by omega)
  have w4 := b35.2.2.2 (am_sz h0 + 2 + 1 + 1) (by omega)
  have w5 := b45.2.2.2 (am_sz h0 + 2 + 1 + 1 + 1) (by omega)
  have nn : ((n.toNat : Nat) : Int) = n := by omega
  have fr172 : am_fr h5 172 (am_sz h0 + 2) = am_sz h0 + 1 := (g5 172 (by decide)).trans ((g4 172 (by decide)).trans ((g3 172 (by decide)).trans ((g2 172 (by decide)).trans q6)))
  have fr173 : am_fr h5 173 (am_sz h0 + 2) = am_sz h0 + 3 := (g5 173 (by decide)).trans ((g4 173 (by decide)).trans ((g3 173 (by decide)).trans f2))
  have fr174 : am_fr h5 174 (am_sz h0 + 2) = am_sz h0 + 4 := (g5 174 (by decide)).trans ((g4 174 (by decide)).trans f3)
  have fr175 : am_fr h5 175 (am_sz h0 + 2) = am_sz h0 + 5 := (g5 175 (by decide)).trans f4
  have fr176 : am_fr h5 176 (am_sz h0 + 2) = am_sz h0 + 6 := f5
  have X : FtX h0 h5 (am_sz h0 + 2) N (am_ar h0 (am_fr h0 27 N) pg) (fA h0) n st := by
    refine ⟨fx_trans2 b bh5 (fun q hq e => ne_new hq e), ⟨w2.1.trans ty26, Nat.lt_add_of_pos_right (by decide), fi_c s5⟩, (g5 170 (by decide)).trans ((g4 170 (by decide)).trans ((g3 170 (by decide)).trans ((g2 170 (by decide)).trans q4))), (g5 171 (by decide)).trans ((g4 171 (by decide)).trans ((g3 171 (by decide)).trans ((g2 171 (by decide)).trans q5))), fun i i2 i6 => ?_, fun i j u v w => ?_, fun j j0 j1 => ?_⟩
    · have ii : i = 2 ∨ i = 3 ∨ i = 4 ∨ i = 5 ∨ i = 6 := by omega
      rcases ii with e | e | e | e | e
      · rw [e]
        exact ⟨fr172, w0.1.trans ty1, w0.2.1.trans ln1, by show am_sz h0 < am_sz h0 + 1 ∧ am_sz h0 + 1 ≤ _; omega, by show am_sz h0 + 1 ≠ _; omega⟩
      · rw [e]
        exact ⟨fr173, w3.1.trans t2, w3.2.1.trans (l2.trans nn), by show am_sz h0 < am_sz h0 + 3 ∧ am_sz h0 + 3 ≤ _; omega, by show am_sz h0 + 3 ≠ _; omega⟩
      · rw [e]
        exact ⟨fr174, w4.1.trans t3, w4.2.1.trans (l3.trans nn), by show am_sz h0 < am_sz h0 + 4 ∧ am_sz h0 + 4 ≤ _; omega, by show am_sz h0 + 4 ≠ _; omega⟩
      · rw [e]
        exact ⟨fr175, w5.1.trans t4, w5.2.1.trans (l4.trans nn), by show am_sz h0 < am_sz h0 + 5 ∧ am_sz h0 + 5 ≤ _; omega, by show am_sz h0 + 5 ≠ _; omega⟩
      · rw [e]
        exact ⟨fr176, t5, l5.trans nn, by show am_sz h0 < am_sz h0 + 6 ∧ am_sz h0 + 6 ≤ _; omega, by show am_sz h0 + 6 ≠ _; omega⟩
    · unfold fA
      by_cases e : i = 2
      · rw [if_pos e, if_neg (by omega)]
        omega
      · rw [if_neg e, if_neg (by omega)]
        omega
    · show am_ai h5 (am_sz h0 + 1) j = st j
      rw [(w0.2.2 (by omega)).2.2.1]
      exact ai1 j j0 j1
  have fi5 : am_fi h5 177 (am_sz h0 + 2) = -1 := (i5 177).trans ((i4 177).trans ((i3 177).trans ((i2 177).trans q7)))
  refine x_columns (col := fun _ => 0) (s := (-1, fun _ => 0, fun _ => 0)) t hC hF hA hH hp hn hs n.toNat (by omega) (by omega) (by omega) X (fun j a c => absurd c (by omega)) ⟨fi5, by show (-1 : Int) ≤ -1; omega, fun z => absurd rfl z⟩ (fun h' b' z' u' fr' v5 hY => am_an (v_X28_init_37 ?_))
  have p81 : 3 ^ n.toNat ≤ 81 := Nat.le_trans (Nat.pow_le_pow_right (by omega) (show n.toNat ≤ 4 by omega)) (by decide)
  generalize 3 ^ n.toNat = w at *
  refine H h' (FtX_f X b' (fun q hq e => ?_) fr') hY (fi_a z' s5 z p81) (fi_b u' u5 u4 u3 u2 q3 p81 hn)
  obtain ⟨x1, x2, x3, x4, x5, x6, x7⟩ := X
  rcases e with e | e | e | e | e
  · rw [e]
    exact ⟨by omega, fun z => (x5 2 (by omega) (by omega)).2.2.2.2 z.symm⟩
  · rw [e]
    exact ⟨(x5 3 (by omega) (by omega)).2.2.2.1.1, fun z => x6 2 3 (by omega) (by omega) (by omega) z.symm⟩
  · rw [e]
    exact ⟨(x5 4 (by omega) (by omega)).2.2.2.1.1, fun z => x6 2 4 (by omega) (by omega) (by omega) z.symm⟩
  · rw [e]
    exact ⟨(x5 5 (by omega) (by omega)).2.2.2.1.1, fun z => x6 2 5 (by omega) (by omega) (by omega) z.symm⟩
  · rw [e]
    exact ⟨(x5 6 (by omega) (by omega)).2.2.2.1.1, fun z => x6 2 6 (by omega) (by omega) (by omega) z.symm⟩
theorem x_fitOf {L : am_Lb} {x P N : Nat} {S : am_G} {B : Int} {pg m : Int} {D : Nat} (hD : 80 ≤ D) (t : Nt h L x P N S B) (hx : am_ty h x = 1 ∧ x ≤ am_sz h) (hN : am_fr h 1 x = N) (hC : okC S) (hF : okF S) (hA : okA S) (hH : okH S) (hm : -2147483648 ≤ m ∧ m ≤ 2147483647) (H1 : ¬ ((0 ≤ pg ∧ pg < 6) ∧ (0 ≤ m ∧ m < am_shlz 1 (S 0 0 1))) → XT h L x P N S B K 33) (H2 : (0 ≤ pg ∧ pg < 6) ∧ (0 ≤ m ∧ m < am_shlz 1 (S 0 0 1)) → ¬ (1 ≤ ((bcn m.toNat (S 0 0 1).toNat) : Int) ∧ ((bcn m.toNat (S 0 0 1).toNat) : Int) ≤ 4) → XT h L x P N S B K 35) (H3 : (0 ≤ pg ∧ pg < 6) ∧ (0 ≤ m ∧ m < am_shlz 1 (S 0 0 1)) → 1 ≤ ((bcn m.toNat (S 0 0 1).toNat) : Int) ∧ ((bcn m.toNat (S 0 0 1).toNat) : Int) ≤ 4 → ¬ stS S m → XTd h L x P N S B K 40 2 10) (H0 : (0 ≤ pg ∧ pg < 6) ∧ (0 ≤ m ∧ m < am_shlz 1 (S 0 0 1)) → 1 ≤ ((bcn m.toNat (S 0 0 1).toNat) : Int) ∧ ((bcn m.toNat (S 0 0 1).toNat) : Int) ≤ 4 → stS S m → (∀ j, 0 ≤ j → j < ((bcn m.toNat (S 0 0 1).toNat) : Int) → (0 ≤ (skL m.toNat (S 0 0 1).toNat) j ∧ (skL m.toNat (S 0 0 1).toNat) j < (S 0 0 1)) ∧ ∀ k, 0 ≤ k → k < S 2 2 ((skL m.toNat (S 0 0 1).toNat) j) → S 3 (5 * (skL m.toNat (S 0 0 1).toNat) j + k) 3 ≠ 0) → ∀ h', FtX h h' (am_sz h + 2) N (am_ar h (am_fr h 27 N) pg) (fA h) (bcn m.toNat (S 0 0 1).toNat) (skL m.toNat (S 0 0 1).toNat) → FtY h' (am_sz h + 2) (fA h) (bcn m.toNat (S 0 0 1).toNat) (fiR S pg (skL m.toNat (S 0 0 1).toNat) (bcn m.toNat (S 0 0 1).toNat)) → am_sz h' ≤ am_sz h + 87 → am_us h' ≤ am_us h + 271 → K (.inl (some (.inr (.inl (am_sz h + 2))))) h') : am_ev am_prog D 232 [.inr (.inl x), .inl pg, .inl m] h K := by
  obtain ⟨x1, x2, x3, x4, x5, x6, x7, x8, x9, x10⟩ := t.2.2.2.1
  have c1 := hC.2.1
  have sh := shr_0 hm c1
  have sp := shl_p c1
  obtain ⟨d, rfl⟩ : ∃ d, D = d + 13 := ⟨D - 13, by omega⟩
  refine am_en p_X1_fitOf rfl rfl ?_
  refine v_X1_fitOf_0 ?_
  rw [hN, x1.2.2.2.1, x8.2.1]
  refine ⟨hx.1, fun e => ⟨⟨x1.1.1, x8.1.1, by omega⟩, fun e2 => ?_, fun e2 => ⟨fun _ => XT_go t (H1 (fun z => e2 (sh.mpr z.2))), fun z0 => absurd (sh.mpr ⟨by omega, ?_⟩) e2⟩⟩, fun e => XT_go t (H1 (fun z => e (by omega)))⟩
  rotate_left
  · rw [z0, sp]
    have := Nat.two_pow_pos ((S 0 0 1)).toNat
    omega
  have pg' : (0 ≤ pg ∧ pg < 6) ∧ (0 ≤ m ∧ m < am_shlz 1 (S 0 0 1)) := ⟨by omega, sh.mp e2⟩
  have mlt : m.toNat < 2 ^ ((S 0 0 1)).toNat := by
    have := pg'.2
    omega
  have p20 : 2 ^ ((S 0 0 1)).toNat ≤ 1048576 := Nat.le_trans (Nat.pow_le_pow_right (by omega) (show ((S 0 0 1)).toNat ≤ 20 by omega)) (by decide)
  have top := bcn_top mlt (20 - ((S 0 0 1)).toNat)
  have e20 : ((S 0 0 1)).toNat + (20 - ((S 0 0 1)).toNat) = 20 := by omega
  rw [e20] at top
  refine c_bitCount (by omega) (by omega) (am_av (v_X1_fitOf_18 ⟨fun e3 => ⟨by omega, ?_⟩, fun e3 => XT_go t (H2 pg' (by rw [top.1] at e3; exact e3))⟩))
  rw [top.1] at e3
  have H3' := H3 pg' e3
  have H0' := H0 pg' e3
  have en : ((bcn m.toNat 20 : Nat) : Int).toNat = bcn m.toNat 20 := by omega
  rw [en]
  -- the stories
  have l1 : ∀ j, 0 ≤ j → j ≤ 20 → ∀ h', fx (fun _ => False) h h' → am_sz h' = am_sz h + 1 → am_us h' = am_us h + bcn m.toNat 20 → am_ty h' (am_sz h + 1) = 101 → am_ln h' (am_sz h + 1) = (bcn m.toNat 20 : Nat) → (∀ i : Int, 0 ≤ i → i < ((bcn m.toNat j.toNat : Nat) : Int) → am_ai h' (am_sz h + 1) i = skL m.toNat j.toNat i) → ∀ o8 o9 o10 o11, am_W m_X1_fitOf (am_ev am_prog (d + 12)) K 31 [some (.inr (.inl (x))), some (.inl (pg)), some (.inl (m)), some (.inr (.inl ((am_ar h (am_fr h 27 N) pg)))), some (.inl ((bcn m.toNat 20 : Nat))), some (.inr (.inl (am_sz h + 1))), some (.inl ((bcn m.toNat j.toNat : Nat))), some (.inl (j)), o8, o9, o10, o11] [] h' := by
    refine lp_z ?_ ?_
    · intro j j0 j1 hL h' f z u ty ln ai o8 o9 o10 o11
      have hb' : am_andz (am_shrz m j) 1 = bt m j := bit_z (x := m) (j := j) ⟨pg'.2.1, hm.2⟩ (by omega)
      have hs := bt_s (x := m) j0
      have b01 := bt_01 (x := m) (j := j)
      have le := bcn_le (x := m.toNat) (i := (j + 1).toNat) (j := 20) (by omega)
      have ej : (j + 1).toNat = j.toNat + 1 := by omega
      have ejj : ((j.toNat : Nat) : Int) = j := by omega
      rw [top.1] at le
      refine v_X1_fitOf_31 ⟨fun z => absurd z (by omega), fun _ => ?_⟩
      rw [hb', ln]
      have hL' := hL
      refine ⟨fun w => ⟨by omega, ?_⟩, fun w => ⟨⟨ty, by omega⟩, by omega, by omega, ?_⟩⟩
      · have b0 : bt m j = 0 := by omega
        have eb : ((bcn m.toNat (j + 1).toNat : Nat) : Int) = (bcn m.toNat j.toNat : Nat) := by omega
        have b1 : ¬ m.toNat / 2 ^ j.toNat % 2 = 1 := by
          unfold bt at b0
          omega
        have es : skL m.toNat (j.toNat + 1) = skL m.toNat j.toNat := if_neg b1
        rw [eb, ej, es] at hL'
        exact hL' h' f z u ty ln (fun i i0 i1 => ai i i0 (by rw [ej] at eb; omega)) _ _ _ _
      · have eb : ((bcn m.toNat (j + 1).toNat : Nat) : Int) = (bcn m.toNat j.toNat : Nat) + 1 := by omega
        have b1 : m.toNat / 2 ^ j.toNat % 2 = 1 := by
          unfold bt at w
          omega
        have es : skL m.toNat (j.toNat + 1) = am_uz (skL m.toNat j.toNat) (bcn m.toNat j.toNat : Nat) (j.toNat : Nat) := if_pos b1
        rw [eb, ej, es, ejj] at hL'
        refine hL' _ (fx_sai f (Or.inl (by omega))) z u ty ln (fun i i0 i1 => ?_) _ _ _ _
        rw [x_aise]
        by_cases e : i = ((bcn m.toNat j.toNat : Nat) : Int)
        · rw [e, am_uz_eq, am_uz_eq]
        · rw [am_uz_ne e, am_uz_ne e]
          exact ai i i0 (by rw [ej] at eb; omega)
    · intro h' f z u ty ln ai o8 o9 o10 o11
      have e20' : ((20 : Int)).toNat = 20 := rfl
      rw [e20', top.1, top.2] at ai
      rw [top.1] at ln u
      refine v_X1_fitOf_31 ⟨fun _ => ⟨Or.inl ty, ?_⟩, fun z => absurd z (by omega)⟩
      rw [ln]
      have t' : Nt h' L x P N S B := Nt_fx0 f t
      obtain ⟨g1, g2, g3, g4⟩ := P_fc t'
      have xx := f.2.2.2 x hx.2
      have ty1 : am_ty h' x = 1 := xx.1.trans hx.1
      have fr1 : am_fr h' 1 x = N := ((xx.2.2 (fun z => z)).2.1 1).trans hN
      have sv := fun (j : Int) j0 j1 => skL_v m.toNat ((S 0 0 1)).toNat j j0 j1
      have l2 : ∀ j, 0 ≤ j → j ≤ ((bcn m.toNat (S 0 0 1).toNat) : Int) → (∀ i, 0 ≤ i → i < j → ∀ p, 0 ≤ p → p < S 2 2 ((skL m.toNat (S 0 0 1).toNat) i) → S 3 (5 * (skL m.toNat (S 0 0 1).toNat) i + p) 3 ≠ 0) → ∀ o10 o11, am_W m_X1_fitOf (am_ev am_prog (d + 12)) K 55 [some (.inr (.inl (x))), some (.inl (pg)), some (.inl (m)), some (.inr (.inl ((am_ar h (am_fr h 27 N) pg)))), some (.inl ((bcn m.toNat 20 : Nat))), some (.inr (.inl (am_sz h + 1))), some (.inl ((bcn m.toNat 20 : Nat))), some (.inr (.inl (am_sz h + 1))), some (.inl (((bcn m.toNat (S 0 0 1).toNat) : Int))), some (.inl (j)), o10, o11] [] h' := by
        refine lp_z ?_ ?_
        · intro j j0 j1 hL hj o10 o11
          have sj := sv j j0 j1
          have sc : 0 ≤ (skL m.toNat (S 0 0 1).toNat) j ∧ (skL m.toNat (S 0 0 1).toNat) j < (S 0 0 1) := by omega
          have fj := (hF ((skL m.toNat (S 0 0 1).toNat) j) sc.1 sc.2).2.2
          refine v_X1_fitOf_55 ⟨fun z => absurd z (by omega), fun _ => ?_⟩
          rw [ai j j0 j1, ln]
          refine ⟨⟨Or.inl ty, by omega⟩, ?_⟩
          have l3 : ∀ p, 0 ≤ p → p ≤ S 2 2 ((skL m.toNat (S 0 0 1).toNat) j) → (∀ q, 0 ≤ q → q < p → S 3 (5 * (skL m.toNat (S 0 0 1).toNat) j + q) 3 ≠ 0) → am_W m_X1_fitOf (am_ev am_prog (d + 12)) K 64 [some (.inr (.inl (x))), some (.inl (pg)), some (.inl (m)), some (.inr (.inl ((am_ar h (am_fr h 27 N) pg)))), some (.inl ((bcn m.toNat 20 : Nat))), some (.inr (.inl (am_sz h + 1))), some (.inl ((bcn m.toNat 20 : Nat))), some (.inr (.inl (am_sz h + 1))), some (.inl (((bcn m.toNat (S 0 0 1).toNat) : Int))), some (.inl (j)), some (.inl ((skL m.toNat (S 0 0 1).toNat) j)), some (.inl (p))] [] h' := by
            refine lp_z ?_ ?_
            · intro p p0 p1 hL3 hp
              refine v_X1_fitOf_64 ⟨ty1, ?_⟩
              rw [fr1]
              refine ⟨g1, x_partsOf (by omega) t' hC hF sc (am_av (v_X1_fitOf_69 ⟨fun z => absurd z (by omega), fun _ => ?_⟩))⟩
              rw [fr1]
              have ip := isP_5 (S := S) sc ⟨p0, p1⟩ fj.2
              have qp := (g4 (5 * (skL m.toNat (S 0 0 1).toNat) j + p) (by omega) (by omega)).2 ip
              refine ⟨⟨ty1, g1, by omega, by omega, g2, by omega, qp.1.1⟩, fun z0 => ?_, fun z0 => ⟨by omega, hL3 (fun q q0 q1 => ?_)⟩⟩
              · refine H3' (fun ss => ss ((skL m.toNat (S 0 0 1).toNat) j) sc.1 sc.2 sj.2 p p0 p1 ((P_st qp).mp z0)) _ _ (Nt_fx0 fx0_new t') (Out_fx0 t.1 (fx_new f) ?_ ?_) (x_tyn0 rfl)
                · rw [x_sz_new]
                  omega
                · rw [x_us_new]
                  omega
              · by_cases e : q = p
                · rw [e]
                  exact fun w => z0 ((P_st qp).mpr w)
                · exact hp q q0 (by omega)
            · intro hp
              refine v_X1_fitOf_64 ⟨ty1, ?_⟩
              rw [fr1]
              refine ⟨g1, x_partsOf (by omega) t' hC hF sc (am_av (v_X1_fitOf_69 ⟨fun _ => ⟨by omega, hL (fun i i0 i1 => ?_) _ _⟩, fun z => absurd z (by omega)⟩))⟩
              by_cases e : i = j
              · rw [e]
                exact hp
              · exact hj i i0 (by omega)
          exact l3 0 (by omega) (by omega) (fun q q0 q1 => absurd q1 (by omega))
        · intro hj o10 o11
          have ss : stS S m := by
            intro s s0 s1 hb p p0 p1
            obtain ⟨j, j0, j1, ej⟩ := skL_sur m.toNat ((S 0 0 1)).toNat s s0 (by omega) hb
            rw [← ej] at p1 ⊢
            exact hj j j0 j1 p p0 p1
          refine v_X1_fitOf_55 ⟨fun _ => ⟨⟨by omega, ty1⟩, ?_⟩, fun z => absurd z (by omega)⟩
          rw [fr1, z]
          have hsj : ∀ j, 0 ≤ j → j < ((bcn m.toNat (S 0 0 1).toNat) : Int) → (0 ≤ (skL m.toNat (S 0 0 1).toNat) j ∧ (skL m.toNat (S 0 0 1).toNat) j < (S 0 0 1)) ∧ ∀ k, 0 ≤ k → k < S 2 2 ((skL m.toNat (S 0 0 1).toNat) j) → S 3 (5 * (skL m.toNat (S 0 0 1).toNat) j + k) 3 ≠ 0 := fun j j0 j1 => ⟨by have := (sv j j0 j1).1; omega, hj j j0 j1⟩
          have n1 : am_ty (am_new h' 26 8) (am_sz h + 1) = 101 := (x_tyn (by omega)).trans ty
          have n2 : am_ln (am_new h' 26 8) (am_sz h + 1) = ((bcn m.toNat (S 0 0 1).toNat) : Nat) := (x_lnn (by omega)).trans ln
          have n3 : am_ai (am_new h' 26 8) (am_sz h + 1) = am_ai h' (am_sz h + 1) := x_ain (by omega)
          refine x_init (n := ((bcn m.toNat (S 0 0 1).toNat) : Int)) (st := (skL m.toNat (S 0 0 1).toNat)) (by omega) t hC hF hA hH pg'.1 (by omega) hsj (fx_new f) (by rw [x_sz_new]; omega) (x_tyn0 (by omega)) n1 n2 (fun j j0 j1 => by rw [n3]; exact ai j j0 j1) (fun h2 X Y z2 u2 => am_an (v_X1_fitOf_96 ?_))
          have et : (((bcn m.toNat (S 0 0 1).toNat) : Nat) : Int).toNat = (bcn m.toNat (S 0 0 1).toNat) := by omega
          rw [et] at Y
          rw [x_sz_new] at z2
          rw [x_us_new] at u2
          exact H0' ss hsj h2 X Y (by omega) (by omega)
      exact l2 0 (by omega) (by omega) (fun i i0 i1 => absurd i1 (by omega)) _ _
  have lnn : am_ln (am_new h 101 (bcn m.toNat 20)) (am_sz h + 1) = (bcn m.toNat 20 : Nat) := x_lnn0 rfl
  exact l1 0 (by omega) (by omega) _ fx0_new rfl rfl (x_tyn0 rfl) lnn (fun i i0 i1 => absurd i1 (by show ¬ i < ((0 : Nat) : Int); omega)) _ _ _ _
theorem X_fit {L : am_Lb} {x P N : Nat} {S : am_G} {B : Int} {pg m : Int} {D : Nat} (hD : 90 ≤ D) (t : Nt h L x P N S B) (hx : am_ty h x = 1 ∧ x ≤ am_sz h) (hN : am_fr h 1 x = N) (hC : okC S) (hF : okF S) (hA : okA S) (hH : okH S) (hm : -2147483648 ≤ m ∧ m ≤ 2147483647) (H1 : ¬ ((0 ≤ pg ∧ pg < 6) ∧ (0 ≤ m ∧ m < am_shlz 1 (S 0 0 1))) → XT h L x P N S B K 33) (H2 : (0 ≤ pg ∧ pg < 6) ∧ (0 ≤ m ∧ m < am_shlz 1 (S 0 0 1)) → ¬ (1 ≤ ((bcn m.toNat (S 0 0 1).toNat) : Int) ∧ ((bcn m.toNat (S 0 0 1).toNat) : Int) ≤ 4) → XT h L x P N S B K 35) (H3 : (0 ≤ pg ∧ pg < 6) ∧ (0 ≤ m ∧ m < am_shlz 1 (S 0 0 1)) → 1 ≤ ((bcn m.toNat (S 0 0 1).toNat) : Int) ∧ ((bcn m.toNat (S 0 0 1).toNat) : Int) ≤ 4 → ¬ stS S m → XTd h L x P N S B K 40 2 10) (H0 : (0 ≤ pg ∧ pg < 6) ∧ (0 ≤ m ∧ m < am_shlz 1 (S 0 0 1)) → 1 ≤ ((bcn m.toNat (S 0 0 1).toNat) : Int) ∧ ((bcn m.toNat (S 0 0 1).toNat) : Int) ≤ 4 → stS S m → XA h L x P N S B K (((fiR S pg (skL m.toNat (S 0 0 1).toNat) (bcn m.toNat (S 0 0 1).toNat))).1) 87 271) : am_ev am_prog D 125 [.inr (.inl x), .inl pg, .inl m] h K := by
  obtain ⟨d, rfl⟩ : ∃ d, D = d + 13 := ⟨D - 13, by omega⟩
  refine am_en p_X1_fit rfl rfl ?_
  refine v_X1_fit_0 ⟨hx.1, x_fitOf (by omega) t hx hN hC hF hA hH hm (fun c h' q n o e => am_ax rfl (H1 c h' q n o e)) (fun c c2 h' q n o e => am_ax rfl (H2 c c2 h' q n o e)) (fun c c2 c3 h' q n o e => am_ax rfl (H3 c c2 c3 h' q n o e)) (fun c c2 c3 hs h' X Y z u => am_av (v_X1_fit_4 ⟨X.2.1.1, ?_⟩))⟩
  rw [Y.1]
  exact H0 c c2 c3 h' L (Nt_fx0 X.1 t) (Out_fx0 t.1 X.1 (by omega) (by omega))
theorem X_fits {L : am_Lb} {x P N : Nat} {S : am_G} {B : Int} {pg m s w : Int} {D : Nat} (hD : 90 ≤ D) (t : Nt h L x P N S B) (hx : am_ty h x = 1 ∧ x ≤ am_sz h) (hN : am_fr h 1 x = N) (hC : okC S) (hF : okF S) (hA : okA S) (hH : okH S) (hm : -2147483648 ≤ m ∧ m ≤ 2147483647) (H1 : ¬ ((0 ≤ s ∧ s < (S 0 0 1)) ∧ (0 ≤ pg ∧ pg < 6) ∧ (0 ≤ m ∧ m < am_shlz 1 (S 0 0 1))) → XT h L x P N S B K 33) (H2 : 0 ≤ s ∧ s < (S 0 0 1) → (0 ≤ pg ∧ pg < 6) ∧ (0 ≤ m ∧ m < am_shlz 1 (S 0 0 1)) → ¬ (1 ≤ ((bcn m.toNat (S 0 0 1).toNat) : Int) ∧ ((bcn m.toNat (S 0 0 1).toNat) : Int) ≤ 4) → XT h L x P N S B K 35) (H3 : 0 ≤ s ∧ s < (S 0 0 1) → (0 ≤ pg ∧ pg < 6) ∧ (0 ≤ m ∧ m < am_shlz 1 (S 0 0 1)) → 1 ≤ ((bcn m.toNat (S 0 0 1).toNat) : Int) ∧ ((bcn m.toNat (S 0 0 1).toNat) : Int) ≤ 4 → ¬ stS S m → XTd h L x P N S B K 40 2 10) (H0 : 0 ≤ s ∧ s < (S 0 0 1) → (0 ≤ pg ∧ pg < 6) ∧ (0 ≤ m ∧ m < am_shlz 1 (S 0 0 1)) → 1 ≤ ((bcn m.toNat (S 0 0 1).toNat) : Int) ∧ ((bcn m.toNat (S 0 0 1).toNat) : Int) ≤ 4 → stS S m → XA h L x P N S B K (if ((fiR S pg (skL m.toNat (S 0 0 1).toNat) (bcn m.toNat (S 0 0 1).toNat))).1 = -1 ∨ fsJ (skL m.toNat (S 0 0 1).toNat) s (bcn m.toNat (S 0 0 1).toNat) 0 = -1 then -1 else if w = 0 then ((fiR S pg (skL m.toNat (S 0 0 1).toNat) (bcn m.toNat (S 0 0 1).toNat))).2.1 (fsJ (skL m.toNat (S 0 0 1).toNat) s (bcn m.toNat (S 0 0 1).toNat) 0) else ((fiR S pg (skL m.toNat (S 0 0 1).toNat) (bcn m.toNat (S 0 0 1).toNat))).2.2 (fsJ (skL m.toNat (S 0 0 1).toNat) s (bcn m.toNat (S 0 0 1).toNat) 0)) 87 271) : am_ev am_prog D 167 [.inr (.inl x), .inl pg, .inl m, .inl s, .inl w] h K := by
  obtain ⟨x1, x2, x3, x4, x5, x6, x7, x8, x9, x10⟩ := t.2.2.2.1
  have c1 := hC.2.1
  obtain ⟨d, rfl⟩ : ∃ d, D = d + 13 := ⟨D - 13, by omega⟩
  refine am_en p_X1_fits rfl rfl ?_
  refine v_X1_fits_0 ?_
  rw [hN, x1.2.2.2.1]
  refine ⟨⟨hx.1, x1.1.1, by omega⟩, fun e => ?_, fun e => XT_go t (H1 (fun z => e (by omega)))⟩
  have cs : 0 ≤ s ∧ s < (S 0 0 1) := by omega
  refine x_fitOf (by omega) t hx hN hC hF hA hH hm (fun c h' q n o e => am_ax rfl (H1 (fun z => c z.2) h' q n o e)) (fun c c2 h' q n o e => am_ax rfl (H2 cs c c2 h' q n o e)) (fun c c2 c3 h' q n o e => am_ax rfl (H3 cs c c2 c3 h' q n o e)) (fun c c2 c3 hs h' X Y z u => am_av (v_X1_fits_13 ?_))
  have HH := H0 cs c c2 c3
  have fin := fun a (HA : XA h L x P N S B K (a) 87 271) => HA h' L (Nt_fx0 X.1 t) (Out_fx0 t.1 X.1 (by omega) (by omega))
  obtain ⟨y1, y2, y3, y4, y5, y6, y7⟩ := X
  have b2 := y5 2 (by omega) (by omega)
  have b3 := y5 3 (by omega) (by omega)
  have b4 := y5 4 (by omega) (by omega)
  have e2 : am_fr h' 172 (am_sz h + 2) = fA h 2 := b2.1
  have e3 : am_fr h' 173 (am_sz h + 2) = fA h 3 := b3.1
  have e4 : am_fr h' 174 (am_sz h + 2) = fA h 4 := b4.1
  generalize (fiR S pg (skL m.toNat (S 0 0 1).toNat) (bcn m.toNat (S 0 0 1).toNat)) = σ at *
  have loop : ∀ (k : Nat) (j : Int), 0 ≤ j → j + k = ((bcn m.toNat (S 0 0 1).toNat) : Int) → (σ.1 ≠ -1 → fsJ (skL m.toNat (S 0 0 1).toNat) s (bcn m.toNat (S 0 0 1).toNat) 0 = fsJ (skL m.toNat (S 0 0 1).toNat) s k j) → am_W m_X1_fits (am_ev am_prog (d + 12)) K 16 [some (.inr (.inl (x))), some (.inl (pg)), some (.inl (m)), some (.inl (s)), some (.inl (w)), some (.inr (.inl (am_sz h + 2))), some (.inl (j))] [] h' := by
    intro k
    induction k with
    | zero =>
      intro j j0 jn ef
      refine v_X1_fits_16 ?_
      rw [e2, b2.2.2.1]
      refine ⟨⟨y2.1, Or.inl b2.2.1⟩, fun _ => fin (-1) ?_, fun z => absurd z (by omega)⟩
      by_cases cb : σ.1 = -1
      · rw [if_pos (Or.inl cb)] at HH
        exact HH
      · have : fsJ (skL m.toNat (S 0 0 1).toNat) s (bcn m.toNat (S 0 0 1).toNat) 0 = -1 := ef cb
        rw [if_pos (Or.inr this)] at HH
        exact HH
    | succ k ih =>
      intro j j0 jn ef
      have ef' : σ.1 ≠ -1 → fsJ (skL m.toNat (S 0 0 1).toNat) s (bcn m.toNat (S 0 0 1).toNat) 0 = if (skL m.toNat (S 0 0 1).toNat) j = s then j else fsJ (skL m.toNat (S 0 0 1).toNat) s k (j + 1) := ef
      refine v_X1_fits_16 ?_
      rw [e2, e3, e4, b2.2.2.1, b3.2.2.1, b4.2.2.1, y7 j j0 (by omega), Y.1]
      have nx := Y.2.1
      refine ⟨⟨y2.1, Or.inl b2.2.1⟩, fun z => absurd z (by omega), fun _ => ⟨by omega, fun z => ⟨by omega, ih (j + 1) (by omega) (by omega) (fun cb => ?_)⟩, fun z => ⟨fun z2 => ⟨by omega, ih (j + 1) (by omega) (by omega) (fun cb => absurd (by omega) cb)⟩, fun z2 => ?_⟩⟩⟩
      · rw [ef' cb, if_neg z]
      · have cb : σ.1 ≠ -1 := by omega
        have q := Y.2.2 cb j j0 (by omega)
        rw [ef' cb, if_pos z, if_neg (fun z => z.elim cb (by omega))] at HH
        rw [q.1, q.2]
        refine ⟨fun w0 => ⟨⟨Or.inl b3.2.1, by omega⟩, fin _ ?_⟩, fun w0 => ⟨⟨Or.inl b4.2.1, by omega⟩, fin _ ?_⟩⟩
        · rw [if_pos w0] at HH
          exact HH
        · rw [if_neg w0] at HH
          exact HH
  exact loop (bcn m.toNat (S 0 0 1).toNat) 0 (by omega) (by omega) (fun _ => rfl)
end
