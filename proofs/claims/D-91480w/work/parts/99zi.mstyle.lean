set_option maxRecDepth 100000
/-! the model reads styles: words and numbers -/
theorem gt_ext : ∀ (l m : List Int), l.length = m.length → (∀ i : Nat, i < l.length → gt l i = gt m i) → l = m
  | [], [], _, _ => rfl
  | [], _ :: _, h, _ => absurd h (by simp)
  | _ :: _, [], h, _ => absurd h (by simp)
  | x :: l, y :: m, h, g => by
    have e : x = y := g 0 (Nat.zero_lt_succ _)
    have i := gt_ext l m (by simpa using h) (fun i hi => g (i + 1) (Nat.succ_lt_succ hi))
    rw [e, i]
theorem wAt_q {t : Int → Int} {n a : Int} {w : List Int} (hl : lE t n a - a = w.length) (h : ∀ j : Nat, j < w.length → t (a + j) = gt w j) : wAt t n a = w := by
  unfold wAt
  have e : (lE t n a - a).toNat = w.length := by omega
  rw [e]
  exact gt_ext _ _ (sgL_l _) (fun i hi => by
    rw [sgL_l] at hi
    rw [sgL_g _ _ hi]
    exact h i hi)
theorem wAt_c {t : Int → Int} {n a : Int} {w : List Int} (h : wAt t n a = w) : lE t n a - a = w.length ∧ ∀ j : Nat, j < w.length → t (a + j) = gt w j := by
  have e := wAt_l h
  refine ⟨by omega, fun j hj => ?_⟩
  rw [← h]
  unfold wAt
  rw [sgL_g _ _ (by omega)]
/-- a constant's text -/
def csM (b : am_H) (r j : Nat) (w : List Int) : Prop := ∀ (m : Int → Int) (V : Nat → Int → Int) (W : Nat → Int), xSl (mo b r m V W) (am_cs b j) w
section
variable {K : am_K} {b : am_H} {r : Nat} {S : am_G} {V : Nat → Int → Int} {W : Nat → Int}
theorem c_wordEnd {t : Int → Int} {n : Int} {D : Nat} (hD : 4 ≤ D) (h45 : W 45 = n) (hn : n ≤ 400) (h46 : 0 ≤ W 46) (tp : tpR t (V 4) n) (H : K (.inl (some (.inl (lE t n (W 46))))) (mo b r (ms S) V W)) : am_ev am_prog D 360 [.inr (.inl r)] (mo b r (ms S) V W) K := by
  obtain ⟨d, rfl⟩ : ∃ d, D = d + 4 := ⟨D - 4, by omega⟩
  refine am_en p_X5_wordEnd rfl rfl ?_
  refine w_wordEnd_0 ?_
  have main : ∀ (f : Nat) (a : Int), (n - a).toNat ≤ f → 0 ≤ a → lE t n a = lE t n (W 46) → am_W m_X5_wordEnd (am_ev am_prog (d + 3)) K 3 [some (.inr (.inl r)), some (.inl (a))] [] (mo b r (ms S) V W) := by
    intro f
    induction f with
    | zero =>
      intro a hf ha he
      rw [lE_0 (fun z => absurd z.1 (by omega))] at he
      rw [← he] at H
      exact w_wordEnd_3 ⟨fun _ => H, fun z => absurd z (by omega)⟩
    | succ f ih =>
      intro a hf ha he
      refine w_wordEnd_3 ⟨fun z => ?_, fun z => ⟨by omega, fun c => ?_, fun c => ⟨by omega, ?_⟩⟩⟩
      · rw [lE_0 (fun y => absurd y.1 (by omega))] at he
        rw [← he] at H
        exact H
      · rw [lE_0 (fun y => c ((tp_l tp ha (by omega)).2 y.2))] at he
        rw [← he] at H
        exact H
      · have c' := (tp_l tp ha (by omega)).1 c
        exact ih (a + 1) (by omega) (by omega) (by rw [← lE_s ⟨by omega, c'⟩]; exact he)
  exact main _ _ (Nat.le_refl _) h46 rfl
theorem c_takes {t : Int → Int} {n : Int} {j : Nat} {w : List Int} {D : Nat} (hD : 12 ≤ D) (h45 : W 45 = n) (hn : n ≤ 400) (h46 : 0 ≤ W 46 ∧ W 46 ≤ n) (tp : tpR t (V 4) n) (cs : csM b r j w) (hw : w.length ≤ 20) (H0 : ∀ W', wAt t n (bE t n (W 46)) ≠ w → fa [46] W W' → W' 46 = (bE t n (W 46)) → K (.inl (some (.inl (0)))) (mo b r (ms S) V W')) (H1 : ∀ W', wAt t n (bE t n (W 46)) = w → fa [46] W W' → W' 46 = (bE t n (W 46)) + w.length → K (.inl (some (.inl (1)))) (mo b r (ms S) V W')) : am_ev am_prog D 323 [.inr (.inl r), .inr (.inl (am_cs b j))] (mo b r (ms S) V W) K := by
  obtain ⟨d, rfl⟩ : ∃ d, D = d + 4 := ⟨D - 4, by omega⟩
  refine am_en p_X5_takes rfl rfl ?_
  have bv := bE_v (t := t) (n := n) (a := W 46)
  have be := bv.1.2 h46.2
  refine w_takes_0 (c_blanks (t := t) (n := n) (by omega) h45 hn h46.1 tp (fun W1 hW e46 => am_an (w_takes_2 ?_)))
  have e45 : W1 45 = n := (hW 45 rfl).trans h45
  have lv := lE_v (t := t) (n := n) (a := (bE t n (W 46)))
  have le := lv.1.2 be
  have len : ∀ (Q : am_K), Q (.inl (some (.inl ((w.length : Int))))) (mo b r (ms S) V W1) → am_ev am_prog (d + 3) 237 [.inr (.inl (am_cs b j))] (mo b r (ms S) V W1) Q := fun Q hQ => by
    obtain ⟨d', hd'⟩ : ∃ d', d + 3 = d' + 6 := ⟨d - 3, by omega⟩
    have x := cs (ms S) V W1
    rw [hd']
    refine c_length x.1 ?_
    rw [x.2.1]
    exact hQ
  have ty : am_ty (mo b r (ms S) V W1) (am_cs b j) = 30 ∨ am_ty (mo b r (ms S) V W1) (am_cs b j) = 90 := (cs (ms S) V W1).1.1
  refine c_wordEnd (t := t) (n := n) (by omega) e45 hn (by omega) tp (am_av (w_takes_4 ?_))
  rw [e46]
  refine ⟨⟨by omega, ty⟩, len _ (am_av (w_takes_9 ?_))⟩
  have fin : ∀ x2 i, (x2 = 1 ∧ wAt t n (bE t n (W 46)) = w) ∨ (x2 = 0 ∧ wAt t n (bE t n (W 46)) ≠ w) → am_W m_X5_takes (am_ev am_prog (d + 3)) K 39 [some (.inr (.inl r)), some (.inr (.inl (am_cs b j))), some (.inl (x2)), some (.inl (i))] [] (mo b r (ms S) V W1) := by
    intro x2 i h
    refine w_takes_39 ⟨fun z => ⟨Or.inl z, ?_⟩, fun z => ⟨ty, len _ (am_av (w_takes_46 ?_))⟩⟩
    · rcases h with h | h
      · omega
      · rw [z]
        exact H0 W1 h.2 hW e46
    · rcases h with h | h
      · have wl := wAt_l h.2
        rw [e46]
        refine ⟨by omega, Or.inr h.1, ?_⟩
        rw [h.1]
        exact H1 _ h.2 (fa_up hW rfl) am_up_eq
      · exact absurd h.1 z
  have main : ∀ (f : Nat) (i : Nat) (x2 : Int), w.length - i ≤ f → ((x2 = 1 ∧ (lE t n (bE t n (W 46)) - (bE t n (W 46)) = w.length ∧ ∀ j : Nat, j < i → t ((bE t n (W 46)) + j) = gt w j) ∧ i ≤ w.length) ∨ (x2 = 0 ∧ wAt t n (bE t n (W 46)) ≠ w)) → am_W m_X5_takes (am_ev am_prog (d + 3)) K 16 [some (.inr (.inl r)), some (.inr (.inl (am_cs b j))), some (.inl (x2)), some (.inl ((i : Int)))] [] (mo b r (ms S) V W1) := by
    intro f
    induction f with
    | zero =>
      intro i x2 hf h
      refine w_takes_16 ⟨ty, len _ (am_av (w_takes_19 ⟨fun z => fin x2 i ?_, fun z => ⟨fun y => fin x2 i ?_, fun y => ?_⟩⟩))⟩
      · rcases h with h | h
        · exact Or.inl ⟨h.1, wAt_q h.2.1.1 (fun j hj => h.2.1.2 j (by omega))⟩
        · exact Or.inr h
      · rcases h with h | h
        · omega
        · exact Or.inr h
      · rcases h with h | h
        · have := h.2.2
          omega
        · exact absurd h.1 y
    | succ f ih =>
      intro i x2 hf h
      refine w_takes_16 ⟨ty, len _ (am_av (w_takes_19 ⟨fun z => fin x2 i ?_, fun z => ⟨fun y => fin x2 i ?_, fun y => ?_⟩⟩))⟩
      · rcases h with h | h
        · exact Or.inl ⟨h.1, wAt_q h.2.1.1 (fun j hj => h.2.1.2 j (by omega))⟩
        · exact Or.inr h
      · rcases h with h | h
        · omega
        · exact Or.inr h
      · have h' := h.resolve_right (fun q => y q.1)
        have lt := lv.2.1 ((bE t n (W 46)) + i) (by omega) (by omega)
        rw [e46]
        refine ⟨⟨by omega, by omega, ty⟩, ?_⟩
        obtain ⟨d', hd'⟩ : ∃ d', d + 3 = d' + 6 := ⟨d - 3, by omega⟩
        have x := cs (ms S) V W1
        have gi := x.2.2 i (by omega)
        have go : am_ev am_prog (d' + 6) 238 [.inr (.inl (am_cs b j)), .inl (i : Int)] (mo b r (ms S) V W1) (am_aft (am_hand m_X5_takes K (am_W m_X5_takes (am_ev am_prog (d + 3)) K) 31) (am_W m_X5_takes (am_ev am_prog (d + 3)) K) 31 [some (.inr (.inl r)), some (.inr (.inl (am_cs b j))), some (.inl (x2)), some (.inl ((i : Int)))] [.inl (V 4 ((bE t n (W 46)) + i))]) := by
          refine c_charAt x.1 (by rw [x.2.1]; omega) (am_av (w_takes_32 ⟨by omega, ?_⟩))
          rw [gi, tp_e tp (by omega) (by omega) lt]
          have ei : (i : Int) + 1 = ((i + 1 : Nat) : Int) := by omega
          rw [ei]
          by_cases c : t ((bE t n (W 46)) + i) = gt w i
          · rw [am_bt c]
            refine ih (i + 1) 1 (by omega) (Or.inl ⟨rfl, ⟨h'.2.1.1, fun j hj => ?_⟩, by omega⟩)
            by_cases cj : j = i
            · rw [cj]
              exact c
            · exact h'.2.1.2 j (by omega)
          · rw [am_bf c]
            exact ih (i + 1) 0 (by omega) (Or.inr ⟨rfl, fun e => c ((wAt_c e).2 i (by omega))⟩)
        rw [← hd'] at go
        exact go
  have e0 : ((0 : Nat) : Int) = 0 := rfl
  by_cases c : lE t n (bE t n (W 46)) - (bE t n (W 46)) = (w.length : Int)
  · rw [am_bt c]
    exact main _ 0 1 (Nat.le_refl _) (Or.inl ⟨rfl, ⟨c, fun j hj => absurd hj (Nat.not_lt_zero _)⟩, Nat.zero_le _⟩)
  · rw [am_bf c]
    exact main _ 0 0 (Nat.le_refl _) (Or.inr ⟨rfl, fun e => c (wAt_c e).1⟩)
theorem c_readNumber {t : Int → Int} {n lo hi : Int} {D : Nat} (hD : 6 ≤ D) (h45 : W 45 = n) (hn : n ≤ 400) (h46 : 0 ≤ W 46 ∧ W 46 ≤ n) (tp : tpR t (V 4) n) (H0 : ∀ x W', nmR t n (W 46) lo hi = .inl x → fa [46, 47, 49] W W' → W' 47 = x → K (.inl (some (.inl (0)))) (mo b r (ms S) V W')) (H1 : ∀ q W', nmR t n (W 46) lo hi = .inr q → fa [46, 49] W W' → W' 46 = q.1 → W' 49 = q.2 → K (.inl (some (.inl (1)))) (mo b r (ms S) V W')) : am_ev am_prog D 325 [.inr (.inl r), .inl lo, .inl hi] (mo b r (ms S) V W) K := by
  obtain ⟨d, rfl⟩ : ∃ d, D = d + 4 := ⟨D - 4, by omega⟩
  refine am_en p_X5_readNumber rfl rfl ?_
  have bv := bE_v (t := t) (n := n) (a := W 46)
  have be := bv.1.2 h46.2
  refine w_readNumber_0 (c_blanks (t := t) (n := n) (by omega) h45 hn h46.1 tp (fun W1 hW e46 => am_an (w_readNumber_2 ?_)))
  rw [e46]
  have dv := dE_v (t := t) (n := n) (a := (bE t n (W 46)))
  have de := dv.1.2 be
  have ends : ∀ (k : Nat) (W2 : Nat → Int), dE t n (bE t n (W 46)) = (bE t n (W 46)) + k → fa [46, 49] W W2 → W2 46 = (bE t n (W 46)) + k → (k ≤ 4 → W2 49 = vF t (bE t n (W 46)) k) → am_W m_X5_readNumber (am_ev am_prog (d + 3)) K 54 [some (.inr (.inl r)), some (.inl (lo)), some (.inl (hi)), some (.inl ((bE t n (W 46)))), none] [] (mo b r (ms S) V W2) := by
    intro k W2 hk hW2 f46 f49
    have ek : (dE t n (bE t n (W 46)) - (bE t n (W 46))).toNat = k := by omega
    have bad : (k = 0 ∨ 4 < k ∨ ¬ (lo ≤ vF t (bE t n (W 46)) k ∧ vF t (bE t n (W 46)) k ≤ hi)) → nmR t n (W 46) lo hi = .inl (bE t n (W 46)) := fun z => by
      unfold nmR
      rw [ek]
      exact if_pos (by omega)
    refine w_readNumber_54 ?_
    rw [f46]
    refine ⟨fun z => H0 _ _ (bad (Or.inl (by omega))) (fa_up (fa_sub hW2 rfl) rfl) am_up_eq, fun z => ⟨by omega, fun z2 => H0 _ _ (bad (Or.inr (Or.inl (by omega)))) (fa_up (fa_sub hW2 rfl) rfl) am_up_eq, fun z2 => ?_⟩⟩
    have e49 := f49 (by omega)
    rw [e49]
    refine ⟨fun z3 => ?_, fun z3 => ?_⟩
    · rw [am_bt z3]
      have g : nmR t n (W 46) lo hi = .inr (dE t n (bE t n (W 46)), vF t (bE t n (W 46)) k) := by
        unfold nmR
        rw [ek]
        exact if_neg (by omega)
      exact H1 _ W2 g hW2 (by rw [f46]; exact hk.symm) e49
    · rw [am_bf z3]
      exact H0 _ _ (bad (Or.inr (Or.inr z3))) (fa_up (fa_sub hW2 rfl) rfl) am_up_eq
  have main : ∀ (f : Nat) (k : Nat) (W2 : Nat → Int), (n - ((bE t n (W 46)) + k)).toNat ≤ f → (bE t n (W 46)) + k ≤ dE t n (bE t n (W 46)) → dE t n ((bE t n (W 46)) + k) = dE t n (bE t n (W 46)) → fa [46, 49] W W2 → W2 46 = (bE t n (W 46)) + k → (k ≤ 4 → W2 49 = vF t (bE t n (W 46)) k) → am_W m_X5_readNumber (am_ev am_prog (d + 3)) K 8 [some (.inr (.inl r)), some (.inl (lo)), some (.inl (hi)), some (.inl ((bE t n (W 46)))), none] [] (mo b r (ms S) V W2) := by
    intro f
    induction f with
    | zero =>
      intro k W2 hf hk he hW2 f46 f49
      have f45 : W2 45 = n := (hW2 45 rfl).trans h45
      rw [dE_0 (fun z => absurd z.1 (by omega))] at he
      refine w_readNumber_8 ?_
      rw [f45, f46]
      exact ⟨fun _ => ends k W2 he.symm hW2 f46 f49, fun z => absurd z (by omega)⟩
    | succ f ih =>
      intro k W2 hf hk he hW2 f46 f49
      have f45 : W2 45 = n := (hW2 45 rfl).trans h45
      have stop : ¬ ((bE t n (W 46)) + k < n ∧ (48 ≤ t ((bE t n (W 46)) + k) ∧ t ((bE t n (W 46)) + k) ≤ 57)) → am_W m_X5_readNumber (am_ev am_prog (d + 3)) K 54 [some (.inr (.inl r)), some (.inl (lo)), some (.inl (hi)), some (.inl ((bE t n (W 46)))), none] [] (mo b r (ms S) V W2) := fun z => by
        rw [dE_0 z] at he
        exact ends k W2 he.symm hW2 f46 f49
      refine w_readNumber_8 ?_
      rw [f45, f46]
      refine ⟨fun z => stop (fun y => absurd y.1 (by omega)), fun z => ?_⟩
      have tq := tp ((bE t n (W 46)) + k) (by omega) z
      refine ⟨by omega, fun z2 => stop (fun y => by omega), fun z2 => ⟨by omega, fun z3 => stop (fun y => by omega), fun z3 => ?_⟩⟩
      have et : V 4 ((bE t n (W 46)) + k) = t ((bE t n (W 46)) + k) := by omega
      have dg : (bE t n (W 46)) + k < n ∧ (48 ≤ t ((bE t n (W 46)) + k) ∧ t ((bE t n (W 46)) + k) ≤ 57) := by omega
      have he' : dE t n ((bE t n (W 46)) + k + 1) = dE t n (bE t n (W 46)) := by
        rw [← dE_s dg]
        exact he
      have hk' : (bE t n (W 46)) + k + 1 ≤ dE t n (bE t n (W 46)) := by
        rw [← he']
        exact (dE_v (t := t) (n := n) (a := (bE t n (W 46)) + k + 1)).1.1
      have ek : (bE t n (W 46)) + k + 1 = (bE t n (W 46)) + ((k + 1 : Nat) : Int) := by omega
      refine ⟨by omega, fun z4 => ⟨by omega, ?_⟩, fun z4 => ?_⟩
      · refine ih (k + 1) _ (by omega) (by omega) (by rw [← ek]; exact he') (fa_up hW2 rfl) (by rw [am_up_eq]; exact ek) (fun y => absurd y (by omega))
      · have e49 := f49 (by omega)
        have vb := vF_b (t := t) (a := (bE t n (W 46))) k (fun j j1 j2 => dv.2 _ (by omega) (by omega)) (by omega)
        rw [e49, et]
        refine ⟨by omega, by omega, ih (k + 1) _ (by omega) (by omega) (by rw [← ek]; exact he') (fa_up (fa_up hW2 rfl) rfl) (by rw [am_up_eq]; exact ek) (fun y => ?_)⟩
        rw [am_up_ne (by decide), am_up_eq]
        rfl
  have e0 : (bE t n (W 46)) + ((0 : Nat) : Int) = (bE t n (W 46)) := by omega
  refine main _ 0 _ (Nat.le_refl _) (by omega) (by rw [e0]) (fa_up (fa_sub hW rfl) rfl) ?_ (fun _ => am_up_eq)
  rw [am_up_ne (by decide), e46, e0]
theorem c_act {v : Int} {D : Nat} (hD : 4 ≤ D) (h58 : 0 ≤ W 58 ∧ W 58 < 562) (H : K (.inl none) (mo b r (ms S) (am_up V 10 (am_uz (V 10) (W 58) v)) (am_up W 58 (W 58 + 1)))) : am_ev am_prog D 388 [.inr (.inl r), .inl v] (mo b r (ms S) V W) K := by
  obtain ⟨d, rfl⟩ : ∃ d, D = d + 4 := ⟨D - 4, by omega⟩
  refine am_en p_X5_act rfl rfl ?_
  exact w_act_0 ⟨by omega, by omega, H⟩
theorem c_fails {D : Nat} (hD : 4 ≤ D) (H : K (.inl (some (.inl (0)))) (mo b r (ms S) V (am_up W 47 (W 46)))) : am_ev am_prog D 258 [.inr (.inl r)] (mo b r (ms S) V W) K := by
  obtain ⟨d, rfl⟩ : ∃ d, D = d + 4 := ⟨D - 4, by omega⟩
  refine am_en p_X5_fails rfl rfl ?_
  exact w_fails_0 H
end
