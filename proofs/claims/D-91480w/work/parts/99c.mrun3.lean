set_option maxRecDepth 100000
/-- the first j lines are set -/
def stj (S : am_G) (p : Int) (T : Int → Int × Int × Int) (j : Int) : am_G := fun c q i => if c = 3 ∧ q = p then (if i = 3 then 1 else if i = 4 then (T 0).2.1 else if 5 ≤ i ∧ i < 5 + j then nx T ((i - 5).toNat + 1) 0 - 1 else if 45 ≤ i ∧ i < 45 + j then 0 else S 3 p i) else S c q i
theorem stj_0 {S : am_G} {p : Int} {T : Int → Int × Int × Int} : u3 (u3 S 3 p 3 1) 3 p 4 (T 0).2.1 = stj S p T 0 := by
  funext c q i
  unfold u3 stj
  by_cases h : c = 3 ∧ q = p
  · obtain ⟨rfl, rfl⟩ := h
    simp only [true_and, and_self, if_true]
    by_cases g4 : i = 4
    · rw [if_pos g4, if_neg (by omega), if_pos g4]
    · rw [if_neg g4]
      by_cases g3 : i = 3
      · rw [if_pos g3, if_pos g3]
      · have a : ¬ (5 ≤ i ∧ i < 5 + 0) := by omega
        have b : ¬ (45 ≤ i ∧ i < 45 + 0) := by omega
        rw [if_neg g3, if_neg g3, if_neg g4, if_neg a, if_neg b]
  · rw [if_neg (fun z => h ⟨z.1, z.2.1⟩), if_neg (fun z => h ⟨z.1, z.2.1⟩), if_neg h]
theorem stj_s {S : am_G} {p : Int} {T : Int → Int × Int × Int} {j : Int} (hj : 0 ≤ j ∧ j < 40) : u3 (u3 (stj S p T j) 3 p (5 + j) (nx T (j.toNat + 1) 0 - 1)) 3 p (45 + j) 0 = stj S p T (j + 1) := by
  funext c q i
  unfold u3 stj
  by_cases h : c = 3 ∧ q = p
  · obtain ⟨rfl, rfl⟩ := h
    simp only [true_and, and_self, if_true]
    by_cases h1 : i = 45 + j
    · subst h1
      rw [if_pos rfl, if_neg (by omega), if_neg (by omega), if_neg (by omega), if_pos (by omega)]
    · rw [if_neg h1]
      by_cases h2 : i = 5 + j
      · subst h2
        rw [if_pos rfl, if_neg (by omega), if_neg (by omega), if_pos (by omega)]
        have e : (5 + j - 5).toNat = j.toNat := by omega
        rw [e]
      · rw [if_neg h2]
        by_cases g3 : i = 3
        · rw [if_pos g3, if_pos g3]
        · by_cases g4 : i = 4
          · rw [if_neg g3, if_pos g4, if_neg g3, if_pos g4]
          · by_cases ga : 5 ≤ i ∧ i < 5 + j
            · have ga' : 5 ≤ i ∧ i < 5 + (j + 1) := by omega
              rw [if_neg g3, if_neg g4, if_pos ga, if_neg g3, if_neg g4, if_pos ga']
            · have ga' : ¬ (5 ≤ i ∧ i < 5 + (j + 1)) := by omega
              by_cases gb : 45 ≤ i ∧ i < 45 + j
              · have gb' : 45 ≤ i ∧ i < 45 + (j + 1) := by omega
                rw [if_neg g3, if_neg g4, if_neg ga, if_pos gb, if_neg g3, if_neg g4, if_neg ga', if_pos gb']
              · have gb' : ¬ (45 ≤ i ∧ i < 45 + (j + 1)) := by omega
                rw [if_neg g3, if_neg g4, if_neg ga, if_neg gb, if_neg g3, if_neg g4, if_neg ga', if_neg gb']
  · have h1 : ¬ (c = 3 ∧ q = p ∧ i = 45 + j) := fun z => h ⟨z.1, z.2.1⟩
    have h2 : ¬ (c = 3 ∧ q = p ∧ i = 5 + j) := fun z => h ⟨z.1, z.2.1⟩
    rw [if_neg h1, if_neg h2, if_neg h, if_neg h]
section
variable {K : am_K} {b : am_H} {r : Nat} {S : am_G} {V : Nat → Int → Int} {W : Nat → Int}
theorem c_runsOn {k : Int} {D : Nat} (hD : 12 ≤ D) (hC : okC S) (hF : okF S) (hG : okG S) (hM : okM S) (hA : okA S) (hY : okY S) (hY1 : okY1 S) (hW : okWs S) (hJ : okJ S) (hk : 0 ≤ k ∧ k < S 0 0 3) (act : S 5 k 28 = 0 ∧ S 5 k 29 ≠ 0) (h7 : 1 ≤ S 0 0 7 ∧ S 0 0 7 ≤ 8) (H : ∀ S1 a V' W', turR S k S1 a → fa [11, 12, 13, 14, 15, 16, 17, 18] V V' → fa [62, 63, 64, 65, 66, 67, 68, 73] W W' → K (.inl none) (mo b r (ms (msF S k S1 a)) V' W')) : am_ev am_prog D 255 [.inr (.inl r), .inl k] (mo b r (ms S) V W) K := by
  have c3 := hC.2.2.1
  have c0 := hC.1
  have hk4 : 0 ≤ k ∧ k < 4 := by omega
  have mo' := hM k hk.1 hk4.2
  have b29 := mo'.2.2.2.1
  have hn : 0 < S 5 k 29 := by have := act.2; omega
  have mj := mo'.2.2.2.2.2.2.2 0 (by omega) hn
  have ip : isP S (S 5 k 33) := mj.1
  have pb := isP_bd hC hF ip
  have ap := hA (S 5 k 33) ip
  have p1 := ap.1.1
  have a3 := ap.2.2.2.2.1
  have a4 := ap.2.2.2.2.2.2.2
  have h37 : S 5 k 37 = 0 ∨ S 5 k 37 = 1 := mj.2.2.2.2
  have h34 : 0 ≤ (S 5 k 34) ∧ (S 5 k 34) < 40 := mj.2.1
  have h35 : 0 ≤ S 5 k 35 ∧ S 5 k 35 ≤ 40 := mj.2.2.1
  have jk := hJ.1 k 0 hk.1 hk.2 (by omega) hn
  have jk0 : S 5 k 37 = 0 → S 3 (S 5 k 33) 3 = 1 ∧ (S 5 k 34) < S 5 k 35 ∧ S 5 k 35 ≤ S 3 (S 5 k 33) 4 := jk.1
  have jk1 : S 5 k 37 ≠ 0 → (S 3 (S 5 k 33) 3 = 0 → (S 5 k 34) = 0) ∧ (S 3 (S 5 k 33) 3 = 1 → (S 5 k 34) < S 3 (S 5 k 33) 4) := jk.2
  have bh : bhd S k 0 = if S 5 k 37 = 0 then S 5 k 35 else if S 3 (S 5 k 33) 3 = 0 then -1 else S 3 (S 5 k 33) 4 := rfl
  obtain ⟨d, rfl⟩ : ∃ d, D = d + 4 := ⟨D - 4, by omega⟩
  refine am_en p_X5_runsOn rfl rfl ?_
  refine w_runsOn_0 ⟨by omega, by omega, by omega, by omega, fun s3 => ?_, fun s3 => ?_⟩
  · have hll : (S 5 k 34) < S 3 (S 5 k 33) 4 := by
      by_cases w : S 5 k 37 = 0
      · have := jk0 w
        omega
      · exact (jk1 w).2 (by omega)
    have al := (ap.2.2.2.2.2.2.1 (by omega)).2.2 (S 5 k 34) h34.1 hll
    have hb : 0 ≤ bhd S k 0 := by
      rw [bh]
      by_cases w : S 5 k 37 = 0
      · rw [if_pos w]
        omega
      · rw [if_neg w, if_neg s3]
        omega
    have R := c_run (S := S) (V := V) (W := W) (b := b) (r := r) (K := K) (k := k) (d := d) (o7 := none) (o8 := none) (o9 := none) (by omega) hG hM (by omega) hk4 act pb.1 ap.1 s3 a4 ⟨h34.1, hll⟩ ⟨al.1.1, al.1.2.1⟩ (by omega) al.2.1 al.2.2 h7 h37 (fun S' a V' W' rr hV hWf => H S' a V' W' (Or.inr (Or.inr (Or.inr ⟨act.1, act.2, hb, rr⟩))) (fa_sub hV rfl) (fa_sub hWf rfl))
    refine ⟨by omega, fun w => ⟨by omega, fun _ => ?_, fun z => absurd z (by omega)⟩, fun w => ⟨by omega, by omega, fun _ => ?_, fun z => absurd z (by omega)⟩⟩
    · rw [if_neg w] at R
      exact R
    · rw [if_pos w] at R
      exact R
  · have w37 : S 5 k 37 ≠ 0 := fun w => by
      have := (jk0 w).1
      omega
    have w1 : S 5 k 37 = 1 := by omega
    have l0 : (S 5 k 34) = 0 := (jk1 w37).1 s3
    have hb : bhd S k 0 < 0 := by
      rw [bh, if_neg w37, if_pos s3]
      decide
    have okw := hW _ pb.2.2.1.1 pb.2.2.1.2
    have tl := tells_bd (p := (S 5 k 33)) (mi := S 0 0 0) hY
    have le1 := leS_1 (p := (S 5 k 33)) (mi := S 0 0 0) hY hY1
    refine c_work (by omega) hY pb.1 pb.2.2.1 ap.1 okw (fun V' W' hV hWf w63 w64 w65 w66 w67 w68 td => am_an (w_runsOn_29 ?_))
    have t0 := td 0 (by omega) (by omega)
    have hV8 : fa [11, 12, 13, 14, 15, 16, 17, 18] V V' := fa_sub hV rfl
    have hW8 : fa [62, 63, 64, 65, 66, 67, 68, 73] W W' := fa_sub hWf rfl
    refine ⟨fun z => ⟨by omega, by omega, ?_⟩, fun z => ?_⟩
    · rw [t0.1] at z
      have nl := nx_ln ap.1 okw ap.2.1 tl.1 tl.2.1 le1 tl.2.2.2.1 (mo := moS S (S 5 k 33) (S 0 0 0)) z
      have nk := nx_ok ap.1 okw tl.1 tl.2.1 tl.2.2.2.1 (mo := moS S (S 5 k 33) (S 0 0 0)) (n := S 3 (S 5 k 33) 1) (by omega) (a := 0) (by omega) (by omega) z
      have nl1 : 1 ≤ ((tbS S (S 5 k 33) (S 0 0 0)) 0).2.1 ∧ ((tbS S (S 5 k 33) (S 0 0 0)) 0).2.1 ≤ S 3 (S 5 k 33) 1 := nl.1
      have nl2 : ∀ l, 0 ≤ l → l < ((tbS S (S 5 k 33) (S 0 0 0)) 0).2.1 → (0 ≤ nx (tbS S (S 5 k 33) (S 0 0 0)) l.toNat 0 ∧ nx (tbS S (S 5 k 33) (S 0 0 0)) l.toNat 0 < nx (tbS S (S 5 k 33) (S 0 0 0)) (l.toNat + 1) 0 ∧ nx (tbS S (S 5 k 33) (S 0 0 0)) (l.toNat + 1) 0 ≤ S 3 (S 5 k 33) 1) ∧ ((say (S 3 (S 5 k 33)) (nx (tbS S (S 5 k 33) (S 0 0 0)) l.toNat 0) (nx (tbS S (S 5 k 33) (S 0 0 0)) (l.toNat + 1) 0 - 1)).length : Int) ≤ 400 := nl.2.1
      have nk' : ∀ j : Nat, (j : Int) ≤ ((tbS S (S 5 k 33) (S 0 0 0)) 0).2.1 → (0 ≤ nx (tbS S (S 5 k 33) (S 0 0 0)) j 0 ∧ nx (tbS S (S 5 k 33) (S 0 0 0)) j 0 ≤ S 3 (S 5 k 33) 1) ∧ ((tbS S (S 5 k 33) (S 0 0 0)) (nx (tbS S (S 5 k 33) (S 0 0 0)) j 0)).1 ≠ -1 ∧ ((j : Int) < ((tbS S (S 5 k 33) (S 0 0 0)) 0).2.1 → nx (tbS S (S 5 k 33) (S 0 0 0)) j 0 < S 3 (S 5 k 33) 1) := fun j hj => ⟨(nk j hj).1, (nk j hj).2.1, (nk j hj).2.2.2⟩
      clear nl nk
      rw [(t0.2 z).1, stj_0]
      have HT := fun S1 a V2 W2 (rr : runR (stL S (S 5 k 33) (tbS S (S 5 k 33) (S 0 0 0))) k S1 a) => H S1 a V2 W2 (Or.inr (Or.inr (Or.inl ⟨act.1, act.2, hb, z, rr⟩)))
      generalize hTT : (tbS S (S 5 k 33) (S 0 0 0)) = T at *
      obtain ⟨v1, v2, v3, v4, v5, v6⟩ := stL_v (S := S) (p := (S 5 k 33)) (T := T) (by omega)
      have s5 : stL S (S 5 k 33) T 5 = S 5 := v1 5 (by decide)
      have s0 : stL S (S 5 k 33) T 0 = S 0 := v1 0 (by decide)
      have s2 : stL S (S 5 k 33) T 2 = S 2 := v1 2 (by decide)
      have s4 : stL S (S 5 k 33) T 4 = S 4 := v1 4 (by decide)
      have j4 : ∀ j, stj S (S 5 k 33) T j 3 (S 5 k 33) 4 = (T 0).2.1 := fun j => (if_pos ⟨rfl, rfl⟩).trans ((if_neg (by decide)).trans (if_pos rfl))
      have j5 : ∀ j, stj S (S 5 k 33) T j 5 = S 5 := fun j => by
        funext q i
        exact if_neg (fun z => absurd z.1 (by decide))
      have main : ∀ j, 0 ≤ j → j ≤ (T 0).2.1 → am_W m_X5_runsOn (am_ev am_prog (d + 3)) K 60 [some (.inr (.inl r)), some (.inl (k)), some (.inl (320230 + 183 * k)), some (.inl (320230 + 183 * k + 33)), some (.inl ((S 5 k 33))), some (.inl (130 + 645 * (S 5 k 33))), some (.inl (nx T j.toNat 0)), some (.inl (j)), none, none] [] (mo b r (ms (stj S (S 5 k 33) T j)) V' W') := by
        refine lp_z ?_ ?_
        · intro j j1 j2 hL
          have k1 := nk' j.toNat (by omega)
          have e1 : (j + 1).toNat = j.toNat + 1 := by omega
          have k2 := k1.2.2 (by omega)
          have v16 := ((td (nx T j.toNat 0) (by omega) (by omega)).2 k1.2.1).2 k2
          rw [e1, ← stj_s (by omega)] at hL
          rw [nx_last, ← v16] at hL
          have q := (nl2 j j1 (by omega)).1
          rw [nx_last, ← v16] at q
          refine w_runsOn_60 ?_
          rw [j4]
          exact ⟨by omega, fun z => absurd z (by omega), fun _ => ⟨by omega, by omega, by omega, hL⟩⟩
        · have es : stj S (S 5 k 33) T (T 0).2.1 = stL S (S 5 k 33) T := rfl
          rw [es]
          have ebg : bg (stL S (S 5 k 33) T 3 (S 5 k 33)) 0 = 0 := rfl
          have q0 := nl2 0 (by omega) (by omega)
          have n0 : nx T (0 : Int).toNat 0 = 0 := rfl
          have e50 := (v5 0 (by omega) (by omega))
          have e05 : (5 + 0 : Int) = 5 := by decide
          have hs1 : (0 : Int).toNat + 1 = 1 := rfl
          rw [n0, hs1] at q0
          rw [hs1] at e50
          have len : ((lnS (stL S (S 5 k 33) T 3 (S 5 k 33)) 0).length : Int) ≤ 420 := by
            unfold lnS
            rw [ebg, e50.1, say_c (fun o ho => v6 o (Or.inr ho)) (v6 1 (by omega)) (by omega) (by omega)]
            omega
          have okP' : okP (stL S (S 5 k 33) T 3 (S 5 k 33)) := by
            refine ⟨by rw [v6 1 (by omega)]; exact ap.1.1, fun k k1 k2 => ?_, fun k i k1 k2 i1 i2 => ?_⟩
            · rw [v6 _ (by omega), v6 _ (by omega)]
              exact ap.1.2.1 k k1 k2
            · rw [v6 _ (by omega)]
              exact ap.1.2.2 k i k1 k2 i1 i2
          have G3 : okG (stL S (S 5 k 33) T) := by unfold okG; rw [s0, s4]; exact hG
          have M3 : okM (stL S (S 5 k 33) T) := by
            unfold okM isP
            rw [s0, s2, s5]
            exact hM
          have g04 := hG.1
          have eF : ∀ S1, fx5 (stL S (S 5 k 33) T) k S1 = fx5 S k S1 := fun S1 => by
            unfold fx5
            rw [s5]
          have R := c_run (S := stL S (S 5 k 33) T) (V := V') (W := W') (b := b) (r := r) (K := K) (k := k) (d := d) (o7 := some (.inl (T 0).2.1)) (o8 := none) (o9 := none) (by omega) G3 M3 (by rw [s0]; omega) hk4 (by rw [s5]; exact act) (by rw [s5]; exact pb.1) (by rw [s5]; exact okP') (by rw [s5, v3]; decide) (by rw [s5, v4]; omega) (by rw [s5, v4, l0]; omega) (by rw [s5, l0, ebg, e50.1]; omega) (by rw [s5, l0, e50.1]; omega) (by rw [s5, l0]; exact len) (by rw [s5, l0, e50.2, s0]; omega) (by rw [s0]; exact h7) (by rw [s5]; exact h37) (fun S' a V2 W2 rr hV2 hW2 => by
            have q := HT S' a V2 W2 rr (fa_trans hV8 (fa_sub hV2 rfl)) (fa_trans hW8 (fa_sub hW2 rfl))
            unfold msF at q ⊢
            rw [eF]
            exact q)
          rw [s5, if_pos w1, v4] at R
          refine w_runsOn_60 ?_
          rw [v4, s5]
          refine ⟨by omega, fun _ => ⟨by omega, fun w => absurd w1 w, fun _ => ⟨by omega, by omega, fun _ => R, fun z => absurd z (by omega)⟩⟩, fun z => absurd z (by omega)⟩
      exact main 0 (by omega) (by omega)
    · rw [t0.1] at z
      refine c_spikes (by omega) hk4 b29 (by have := mo'.2.2.2.2.2.2.1; omega) (am_an (w_runsOn_38 ?_))
      have FF := H _ (-1) V' W' (Or.inr (Or.inl ⟨act.1, act.2, hb, z, rfl, rfl⟩)) hV8 hW8
      have e : msF S k (spk S k) (-1) = spk S k := by
        unfold msF rwW fx5
        have e29 : spk S k 5 k 29 ≠ S 5 k 29 := by
          rw [spk_e, u3_no (by decide), (awy_c (S := S) (k := k)).2.2.1]
          omega
        rw [if_pos rfl, if_neg (fun z => e29 z.2.1)]
      rw [e] at FF
      exact FF
end
