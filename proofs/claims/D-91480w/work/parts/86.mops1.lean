set_option maxRecDepth 100000
/-! the model's public methods -/
/-- what lasts beside the row: the row that is kept, the tape; whether there is an image, how much is taped, the fault -/
def pS (V : Nat → Int → Int) (W : Nat → Int) (V' : Nat → Int → Int) (W' : Nat → Int) : Prop := V' 2 = V 2 ∧ V' 4 = V 4 ∧ (V' 5 = V 5 ∧ V' 6 = V 6 ∧ V' 7 = V 7) ∧ W' 42 = W 42 ∧ W' 44 = W 44 ∧ W' 47 = W 47
def MR (b : am_H) (r : Nat) (K : am_K) (S' : am_G) (V : Nat → Int → Int) (W : Nat → Int) (c a : Int) : Prop := ∀ V' W', pS V W V' W' → W' 38 = c → K (.inl (some (.inl (a)))) (mo b r (ms S') V' W')
def MN (b : am_H) (r : Nat) (K : am_K) (S' : am_G) (V : Nat → Int → Int) (W : Nat → Int) (c : Int) : Prop := ∀ V' W', pS V W V' W' → W' 38 = c → K (.inl none) (mo b r (ms S') V' W')
section
variable {K : am_K} {b : am_H} {r : Nat} {S : am_G} {V : Nat → Int → Int} {W : Nat → Int}
theorem MR_up {S' : am_G} {c a : Int} (H : MR b r K S' V W c (a)) : K (.inl (some (.inl (a)))) (mo b r (ms S') V (am_up W 38 c)) := H _ _ ⟨rfl, rfl, ⟨rfl, rfl, rfl⟩, am_up_ne (by decide), am_up_ne (by decide), am_up_ne (by decide)⟩ am_up_eq
theorem MN_up {S' : am_G} {c : Int} (H : MN b r K S' V W c) : K (.inl none) (mo b r (ms S') V (am_up W 38 c)) := H _ _ ⟨rfl, rfl, ⟨rfl, rfl, rfl⟩, am_up_ne (by decide), am_up_ne (by decide), am_up_ne (by decide)⟩ am_up_eq
theorem MR_e {S' : am_G} {c a a' : Int} (H : MR b r K S' V W c (a)) (e : a = a') : MR b r K S' V W c (a') := by
  rw [← e]
  exact H
theorem MR_f {S' : am_G} {c a : Int} {V' : Nat → Int → Int} {W' : Nat → Int} {lv lw : List Nat} (H : MR b r K S' V W c (a)) (hV : fa lv V V') (hW : fa lw (am_up W 38 c) W') (h2 : am_mem lv 2 = false) (h4 : (am_mem lv 4 || (am_mem lv 5 || (am_mem lv 6 || am_mem lv 7))) = false) (w38 : am_mem lw 38 = false) (w42 : am_mem lw 42 = false) (w44 : am_mem lw 44 = false) (w47 : am_mem lw 47 = false) : K (.inl (some (.inl (a)))) (mo b r (ms S') V' W') := H _ _ ⟨hV 2 h2, hV 4 (Bool.or_eq_false_iff.1 h4).1, ⟨hV 5 (Bool.or_eq_false_iff.1 (Bool.or_eq_false_iff.1 h4).2).1, hV 6 (Bool.or_eq_false_iff.1 (Bool.or_eq_false_iff.1 (Bool.or_eq_false_iff.1 h4).2).2).1, hV 7 (Bool.or_eq_false_iff.1 (Bool.or_eq_false_iff.1 (Bool.or_eq_false_iff.1 h4).2).2).2⟩, (hW 42 w42).trans (am_up_ne (by decide)), (hW 44 w44).trans (am_up_ne (by decide)), (hW 47 w47).trans (am_up_ne (by decide))⟩ ((hW 38 w38).trans am_up_eq)
theorem M_row {i k : Int} {D : Nat} (hD : 90 ≤ D) (hC : okC S) (H0 : ¬ ((0 ≤ i ∧ i < S 0 0 7) ∧ (0 ≤ k ∧ k < 4)) → MR b r K S V W 1 (0)) (H1 : (0 ≤ i ∧ i < S 0 0 7) ∧ (0 ≤ k ∧ k < 4) → MR b r K S V W 0 (S 10 0 (1 + 5 * i + k))) : am_ev am_prog D 69 [.inr (.inl r), .inl i, .inl k] (mo b r (ms S) V W) K := by
  have c7 := hC.2.2.2.2.2
  obtain ⟨d, rfl⟩ : ∃ d, D = d + 4 := ⟨D - 4, by omega⟩
  refine am_en p_X5_row rfl rfl ?_
  exact w_row_0 ⟨by omega, fun c => ⟨by omega, MR_up (H1 (by omega))⟩, fun c => MR_up (H0 (by omega))⟩
theorem M_tear {i k w : Int} {D : Nat} (hD : 90 ≤ D) (hC : okC S) (H0 : ¬ ((0 ≤ i ∧ i < S 0 0 7) ∧ (0 ≤ k ∧ k < 4)) → MR b r K S V W 1 (0)) (H1 : (0 ≤ i ∧ i < S 0 0 7) ∧ (0 ≤ k ∧ k < 4) → MR b r K (u3 S 10 0 (1 + 5 * i + k) (am_xorz (S 10 0 (1 + 5 * i + k)) w)) V W 0 (am_xorz (S 10 0 (1 + 5 * i + k)) w)) : am_ev am_prog D 93 [.inr (.inl r), .inl i, .inl k, .inl w] (mo b r (ms S) V W) K := by
  have c7 := hC.2.2.2.2.2
  obtain ⟨d, rfl⟩ : ∃ d, D = d + 4 := ⟨D - 4, by omega⟩
  refine am_en p_X5_tear rfl rfl ?_
  exact w_tear_0 ⟨by omega, fun c => ⟨by omega, by omega, MR_up (H1 (by omega))⟩, fun c => MR_up (H0 (by omega))⟩
theorem M_width {f c n : Int} {D : Nat} (hD : 90 ≤ D) (hC : okC S) (H0 : ¬ ((0 ≤ f ∧ f < 2) ∧ (0 ≤ c ∧ c < 27)) → MN b r K S V W 1) (H2 : (0 ≤ f ∧ f < 2) ∧ (0 ≤ c ∧ c < 27) → ¬ (1 ≤ n ∧ n ≤ 20) → MN b r K S V W 2) (H1 : (0 ≤ f ∧ f < 2) ∧ (0 ≤ c ∧ c < 27) → 1 ≤ n ∧ n ≤ 20 → MN b r K (u3 S 1 f c n) V W 0) : am_ev am_prog D 84 [.inr (.inl r), .inl f, .inl c, .inl n] (mo b r (ms S) V W) K := by
  obtain ⟨d, rfl⟩ : ∃ d, D = d + 4 := ⟨D - 4, by omega⟩
  refine am_en p_X5_width rfl rfl ?_
  exact w_width_0 ⟨fun e => MN_up (H0 (by omega)), fun e => ⟨fun g => ⟨fun k => ⟨by omega, MN_up (H1 (by omega) k)⟩, fun k => MN_up (H2 (by omega) k)⟩, fun g => MN_up (H0 (by omega))⟩⟩
theorem M_broken {k v : Int} {D : Nat} (hD : 90 ≤ D) (hC : okC S) (hM : okM S) (hv : v = 0 ∨ v = 1) (H0 : ¬ (0 ≤ k ∧ k < S 0 0 3) → MR b r K S V W 1 (0)) (H1 : 0 ≤ k ∧ k < S 0 0 3 → MR b r K (u3 S 5 k 28 v) V W 0 (am_b (S 5 k 28 ≠ v))) : am_ev am_prog D 82 [.inr (.inl r), .inl k, .inl v] (mo b r (ms S) V W) K := by
  have c3 := hC.2.2.1
  obtain ⟨d, rfl⟩ : ∃ d, D = d + 4 := ⟨D - 4, by omega⟩
  refine am_en p_X5_broken rfl rfl ?_
  have ev : am_b (v ≠ 0) = v := by
    rcases hv with rfl | rfl <;> rfl
  refine w_broken_0 ?_
  rw [ev]
  refine ⟨fun c => ⟨by omega, by omega, fun e => ⟨by omega, ?_⟩, fun e => ⟨by omega, ?_⟩⟩, fun c => MR_up (H0 c)⟩
  · have m := (hM k c.1 (by omega)).2.2.1
    refine MR_up (MR_e (H1 c) (am_bf (fun z => z ?_)))
    unfold am_b at e
    split at e <;> omega
  · have m := (hM k c.1 (by omega)).2.2.1
    refine MR_up (MR_e (H1 c) (am_bt ?_))
    unfold am_b at e
    split at e <;> omega
theorem M_says {s j : Int} {D : Nat} (hD : 90 ≤ D) (hC : okC S) (hG : okG S) (H0 : ¬ (0 ≤ s ∧ s < S 0 0 4) → MR b r K S V W 1 (0)) (H1 : 0 ≤ s ∧ s < S 0 0 4 → MR b r K S V W 0 (if 0 ≤ j ∧ j < S 4 s 9 then S 4 s (432 + j) else -1)) : am_ev am_prog D 67 [.inr (.inl r), .inl s, .inl j] (mo b r (ms S) V W) K := by
  have c4 := hG.1
  obtain ⟨d, rfl⟩ : ∃ d, D = d + 4 := ⟨D - 4, by omega⟩
  refine am_en p_X5_says rfl rfl ?_
  refine w_says_0 ⟨fun c => ?_, fun c => MR_up (H0 c)⟩
  have c9 := (hG.2 s c.1 c.2).2.2.2
  exact ⟨by omega, by omega, fun e => MR_up (MR_e (H1 c) (if_neg (by omega))), fun e => ⟨by omega, by omega, MR_up (MR_e (H1 c) (if_pos (by omega)))⟩⟩
theorem M_slug {s w : Int} {D : Nat} (hD : 90 ≤ D) (hC : okC S) (hG : okG S) (H0 : ¬ (0 ≤ s ∧ s < S 0 0 4) → MR b r K S V W 1 (0)) (H2 : 0 ≤ s ∧ s < S 0 0 4 → ¬ (0 ≤ w ∧ w ≤ 9) → MR b r K S V W 2 (0)) (H1 : 0 ≤ s ∧ s < S 0 0 4 → 0 ≤ w ∧ w ≤ 9 → ∀ a, slR S s w a → MR b r K S V W 0 (a)) : am_ev am_prog D 76 [.inr (.inl r), .inl s, .inl w] (mo b r (ms S) V W) K := by
  have c4 := hG.1
  obtain ⟨d, rfl⟩ : ∃ d, D = d + 4 := ⟨D - 4, by omega⟩
  refine am_en p_X5_slug rfl rfl ?_
  refine w_slug_0 ⟨fun c => ⟨fun e => ⟨by omega, fun f => ?_, fun f => ?_⟩, fun e => MR_up (H2 c e)⟩, fun c => MR_up (H0 c)⟩
  · have go : ∀ a, a = S 4 s (if w = 9 then 8 else w) → K (.inl (some (.inl (a)))) (mo b r (ms S) V (am_up W 38 0)) := fun a q => MR_up (H1 c e a ⟨fun _ => q, fun z => absurd z f⟩)
    refine ⟨fun g => ⟨fun g5 => ⟨fun g6 => ⟨fun g7 => ⟨by omega, go _ (by rw [if_pos (by omega)])⟩, fun g7 => ⟨by omega, go _ (by rw [g7]; rfl)⟩⟩, fun g6 => ⟨by omega, go _ (by rw [g6]; rfl)⟩⟩, fun g5 => ⟨by omega, go _ (by rw [g5]; rfl)⟩⟩, fun g => ⟨by omega, go _ (by rw [if_neg (by omega)])⟩⟩
  · have fin : ∀ a, ((wrg S s ∧ a = 1) ∨ (¬ wrg S s ∧ a = 0)) → K (.inl (some (.inl (a)))) (mo b r (ms S) V (am_up W 38 0)) := fun a q => MR_up (H1 c e a ⟨fun z => absurd f z, fun _ => q⟩)
    refine c_isWrong (by omega) (by omega) (by have := (hG.2 s c.1 c.2).2.2.2; omega) (fun v => am_av (w_slug_30 ?_)) (fun v => am_av (w_slug_30 ?_))
    · exact fin 1 (Or.inl ⟨v, rfl⟩)
    · exact fin 0 (Or.inr ⟨v, rfl⟩)
theorem M_read {f s : Int} {D : Nat} (hD : 90 ≤ D) (hC : okC S) (hG : okG S) (H0 : ¬ ((0 ≤ f ∧ f ≤ 1) ∧ (0 ≤ s ∧ s < S 0 0 4)) → MR b r K S V W 1 (0)) (H1 : (0 ≤ f ∧ f ≤ 1) ∧ (0 ≤ s ∧ s < S 0 0 4) → MR b r K (u3 S 4 s (10 + f) 1) V W 0 (am_b (S 4 s (10 + f) ≠ 1))) : am_ev am_prog D 66 [.inr (.inl r), .inl f, .inl s] (mo b r (ms S) V W) K := by
  have c4 := hG.1
  obtain ⟨d, rfl⟩ : ∃ d, D = d + 4 := ⟨D - 4, by omega⟩
  refine am_en p_X5_read rfl rfl ?_
  exact w_read_0 ⟨fun c => MR_up (H0 (by omega)), fun c => ⟨fun d => ⟨by omega, by omega, by omega, MR_up (H1 ⟨c, d⟩)⟩, fun d => MR_up (H0 (by omega))⟩⟩
theorem c_noPlace {p l : Int} {D : Nat} (hD : 4 ≤ D) (hp : 0 ≤ p ∧ p < 100) (h4 : 0 ≤ S 3 p 4 ∧ S 3 p 4 ≤ 40) (H : K (.inl (some (.inl (if S 3 p 3 = 0 then 2 else am_b (¬ (0 ≤ l ∧ l < S 3 p 4)))))) (mo b r (ms S) V W)) : am_ev am_prog D 175 [.inr (.inl r), .inl p, .inl l] (mo b r (ms S) V W) K := by
  obtain ⟨d, rfl⟩ : ∃ d, D = d + 4 := ⟨D - 4, by omega⟩
  refine am_en p_X5_noPlace rfl rfl ?_
  refine w_noPlace_0 ⟨by omega, by omega, fun c => ⟨by omega, ?_⟩, fun c => ?_⟩
  · rw [if_neg c, am_bc (q := ¬ (0 ≤ l ∧ l ≤ S 3 p 4 - 1)) (by omega)] at H
    exact H
  · rw [if_pos c] at H
    exact H
theorem M_lies {p l : Int} {D : Nat} (hD : 90 ≤ D) (hC : okC S) (hi : -2147483648 ≤ p ∧ p ≤ 2147483647) (hF : okF S) (hA : okA S) (hG : okG S) (H0 : ¬ isP S p → MR b r K S V W 1 (0)) (H2 : isP S p → S 3 p 3 = 0 → MR b r K S V W 2 (0)) (H3 : isP S p → S 3 p 3 ≠ 0 → ¬ (0 ≤ l ∧ l < S 3 p 4) → MR b r K S V W 1 (0)) (H1 : isP S p → S 3 p 3 ≠ 0 → 0 ≤ l ∧ l < S 3 p 4 → MR b r K S V W 0 (S 3 p (45 + l) - 1)) : am_ev am_prog D 73 [.inr (.inl r), .inl p, .inl l] (mo b r (ms S) V W) K := by
  have c1 := hC.2.1
  obtain ⟨d, rfl⟩ : ∃ d, D = d + 4 := ⟨D - 4, by omega⟩
  refine am_en p_X5_lies rfl rfl ?_
  refine w_lies_0 ⟨by omega, fun c => ?_, fun c => w_lies_11 ⟨fun z => absurd z (by omega), fun _ => MR_up (H0 c)⟩⟩
  have pb := isP_bd hC hF c
  have ap := hA p c
  have g4 := hG.1
  refine c_noPlace (by omega) pb.1 ap.2.2.2.2.2.2.2 (am_av (w_lies_11 ?_))
  by_cases c3 : S 3 p 3 = 0
  · rw [if_pos c3]
    exact ⟨fun z => absurd z (by omega), fun _ => MR_up (H2 c c3)⟩
  · rw [if_neg c3]
    by_cases c4 : 0 ≤ l ∧ l < S 3 p 4
    · rw [am_bf (fun z => z c4)]
      have al := (ap.2.2.2.2.2.2.1 (by have := ap.2.2.2.2.1; omega)).2.2 l c4.1 c4.2
      have a4 := ap.2.2.2.2.2.2.2
      exact ⟨fun _ => ⟨by omega, by omega, MR_up (H1 c c3 c4)⟩, fun z => absurd z (by omega)⟩
    · rw [am_bt c4]
      exact ⟨fun z => absurd z (by omega), fun _ => MR_up (H3 c c3 c4)⟩
theorem M_runs {k w : Int} {D : Nat} (hD : 90 ≤ D) (hC : okC S) (H0 : ¬ (0 ≤ k ∧ k < S 0 0 3) → MR b r K S V W 1 (0)) (H2 : 0 ≤ k ∧ k < S 0 0 3 → ¬ (0 ≤ w ∧ w ≤ 5) → MR b r K S V W 2 (0)) (H1 : 0 ≤ k ∧ k < S 0 0 3 → 0 ≤ w ∧ w ≤ 5 → MR b r K S V W 0 (rnR S k w)) : am_ev am_prog D 71 [.inr (.inl r), .inl k, .inl w] (mo b r (ms S) V W) K := by
  have c3 := hC.2.2.1
  obtain ⟨d, rfl⟩ : ∃ d, D = d + 4 := ⟨D - 4, by omega⟩
  refine am_en p_X5_runs rfl rfl ?_
  refine w_runs_0 ⟨fun c => ⟨fun e => ?_, fun e => MR_up (H2 c e)⟩, fun c => MR_up (H0 c)⟩
  have go : ∀ a, a = rnR S k w → K (.inl (some (.inl (a)))) (mo b r (ms S) V (am_up W 38 0)) := fun a q => MR_up (MR_e (H1 c e) q.symm)
  refine ⟨by omega, fun g0 => ⟨fun g1 => ⟨fun g2 => ⟨fun g3 => ⟨fun g4 => ⟨by omega, fun z => ⟨by omega, go _ ?_⟩, fun z => go _ ?_⟩, fun g4 => ⟨by omega, go _ (by rw [g4]; rfl)⟩⟩, fun g3 => ⟨by omega, go _ (by rw [g3]; rfl)⟩⟩, fun g2 => ⟨by omega, go _ (by rw [g2]; rfl)⟩⟩, fun g1 => ⟨by omega, go _ (by rw [g1]; rfl)⟩⟩, fun g0 => ⟨by omega, go _ (by rw [g0]; rfl)⟩⟩
  · have g5 : w = 5 := by omega
    rw [g5]
    show S 5 k 33 = if S 5 k 29 = 0 then -1 else S 5 k 33
    rw [if_neg z]
  · have g5 : w = 5 := by omega
    rw [g5]
    show -1 = if S 5 k 29 = 0 then -1 else S 5 k 33
    rw [if_pos z]
theorem M_locked {p w : Int} {D : Nat} (hD : 90 ≤ D) (hC : okC S) (H0 : ¬ (0 ≤ p ∧ p < 6) → MR b r K S V W 1 (0)) (H2 : 0 ≤ p ∧ p < 6 → ¬ (0 ≤ w ∧ w ≤ 4) → MR b r K S V W 2 (0)) (H1 : 0 ≤ p ∧ p < 6 → 0 ≤ w ∧ w ≤ 4 → MR b r K S V W 0 (lkR S p w)) : am_ev am_prog D 68 [.inr (.inl r), .inl p, .inl w] (mo b r (ms S) V W) K := by
  obtain ⟨d, rfl⟩ : ∃ d, D = d + 4 := ⟨D - 4, by omega⟩
  refine am_en p_X5_locked rfl rfl ?_
  refine w_locked_0 ⟨fun c => ⟨fun e => ?_, fun e => MR_up (H2 c e)⟩, fun c => MR_up (H0 c)⟩
  have go : ∀ a, a = lkR S p w → K (.inl (some (.inl (a)))) (mo b r (ms S) V (am_up W 38 0)) := fun a q => MR_up (MR_e (H1 c e) q.symm)
  refine ⟨by omega, fun g0 => ⟨fun g1 => ⟨fun g2 => ⟨by omega, go _ ?_⟩, fun g2 => ⟨by omega, go _ (by rw [g2]; rfl)⟩⟩, fun g1 => ⟨by omega, go _ (by rw [g1]; rfl)⟩⟩, fun g0 => ⟨by omega, go _ (by rw [g0]; rfl)⟩⟩
  unfold lkR
  rw [if_neg g0, if_neg g1, if_neg g2]
  congr 1
  omega
theorem M_page {p c l : Int} {D : Nat} (hD : 90 ≤ D) (hC : okC S) (H0 : ¬ (0 ≤ p ∧ p < 6) → MN b r K S V W 1) (H2 : 0 ≤ p ∧ p < 6 → ¬ ((1 ≤ c ∧ c ≤ 3) ∧ (1 ≤ l ∧ l ≤ 60)) → MN b r K S V W 2) (H1 : 0 ≤ p ∧ p < 6 → (1 ≤ c ∧ c ≤ 3) ∧ (1 ≤ l ∧ l ≤ 60) → MN b r K (u3 (u3 S 8 p 0 c) 8 p 1 l) V W 0) : am_ev am_prog D 83 [.inr (.inl r), .inl p, .inl c, .inl l] (mo b r (ms S) V W) K := by
  obtain ⟨d, rfl⟩ : ∃ d, D = d + 4 := ⟨D - 4, by omega⟩
  refine am_en p_X5_page rfl rfl ?_
  exact w_page_0 ⟨fun e => ⟨fun f => MN_up (H2 e (by omega)), fun f => ⟨fun g => ⟨by omega, by omega, MN_up (H1 e ⟨f, g⟩)⟩, fun g => MN_up (H2 e (by omega))⟩⟩, fun e => MN_up (H0 e)⟩
theorem c_puts {s p l : Int} {D : Nat} (hD : 4 ≤ D) (hs : 0 ≤ s ∧ s < 300) (hp : 0 ≤ p ∧ p < 100) (hl : 0 ≤ l ∧ l < 40) (H : K (.inl none) (mo b r (ms (u3 (u3 (u3 S 4 s 5 l) 4 s 6 p) 3 p (45 + l) (s + 1))) V W)) : am_ev am_prog D 173 [.inr (.inl r), .inl s, .inl p, .inl l] (mo b r (ms S) V W) K := by
  obtain ⟨d, rfl⟩ : ∃ d, D = d + 4 := ⟨D - 4, by omega⟩
  refine am_en p_X5_puts rfl rfl ?_
  exact w_puts_0 ⟨by omega, by omega, by omega, by omega, by omega, by omega, H⟩
theorem M_pie {s : Int} {D : Nat} (hD : 90 ≤ D) (hC : okC S) (hF : okF S) (hG : okG S) (hg : okg S) (hA : okA S) (H0 : ¬ (0 ≤ s ∧ s < S 0 0 4) → MR b r K S V W 1 (0)) (H2 : 0 ≤ s ∧ s < S 0 0 4 → S 4 s 4 ≠ 0 → MR b r K S V W 0 (0)) (H1 : 0 ≤ s ∧ s < S 0 0 4 → S 4 s 4 = 0 → MR b r K (u3 (u3 (u3 (u3 S 3 (S 4 s 6) (45 + S 4 s 5) 0) 4 s 4 1) 4 s 5 (-1)) 4 s 6 (-1)) V W 0 (1)) : am_ev am_prog D 44 [.inr (.inl r), .inl s] (mo b r (ms S) V W) K := by
  have c4 := hG.1
  obtain ⟨d, rfl⟩ : ∃ d, D = d + 4 := ⟨D - 4, by omega⟩
  refine am_en p_X5_pie rfl rfl ?_
  refine w_pie_0 ⟨fun c => ⟨by omega, by omega, fun e => ⟨by omega, ?_⟩, fun e => MR_up (H2 c e)⟩, fun c => MR_up (H0 c)⟩
  obtain ⟨o1, o2, o3, o4⟩ := (hg s c.1 c.2).2.2.2.2.2 e
  have pb := isP_bd hC hF o1
  have ap := (hA _ o1).2.2.2.2.2.2.2
  exact ⟨by omega, by omega, by omega, by omega, by omega, MR_up (H1 c e)⟩
theorem M_change {s q : Int} {D : Nat} (hD : 90 ≤ D) (hC : okC S) (hF : okF S) (hG : okG S) (hg : okg S) (hA : okA S) (H0 : ¬ ((0 ≤ s ∧ s < S 0 0 4) ∧ (0 ≤ q ∧ q < S 0 0 4)) → MR b r K S V W 1 (0)) (H2 : (0 ≤ s ∧ s < S 0 0 4) ∧ (0 ≤ q ∧ q < S 0 0 4) → ¬ (S 4 s 4 = 0 ∧ S 4 q 4 = 0) → MR b r K S V W 0 (0)) (H1 : (0 ≤ s ∧ s < S 0 0 4) ∧ (0 ≤ q ∧ q < S 0 0 4) → S 4 s 4 = 0 ∧ S 4 q 4 = 0 → MR b r K (u3 (u3 (u3 (u3 (u3 (u3 S 4 s 5 (S 4 q 5)) 4 s 6 (S 4 q 6)) 3 (S 4 q 6) (45 + S 4 q 5) (s + 1)) 4 q 5 (S 4 s 5)) 4 q 6 (S 4 s 6)) 3 (S 4 s 6) (45 + S 4 s 5) (q + 1)) V W 0 (1)) : am_ev am_prog D 70 [.inr (.inl r), .inl s, .inl q] (mo b r (ms S) V W) K := by
  have c4 := hG.1
  obtain ⟨d, rfl⟩ : ∃ d, D = d + 4 := ⟨D - 4, by omega⟩
  refine am_en p_X5_change rfl rfl ?_
  refine w_change_0 ⟨fun c => MR_up (H0 (by omega)), fun c => ⟨fun e => ⟨by omega, by omega, by omega, fun f => MR_up (H2 ⟨c, e⟩ (fun z => f z.1)), fun f => ⟨by omega, fun g => ?_, fun g => MR_up (H2 ⟨c, e⟩ (fun z => g z.2))⟩⟩, fun e => MR_up (H0 (by omega))⟩⟩
  obtain ⟨o1, o2, o3, o4⟩ := (hg s c.1 c.2).2.2.2.2.2 f
  obtain ⟨u1, u2, u3', u4⟩ := (hg q e.1 e.2).2.2.2.2.2 g
  have pb := isP_bd hC hF o1
  have ap := (hA _ o1).2.2.2.2.2.2.2
  have ub := isP_bd hC hF u1
  have au := (hA _ u1).2.2.2.2.2.2.2
  refine ⟨by omega, c_puts (by omega) (by omega) ub.1 (by omega) (am_an (w_change_69 (c_puts (by omega) (by omega) pb.1 (by omega) (am_an (w_change_74 (MR_up (H1 ⟨c, e⟩ ⟨f, g⟩)))))))⟩
theorem M_brass {k c v : Int} {D : Nat} (hD : 90 ≤ D) (hC : okC S) (hG : okG S) (hM : okM S) (H0 : ¬ ((0 ≤ k ∧ k < S 0 0 3) ∧ (0 ≤ c ∧ c ≤ 26)) → MR b r K S V W 1 (0)) (H2 : (0 ≤ k ∧ k < S 0 0 3) ∧ (0 ≤ c ∧ c ≤ 26) → ¬ (0 ≤ v ∧ v ≤ 40) → MR b r K S V W 2 (0)) (H1 : (0 ≤ k ∧ k < S 0 0 3) ∧ (0 ≤ c ∧ c ≤ 26) → 0 ≤ v ∧ v ≤ 40 → MR b r K (u3 S 5 k c v) V W 0 (thr (u3 S 5 k c v) k c (S 0 0 0 + 1))) : am_ev am_prog D 85 [.inr (.inl r), .inl k, .inl c, .inl v] (mo b r (ms S) V W) K := by
  have c3 := hC.2.2.1
  have c0 := hC.1
  obtain ⟨d, rfl⟩ : ∃ d, D = d + 4 := ⟨D - 4, by omega⟩
  refine am_en p_X5_brass rfl rfl ?_
  refine w_brass_0 ⟨fun e => MR_up (H0 (by omega)), fun e => ⟨fun f => ⟨fun g => ⟨by omega, by omega, by omega, ?_⟩, fun g => MR_up (H2 ⟨e, f⟩ g)⟩, fun f => MR_up (H0 (by omega))⟩⟩
  have mm := hM k e.1 (by omega)
  refine c_there (S := u3 S 5 k c v) (by omega) (by omega) (by omega) (by omega) (okG_c (u3_r (by decide)) (u3_r (by decide)) hG) ?_ ?_ (am_av (w_brass_44 (MR_up (H1 ⟨e, f⟩ g))))
  · rw [u3_no (by omega)]
    exact mm.2.1
  · rw [u3_eq]
    exact g
end
