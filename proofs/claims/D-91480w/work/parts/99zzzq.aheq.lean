set_option maxRecDepth 100000
/-! looking ahead: both sides come to the same answer -/
theorem sg_nn {f : Int → Int} : ∀ (n : Nat) (i : Int), (∀ j, i ≤ j → j < i + n → 0 ≤ f j) → 0 ≤ sg f i n
  | 0, i, _ => Int.le_refl 0
  | n + 1, i, h => by
    have h1 := h i (by omega) (by omega)
    have h2 := sg_nn n (i + 1) (fun j a b => h j (by omega) (by omega))
    show 0 ≤ f i + sg f (i + 1) n
    omega
theorem sg_pos {f : Int → Int} : ∀ (n : Nat) (i k : Int), (∀ j, i ≤ j → j < i + n → 0 ≤ f j) → i ≤ k → k < i + n → 0 < f k → 0 < sg f i n
  | 0, i, k, _, h1, h2, _ => by omega
  | n + 1, i, k, h0, h1, h2, h3 => by
    have b := h0 i (by omega) (by omega)
    have b2 := sg_nn (f := f) n (i + 1) (fun j a b => h0 j (by omega) (by omega))
    show 0 < f i + sg f (i + 1) n
    by_cases e : k = i
    · rw [e] at h3
      omega
    · have q := sg_pos n (i + 1) k (fun j a b => h0 j (by omega) (by omega)) (by omega) (by omega) h3
      omega
theorem idl_j {S : am_G} (hC : okC S) (hM : okM S) : idl S ↔ jbs S ≤ 0 := by
  have c3 := hC.2.2.1
  have nn : ∀ j, 0 ≤ j → j < 0 + ((S 0 0 3).toNat : Int) → 0 ≤ S 5 j 29 := fun j a b => (hM j a (by omega)).2.2.2.1.1
  constructor
  · intro h
    have q := (sg_bd (f := fun k => S 5 k 29) (c := 0) (S 0 0 3).toNat 0 (fun j a b => by
      have e := h j a (by omega)
      show 0 ≤ S 5 j 29 ∧ S 5 j 29 ≤ 0
      omega)).2
    unfold jbs
    omega
  · intro h k k0 k1
    have n0 := nn k k0 (by omega)
    by_cases e : S 5 k 29 = 0
    · exact e
    · have q := sg_pos (f := fun k => S 5 k 29) (S 0 0 3).toNat 0 k nn k0 (by omega) (by show 0 < S 5 k 29; omega)
      unfold jbs at h
      exact absurd h (by omega)
/-- minutes, whatever the state -/
def mnP (S : am_G) : Nat → am_G → Prop
  | 0, S' => S' = S
  | n + 1, S' => ∃ S1, mnP S n S1 ∧ mnR (mnS S1) (S1 0 0 3).toNat S'
theorem mnP_f {S : am_G} : ∀ (n : Nat) (S1 S2 : am_G), mnP S n S1 → mnP S n S2 → S1 = S2
  | 0, _, _, h1, h2 => h1.trans h2.symm
  | n + 1, _, _, ⟨A, h1, h2⟩, ⟨B, g1, g2⟩ => by
    have e := mnP_f n A B h1 g1
    subst e
    exact mnR_f _ _ _ h2 g2
theorem mnP_mid {S : am_G} : ∀ (n : Nat) (Sn : am_G), mnP S n Sn → ∀ p, p ≤ n → ∃ Sp, mnP S p Sp
  | 0, Sn, h, p, hp => ⟨Sn, by
    have e : p = 0 := by omega
    rw [e]
    exact h⟩
  | n + 1, Sn, ⟨A, h1, h2⟩, p, hp => by
    by_cases e : p = n + 1
    · exact ⟨Sn, by rw [e]; exact ⟨A, h1, h2⟩⟩
    · exact mnP_mid n A h1 p (by omega)
theorem mnC_P {S : am_G} : ∀ (n : Nat) (Sn : am_G), mnC S n Sn → mnP S n Sn ∧ ∀ p, p < n → ∀ Sp, mnP S p Sp → Sp 0 0 0 < 600 ∧ 0 < jbs Sp
  | 0, Sn, h => ⟨h, fun p hp => absurd hp (by omega)⟩
  | n + 1, Sn, ⟨A, h1, h2, h3⟩ => by
    have ih := mnC_P n A h1
    refine ⟨⟨A, ih.1, h3⟩, fun p hp Sp sp => ?_⟩
    by_cases e : p = n
    · subst e
      have e2 := mnP_f p A Sp ih.1 sp
      rw [← e2]
      exact h2
    · exact ih.2 p (by omega) Sp sp
theorem mnX_P {S : am_G} : ∀ (n : Nat) (Sn : am_G), mnX S n Sn → mnP S n Sn ∧ ∀ p, p < n → ∀ Sp, mnP S p Sp → Sp 0 0 0 < 600 ∧ ¬ idl Sp ∧ ¬ stk Sp
  | 0, Sn, h => ⟨h, fun p hp => absurd hp (by omega)⟩
  | n + 1, Sn, ⟨A, h1, h2, h3⟩ => by
    have ih := mnX_P n A h1
    refine ⟨⟨A, ih.1, h3⟩, fun p hp Sp sp => ?_⟩
    by_cases e : p = n
    · subst e
      have e2 := mnP_f p A Sp ih.1 sp
      rw [← e2]
      exact h2
    · exact ih.2 p (by omega) Sp sp
/-- minutes go on from where minutes came to -/
theorem mnP_add {S Sm : am_G} {m : Nat} (a : mnP S m Sm) : ∀ (n : Nat) (Sn : am_G), mnP S (m + n) Sn → mnP Sm n Sn
  | 0, Sn, h => mnP_f m Sn Sm h a
  | n + 1, Sn, ⟨A, h1, h2⟩ => ⟨A, mnP_add a n A h1, h2⟩
/-- where no machine runs, a minute changes no machine -/
theorem stk_t {S : am_G} (h : ∀ k, 0 ≤ k → k < S 0 0 3 → S 5 k 28 ≠ 0 ∨ S 5 k 29 = 0) : ∀ (k : Nat) (S' : am_G), (k : Int) ≤ S 0 0 3 → mnR S k S' → S' = S
  | 0, S', _, e => e
  | k + 1, S', hk, ⟨A, S1, a, h1, h2, h3⟩ => by
    have e := stk_t h k A (by omega) h1
    subst e
    have c := h (k : Int) (by omega) (by omega)
    have q : S1 = A ∧ a = -1 := by
      rcases h2 with q | q | q | q
      · exact q.2
      · rcases c with c | c
        · exact absurd q.1 c
        · exact absurd c q.2.1
      · rcases c with c | c
        · exact absurd q.1 c
        · exact absurd c q.2.1
      · rcases c with c | c
        · exact absurd q.1 c
        · exact absurd c q.2.1
    rw [h3, q.1, q.2]
    have nc : ¬ ((A 5 (k : Int) 28 = 0 ∧ A 5 (k : Int) 29 ≠ 0) ∧ A 5 (k : Int) 29 = A 5 (k : Int) 29 ∧ A 5 (k : Int) 37 ≠ 0) := fun z => by
      rcases c with c | c
      · exact c z.1.1
      · exact z.1.2 c
    have e5 : fx5 A (k : Int) A = A := if_neg nc
    unfold msF
    rw [e5]
    exact if_pos rfl
theorem stk_m {S S' : am_G} (hC : okC S) (h : stk S) (m : mnR (mnS S) (S 0 0 3).toNat S') : S' 5 = S 5 ∧ S' 0 0 3 = S 0 0 3 ∧ S' 0 0 7 = mnS S 0 0 7 ∧ S' 0 0 7 ≤ 8 ∧ 0 ≤ S' 0 0 7 := by
  have c3 := hC.2.2.1
  have c7 := hC.2.2.2.2.2
  obtain ⟨v1, v2, v3, v4, v5, v6, v7, v8⟩ := mnS_v (S := S) c7
  have e5 : mnS S 5 = S 5 := v1 5 (by decide) (by decide)
  have e03 : mnS S 0 0 3 = S 0 0 3 := v4 3 (by decide) (by decide)
  have e := stk_t (S := mnS S) (fun k k0 k1 => by
    rw [e5]
    rw [e03] at k1
    exact h k k0 k1) (S 0 0 3).toNat S' (by rw [e03]; omega) m
  rw [e]
  refine ⟨e5, e03, rfl, ?_, ?_⟩
  · rw [v3]
    unfold mnR0
    split <;> omega
  · rw [v3]
    unfold mnR0
    split <;> omega
theorem stk_P : ∀ (n : Nat) (S Sn : am_G), (0 ≤ S 0 0 7 ∧ S 0 0 7 ≤ 8) → (0 ≤ S 0 0 3 ∧ S 0 0 3 ≤ 4) → stk S → mnP S n Sn → Sn 5 = S 5 ∧ Sn 0 0 3 = S 0 0 3 ∧ (0 ≤ Sn 0 0 7 ∧ Sn 0 0 7 ≤ 8)
  | 0, S, Sn, h7, h3, hs, e => by
    have e' : Sn = S := e
    rw [e']
    exact ⟨rfl, rfl, h7⟩
  | n + 1, S, Sn, h7, h3, hs, ⟨A, h1, h2⟩ => by
    have ih := stk_P n S A h7 h3 hs h1
    obtain ⟨v1, v2, v3, v4, v5, v6, v7, v8⟩ := mnS_v (S := A) ih.2.2
    have e5 : mnS A 5 = A 5 := v1 5 (by decide) (by decide)
    have e03 : mnS A 0 0 3 = A 0 0 3 := v4 3 (by decide) (by decide)
    have e := stk_t (S := mnS A) (fun k k0 k1 => by
      rw [e5, ih.1]
      rw [e03, ih.2.1] at k1
      exact hs k k0 k1) (A 0 0 3).toNat Sn (by rw [e03, ih.2.1]; omega) h2
    rw [e]
    refine ⟨e5.trans ih.1, e03.trans ih.2.1, ?_⟩
    rw [v3]
    unfold mnR0
    split <;> omega
theorem mnC_ok {S0 : am_G} (h : okMs S0) : ∀ (n : Nat) (Sn : am_G), mnC S0 n Sn → okMs Sn
  | 0, Sn, e => by
    have e' : Sn = S0 := e
    rw [e']
    exact h
  | n + 1, Sn, ⟨A, h1, h2, h3⟩ => (okMs_m (mnC_ok h n A h1) h2.1 h3).1
/-- the model's answer is the component's -/
theorem ah_eq {S0 Sn Sm : am_G} {n m : Nat} (ok0 : okMs S0) (okm : okMs Sm) (a : mnC S0 n Sn) (ae : 600 ≤ Sn 0 0 0 ∨ jbs Sn ≤ 0) (b : mnX S0 m Sm) (be : idl Sm ∨ 600 ≤ Sm 0 0 0 ∨ stk Sm) : (idl Sm → (if 0 < jbs Sn then -1 else Sn 0 0 0) = Sm 0 0 0) ∧ (¬ idl Sm → (if 0 < jbs Sn then -1 else Sn 0 0 0) = -1) := by
  obtain ⟨a1, a2⟩ := mnC_P n Sn a
  obtain ⟨b1, b2⟩ := mnX_P m Sm b
  have ij := idl_j okm.1.1 okm.2.1.1
  have on := mnC_ok ok0 n Sn a
  have ijn := idl_j on.1.1 on.2.1.1
  rcases Nat.lt_trichotomy n m with c | c | c
  · have q := b2 n c Sn a1
    rcases ae with z | z
    · exact absurd q.1 (by omega)
    · exact absurd (ijn.2 z) q.2.1
  · subst c
    have e := mnP_f n Sn Sm a1 b1
    rw [e]
    refine ⟨fun z => ?_, fun z => ?_⟩
    · rw [if_neg (by have := ij.1 z; omega)]
    · rw [if_pos (by
        have : ¬ jbs Sm ≤ 0 := fun y => z (ij.2 y)
        omega)]
  · have q := a2 m c Sm b1
    have ni : ¬ idl Sm := fun z => by
      have := ij.1 z
      omega
    have st : stk Sm := by
      rcases be with z | z | z
      · exact absurd z ni
      · exact absurd q.1 (by omega)
      · exact z
    obtain ⟨k, rfl⟩ : ∃ k, n = m + k := ⟨n - m, by omega⟩
    have r := stk_P k Sm Sn okm.1.1.2.2.2.2.2 okm.1.1.2.2.1 st (mnP_add b1 k Sn a1)
    have ej : jbs Sn = jbs Sm := by
      unfold jbs
      rw [r.1, r.2.1]
    refine ⟨fun z => absurd z ni, fun _ => ?_⟩
    rw [ej]
    exact if_pos q.2
