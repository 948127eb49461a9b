set_option maxRecDepth 100000
/-! whether a line lies right; whether a slug is wrong; sums -/
/-- n numbers of f from a on are those of g -/
def eqN (f g : Int → Int) : Nat → Prop
  | 0 => True
  | n + 1 => eqN f g n ∧ f (n : Int) = g (n : Int)
theorem eqN_all {f g : Int → Int} : ∀ n : Nat, eqN f g n ↔ ∀ k : Nat, k < n → f (k : Int) = g (k : Int)
  | 0 => ⟨fun _ k h => absurd h (Nat.not_lt_zero k), fun _ => True.intro⟩
  | n + 1 => by
    have ih := eqN_all (f := f) (g := g) n
    constructor
    · intro h k hk
      by_cases e : k = n
      · subst e
        exact h.2
      · exact ih.mp h.1 k (by omega)
    · intro h
      exact ⟨ih.mpr (fun k hk => h k (by omega)), h n (by omega)⟩
/-- the slug at a place says what the line says, and is of its face -/
def rgt (S : am_G) (p l : Int) : Prop := S 3 p (45 + l) - 1 ≠ -1 ∧ S 4 (S 3 p (45 + l) - 1) 9 = ((lnS (S 3 p) l).length : Int) ∧ S 2 0 (S 4 (S 3 p (45 + l) - 1) 0 / 5) = S 2 0 (p / 5) ∧ ∀ k : Nat, k < (lnS (S 3 p) l).length → S 4 (S 3 p (45 + l) - 1) (432 + (k : Int)) = gt (lnS (S 3 p) l) k
/-- a slug does not say what was cast -/
def wrg (S : am_G) (s : Int) : Prop := ∃ k : Nat, (k : Int) < S 4 s 9 ∧ S 4 s (12 + (k : Int)) ≠ S 4 s (432 + (k : Int))
section
variable {K : am_K} {b : am_H} {r : Nat} {S : am_G} {V : Nat → Int → Int} {W : Nat → Int}
theorem c_isRight {p l : Int} {D : Nat} (hD : 5 ≤ D) (hp : 0 ≤ p ∧ p < 100) (ho : okP (S 3 p)) (hl : 0 ≤ l ∧ l < 40) (h4 : 0 ≤ (S 3 p) 4 ∧ (S 3 p) 4 ≤ 40) (hb : 0 ≤ bg (S 3 p) l ∧ bg (S 3 p) l ≤ (S 3 p) (5 + l)) (he : (S 3 p) (5 + l) < 40) (hlen : ((lnS (S 3 p) l).length : Int) ≤ 420) (hs : 0 ≤ (S 3 p) (45 + l) ∧ (S 3 p) (45 + l) ≤ 300) (hg : ∀ s, 0 ≤ s → s < 300 → (0 ≤ S 4 s 0 ∧ S 4 s 0 < 100)) (H : ∀ V' W', fa [17, 18] V V' → fa [73] W W' → (rgt S p l → K (.inl (some (.inl (1)))) (mo b r (ms S) V' W')) ∧ (¬ rgt S p l → K (.inl (some (.inl (0)))) (mo b r (ms S) V' W'))) : am_ev am_prog D 153 [.inr (.inl r), .inl p, .inl l] (mo b r (ms S) V W) K := by
  obtain ⟨d, rfl⟩ : ∃ d, D = d + 4 := ⟨D - 4, by omega⟩
  refine am_en p_X5_isRight rfl rfl ?_
  refine w_isRight_0 ⟨by omega, by omega, fun c => ⟨by omega, ?_⟩, fun c => (H V W fa_refl fa_refl).2 (fun z => z.1 c)⟩
  refine c_write (by omega) hp ho hl h4 hb he hlen (fun V' W' hV hW q1 q2 q3 => am_an ?_)
  have hq := hg ((S 3 p) (45 + l) - 1) (by omega) (by omega)
  have HH := H V' W' hV hW
  have lp : ∀ k, 0 ≤ k → k ≤ ((lnS (S 3 p) l).length : Int) → (∀ j : Nat, (j : Int) < k → S 4 ((S 3 p) (45 + l) - 1) (432 + (j : Int)) = gt (lnS (S 3 p) l) j) → S 4 ((S 3 p) (45 + l) - 1) 9 = ((lnS (S 3 p) l).length : Int) → S 2 0 (S 4 ((S 3 p) (45 + l) - 1) 0 / 5) = S 2 0 (p / 5) → am_W m_X5_isRight (am_ev am_prog (d + 3)) K 61 [some (.inr (.inl r)), some (.inl (p)), some (.inl (l)), some (.inl ((S 3 p) (45 + l) - 1)), some (.inl (64630 + 852 * ((S 3 p) (45 + l) - 1))), some (.inl (1)), some (.inl (k))] [] (mo b r (ms S) V' W') := by
    refine lp_z ?_ ?_
    · intro k g1 g2 hL e1 e2 e3
      refine w_isRight_61 ⟨fun z => absurd z (by omega), fun z => ⟨fun z => absurd z (by decide), fun _ => ⟨by omega, by omega, ?_⟩⟩⟩
      have ek : ((k.toNat : Nat) : Int) = k := by omega
      have q2' := q2 k.toNat (by omega)
      rw [ek] at q2'
      rw [q2']
      by_cases w : S 4 ((S 3 p) (45 + l) - 1) (432 + k) = gt (lnS (S 3 p) l) k.toNat
      · rw [am_bt w]
        refine hL (fun j hj => ?_) e2 e3
        by_cases e : (j : Int) = k
        · have : j = k.toNat := by omega
          subst this
          rw [ek]
          exact w
        · exact e1 j (by omega)
      · rw [am_bf w]
        have nr : ¬ rgt S p l := fun z => w (by
          have := z.2.2.2 k.toNat (by omega)
          rw [ek] at this
          exact this)
        refine w_isRight_61 ⟨fun _ => ⟨Or.inl rfl, HH.2 nr⟩, fun _ => ⟨fun _ => ⟨Or.inl rfl, HH.2 nr⟩, fun z => absurd rfl z⟩⟩
    · intro e1 e2 e3
      refine w_isRight_61 ⟨fun _ => ⟨Or.inr rfl, HH.1 ⟨c, e2, e3, fun k hk => e1 k (by omega)⟩⟩, fun z => absurd z (by omega)⟩
  refine w_isRight_24 ⟨by omega, fun c2 => ?_, fun c2 => ⟨by omega, ?_⟩⟩
  · have nr : ¬ rgt S p l := fun z => c2 (by rw [q1]; exact z.2.1)
    exact w_isRight_61 ⟨fun _ => ⟨Or.inl rfl, HH.2 nr⟩, fun _ => ⟨fun _ => ⟨Or.inl rfl, HH.2 nr⟩, fun z => absurd rfl z⟩⟩
  · by_cases w : S 2 0 (S 4 ((S 3 p) (45 + l) - 1) 0 / 5) = S 2 0 (p / 5)
    · rw [am_bt w]
      exact lp 0 (by omega) (by omega) (fun j hj => absurd hj (by omega)) (by rw [c2, q1]) w
    · rw [am_bf w]
      have nr : ¬ rgt S p l := fun z => w z.2.2.1
      exact w_isRight_61 ⟨fun _ => ⟨Or.inl rfl, HH.2 nr⟩, fun _ => ⟨fun _ => ⟨Or.inl rfl, HH.2 nr⟩, fun z => absurd rfl z⟩⟩
theorem c_isWrong {s : Int} {D : Nat} (hD : 4 ≤ D) (hs : 0 ≤ s ∧ s < 300) (hb : S 4 s 9 ≤ 420) (H1 : wrg S s → K (.inl (some (.inl (1)))) (mo b r (ms S) V W)) (H0 : ¬ wrg S s → K (.inl (some (.inl (0)))) (mo b r (ms S) V W)) : am_ev am_prog D 144 [.inr (.inl r), .inl s] (mo b r (ms S) V W) K := by
  obtain ⟨d, rfl⟩ : ∃ d, D = d + 4 := ⟨D - 4, by omega⟩
  refine am_en p_X5_isWrong rfl rfl ?_
  refine w_isWrong_0 ⟨by omega, ?_⟩
  have l1 : wrg S s → ∀ (n : Nat) (k : Int), 0 ≤ k → S 4 s 9 ≤ k + n → am_W m_X5_isWrong (am_ev am_prog (d + 3)) K 7 [some (.inr (.inl r)), some (.inl (s)), some (.inl (64630 + 852 * s)), some (.inl (1)), some (.inl (k))] [] (mo b r (ms S) V W) := by
    intro hw n
    induction n with
    | zero => exact fun k g1 g2 => w_isWrong_7 ⟨by omega, fun _ => ⟨Or.inr rfl, H1 hw⟩, fun z => absurd z (by omega)⟩
    | succ n ih => exact fun k g1 g2 => w_isWrong_7 ⟨by omega, fun _ => ⟨Or.inr rfl, H1 hw⟩, fun z => ⟨fun _ => ⟨by omega, ih (k + 1) (by omega) (by omega)⟩, fun z => absurd z (by decide)⟩⟩
  have l0 : ∀ (n : Nat) (k : Int), 0 ≤ k → S 4 s 9 ≤ k + n → (∀ j : Nat, (j : Int) < k → S 4 s (12 + (j : Int)) = S 4 s (432 + (j : Int))) → am_W m_X5_isWrong (am_ev am_prog (d + 3)) K 7 [some (.inr (.inl r)), some (.inl (s)), some (.inl (64630 + 852 * s)), some (.inl (0)), some (.inl (k))] [] (mo b r (ms S) V W) := by
    have fin : ∀ k : Int, S 4 s 9 ≤ k → (∀ j : Nat, (j : Int) < k → S 4 s (12 + (j : Int)) = S 4 s (432 + (j : Int))) → ¬ wrg S s := fun k g e z => by
      obtain ⟨j, h1, h2⟩ := z
      exact h2 (e j (by omega))
    intro n
    induction n with
    | zero => exact fun k g1 g2 e => w_isWrong_7 ⟨by omega, fun z => ⟨Or.inl rfl, H0 (fin k z e)⟩, fun z => absurd z (by omega)⟩
    | succ n ih =>
      intro k g1 g2 e
      refine w_isWrong_7 ⟨by omega, fun z => ⟨Or.inl rfl, H0 (fin k z e)⟩, fun z => ⟨fun z => absurd rfl z, fun _ => ⟨by omega, by omega, ?_⟩⟩⟩
      have ek : ((k.toNat : Nat) : Int) = k := by omega
      by_cases w : S 4 s (12 + k) ≠ S 4 s (432 + k)
      · rw [am_bt w]
        exact l1 ⟨k.toNat, by omega, by rw [ek]; exact w⟩ n (k + 1) (by omega) (by omega)
      · rw [am_bf w]
        refine ih (k + 1) (by omega) (by omega) (fun j hj => ?_)
        by_cases e2 : (j : Int) = k
        · rw [e2]
          exact Decidable.of_not_not w
        · exact e j (by omega)
  exact l0 420 0 (by omega) (by omega) (fun j hj => absurd hj (by omega))
end
