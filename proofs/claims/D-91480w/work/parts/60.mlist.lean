set_option maxRecDepth 100000
/-- lines of the first n parts of a story -/
def lnO (S : am_G) (s : Int) (n : Nat) : Int := sg (fun k => S 3 (5 * s + k) 4) 0 n
section
variable {K : am_K} {b : am_H} {r : Nat} {S : am_G} {V : Nat → Int → Int} {W : Nat → Int}
theorem c_linesOf {s n : Int} {D : Nat} (hD : 4 ≤ D) (hs : 0 ≤ s ∧ s < 20) (hn : 0 ≤ n ∧ n ≤ 5) (hl : ∀ k, 0 ≤ k → k < n → 0 ≤ S 3 (5 * s + k) 4 ∧ S 3 (5 * s + k) 4 ≤ 40) (H : K (.inl (some (.inl (lnO S s n.toNat)))) (mo b r (ms S) V W)) : am_ev am_prog D 376 [.inr (.inl r), .inl s, .inl n] (mo b r (ms S) V W) K := by
  obtain ⟨d, rfl⟩ : ∃ d, D = d + 4 := ⟨D - 4, by omega⟩
  refine am_en p_X5_linesOf rfl rfl ?_
  refine w_linesOf_0 ?_
  refine lp_sg (f := fun k => S 3 (5 * s + k) 4) (lo := 0) (hi := n) (fun y k => 0 ≤ y ∧ y ≤ 40 * k) (fun y k => am_W m_X5_linesOf (am_ev am_prog (d + 3)) K 4 [some (.inr (.inl r)), some (.inl (s)), some (.inl (n)), some (.inl (y)), some (.inl (k))] [] (mo b r (ms S) V W)) ?_ ?_ n.toNat 0 0 (by omega) (by omega) (by omega) ?_
  · intro y k g1 g2 gb
    have := hl k g1 g2
    show 0 ≤ y + S 3 (5 * s + k) 4 ∧ y + S 3 (5 * s + k) 4 ≤ 40 * (k + 1)
    have gb1 : 0 ≤ y ∧ y ≤ 40 * k := gb
    omega
  · intro y k g1 g2 gb gL
    have := hl k g1 g2
    have gb1 : 0 ≤ y ∧ y ≤ 40 * k := gb
    exact w_linesOf_4 ⟨fun z => absurd z (by omega), fun _ => ⟨by omega, by omega, by omega, gL⟩⟩
  · rw [Int.zero_add]
    exact w_linesOf_4 ⟨fun _ => H, fun z => absurd z (by omega)⟩
/-- a job of the part waits -/
def hsJ (S : am_G) (p : Int) : Prop := ∃ k i, (0 ≤ k ∧ k < S 0 0 3) ∧ (0 ≤ i ∧ i < S 5 k 29) ∧ S 5 k (33 + 5 * i) = p
theorem c_hasJob {p : Int} {D : Nat} (hD : 4 ≤ D) (hm : 0 ≤ S 0 0 3 ∧ S 0 0 3 ≤ 4) (hj : ∀ k, 0 ≤ k → k < 4 → 0 ≤ S 5 k 29 ∧ S 5 k 29 ≤ 30) (H1 : hsJ S p → K (.inl (some (.inl (1)))) (mo b r (ms S) V W)) (H0 : ¬ hsJ S p → K (.inl (some (.inl (0)))) (mo b r (ms S) V W)) : am_ev am_prog D 190 [.inr (.inl r), .inl p] (mo b r (ms S) V W) K := by
  obtain ⟨d, rfl⟩ : ∃ d, D = d + 4 := ⟨D - 4, by omega⟩
  refine am_en p_X5_hasJob rfl rfl ?_
  refine w_hasJob_0 ?_
  have main : ∀ k, 0 ≤ k → k ≤ S 0 0 3 → ∀ x o4, (x = 0 ∨ x = 1) → (x = 1 → hsJ S p) → (x = 0 → ∀ q i, 0 ≤ q → q < k → 0 ≤ i → i < S 5 q 29 → S 5 q (33 + 5 * i) ≠ p) → am_W m_X5_hasJob (am_ev am_prog (d + 3)) K 4 [some (.inr (.inl r)), some (.inl (p)), some (.inl (x)), some (.inl (k)), o4] [] (mo b r (ms S) V W) := by
    refine lp_z ?_ ?_
    · intro k g1 g2 hL x o4 h01 h1 h0
      have hjk := hj k g1 (by omega)
      refine w_hasJob_4 ⟨fun c => absurd c (by omega), fun _ => ?_⟩
      have inner : ∀ i, 0 ≤ i → i ≤ S 5 k 29 → ∀ x, (x = 0 ∨ x = 1) → (x = 1 → hsJ S p) → (x = 0 → (∀ q i, 0 ≤ q → q < k → 0 ≤ i → i < S 5 q 29 → S 5 q (33 + 5 * i) ≠ p) ∧ ∀ j, 0 ≤ j → j < i → S 5 k (33 + 5 * j) ≠ p) → am_W m_X5_hasJob (am_ev am_prog (d + 3)) K 12 [some (.inr (.inl r)), some (.inl (p)), some (.inl (x)), some (.inl (k)), some (.inl (i))] [] (mo b r (ms S) V W) := by
        refine lp_z ?_ ?_
        · intro i f1 f2 fL x h01 h1 h0
          refine w_hasJob_12 ⟨by omega, by omega, fun c => absurd c (by omega), fun _ => ⟨fun c => ⟨by omega, ?_⟩, fun c => ⟨by omega, by omega, by omega, ?_⟩⟩⟩
          · have e : x = 1 := by omega
            exact fL 1 (Or.inr rfl) (fun _ => h1 e) (fun z => absurd z (by decide))
          · by_cases w : S 5 k (33 + 5 * i) = p
            · rw [am_bt w]
              exact fL 1 (Or.inr rfl) (fun _ => ⟨k, i, ⟨g1, g2⟩, ⟨f1, f2⟩, w⟩) (fun z => absurd z (by decide))
            · rw [am_bf w]
              refine fL 0 (Or.inl rfl) (fun z => absurd z (by decide)) (fun _ => ⟨(h0 c).1, fun j y1 y2 => ?_⟩)
              by_cases e : j = i
              · rw [e]
                exact w
              · exact (h0 c).2 j y1 (by omega)
        · intro x h01 h1 h0
          refine w_hasJob_12 ⟨by omega, by omega, fun _ => ⟨by omega, hL x _ h01 h1 (fun z q i y1 y2 y3 y4 => ?_)⟩, fun c => absurd c (by omega)⟩
          by_cases e : q = k
          · rw [e] at y4 ⊢
            exact (h0 z).2 i y3 y4
          · exact (h0 z).1 q i y1 (by omega) y3 y4
      exact inner 0 (by omega) hjk.1 x h01 h1 (fun z => ⟨h0 z, fun j y1 y2 => absurd y2 (by omega)⟩)
    · intro x o4 h01 h1 h0
      refine w_hasJob_4 ⟨fun _ => ⟨h01, ?_⟩, fun c => absurd c (by omega)⟩
      rcases h01 with e | e
      · subst e
        exact H0 (fun z => by
          obtain ⟨k, i, z1, z2, z3⟩ := z
          exact h0 rfl k i z1.1 z1.2 z2.1 z2.2 z3)
      · subst e
        exact H1 (h1 rfl)
  exact main 0 (by omega) hm.1 0 _ (Or.inl rfl) (fun z => absurd z (by decide)) (fun _ q i y1 y2 => absurd y2 (by omega))
/-- lines by hand -/
theorem c_hand {p sl : Int} {D : Nat} (hD : 7 ≤ D) (hI : -2147483648 ≤ p ∧ p ≤ 2147483647) (hY : okY S) (hS1 : S 0 0 1 ≤ 20) (hP : isP S p → (0 ≤ p ∧ p < 100) ∧ (0 ≤ S 2 0 (p / 5) ∧ S 2 0 (p / 5) < 2) ∧ okP (S 3 p) ∧ okW (S 1 (S 2 0 (p / 5)))) (H0 : ¬ isP S p → K (.inl (some (.inl (0)))) (mo b r (ms S) V (am_up W 38 1))) (H1 : isP S p → ∀ V' W', fa [11, 12, 13] V V' → fa [38, 62, 63, 64, 65, 66, 67, 68] W W' → W' 38 = 0 → K (.inl (some (.inl (match hnd (S 3 p) (S 1 (S 2 0 (p / 5))) (meS S p (S 0 0 0)) (leS S p (S 0 0 0)) (moS S p (S 0 0 0)) 41 0 0 0 with | some q => if sl = 0 then q.1 else q.2 | none => -1)))) (mo b r (ms S) V' W')) : am_ev am_prog D 81 [.inr (.inl r), .inl p, .inl sl] (mo b r (ms S) V W) K := by
  obtain ⟨d, rfl⟩ : ∃ d, D = d + 4 := ⟨D - 4, by omega⟩
  refine am_en p_X5_hand rfl rfl ?_
  refine w_hand_0 ⟨⟨hI, hS1⟩, fun c => ?_, H0⟩
  obtain ⟨hp, hf, ho, hw⟩ := hP c
  have h1 := ho.1
  have tl := tells_bd (p := p) (mi := S 0 0 0) hY
  refine c_tells (by omega) hY hp (fun V' W' a1 b1 w1 w2 w3 w4 w5 w6 => am_an ?_)
  have w38 : W' 38 = 0 := (b1 38 rfl).trans am_up_eq
  have HH := H1 c V' W' a1 (fa_trans (fa_up fa_refl rfl) (fa_sub b1 rfl)) w38
  refine w_hand_21 ⟨by omega, by omega, ?_⟩
  have main : ∀ (t : Nat) (i x y : Int) (o7 o8 : Option am_V), 0 ≤ i → (S 3 p) 1 - i < t → (0 ≤ x ∧ x ≤ i) → (0 ≤ y ∧ y ≤ i) → i ≤ (S 3 p) 1 → K (.inl (some (.inl (match hnd (S 3 p) (S 1 (S 2 0 (p / 5))) (meS S p (S 0 0 0)) (leS S p (S 0 0 0)) (moS S p (S 0 0 0)) t i x y with | some q => if sl = 0 then q.1 else q.2 | none => -1)))) (mo b r (ms S) V' W') → am_W m_X5_hand (am_ev am_prog (d + 3)) K 35 [some (.inr (.inl r)), some (.inl (p)), some (.inl (sl)), some (.inl ((S 3 p) 1)), some (.inl (i)), some (.inl (x)), some (.inl (y)), o7, o8] [] (mo b r (ms S) V' W') := by
    intro t
    induction t with
    | zero => exact fun i x y o7 o8 g1 g2 g3 g4 g5 HK => absurd g2 (by omega)
    | succ t ih =>
      intro i x y o7 o8 g1 g2 g3 g4 g5 HK
      have e : hnd (S 3 p) (S 1 (S 2 0 (p / 5))) (meS S p (S 0 0 0)) (leS S p (S 0 0 0)) (moS S p (S 0 0 0)) (t + 1) i x y = if (S 3 p) 1 ≤ i then some (x, y) else if lj (S 3 p) (S 1 (S 2 0 (p / 5))) (meS S p (S 0 0 0)) (leS S p (S 0 0 0)) i ((S 3 p) 1 - i).toNat = -1 then none else hnd (S 3 p) (S 1 (S 2 0 (p / 5))) (meS S p (S 0 0 0)) (leS S p (S 0 0 0)) (moS S p (S 0 0 0)) t (lj (S 3 p) (S 1 (S 2 0 (p / 5))) (meS S p (S 0 0 0)) (leS S p (S 0 0 0)) i ((S 3 p) 1 - i).toNat + 1) (x + 1) (y + am_b (¬ stn (S 3 p) (S 1 (S 2 0 (p / 5))) (meS S p (S 0 0 0)) (leS S p (S 0 0 0)) (moS S p (S 0 0 0)) i (lj (S 3 p) (S 1 (S 2 0 (p / 5))) (meS S p (S 0 0 0)) (leS S p (S 0 0 0)) i ((S 3 p) 1 - i).toNat))) := rfl
      rw [e] at HK
      by_cases c0 : (S 3 p) 1 ≤ i
      · rw [if_pos c0] at HK
        refine w_hand_35 ⟨fun _ => ⟨fun z => am_uv HK (if_pos z), fun z => am_uv HK (if_neg z)⟩, fun c => absurd c (by omega)⟩
      rw [if_neg c0] at HK
      refine w_hand_35 ⟨fun c => absurd c (by omega), fun _ => ?_⟩
      have inner : ∀ j, i ≤ j → j ≤ (S 3 p) 1 → am_W m_X5_hand (am_ev am_prog (d + 3)) K 42 [some (.inr (.inl r)), some (.inl (p)), some (.inl (sl)), some (.inl ((S 3 p) 1)), some (.inl (i)), some (.inl (x)), some (.inl (y)), some (.inl (lj (S 3 p) (S 1 (S 2 0 (p / 5))) (meS S p (S 0 0 0)) (leS S p (S 0 0 0)) i (j - i).toNat)), some (.inl (j))] [] (mo b r (ms S) V' W') := by
        refine lp_z ?_ ?_
        · intro j f1 f2 fL
          have e1 : (j + 1 - i).toNat = (j - i).toNat + 1 := by omega
          have e2 : i + (((j - i).toNat : Nat) : Int) = j := by omega
          have e3 : lj (S 3 p) (S 1 (S 2 0 (p / 5))) (meS S p (S 0 0 0)) (leS S p (S 0 0 0)) i ((j - i).toNat + 1) = if tgt (S 3 p) (S 1 (S 2 0 (p / 5))) (leS S p (S 0 0 0)) i j ≤ meS S p (S 0 0 0) then j else lj (S 3 p) (S 1 (S 2 0 (p / 5))) (meS S p (S 0 0 0)) (leS S p (S 0 0 0)) i (j - i).toNat := by
            show (if tgt (S 3 p) (S 1 (S 2 0 (p / 5))) (leS S p (S 0 0 0)) i (i + (((j - i).toNat : Nat) : Int)) ≤ _ then i + (((j - i).toNat : Nat) : Int) else _) = _
            rw [e2]
          rw [e1, e3] at fL
          refine w_hand_42 ⟨fun c => absurd c (by omega), fun _ => c_tight (by omega) hp hf ho hw (by rw [w3]; exact tl.2.1) g1 f1 (by omega) (am_av ?_)⟩
          rw [w3]
          refine w_hand_50 ⟨fun c => ⟨by omega, ?_⟩, fun c => ⟨by omega, ?_⟩⟩
          · rw [w1] at c
            rw [if_neg (by omega)] at fL
            exact fL
          · rw [w1] at c
            rw [if_pos c] at fL
            exact fL
        · have lb := lj_bd (v := (S 3 p)) (w := (S 1 (S 2 0 (p / 5)))) (me := meS S p (S 0 0 0)) (le := leS S p (S 0 0 0)) g1 ((S 3 p) 1 - i).toNat
          refine w_hand_42 ⟨fun _ => ⟨fun c => ⟨by omega, ?_⟩, fun c => ?_⟩, fun c => absurd c (by omega)⟩
          · rw [if_neg c] at HK
            generalize lj (S 3 p) (S 1 (S 2 0 (p / 5))) (meS S p (S 0 0 0)) (leS S p (S 0 0 0)) i ((S 3 p) 1 - i).toNat = q at lb c HK ⊢
            refine c_isStanding (by omega) hp hf ho hw (by rw [w3]; exact tl.2.1) (by rw [w4]; exact tl.2.2.1) g1 (by omega) (by omega) (am_av ?_)
            rw [w1, w3, w4]
            have eb : am_b (am_b (stn (S 3 p) (S 1 (S 2 0 (p / 5))) (meS S p (S 0 0 0)) (leS S p (S 0 0 0)) (moS S p (S 0 0 0)) i q) = 0) = am_b (¬ stn (S 3 p) (S 1 (S 2 0 (p / 5))) (meS S p (S 0 0 0)) (leS S p (S 0 0 0)) (moS S p (S 0 0 0)) i q) := am_bc ⟨fun z => am_b0 z, fun z => am_bf z⟩
            have e01 := am_bz (¬ stn (S 3 p) (S 1 (S 2 0 (p / 5))) (meS S p (S 0 0 0)) (leS S p (S 0 0 0)) (moS S p (S 0 0 0)) i q)
            refine w_hand_69 ?_
            rw [eb]
            exact ⟨⟨by omega, by omega⟩, ih _ _ _ _ _ (by omega) (by omega) (by omega) (by omega) (by omega) HK⟩
          · rw [if_pos c] at HK
            exact HK
      have e0 : (i - i).toNat = 0 := by omega
      have i0 := inner i (by omega) (by omega)
      rw [e0] at i0
      exact i0
  exact main 41 0 0 0 _ _ (by omega) (by omega) (by omega) (by omega) (by omega) HH
end
