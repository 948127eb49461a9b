set_option maxRecDepth 100000
/-! check, proof, edition -/
/-- the first row that is another than it was -/
def ckR (S : am_G) (a : Int) : Prop := (a = -1 ∧ ∀ i k, 0 ≤ i → i < S 0 0 7 → 0 ≤ k → k < 4 → S 10 0 (1 + 5 * i + k) = (lsG S (k) (S 10 0 (5 * (i))) (S 0 0 4).toNat)) ∨ (∃ i k, (0 ≤ i ∧ i < S 0 0 7) ∧ (0 ≤ k ∧ k < 4) ∧ a = 4 * i + k ∧ S 10 0 (1 + 5 * i + k) ≠ (lsG S (k) (S 10 0 (5 * (i))) (S 0 0 4).toNat) ∧ ∀ j q, 0 ≤ j → 0 ≤ q → q < 4 → 4 * j + q < a → S 10 0 (1 + 5 * j + q) = (lsG S (q) (S 10 0 (5 * (j))) (S 0 0 4).toNat))
theorem ckR_f {S : am_G} {a a' : Int} (h : ckR S a) (h' : ckR S a') : a = a' := by
  rcases h with ⟨e, g⟩ | ⟨i, k, hi, hk, e, g, l⟩ <;> rcases h' with ⟨e', g'⟩ | ⟨i', k', hi', hk', e', g', l'⟩
  · rw [e, e']
  · exact absurd (g i' k' hi'.1 hi'.2 hk'.1 hk'.2) g'
  · exact absurd (g' i k hi.1 hi.2 hk.1 hk.2) g
  · by_cases c : a < a'
    · exact absurd (l' i k hi.1 hk.1 hk.2 (by omega)) g
    · by_cases c' : a' < a
      · exact absurd (l i' k' hi'.1 hk'.1 hk'.2 (by omega)) g'
      · omega
/-- an edition: pages below p, and i numbers of the page p -/
def edP (S : am_G) (p i : Int) : am_G := fun c q o => if c = 9 ∧ ((6 * (S 0 0 6) ≤ q ∧ q < 6 * (S 0 0 6) + p ∧ 0 ≤ o ∧ o < 1 + S 8 (q - 6 * (S 0 0 6)) 2) ∨ (q = 6 * (S 0 0 6) + p ∧ 0 ≤ o ∧ o < i)) then (if o = 0 then S 8 (q - 6 * (S 0 0 6)) 2 else S 8 (q - 6 * (S 0 0 6)) (4 + o)) else S c q o
theorem edP_r {S : am_G} {p i : Int} {c : Nat} (h : c ≠ 9) : edP S p i c = S c := by
  funext q o
  exact if_neg (fun z => h z.1)
theorem edP_s {S : am_G} {p i v : Int} (hi : 0 ≤ i) (hv : v = if i = 0 then S 8 p 2 else S 8 p (4 + i)) : u3 (edP S p i) 9 (6 * (S 0 0 6) + p) i v = edP S p (i + 1) := by
  funext c q o
  unfold u3 edP
  by_cases g : c = 9 ∧ q = 6 * (S 0 0 6) + p ∧ o = i
  · rw [if_pos g, if_pos ⟨g.1, Or.inr ⟨g.2.1, by omega, by omega⟩⟩, hv, g.2.1, g.2.2]
    have e : (6 * (S 0 0 6) + p - 6 * (S 0 0 6) : Int) = p := by omega
    rw [e]
  · rw [if_neg g]
    by_cases w : c = 9 ∧ ((6 * (S 0 0 6) ≤ q ∧ q < 6 * (S 0 0 6) + p ∧ 0 ≤ o ∧ o < 1 + S 8 (q - 6 * (S 0 0 6)) 2) ∨ (q = 6 * (S 0 0 6) + p ∧ 0 ≤ o ∧ o < i))
    · exact (if_pos w).trans (if_pos ⟨w.1, w.2.elim Or.inl (fun y => Or.inr ⟨y.1, y.2.1, by omega⟩)⟩).symm
    · exact (if_neg w).trans (if_neg (fun z => w ⟨z.1, z.2.elim Or.inl (fun y => Or.inr ⟨y.1, y.2.1, by
        by_cases oi : o = i
        · exact absurd ⟨z.1, y.1, oi⟩ g
        · omega⟩)⟩)).symm
theorem edP_p {S : am_G} {p : Int} (hp : 0 ≤ p) : edP S p (1 + S 8 p 2) = edP S (p + 1) 0 := by
  funext c q o
  unfold edP
  by_cases w : c = 9 ∧ ((6 * (S 0 0 6) ≤ q ∧ q < 6 * (S 0 0 6) + p ∧ 0 ≤ o ∧ o < 1 + S 8 (q - 6 * (S 0 0 6)) 2) ∨ (q = 6 * (S 0 0 6) + p ∧ 0 ≤ o ∧ o < 1 + S 8 p 2))
  · refine (if_pos w).trans (if_pos ⟨w.1, Or.inl ?_⟩).symm
    rcases w.2 with y | y
    · exact ⟨y.1, by omega, y.2.2⟩
    · have e : q - 6 * (S 0 0 6) = p := by omega
      rw [e]
      exact ⟨by omega, by omega, y.2⟩
  · refine (if_neg w).trans (if_neg (fun z => w ⟨z.1, ?_⟩)).symm
    rcases z.2 with y | y
    · by_cases e : q = 6 * (S 0 0 6) + p
      · refine Or.inr ⟨e, y.2.2.1, ?_⟩
        have e2 : q - 6 * (S 0 0 6) = p := by omega
        rw [e2] at y
        exact y.2.2.2
      · exact Or.inl ⟨y.1, by omega, y.2.2⟩
    · exact absurd y.2.1 (by omega)
theorem edP_0 {S : am_G} : edP S 0 0 = S := by
  funext c q o
  exact if_neg (fun z => z.2.elim (fun y => absurd y.1 (by omega)) (fun y => absurd y.2.1 (by omega)))
def edF (S : am_G) : am_G := u3 (edP S 6 0) 0 0 6 ((S 0 0 6) + 1)
theorem edF_v {S : am_G} : (∀ c, c ≠ 9 → c ≠ 0 → edF S c = S c) ∧ (∀ j, j ≠ 6 → edF S 0 0 j = S 0 0 j) ∧ edF S 0 0 6 = S 0 0 6 + 1 ∧ (∀ e p, 0 ≤ e → e < S 0 0 6 → 0 ≤ p → p < 6 → edF S 9 (6 * e + p) = S 9 (6 * e + p)) ∧ (∀ p, 0 ≤ p → p < 6 → 0 ≤ S 8 p 2 → edF S 9 (6 * S 0 0 6 + p) 0 = S 8 p 2 ∧ ∀ i, 0 ≤ i → i < S 8 p 2 → edF S 9 (6 * S 0 0 6 + p) (1 + i) = S 8 p (5 + i)) := by
  refine ⟨fun c c1 c2 => ?_, fun j hj => ?_, u3_eq, fun e p e1 e2 p1 p2 => ?_, fun p p1 p2 h8 => ?_⟩
  · unfold edF
    rw [u3_r c2, edP_r c1]
  · unfold edF
    rw [u3_no hj, edP_r (by decide)]
  · unfold edF
    rw [u3_r (by decide)]
    funext o
    exact if_neg (fun z => z.2.elim (fun y => absurd y.1 (by omega)) (fun y => absurd y.1 (by omega)))
  · have e : (6 * S 0 0 6 + p - 6 * S 0 0 6 : Int) = p := by omega
    unfold edF
    rw [u3_r (by decide)]
    refine ⟨?_, fun i i1 i2 => ?_⟩
    · refine (if_pos ⟨rfl, Or.inl ⟨by omega, by omega, by omega, by rw [e]; omega⟩⟩).trans ?_
      rw [if_pos rfl, e]
    · refine (if_pos ⟨rfl, Or.inl ⟨by omega, by omega, by omega, by rw [e]; omega⟩⟩).trans ?_
      have e2 : (4 + (1 + i) : Int) = 5 + i := by omega
      rw [if_neg (by omega), e, e2]
section
variable {K : am_K} {b : am_H} {r : Nat} {S : am_G} {V : Nat → Int → Int} {W : Nat → Int}
theorem M_check {D : Nat} (hD : 90 ≤ D) (hC : okC S) (hG : okG S) (H : ∀ a, ckR S a → MR b r K S V W 0 (a)) : am_ev am_prog D 9 [.inr (.inl r)] (mo b r (ms S) V W) K := by
  have c7 := hC.2.2.2.2.2
  have c4 := hG.1
  obtain ⟨d, rfl⟩ : ∃ d, D = d + 4 := ⟨D - 4, by omega⟩
  refine am_en p_X5_check rfl rfl ?_
  have inner : ∀ i k, (0 ≤ i ∧ i < S 0 0 7) → (0 ≤ k ∧ k < 4) → (S 10 0 (1 + 5 * i + k) = (lsG S (k) (S 10 0 (5 * (i))) (S 0 0 4).toNat) → ∀ o3 o4, am_W m_X5_check (am_ev am_prog (d + 3)) K 13 [some (.inr (.inl r)), some (.inl (i)), some (.inl (k + 1)), o3, o4] [] (mo b r (ms S) V (am_up W 38 0))) → (S 10 0 (1 + 5 * i + k) ≠ (lsG S (k) (S 10 0 (5 * (i))) (S 0 0 4).toNat) → K (.inl (some (.inl (4 * i + k)))) (mo b r (ms S) V (am_up W 38 0))) → ∀ s, 0 ≤ s → s ≤ (S 0 0 4) → am_W m_X5_check (am_ev am_prog (d + 3)) K 20 [some (.inr (.inl r)), some (.inl (i)), some (.inl (k)), some (.inl (lsG S k (S 10 0 (5 * i)) s.toNat)), some (.inl (s))] [] (mo b r (ms S) V (am_up W 38 0)) := by
    intro i k hi hk A0 A1
    refine lp_z ?_ ?_
    · intro s s1 s2 hL
      have e1 : (s + 1).toNat = s.toNat + 1 := by omega
      have e2 : ((s.toNat : Nat) : Int) = s := by omega
      have el : lsG S k (S 10 0 (5 * i)) (s + 1).toNat = if S 4 s 1 = k ∧ S 4 s 2 = S 10 0 (5 * i) then s else lsG S k (S 10 0 (5 * i)) s.toNat := by
        rw [e1]
        show (if S 4 ((s.toNat : Nat) : Int) 1 = k ∧ S 4 ((s.toNat : Nat) : Int) 2 = S 10 0 (5 * i) then ((s.toNat : Nat) : Int) else lsG S k (S 10 0 (5 * i)) s.toNat) = _
        rw [e2]
      rw [el] at hL
      refine w_check_20 ⟨fun z => absurd z (by omega), fun _ => ⟨by omega, by omega, fun c => ⟨by omega, ?_⟩, fun c => ⟨by omega, by omega, fun g => ⟨by omega, ?_⟩, fun g => ⟨by omega, ?_⟩⟩⟩⟩
      · rw [if_neg (fun z => c z.1)] at hL
        exact hL
      · rw [if_neg (fun z => g z.2)] at hL
        exact hL
      · rw [if_pos ⟨c, g⟩] at hL
        exact hL
    · exact w_check_20 ⟨fun _ => ⟨by omega, fun g => ⟨by omega, A0 g _ _⟩, fun g => ⟨by omega, A1 g⟩⟩, fun z => absurd z (by omega)⟩
  have main : ∀ c, 0 ≤ c → c ≤ 4 * S 0 0 7 → (∀ j q, 0 ≤ j → 0 ≤ q → q < 4 → 4 * j + q < c → S 10 0 (1 + 5 * j + q) = (lsG S (q) (S 10 0 (5 * (j))) (S 0 0 4).toNat)) → (∀ o2 o3 o4, c % 4 = 0 → am_W m_X5_check (am_ev am_prog (d + 3)) K 5 [some (.inr (.inl r)), some (.inl (c / 4)), o2, o3, o4] [] (mo b r (ms S) V (am_up W 38 0))) ∧ (c < 4 * S 0 0 7 → ∀ o3 o4, am_W m_X5_check (am_ev am_prog (d + 3)) K 13 [some (.inr (.inl r)), some (.inl (c / 4)), some (.inl (c % 4)), o3, o4] [] (mo b r (ms S) V (am_up W 38 0))) := by
    refine lp_z ?_ ?_
    · intro c g1 g2 hL hc
      have two : ∀ o3 o4, am_W m_X5_check (am_ev am_prog (d + 3)) K 13 [some (.inr (.inl r)), some (.inl (c / 4)), some (.inl (c % 4)), o3, o4] [] (mo b r (ms S) V (am_up W 38 0)) := fun o3 o4 => by
        refine w_check_13 ⟨fun z => absurd z (by omega), fun _ => ?_⟩
        refine inner (c / 4) (c % 4) (by omega) (by omega) (fun g o3 o4 => ?_) (fun g => MR_up (H _ (Or.inr ⟨c / 4, c % 4, by omega, by omega, rfl, g, fun j q j1 q1 q2 q3 => hc j q j1 q1 q2 (by omega)⟩))) 0 (by omega) c4.1
        have nx := hL (fun j q j1 q1 q2 q3 => by
          by_cases f : 4 * j + q = c
          · have f1 : j = c / 4 := by omega
            have f2 : q = c % 4 := by omega
            rw [f1, f2]
            exact g
          · exact hc j q j1 q1 q2 (by omega))
        by_cases e : c % 4 = 3
        · have e1 : (c + 1) / 4 = c / 4 + 1 := by omega
          have n5 := nx.1 (some (.inl (c % 4 + 1))) o3 o4 (by omega)
          rw [e1] at n5
          exact w_check_13 ⟨fun _ => ⟨by omega, n5⟩, fun z => absurd z (by omega)⟩
        · have e1 : (c + 1) / 4 = c / 4 := by omega
          have e2 : (c + 1) % 4 = c % 4 + 1 := by omega
          have n5 := nx.2 (by omega) o3 o4
          rw [e1, e2] at n5
          exact n5
      refine ⟨fun o2 o3 o4 e => ?_, fun _ => two⟩
      have t2 := two o3 o4
      rw [e] at t2
      exact w_check_5 ⟨fun z => absurd z (by omega), fun _ => t2⟩
    · intro hc
      refine ⟨fun o2 o3 o4 _ => w_check_5 ⟨fun _ => MR_up (H (-1) (Or.inl ⟨rfl, fun i k i1 i2 k1 k2 => hc i k i1 k1 k2 (by omega)⟩)), fun z => absurd z (by omega)⟩, fun z => absurd z (by omega)⟩
  exact w_check_0 ((main 0 (by omega) (by omega) (fun j q j1 q1 q2 q3 => absurd q3 (by omega))).1 _ _ _ rfl)
theorem M_edition {D : Nat} (hD : 90 ≤ D) (hC : okC S) (h8 : ∀ p, 0 ≤ p → p < 6 → 0 ≤ S 8 p 2 ∧ S 8 p 2 ≤ 180) (H0 : (S 0 0 6) = 8 → MR b r K S V W 1 (0)) (H1 : (S 0 0 6) ≠ 8 → MR b r K (edF S) V W 0 ((S 0 0 6))) : am_ev am_prog D 14 [.inr (.inl r)] (mo b r (ms S) V W) K := by
  have c6 := hC.2.2.2.2.1
  obtain ⟨d, rfl⟩ : ∃ d, D = d + 4 := ⟨D - 4, by omega⟩
  refine am_en p_X5_edition rfl rfl ?_
  refine w_edition_0 ⟨fun c => ?_, fun c => MR_up (H0 c)⟩
  have r8 : ∀ p i, edP S p i 8 = S 8 := fun p i => edP_r (by decide)
  have r6 : ∀ p i, edP S p i 0 = S 0 := fun p i => edP_r (by decide)
  have main : ∀ p, 0 ≤ p → p ≤ 6 → ∀ o3, am_W m_X5_edition (am_ev am_prog (d + 3)) K 23 [some (.inr (.inl r)), some (.inl ((S 0 0 6))), some (.inl (p)), o3] [] (mo b r (ms (edP S p 0)) V (am_up W 38 0)) := by
    refine lp_z ?_ ?_
    · intro p p1 p2 hL o3
      have hp := h8 p p1 p2
      have lines : ∀ i, 0 ≤ i → i ≤ S 8 p 2 → am_W m_X5_edition (am_ev am_prog (d + 3)) K 45 [some (.inr (.inl r)), some (.inl ((S 0 0 6))), some (.inl (p)), some (.inl (i))] [] (mo b r (ms (edP S p (1 + i))) V (am_up W 38 0)) := by
        refine lp_z ?_ ?_
        · intro i i1 i2 hI
          refine w_edition_45 ?_
          rw [r8]
          refine ⟨by omega, fun z => absurd z (by omega), fun _ => ⟨by omega, by omega, by omega, ?_⟩⟩
          have es := edP_s (S := S) (p := p) (i := 1 + i) (v := S 8 p (5 + i)) (by omega) (by
            have e2 : (4 + (1 + i) : Int) = 5 + i := by omega
            rw [if_neg (by omega), e2])
          have e3 : (1 + i + 1 : Int) = 1 + (i + 1) := by omega
          rw [e3] at es
          rw [es]
          exact hI
        · refine w_edition_45 ?_
          rw [r8, edP_p p1]
          exact ⟨by omega, fun _ => ⟨by omega, hL _⟩, fun z => absurd z (by omega)⟩
      refine w_edition_23 ?_
      rw [r8]
      refine ⟨fun z => absurd z (by omega), fun _ => ⟨by omega, by omega, ?_⟩⟩
      have es := edP_s (S := S) (p := p) (i := 0) (v := S 8 p 2) (by omega) (by rw [if_pos rfl])
      rw [es]
      exact lines 0 (by omega) hp.1
    · intro o3
      refine w_edition_23 ?_
      rw [r6]
      exact ⟨fun _ => ⟨by omega, MR_up (H1 c)⟩, fun z => absurd z (by omega)⟩
  have m0 := main 0 (by omega) (by omega) none
  rw [edP_0] at m0
  exact m0
theorem M_proof {w : Int} {D : Nat} (hD : 90 ≤ D) (hC : okC S) (hG : okG S) (hg : okg S) (H0 : ¬ (0 ≤ w ∧ w ≤ 5) → MR b r K S V W 1 (0)) (H1 : 0 ≤ w ∧ w ≤ 5 → MR b r K S V W 0 (pfR S w)) : am_ev am_prog D 47 [.inr (.inl r), .inl w] (mo b r (ms S) V W) K := by
  have c4 := hG.1
  obtain ⟨d, rfl⟩ : ∃ d, D = d + 4 := ⟨D - 4, by omega⟩
  refine am_en p_X5_proof rfl rfl ?_
  refine w_proof_0 ⟨fun c => ?_, fun c => MR_up (H0 c)⟩
  have HH := H1 c
  have main : ∀ k, 0 ≤ k → k ≤ (S 0 0 4) → ∀ o8 o9 o10 o11, am_W m_X5_proof (am_ev am_prog (d + 3)) K 27 [some (.inr (.inl r)), some (.inl (w)), some (.inl (sg (pf2 S) 0 k.toNat)), some (.inl (sg (pf3 S) 0 k.toNat)), some (.inl (sg (pf4 S) 0 k.toNat)), some (.inl (sg (pf5 S) 0 k.toNat)), some (.inl (sg (pf6 S) 0 k.toNat)), some (.inl (k)), o8, o9, o10, o11] [] (mo b r (ms S) V (am_up W 38 0)) := by
    refine lp_z ?_ ?_
    · intro k k1 k2 hL o8 o9 o10 o11
      have bd := pf_bd hG hg (k := k) (by omega)
      obtain ⟨o1, o2, o3, o4, o5⟩ := hg k k1 k2
      rw [sg_s k1, sg_s k1, sg_s k1, sg_s k1, sg_s k1] at hL
      have hL' : ∀ a2 a3 a4 a5 a6, a2 = pf2 S k → a3 = pf3 S k → a4 = pf4 S k → a5 = pf5 S k → a6 = pf6 S k → ∀ o8 o9 o10 o11, am_W m_X5_proof (am_ev am_prog (d + 3)) K 27 [some (.inr (.inl r)), some (.inl (w)), some (.inl (sg (pf2 S) 0 k.toNat + a2)), some (.inl (sg (pf3 S) 0 k.toNat + a3)), some (.inl (sg (pf4 S) 0 k.toNat + a4)), some (.inl (sg (pf5 S) 0 k.toNat + a5)), some (.inl (sg (pf6 S) 0 k.toNat + a6)), some (.inl (k + 1)), o8, o9, o10, o11] [] (mo b r (ms S) V (am_up W 38 0)) := by
        intro a2 a3 a4 a5 a6 e2 e3 e4 e5 e6
        rw [e2, e3, e4, e5, e6]
        exact hL
      have mm : S 4 k 10 * S 4 k 11 = 0 ∨ S 4 k 10 * S 4 k 11 = 1 := by
        rcases o3 with f | f <;> rcases o4 with g | g <;> rw [f, g] <;> decide
      refine w_proof_27 ⟨fun z => absurd z (by omega), fun _ => ⟨by omega, by omega, fun c => ⟨by omega, ?_⟩, fun c => ⟨by omega, ?_⟩⟩⟩
      · have e2 : pf2 S k = S 4 k 10 := if_pos c
        have e3 : pf3 S k = S 4 k 11 := if_pos c
        have e4 : pf4 S k = S 4 k 10 * S 4 k 11 := if_pos c
        have e5 : pf5 S k = if 0 < S 4 k 10 + S 4 k 11 then 1 - wb S k else 0 := if_pos c
        have e6 : pf6 S k = if S 4 k 10 + S 4 k 11 = 0 then wb S k else 0 := if_pos c
        have fin : ∀ y, y = wb S k → (y = 0 ∨ y = 1) → am_W m_X5_proof (am_ev am_prog (d + 3)) K 77 [some (.inr (.inl r)), some (.inl (w)), some (.inl (sg (pf2 S) 0 k.toNat + S 4 k 10)), some (.inl (sg (pf3 S) 0 k.toNat + S 4 k 11)), some (.inl (sg (pf4 S) 0 k.toNat + S 4 k 10 * S 4 k 11)), some (.inl (sg (pf5 S) 0 k.toNat)), some (.inl (sg (pf6 S) 0 k.toNat)), some (.inl (k)), some (.inl (64630 + 852 * k)), some (.inl (S 4 k 10)), some (.inl (S 4 k 11)), o11] [.inl y] (mo b r (ms S) V (am_up W 38 0)) := fun y ey y01 => by
          rw [← ey] at e5 e6
          have by0 : am_b ((y : Int) ≠ 0) = y := by
            rcases y01 with q | q <;> rw [q] <;> decide
          have by1 : am_b ((y : Int) = 0) = 1 - y := by
            rcases y01 with q | q <;> rw [q] <;> decide
          refine w_proof_77 ?_
          rw [by0, by1]
          refine ⟨by omega, fun z => ⟨by omega, fun z2 => absurd (by omega) z2, fun z2 => ⟨by omega, by omega, hL' _ _ _ _ _ e2.symm e3.symm e4.symm ?_ ?_ _ _ _ _⟩⟩, fun z => ⟨by omega, fun z2 => ⟨by omega, by omega, hL' _ _ _ _ _ e2.symm e3.symm e4.symm ?_ ?_ _ _ _ _⟩, fun z2 => absurd z2 (by omega)⟩⟩
          · rw [e5, if_neg (by omega)]
          · rw [e6, if_pos z2]
          · rw [e5, if_pos z]
          · rw [e6, if_neg z2]
        exact c_isWrong (by omega) (by omega) (hG.2 k k1 k2).2.2.2.2 (fun v => am_av (fin 1 (wb_t v).symm (Or.inr rfl))) (fun v => am_av (fin 0 (wb_f v).symm (Or.inl rfl)))
      · have q := hL' 0 0 0 0 0 (if_neg c).symm (if_neg c).symm (if_neg c).symm (if_neg c).symm (if_neg c).symm
        simp only [Int.add_zero] at q
        exact q _ _ _ _
    · intro o8 o9 o10 o11
      have bd := pf_bd hG hg (k := (S 0 0 4)) (by omega)
      have go : ∀ a, a = pfR S w → K (.inl (some (.inl (a)))) (mo b r (ms S) V (am_up W 38 0)) := fun a e => MR_up (MR_e HH e.symm)
      refine w_proof_27 ⟨fun _ => ⟨fun e3 => ⟨fun e0 => ⟨fun e1 => ⟨fun e2 => ⟨fun e4 => go _ ?_, fun e => go _ (by rw [e]; rfl)⟩, fun e => go _ (by rw [e]; rfl)⟩, fun e => go _ (by rw [e]; rfl)⟩, fun e => go _ (by rw [e]; rfl)⟩, fun e => ⟨fun f => ⟨?_, go _ ?_⟩, fun f => go _ ?_⟩⟩, fun z => absurd z (by omega)⟩
      · unfold pfR
        rw [if_neg (by omega), if_neg (by omega), if_neg (by omega), if_neg (by omega), if_neg (by omega)]
      · have mm := mul_in (x := sg (pf2 S) 0 (S 0 0 4).toNat - sg (pf4 S) 0 (S 0 0 4).toNat) (y := sg (pf3 S) 0 (S 0 0 4).toNat - sg (pf4 S) 0 (S 0 0 4).toNat) (c := 300) (e := 300) (by omega) (by omega)
        have m0 := Int.mul_nonneg (a := sg (pf2 S) 0 (S 0 0 4).toNat - sg (pf4 S) 0 (S 0 0 4).toNat) (b := sg (pf3 S) 0 (S 0 0 4).toNat - sg (pf4 S) 0 (S 0 0 4).toNat) (by omega) (by omega)
        refine ⟨by omega, by omega, by omega, by omega, by omega⟩
      · unfold pfR
        rw [if_pos e, if_neg f]
      · unfold pfR
        rw [if_pos e, if_pos f]
  exact main 0 (by omega) c4.1 _ _ _ _
end
