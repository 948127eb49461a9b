set_option maxRecDepth 100000
/-! a story comes: the model -/
def pF (V : Nat → Int → Int) (W : Nat → Int) (V' : Nat → Int → Int) (W' : Nat → Int) (tp fl : Int) : Prop := V' 2 = V 2 ∧ V' 4 = V 4 ∧ okVs V' ∧ W' 42 = W 42 ∧ W' 44 = tp ∧ W' 47 = fl
def MF (b : am_H) (r : Nat) (K : am_K) (S' : am_G) (V : Nat → Int → Int) (W : Nat → Int) (c a tp fl : Int) : Prop := ∀ V' W', pF V W V' W' tp fl → W' 38 = c → K (.inl (some (.inl (a)))) (mo b r (ms S') V' W')
/-- one row of region 3 as g -/
def ZR (Z : am_G) (p : Int) (g : Int → Int) : am_G := fun c q o => if c = 3 ∧ q = p then g o else Z c q o
theorem ZR_u {Z : am_G} {p o v : Int} {g : Int → Int} : u3 (ZR Z p g) 3 p o v = ZR Z p (am_uz g o v) := by
  funext c q i
  unfold u3 ZR am_uz
  by_cases h : c = 3 ∧ q = p
  · rw [if_pos h, if_pos h]
    by_cases e : i = o
    · rw [if_pos ⟨h.1, h.2, e⟩, if_pos e]
    · rw [if_neg (fun z => e z.2.2), if_neg e]
  · rw [if_neg h, if_neg h, if_neg (fun z => h ⟨z.1, z.2.1⟩)]
theorem ZR_id {Z : am_G} {p : Int} : ZR Z p (Z 3 p) = Z := by
  funext c q i
  unfold ZR
  by_cases h : c = 3 ∧ q = p
  · rw [if_pos h, h.1, h.2]
  · rw [if_neg h]
theorem ZR_r {Z : am_G} {p : Int} {g : Int → Int} {c : Nat} (h : c ≠ 3) : ZR Z p g c = Z c := by
  funext q o
  exact if_neg (fun z => h z.1)
theorem ZR_p {Z : am_G} {p q : Int} {g : Int → Int} (h : q ≠ p) : ZR Z p g 3 q = Z 3 q := by
  funext o
  exact if_neg (fun z => h z.2)
theorem ZR_e {Z : am_G} {p : Int} {g : Int → Int} : ZR Z p g 3 p = g := by
  funext o
  exact if_pos ⟨rfl, rfl⟩
/-- a part's row: j pieces, m letters are there -/
def prt (V : Nat → Int → Int) (v : Int → Int) (i j m : Int) : Int → Int := fun o => if o = 0 then V 9 i else if o = 1 then V 8 i else if 85 ≤ o ∧ o < 85 + j then V 5 (40 * i + (o - 85)) else if 125 ≤ o ∧ o < 125 + j then V 6 (40 * i + (o - 125)) else if 165 ≤ o ∧ o < 165 + m then V 7 (480 * i + (o - 165)) else v o
theorem prt_0 {V : Nat → Int → Int} {v : Int → Int} {i : Int} : am_uz (am_uz v 0 (V 9 i)) 1 (V 8 i) = prt V v i 0 0 := by
  funext o
  unfold am_uz prt
  by_cases e1 : o = 1
  · rw [if_pos e1, if_neg (by omega), if_pos e1]
  · rw [if_neg e1]
    by_cases e0 : o = 0
    · rw [if_pos e0, if_pos e0]
    · rw [if_neg e0, if_neg e0, if_neg e1, if_neg (by omega), if_neg (by omega), if_neg (by omega)]
theorem prt_j {V : Nat → Int → Int} {v : Int → Int} {i j m : Int} (hj : 0 ≤ j ∧ j < 40) : am_uz (am_uz (prt V v i j m) (85 + j) (V 5 (40 * i + j))) (125 + j) (V 6 (40 * i + j)) = prt V v i (j + 1) m := by
  funext o
  unfold am_uz prt
  by_cases e1 : o = 125 + j
  · have e : (o - 125 : Int) = j := by omega
    rw [if_pos e1, if_neg (by omega), if_neg (by omega), if_neg (by omega), if_pos (by omega), e]
  · rw [if_neg e1]
    by_cases e0 : o = 85 + j
    · have e : (o - 85 : Int) = j := by omega
      rw [if_pos e0, if_neg (by omega), if_neg (by omega), if_pos (by omega), e]
    · have k1 : (85 ≤ o ∧ o < 85 + j) ↔ (85 ≤ o ∧ o < 85 + (j + 1)) := by omega
      have k2 : (125 ≤ o ∧ o < 125 + j) ↔ (125 ≤ o ∧ o < 125 + (j + 1)) := by omega
      rw [if_neg e0]
      simp only [k1, k2]
theorem prt_m {V : Nat → Int → Int} {v : Int → Int} {i j m : Int} (hj : 0 ≤ j ∧ j ≤ 40) (hm : 0 ≤ m) : am_uz (prt V v i j m) (165 + m) (V 7 (480 * i + m)) = prt V v i j (m + 1) := by
  funext o
  unfold am_uz prt
  by_cases e1 : o = 165 + m
  · have e : (o - 165 : Int) = m := by omega
    rw [if_pos e1, if_neg (by omega), if_neg (by omega), if_neg (by omega), if_neg (by omega), if_pos (by omega), e]
  · have k1 : (165 ≤ o ∧ o < 165 + m) ↔ (165 ≤ o ∧ o < 165 + (m + 1)) := by omega
    rw [if_neg e1]
    simp only [k1]
/-- the first parts are written -/
def ZA (S Z0 : am_G) (V : Nat → Int → Int) : Nat → am_G
  | 0 => Z0
  | i + 1 => ZR (ZA S Z0 V i) (5 * (S 0 0 1) + (i : Int)) (prt V (S 3 (5 * (S 0 0 1) + (i : Int))) i (V 8 i) (12 * V 8 i))
theorem ZA_v {S Z0 : am_G} {V : Nat → Int → Int} (h3 : Z0 3 = S 3) : ∀ m : Nat, (∀ c, c ≠ 3 → ZA S Z0 V m c = Z0 c) ∧ (∀ p, p < 5 * (S 0 0 1) ∨ 5 * (S 0 0 1) + m ≤ p → ZA S Z0 V m 3 p = S 3 p) ∧ ∀ i : Nat, i < m → ZA S Z0 V m 3 (5 * (S 0 0 1) + (i : Int)) = prt V (S 3 (5 * (S 0 0 1) + (i : Int))) i (V 8 i) (12 * V 8 i)
  | 0 => ⟨fun _ _ => rfl, fun p _ => by show Z0 3 p = S 3 p; rw [h3], fun i hi => absurd hi (Nat.not_lt_zero _)⟩
  | m + 1 => by
    obtain ⟨q1, q2, q3⟩ := ZA_v (S := S) (V := V) h3 m
    refine ⟨fun c hc => ?_, fun p hp => ?_, fun i hi => ?_⟩
    · show ZR _ _ _ c = _
      rw [ZR_r hc, q1 c hc]
    · show ZR _ _ _ 3 p = _
      rw [ZR_p (by omega), q2 p (by omega)]
    · show ZR _ _ _ 3 (5 * (S 0 0 1) + (i : Int)) = _
      by_cases e : i = m
      · rw [e, ZR_e]
      · rw [ZR_p (by omega), q3 i (by omega)]
/-- ranges of a part's row -/
def okQ (v : Int → Int) : Prop := (∀ k, 0 ≤ k → k < 40 → (0 ≤ v (125 + k) ∧ v (125 + k) ≤ 12) ∧ (0 ≤ v (85 + k) ∧ v (85 + k) ≤ 23)) ∧ (∀ k i, 0 ≤ k → k < 40 → 0 ≤ i → i < 12 → 0 ≤ v (165 + 12 * k + i) ∧ v (165 + 12 * k + i) ≤ 25)
/-- a story has come -/
def stR (t : Int → Int) (S : am_G) (f du : Int) (l : List am_Pt) (S' : am_G) : Prop := (∀ c, c ≠ 0 → c ≠ 2 → c ≠ 3 → S' c = S c) ∧ ((∀ j, j ≠ 1 → S' 0 0 j = S 0 0 j) ∧ S' 0 0 1 = (S 0 0 1) + 1) ∧ ((∀ k j, j ≠ (S 0 0 1) → S' 2 k j = S 2 k j) ∧ S' 2 0 (S 0 0 1) = f ∧ S' 2 1 (S 0 0 1) = du ∧ S' 2 2 (S 0 0 1) = (l.length : Int)) ∧ (∀ p, p < 5 * (S 0 0 1) ∨ 5 * (S 0 0 1) + l.length ≤ p → S' 3 p = S 3 p) ∧ (∀ i : Nat, i < l.length → rwP t (S' 3 (5 * (S 0 0 1) + (i : Int))) (gD l i).1 (gD l i).2 ∧ okPt t (gD l i) ∧ (∀ o, 2 ≤ o → o < 85 → S' 3 (5 * (S 0 0 1) + (i : Int)) o = S 3 (5 * (S 0 0 1) + (i : Int)) o) ∧ (okQ (S 3 (5 * (S 0 0 1) + (i : Int))) → okQ (S' 3 (5 * (S 0 0 1) + (i : Int)))))
theorem prt_ok {t : Int → Int} {V : Nat → Int → Int} {v : Int → Int} {i : Nat} {x : am_Pt} (okv : okVs V) (hi : i < 5) (e9 : V 9 i = x.1) (pv : pvH t V i x.2) (o : okPt t x) : rwP t (prt V v i (V 8 i) (12 * V 8 i)) x.1 x.2 ∧ (∀ o, 2 ≤ o → o < 85 → prt V v i (V 8 i) (12 * V 8 i) o = v o) ∧ (okQ v → okQ (prt V v i (V 8 i) (12 * V 8 i))) := by
  have l40 := o.2.2.2
  have e8 := pv.1
  rw [e8]
  refine ⟨⟨?_, ?_, fun k hk => ⟨?_, ?_, fun j j1 j2 => ?_⟩⟩, fun o o1 o2 => ?_, fun q => ⟨fun k k1 k2 => ⟨?_, ?_⟩, fun k j k1 k2 j1 j2 => ?_⟩⟩
  · unfold prt
    rw [if_pos rfl, e9]
  · unfold prt
    rw [if_neg (by decide), if_pos rfl, e8]
  · have e : (85 + (k : Int) - 85) = (k : Int) := by omega
    unfold prt
    rw [if_neg (by omega), if_neg (by omega), if_pos (by omega), e]
    exact (pv.2 k hk).1
  · have e : (125 + (k : Int) - 125) = (k : Int) := by omega
    unfold prt
    rw [if_neg (by omega), if_neg (by omega), if_neg (by omega), if_pos (by omega), e]
    exact (pv.2 k hk).2.1
  · have l12 := (chP_g x.2 0 x.1 o.2.1 k hk).1.2
    have e : (480 * (i : Int) + (165 + 12 * (k : Int) + j - 165)) = 12 * (40 * (i : Int) + (k : Int)) + j := by omega
    unfold prt
    rw [if_neg (by omega), if_neg (by omega), if_neg (by omega), if_neg (by omega), if_pos (by omega), e]
    exact (pv.2 k hk).2.2 j j1 j2
  · unfold prt
    rw [if_neg (by omega), if_neg (by omega), if_neg (by omega), if_neg (by omega), if_neg (by omega)]
  · unfold prt
    rw [if_neg (by omega), if_neg (by omega), if_neg (by omega)]
    by_cases c : 125 ≤ 125 + k ∧ 125 + k < 125 + (x.2.length : Int)
    · rw [if_pos c]
      exact (okv.1 _ (by omega) (by omega)).2
    · rw [if_neg c, if_neg (by omega)]
      exact (q.1 k k1 k2).1
  · unfold prt
    rw [if_neg (by omega), if_neg (by omega)]
    by_cases c : 85 ≤ 85 + k ∧ 85 + k < 85 + (x.2.length : Int)
    · rw [if_pos c]
      exact (okv.1 _ (by omega) (by omega)).1
    · rw [if_neg c, if_neg (by omega), if_neg (by omega)]
      exact (q.1 k k1 k2).2
  · unfold prt
    rw [if_neg (by omega), if_neg (by omega), if_neg (by omega), if_neg (by omega)]
    by_cases c : 165 ≤ 165 + 12 * k + j ∧ 165 + 12 * k + j < 165 + 12 * (x.2.length : Int)
    · rw [if_pos c]
      exact okv.2 _ (by omega) (by omega)
    · rw [if_neg c]
      exact q.2 k j k1 k2 j1 j2
section
variable {K : am_K} {b : am_H} {r : Nat} {S : am_G} {V : Nat → Int → Int} {W : Nat → Int}
theorem c_use {D : Nat} (hD : 4 ≤ D) (H : ∀ W', fa [44, 45, 46] W W' → W' 44 = 0 → W' 45 = W 44 → W' 46 = 0 → K (.inl none) (mo b r (ms S) V W')) : am_ev am_prog D 149 [.inr (.inl r)] (mo b r (ms S) V W) K := by
  obtain ⟨d, rfl⟩ : ∃ d, D = d + 4 := ⟨D - 4, by omega⟩
  refine am_en p_X5_use rfl rfl ?_
  exact w_use_0 (H _ (fa_up (fa_up (fa_up fa_refl rfl) rfl) rfl) ((am_up_ne (by decide)).trans am_up_eq) ((am_up_ne (by decide)).trans ((am_up_ne (by decide)).trans am_up_eq)) am_up_eq)
theorem M_story {t : Int → Int} {f du : Int} {D : Nat} (hD : 90 ≤ D) (hC : okC S) (ok : okVs V) (h44 : 0 ≤ W 44 ∧ W 44 ≤ 400) (tp : tpR t (V 4) (W 44)) (H0 : ¬ (0 ≤ f ∧ f ≤ 1) → MF b r K S V W 1 (0) 0 (W 47)) (H2 : 0 ≤ f ∧ f ≤ 1 → ¬ (0 ≤ du ∧ du ≤ 600) → MF b r K S V W 2 (0) 0 (W 47)) (H3 : 0 ≤ f ∧ f ≤ 1 → 0 ≤ du ∧ du ≤ 600 → ∀ x, soR t (W 44) 5 0 [] = .inl x → MF b r K S V W 2 (0) 0 (x)) (H4 : 0 ≤ f ∧ f ≤ 1 → 0 ≤ du ∧ du ≤ 600 → ∀ l, soR t (W 44) 5 0 [] = .inr l → (S 0 0 1) = 20 → MF b r K S V W 3 (0) 0 (-1)) (H1 : 0 ≤ f ∧ f ≤ 1 → 0 ≤ du ∧ du ≤ 600 → ∀ l S', soR t (W 44) 5 0 [] = .inr l → l.length ≤ 5 → (S 0 0 1) ≠ 20 → stR t S f du l S' → MF b r K S' V W 0 ((S 0 0 1)) 0 (-1)) : am_ev am_prog D 65 [.inr (.inl r), .inl f, .inl du] (mo b r (ms S) V W) K := by
  have c1 := hC.2.1
  obtain ⟨d, rfl⟩ : ∃ d, D = d + 4 := ⟨D - 4, by omega⟩
  refine am_en p_X5_story rfl rfl ?_
  refine w_story_0 (c_use (by omega) (fun W1 hW1 k44 k45 k46 => am_an (w_story_2 ⟨fun c => ⟨fun c2 => ?_, fun c2 => ?_⟩, fun c => ?_⟩)))
  · have HH3 := H3 c c2
    have HH4 := H4 c c2
    have HH1 := H1 c c2
    refine c_readStory (t := t) (n := W 44) (by omega) ?_ h44 ?_ am_up_eq tp ok (fun x V' W' hx hV hW f47 ok' => am_av (w_story_29 ⟨fun z => absurd rfl z, fun _ => ?_⟩)) (fun l V' W' hl hV hW f47 ok' dn f55 l5 => am_av (w_story_29 ⟨fun _ => ?_, fun z => absurd z (by decide)⟩))
    · rw [am_up_ne (by decide), am_up_ne (by decide), k45]
    · rw [am_up_ne (by decide), am_up_ne (by decide), k46]
    · refine HH3 x hx _ _ ⟨hV 2 rfl, hV 4 rfl, ok', ?_, ?_, ?_⟩ am_up_eq
      · rw [am_up_ne (by decide), hW 42 rfl, am_up_ne (by decide), am_up_ne (by decide), hW1 42 rfl]
      · rw [am_up_ne (by decide), hW 44 rfl, am_up_ne (by decide), am_up_ne (by decide), k44]
      · rw [am_up_ne (by decide), f47]
    · have g38 : W' 38 = 0 := by
        rw [hW 38 rfl, am_up_ne (by decide), am_up_eq]
      have fin : ∀ W2 : Nat → Int, (∀ c, c ≠ 38 → W2 c = W' c) → pF V W V' W2 0 (-1) := fun W2 e => by
        refine ⟨hV 2 rfl, hV 4 rfl, ok', ?_, ?_, ?_⟩
        · rw [e 42 (by decide), hW 42 rfl, am_up_ne (by decide), am_up_ne (by decide), hW1 42 rfl]
        · rw [e 44 (by decide), hW 44 rfl, am_up_ne (by decide), am_up_ne (by decide), k44]
        · rw [e 47 (by decide), f47]
      refine ⟨fun g => ⟨fun _ => ⟨by omega, by omega, by omega, ?_⟩, fun z => absurd z (by omega)⟩, fun g => HH4 l hl g _ _ (fin _ (fun c hc => am_up_ne hc)) am_up_eq⟩
      generalize hZ : u3 (u3 (u3 S 2 0 (S 0 0 1) f) 2 1 (S 0 0 1) du) 2 2 (S 0 0 1) (W' 55 + 1) = Z0
      have z3 : Z0 3 = S 3 := by rw [← hZ, u3_r (by decide), u3_r (by decide), u3_r (by decide)]
      have z0 : Z0 0 = S 0 := by rw [← hZ, u3_r (by decide), u3_r (by decide), u3_r (by decide)]
      have parts : ∀ i, 0 ≤ i → i ≤ (l.length : Int) → ∀ o5 o6 o7, am_W m_X5_story (am_ev am_prog (d + 3)) K 79 [some (.inr (.inl r)), some (.inl (f)), some (.inl (du)), some (.inl ((S 0 0 1))), some (.inl (i)), o5, o6, o7] [] (mo b r (ms (ZA S Z0 V' i.toNat)) V' W') := by
        refine lp_z ?_ ?_
        · intro i i1 i2 hL o5 o6 o7
          have ei : ((i.toNat : Nat) : Int) = i := by omega
          have dq := dn i.toNat (by omega)
          rw [ei] at dq
          have l40 := dq.2.2.2.2.2
          have e8 : V' 8 i = ((gD l i.toNat).2.length : Int) := dq.2.1.1
          have zv := ZA_v (S := S) (V := V') z3 i.toNat
          have za0 : ZA S Z0 V' i.toNat 0 = S 0 := by rw [zv.1 0 (by decide), z0]
          have za3 : ZA S Z0 V' i.toNat 3 (5 * (S 0 0 1) + i) = S 3 (5 * (S 0 0 1) + i) := zv.2.1 _ (by omega)
          have nxt : (i + 1).toNat = i.toNat + 1 := by omega
          have enx : ZA S Z0 V' (i + 1).toNat = ZR (ZA S Z0 V' i.toNat) (5 * (S 0 0 1) + i) (prt V' (S 3 (5 * (S 0 0 1) + i)) i (V' 8 i) (12 * V' 8 i)) := by
            rw [nxt]
            show ZR (ZA S Z0 V' i.toNat) (5 * (S 0 0 1) + ((i.toNat : Nat) : Int)) (prt V' (S 3 (5 * (S 0 0 1) + ((i.toNat : Nat) : Int))) ((i.toNat : Nat) : Int) (V' 8 ((i.toNat : Nat) : Int)) (12 * V' 8 ((i.toNat : Nat) : Int))) = _
            rw [ei]
          rw [enx] at hL
          -- pieces
          have pieces : ∀ j, 0 ≤ j → j ≤ V' 8 i → ∀ o7, am_W m_X5_story (am_ev am_prog (d + 3)) K 112 [some (.inr (.inl r)), some (.inl (f)), some (.inl (du)), some (.inl ((S 0 0 1))), some (.inl (i)), some (.inl (130 + 645 * (5 * (S 0 0 1) + i))), some (.inl (j)), o7] [] (mo b r (ms (ZR (ZA S Z0 V' i.toNat) (5 * (S 0 0 1) + i) (prt V' (S 3 (5 * (S 0 0 1) + i)) i j (12 * j)))) V' W') := by
            refine lp_z ?_ ?_
            · intro j j1 j2 hJ o7
              have letters : ∀ q, 0 ≤ q → q ≤ 12 → am_W m_X5_story (am_ev am_prog (d + 3)) K 152 [some (.inr (.inl r)), some (.inl (f)), some (.inl (du)), some (.inl ((S 0 0 1))), some (.inl (i)), some (.inl (130 + 645 * (5 * (S 0 0 1) + i))), some (.inl (j)), some (.inl (q))] [] (mo b r (ms (ZR (ZA S Z0 V' i.toNat) (5 * (S 0 0 1) + i) (prt V' (S 3 (5 * (S 0 0 1) + i)) i (j + 1) (12 * j + q)))) V' W') := by
                refine lp_z ?_ ?_
                · intro q q1 q2 hQ
                  refine w_story_152 ⟨fun z => absurd z (by omega), fun _ => ⟨by omega, by omega, ?_⟩⟩
                  have e1 : (165 + 12 * j + q : Int) = 165 + (12 * j + q) := by omega
                  have e2 : (12 * (40 * i + j) + q : Int) = 480 * i + (12 * j + q) := by omega
                  rw [ZR_u, e1, e2, prt_m (by omega) (by omega)]
                  have e3 : (12 * j + q + 1 : Int) = 12 * j + (q + 1) := by omega
                  rw [e3]
                  exact hQ
                · have e3 : (12 * j + 12 : Int) = 12 * (j + 1) := by omega
                  rw [e3]
                  exact w_story_152 ⟨fun _ => ⟨by omega, hJ _⟩, fun z => absurd z (by omega)⟩
              refine w_story_112 ⟨by omega, fun z => absurd z (by omega), fun _ => ⟨by omega, by omega, ?_⟩⟩
              rw [ZR_u, ZR_u, prt_j (by omega)]
              have l0 := letters 0 (by omega) (by omega)
              have e3 : (12 * j + 0 : Int) = 12 * j := by omega
              rw [e3] at l0
              exact l0
            · intro o7
              exact w_story_112 ⟨by omega, fun _ => ⟨by omega, hL _ _ _⟩, fun z => absurd z (by omega)⟩
          refine w_story_79 ⟨fun z => absurd z (by omega), fun _ => ⟨by omega, by omega, by omega, by omega, ?_⟩⟩
          have p0 := pieces 0 (by omega) (by omega) o7
          have es : u3 (u3 (ZA S Z0 V' i.toNat) 3 (5 * (S 0 0 1) + i) 0 (V' 9 i)) 3 (5 * (S 0 0 1) + i) 1 (V' 8 i) = ZR (ZA S Z0 V' i.toNat) (5 * (S 0 0 1) + i) (prt V' (S 3 (5 * (S 0 0 1) + i)) i 0 (12 * 0)) := by
            conv => lhs; rw [← ZR_id (Z := ZA S Z0 V' i.toNat) (p := 5 * (S 0 0 1) + i), ZR_u, ZR_u, za3, prt_0]
            rfl
          rw [← es] at p0
          exact p0
        · intro o5 o6 o7
          have zv := ZA_v (S := S) (V := V') z3 l.length
          have el : ((l.length : Nat) : Int).toNat = l.length := by omega
          rw [el]
          have za0 : ZA S Z0 V' l.length 0 = S 0 := by rw [zv.1 0 (by decide), z0]
          refine w_story_79 ⟨fun _ => ?_, fun z => absurd z (by omega)⟩
          rw [za0]
          refine ⟨by omega, HH1 l _ hl l5 g ?_ _ _ (fin _ (fun c hc => rfl)) g38⟩
          refine ⟨fun c c0 c2' c3 => ?_, ⟨fun j hj => ?_, u3_eq⟩, ⟨fun k j hj => ?_, ?_, ?_, ?_⟩, fun p hp => ?_, fun i hi => ?_⟩
          · rw [u3_r c0, zv.1 c c3, ← hZ, u3_r c2', u3_r c2', u3_r c2']
          · rw [u3_no hj, za0]
          · rw [u3_nc (by decide), zv.1 2 (by decide), ← hZ, u3_no hj, u3_no hj, u3_no hj]
          · rw [u3_nc (by decide), zv.1 2 (by decide), ← hZ, u3_np (by decide), u3_np (by decide), u3_eq]
          · rw [u3_nc (by decide), zv.1 2 (by decide), ← hZ, u3_np (by decide), u3_eq]
          · rw [u3_nc (by decide), zv.1 2 (by decide), ← hZ, u3_eq, f55]
          · rw [u3_r (by decide), zv.2.1 p hp]
          · rw [u3_r (by decide), zv.2.2 i hi]
            have dq := dn i hi
            have q := prt_ok (v := S 3 (5 * (S 0 0 1) + (i : Int))) ok' (by omega) dq.1 dq.2.1 dq.2.2
            exact ⟨q.1, dq.2.2, q.2.1, q.2.2⟩
      exact parts 0 (by omega) (by omega) _ _ _
  · refine H2 c c2 _ _ ⟨rfl, rfl, ok, ?_, ?_, ?_⟩ am_up_eq
    · rw [am_up_ne (by decide), hW1 42 rfl]
    · rw [am_up_ne (by decide), k44]
    · rw [am_up_ne (by decide), hW1 47 rfl]
  · refine H0 c _ _ ⟨rfl, rfl, ok, ?_, ?_, ?_⟩ am_up_eq
    · rw [am_up_ne (by decide), hW1 42 rfl]
    · rw [am_up_ne (by decide), k44]
    · rw [am_up_ne (by decide), hW1 47 rfl]
end
