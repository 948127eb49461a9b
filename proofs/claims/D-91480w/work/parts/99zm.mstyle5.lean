set_option maxRecDepth 100000
/-! the model reads a rule -/
def CsR (b : am_H) (r : Nat) : Prop := CsC b r ∧ csM b r 18 wIf ∧ csM b r 1 wMeas ∧ csM b r 2 wSpac ∧ csM b r 3 wPart ∧ csM b r 4 wFat ∧ csM b r 5 wPay ∧ csM b r 6 wFree ∧ csM b r 7 wClos ∧ csM b r 8 wAtt
section
variable {K : am_K} {b : am_H} {r : Nat} {S : am_G} {V : Nat → Int → Int} {W : Nat → Int}
theorem c_readRule {t : Int → Int} {n j a : Int} {D : Nat} (hD : 50 ≤ D) (hn : n ≤ 400) (cr : CsR b r) (h45 : W 45 = n) (h46 : W 46 = a) (ha : 0 ≤ a ∧ a ≤ n) (h48 : W 48 = 0) (h57 : W 57 = j) (hj : 0 ≤ j ∧ j < 12) (tp : tpR t (V 4) n) (h58 : 62 ≤ W 58 ∧ W 58 + (n - a) ≤ 562) (H0 : ∀ x V' W', rlR t n (bE t n a) = .inl x → fa [10] V V' → fa [46, 47, 48, 49, 58] W W' → W' 47 = x → K (.inl (some (.inl (0)))) (mo b r (ms S) V' W')) (H1 : ∀ q V' W', rlR t n (bE t n a) = .inr q → fa [10] V V' → fa [46, 47, 48, 49, 58] W W' → W' 46 = q.1 → W' 47 = W 47 → W' 48 = 0 → W' 58 = W 58 + ruL q.2 → ruV (V' 10) j (W 58) q.2 → (∀ i, i < W 58 → ¬ ((2 + 5 * j) ≤ i ∧ i < (2 + 5 * j) + 5) → V' 10 i = V 10 i) → K (.inl (some (.inl (1)))) (mo b r (ms S) V' W')) : am_ev am_prog D 257 [.inr (.inl r)] (mo b r (ms S) V W) K := by
  obtain ⟨cs, cI, c1, c2, c3, c4, c5, c6, c7, c8⟩ := cr
  have bv := bE_v (t := t) (n := n) (a := a)
  have be := bv.1.2 ha.2
  obtain ⟨d, rfl⟩ : ∃ d, D = d + 4 := ⟨D - 4, by omega⟩
  refine am_en p_X5_readRule rfl rfl ?_
  -- a condition behind a rule's numbers
  have ifs : ∀ (V1 : Nat → Int → Int) (W1 : Nat → Int) (kd f0 p : Int) (m : Bool) (x1 : Int) (Q : am_K), fa [10] V V1 → V1 10 (2 + 5 * j) = kd → V1 10 ((2 + 5 * j) + 1) = f0 → V1 10 ((2 + 5 * j) + 2) = 0 → V1 10 ((2 + 5 * j) + 3) = 0 → V1 10 ((2 + 5 * j) + 4) = 0 → (∀ i, ¬ ((2 + 5 * j) ≤ i ∧ i < (2 + 5 * j) + 5) → V1 10 i = V 10 i) → (fa [46, 47, 48, 49, 58] W W1 ∧ W1 47 = W 47 ∧ W1 48 = 0 ∧ W1 58 = W 58) → W1 46 = p → a ≤ p → p ≤ n → x1 = (if m = true then 1 else 0) → rlR t n (bE t n a) = ifT t n m p kd f0 → (∀ y V' W', (y = 0 ∨ y = 1) → K (.inl (some (.inl (y)))) (mo b r (ms S) V' W') → Q (.inl (some (.inl (y)))) (mo b r (ms S) V' W')) → am_ev am_prog (d + 3) 324 [.inr (.inl r), .inl x1] (mo b r (ms S) V1 W1) Q := by
    intro V1 W1 kd f0 p m x1 Q hV1 e0 e1 e2 e3 e4 eo hW1 f46 hp1 hp2 hm er hQ
    refine c_readIf (t := t) (n := n) (j := j) (a := p) (m := m) (by omega) hn cs cI hm ((hW1.1 45 rfl).trans h45) f46 (by omega) hW1.2.2.1 ((hW1.1 57 rfl).trans h57) hj (by rw [hV1 4 rfl]; exact tp) (by rw [hW1.2.2.2]; omega) e3 e4 (fun x V' W' hx hV' hW' q47 => hQ 0 V' W' (Or.inl rfl) (H0 x V' W' ?_ (fa_trans hV1 hV') (fa_trans hW1.1 hW') q47)) (fun q V' W' hq hV' hW' q46 q47 q48 q58 oc old => hQ 1 V' W' (Or.inr rfl) (H1 (q.1, kd, f0, 0, q.2) V' W' ?_ (fa_trans hV1 hV') (fa_trans hW1.1 hW') q46 (q47.trans hW1.2.1) q48 ?_ ?_ (fun i i1 i2 => ?_)))
    · rw [er]
      unfold ifT
      rw [hx]
    · rw [er]
      unfold ifT
      rw [hq]
    · rw [q58, hW1.2.2.2]
      rfl
    · rw [hW1.2.2.2] at oc old
      refine ⟨?_, ?_, ?_, oc⟩
      · rw [old _ (by omega) (by omega) (by omega)]
        exact e0
      · rw [old _ (by omega) (by omega) (by omega)]
        exact e1
      · rw [old _ (by omega) (by omega) (by omega)]
        exact e2
    · rw [hW1.2.2.2] at old
      rw [old i i1 (by omega) (by omega)]
      exact eo i i2
  -- the second number
  have sec : ∀ (V1 : Nat → Int → Int) (W1 : Nat → Int) (kd f0 p lo hi x3 x4 : Int), fa [10] V V1 → V1 10 (2 + 5 * j) = kd → V1 10 ((2 + 5 * j) + 1) = f0 → V1 10 ((2 + 5 * j) + 3) = 0 → V1 10 ((2 + 5 * j) + 4) = 0 → (∀ i, ¬ ((2 + 5 * j) ≤ i ∧ i < (2 + 5 * j) + 5) → V1 10 i = V 10 i) → (fa [46, 47, 48, 49, 58] W W1 ∧ W1 47 = W 47 ∧ W1 48 = 0 ∧ W1 58 = W 58) → W1 46 = p → a ≤ p → p ≤ n → rlR t n (bE t n a) = nmT t n p lo hi (fun q => .inr (q.1, kd, f0, q.2, none)) → am_ev am_prog (d + 3) 325 [.inr (.inl r), .inl lo, .inl hi] (mo b r (ms S) V1 W1) (am_aft (am_hand m_X5_readRule K (am_W m_X5_readRule (am_ev am_prog (d + 3)) K) 178) (am_W m_X5_readRule (am_ev am_prog (d + 3)) K) 178 [some (.inr (.inl r)), some (.inl ((2 + 5 * j))), some (.inl (kd)), some (.inl (x3)), some (.inl (x4))] []) := by
    intro V1 W1 kd f0 p lo hi x3 x4 hV1 e0 e1 e3 e4 eo hW1 f46 hp1 hp2 er
    refine c_readNumber (t := t) (n := n) (by omega) ((hW1.1 45 rfl).trans h45) hn (by omega) (by rw [hV1 4 rfl]; exact tp) (fun x W2 hx hW2 q47 => am_av (w_readRule_179 ⟨fun z => absurd rfl z, fun _ => H0 x V1 W2 ?_ hV1 (fa_trans hW1.1 (fa_sub hW2 rfl)) q47⟩)) (fun q W2 hq hW2 q46 q49 => am_av (w_readRule_179 ⟨fun _ => ⟨by omega, ?_⟩, fun z => absurd z (by decide)⟩))
    · rw [f46] at hx
      rw [er]
      unfold nmT
      rw [hx]
    · rw [f46] at hq
      rw [q49]
      have v10 : am_up V1 10 (am_uz (V1 10) ((2 + 5 * j) + 2) q.2) 10 = am_uz (V1 10) ((2 + 5 * j) + 2) q.2 := am_up_eq
      refine H1 (q.1, kd, f0, q.2, none) _ W2 ?_ (fa_up hV1 rfl) (fa_trans hW1.1 (fa_sub hW2 rfl)) q46 ((hW2 47 rfl).trans hW1.2.1) ((hW2 48 rfl).trans hW1.2.2.1) ?_ ⟨?_, ?_, ?_, ?_, ?_⟩ (fun i i1 i2 => ?_)
      · rw [er]
        unfold nmT
        rw [hq]
      · rw [hW2 58 rfl, hW1.2.2.2]
        show W 58 = W 58 + 0
        omega
      · rw [v10, am_uz_ne (by omega)]
        exact e0
      · rw [v10, am_uz_ne (by omega)]
        exact e1
      · rw [v10, am_uz_eq]
      · rw [v10, am_uz_ne (by omega)]
        exact e3
      · rw [v10, am_uz_ne (by omega)]
        exact e4
      · rw [v10, am_uz_ne (by omega)]
        exact eo i i2
  -- the first number
  have fst : ∀ (V1 : Nat → Int → Int) (W1 : Nat → Int) (kd p lo hi : Int) (F : Int × Int → Int ⊕ (Int × am_Ru)), (fa [10] V V1 ∧ V1 10 (2 + 5 * j) = kd ∧ V1 10 ((2 + 5 * j) + 2) = 0 ∧ V1 10 ((2 + 5 * j) + 3) = 0 ∧ V1 10 ((2 + 5 * j) + 4) = 0 ∧ ∀ i, ¬ ((2 + 5 * j) ≤ i ∧ i < (2 + 5 * j) + 5) → V1 10 i = V 10 i) → (fa [46, 47, 48, 49, 58] W W1 ∧ W1 47 = W 47 ∧ W1 48 = 0 ∧ W1 58 = W 58) → W1 46 = p → a ≤ p → p ≤ n → rlR t n (bE t n a) = nmT t n p lo hi F → (∀ q W2, (lo ≤ q.2 ∧ q.2 ≤ hi) → p ≤ q.1 ∧ q.1 ≤ n → rlR t n (bE t n a) = F q → (fa [46, 47, 48, 49, 58] W W2 ∧ W2 47 = W 47 ∧ W2 48 = 0 ∧ W2 58 = W 58) → W2 46 = q.1 → W2 49 = q.2 → am_W m_X5_readRule (am_ev am_prog (d + 3)) K 122 [some (.inr (.inl r)), some (.inl ((2 + 5 * j))), some (.inl (kd)), some (.inl (lo)), some (.inl (hi))] [] (mo b r (ms S) V1 W2) → True) → (∀ q W2, (lo ≤ q.2 ∧ q.2 ≤ hi) → p ≤ q.1 ∧ q.1 ≤ n → rlR t n (bE t n a) = F q → (fa [46, 47, 48, 49, 58] W W2 ∧ W2 47 = W 47 ∧ W2 48 = 0 ∧ W2 58 = W 58) → W2 46 = q.1 → W2 49 = q.2 → am_W m_X5_readRule (am_ev am_prog (d + 3)) K 122 [some (.inr (.inl r)), some (.inl ((2 + 5 * j))), some (.inl (kd)), some (.inl (lo)), some (.inl (hi))] [.inl 1] (mo b r (ms S) V1 W2)) → am_ev am_prog (d + 3) 325 [.inr (.inl r), .inl lo, .inl hi] (mo b r (ms S) V1 W1) (am_aft (am_hand m_X5_readRule K (am_W m_X5_readRule (am_ev am_prog (d + 3)) K) 121) (am_W m_X5_readRule (am_ev am_prog (d + 3)) K) 121 [some (.inr (.inl r)), some (.inl ((2 + 5 * j))), some (.inl (kd)), some (.inl (lo)), some (.inl (hi))] []) := by
    intro V1 W1 kd p lo hi F hV1 hW1 f46 hp1 hp2 er _ hF
    refine c_readNumber (t := t) (n := n) (by omega) ((hW1.1 45 rfl).trans h45) hn (by omega) (by rw [hV1.1 4 rfl]; exact tp) (fun x W2 hx hW2 q47 => am_av (w_readRule_122 ⟨fun z => absurd rfl z, fun _ => H0 x V1 W2 ?_ hV1.1 (fa_trans hW1.1 (fa_sub hW2 rfl)) q47⟩)) (fun q W2 hq hW2 q46 q49 => am_av ?_)
    · rw [f46] at hx
      rw [er]
      unfold nmT
      rw [hx]
    · rw [f46] at hq
      have nk := nmR_ok hq hp2
      refine hF q W2 nk.2.1 (by omega) ?_ ⟨fa_trans hW1.1 (fa_sub hW2 rfl), (hW2 47 rfl).trans hW1.2.1, (hW2 48 rfl).trans hW1.2.2.1, (hW2 58 rfl).trans hW1.2.2.2⟩ q46 q49
      rw [er]
      unfold nmT
      rw [hq]
  -- a rule's word is known
  have pvk : ∀ (V1 : Nat → Int → Int) (k : Int), (fa [10] V V1 ∧ V1 10 (2 + 5 * j) = 0 ∧ V1 10 ((2 + 5 * j) + 2) = 0 ∧ V1 10 ((2 + 5 * j) + 3) = 0 ∧ V1 10 ((2 + 5 * j) + 4) = 0 ∧ ∀ i, ¬ ((2 + 5 * j) ≤ i ∧ i < (2 + 5 * j) + 5) → V1 10 i = V 10 i) → V1 10 ((2 + 5 * j) + 1) = 0 → (fa [10] V (am_up V1 10 (am_uz (V1 10) (2 + 5 * j) k)) ∧ (am_up V1 10 (am_uz (V1 10) (2 + 5 * j) k)) 10 (2 + 5 * j) = k ∧ (am_up V1 10 (am_uz (V1 10) (2 + 5 * j) k)) 10 ((2 + 5 * j) + 2) = 0 ∧ (am_up V1 10 (am_uz (V1 10) (2 + 5 * j) k)) 10 ((2 + 5 * j) + 3) = 0 ∧ (am_up V1 10 (am_uz (V1 10) (2 + 5 * j) k)) 10 ((2 + 5 * j) + 4) = 0 ∧ ∀ i, ¬ ((2 + 5 * j) ≤ i ∧ i < (2 + 5 * j) + 5) → (am_up V1 10 (am_uz (V1 10) (2 + 5 * j) k)) 10 i = V 10 i) ∧ (am_up V1 10 (am_uz (V1 10) (2 + 5 * j) k)) 10 ((2 + 5 * j) + 1) = 0 := fun V1 k h h1 => by
    have v10 : (am_up V1 10 (am_uz (V1 10) (2 + 5 * j) k)) 10 = am_uz (V1 10) (2 + 5 * j) k := am_up_eq
    refine ⟨⟨fa_up h.1 rfl, ?_, ?_, ?_, ?_, fun i hi => ?_⟩, ?_⟩
    · rw [v10, am_uz_eq]
    · rw [v10, am_uz_ne (by omega)]
      exact h.2.2.1
    · rw [v10, am_uz_ne (by omega)]
      exact h.2.2.2.1
    · rw [v10, am_uz_ne (by omega)]
      exact h.2.2.2.2.1
    · rw [v10, am_uz_ne (by omega)]
      exact h.2.2.2.2.2 i hi
    · rw [v10, am_uz_ne (by omega)]
      exact h1
  have up1 : ∀ (V1 : Nat → Int → Int) (k v : Int), (fa [10] V V1 ∧ V1 10 (2 + 5 * j) = k ∧ V1 10 ((2 + 5 * j) + 2) = 0 ∧ V1 10 ((2 + 5 * j) + 3) = 0 ∧ V1 10 ((2 + 5 * j) + 4) = 0 ∧ ∀ i, ¬ ((2 + 5 * j) ≤ i ∧ i < (2 + 5 * j) + 5) → V1 10 i = V 10 i) → (fa [10] V (am_up V1 10 (am_uz (V1 10) ((2 + 5 * j) + 1) v)) ∧ (am_up V1 10 (am_uz (V1 10) ((2 + 5 * j) + 1) v)) 10 (2 + 5 * j) = k ∧ (am_up V1 10 (am_uz (V1 10) ((2 + 5 * j) + 1) v)) 10 ((2 + 5 * j) + 2) = 0 ∧ (am_up V1 10 (am_uz (V1 10) ((2 + 5 * j) + 1) v)) 10 ((2 + 5 * j) + 3) = 0 ∧ (am_up V1 10 (am_uz (V1 10) ((2 + 5 * j) + 1) v)) 10 ((2 + 5 * j) + 4) = 0 ∧ ∀ i, ¬ ((2 + 5 * j) ≤ i ∧ i < (2 + 5 * j) + 5) → (am_up V1 10 (am_uz (V1 10) ((2 + 5 * j) + 1) v)) 10 i = V 10 i) ∧ (am_up V1 10 (am_uz (V1 10) ((2 + 5 * j) + 1) v)) 10 ((2 + 5 * j) + 1) = v := fun V1 k v h => by
    have v10 : (am_up V1 10 (am_uz (V1 10) ((2 + 5 * j) + 1) v)) 10 = am_uz (V1 10) ((2 + 5 * j) + 1) v := am_up_eq
    refine ⟨⟨fa_up h.1 rfl, ?_, ?_, ?_, ?_, fun i hi => ?_⟩, ?_⟩
    · rw [v10, am_uz_ne (by omega)]
      exact h.2.1
    · rw [v10, am_uz_ne (by omega)]
      exact h.2.2.1
    · rw [v10, am_uz_ne (by omega)]
      exact h.2.2.2.1
    · rw [v10, am_uz_ne (by omega)]
      exact h.2.2.2.2.1
    · rw [v10, am_uz_ne (by omega)]
      exact h.2.2.2.2.2 i hi
    · rw [v10, am_uz_eq]
  have main : ∀ (V0 : Nat → Int → Int), (fa [10] V V0 ∧ V0 10 (2 + 5 * j) = 0 ∧ V0 10 ((2 + 5 * j) + 2) = 0 ∧ V0 10 ((2 + 5 * j) + 3) = 0 ∧ V0 10 ((2 + 5 * j) + 4) = 0 ∧ ∀ i, ¬ ((2 + 5 * j) ≤ i ∧ i < (2 + 5 * j) + 5) → V0 10 i = V 10 i) → V0 10 ((2 + 5 * j) + 1) = 0 → am_ev am_prog (d + 3) 323 [.inr (.inl r), .inr (.inl (am_cs b 1))] (mo b r (ms S) V0 W) (am_aft (am_hand m_X5_readRule K (am_W m_X5_readRule (am_ev am_prog (d + 3)) K) 23) (am_W m_X5_readRule (am_ev am_prog (d + 3)) K) 23 [some (.inr (.inl r)), some (.inl ((2 + 5 * j))), some (.inl (5)), none, none] []) := by
    intro V0 hV0 h01
    have t0 : tpR t (V0 4) n := by
      rw [hV0.1 4 rfl]
      exact tp
    have pw : ∀ W1 : Nat → Int, fa [46] W W1 → (fa [46, 47, 48, 49, 58] W W1 ∧ W1 47 = W 47 ∧ W1 48 = 0 ∧ W1 58 = W 58) := fun W1 h => ⟨fa_sub h rfl, h 47 rfl, (h 48 rfl).trans h48, h 58 rfl⟩
    have pk := fun k => pvk V0 k hV0 h01
    have tk : ∀ (W1 : Nat → Int) (i : Nat) (w : List Int) (Q : am_K), fa [46] W W1 → W1 46 = a ∨ W1 46 = (bE t n a) → csM b r i w → w.length ≤ 20 → (∀ W2, wAt t n (bE t n a) ≠ w → fa [46] W W2 → W2 46 = (bE t n a) → Q (.inl (some (.inl (0)))) (mo b r (ms S) V0 W2)) → (∀ W2, wAt t n (bE t n a) = w → fa [46] W W2 → W2 46 = (bE t n a) + w.length → (bE t n a) + w.length ≤ n → Q (.inl (some (.inl (1)))) (mo b r (ms S) V0 W2)) → am_ev am_prog (d + 3) 323 [.inr (.inl r), .inr (.inl (am_cs b i))] (mo b r (ms S) V0 W1) Q := by
      intro W1 i w Q hW1 hp hw hl q0 q1
      have eB : bE t n (W1 46) = (bE t n a) := by
        rcases hp with e | e
        · rw [e]
        · rw [e, bE_b]
      refine c_takes (t := t) (n := n) (by omega) ((hW1 45 rfl).trans h45) hn (by omega) t0 hw hl (fun W2 nw hW2 f46 => ?_) (fun W2 yw hW2 f46 => ?_)
      · rw [eB] at nw f46
        exact q0 W2 nw (fa_trans hW1 hW2) f46
      · rw [eB] at yw f46
        exact q1 W2 yw (fa_trans hW1 hW2) f46 (wAt_e yw be)
    refine tk W 1 wMeas _ fa_refl (Or.inl h46) c1 (by decide) (fun W1 n1 hW1 f1 => am_av (w_readRule_24 ⟨fun _ => ?_, fun z => absurd rfl z⟩)) (fun W1 y1 hW1 f1 we => am_av (w_readRule_24 ⟨fun z => absurd z (by decide), fun _ => ⟨by omega, ?_⟩⟩))
    rotate_left
    · have f1' : W1 46 = (bE t n a) + 7 := f1
      have we' : (bE t n a) + 7 ≤ n := we
      refine fst _ _ 0 ((bE t n a) + 7) 10 400 _ (pk 0).1 (pw W1 hW1) f1' (by omega) we' (if_pos y1) (fun _ _ _ _ _ _ _ _ _ => trivial) (fun q W2 nq qp er hW2 q46 q49 => w_readRule_122 ⟨fun _ => ⟨by omega, fun _ => ?_, fun z => absurd rfl z⟩, fun z => absurd z (by decide)⟩)
      have u := up1 _ 0 (W2 49) (pk 0).1
      exact ifs _ W2 0 q.2 q.1 false 0 _ u.1.1 u.1.2.1 (u.2.trans q49) u.1.2.2.1 u.1.2.2.2.1 u.1.2.2.2.2.1 u.1.2.2.2.2.2 hW2 q46 (by omega) (by omega) rfl er (fun y V' W' hy hK => am_av (w_readRule_141 ⟨hy, hK⟩))
    refine tk W1 2 wSpac _ hW1 (Or.inr f1) c2 (by decide) (fun W2 n2 hW2 f2 => am_av (w_readRule_30 ⟨fun _ => ?_, fun z => absurd rfl z⟩)) (fun W2 y2 hW2 f2 we => am_av (w_readRule_30 ⟨fun z => absurd z (by decide), fun _ => ⟨by omega, ?_⟩⟩))
    rotate_left
    · have f2' : W2 46 = (bE t n a) + 5 := f2
      have we' : (bE t n a) + 5 ≤ n := we
      refine fst _ _ 1 ((bE t n a) + 5) 1 40 _ (pk 1).1 (pw W2 hW2) f2' (by omega) we' ((if_neg n1).trans (if_pos y2)) (fun _ _ _ _ _ _ _ _ _ => trivial) (fun q W3 nq qp er hW3 q46 q49 => w_readRule_122 ⟨fun _ => ⟨by omega, fun z => absurd z (by decide), fun _ => ⟨fun _ => ⟨fun _ => ⟨fun _ => ⟨fun z => absurd rfl z, fun _ => ⟨by omega, fun z => absurd rfl z, fun _ => ?_⟩⟩, fun z => absurd rfl z⟩, fun z => absurd z (by decide)⟩, fun z => absurd z (by decide)⟩⟩, fun z => absurd z (by decide)⟩)
      have u := up1 _ 1 (W3 49) (pk 1).1
      rw [q49] at u ⊢
      exact sec _ W3 1 q.2 q.1 q.2 40 1 40 u.1.1 u.1.2.1 u.2 u.1.2.2.2.1 u.1.2.2.2.2.1 u.1.2.2.2.2.2 hW3 q46 (by omega) (by omega) er
    refine tk W2 3 wPart _ hW2 (Or.inr f2) c3 (by decide) (fun W3 n3 hW3 f3 => am_av (w_readRule_36 ⟨fun _ => ?_, fun z => absurd rfl z⟩)) (fun W3 y3 hW3 f3 we => am_av (w_readRule_36 ⟨fun z => absurd z (by decide), fun _ => ⟨by omega, ?_⟩⟩))
    rotate_left
    · have f3' : W3 46 = (bE t n a) + 4 := f3
      have we' : (bE t n a) + 4 ≤ n := we
      refine fst _ _ 2 ((bE t n a) + 4) 0 999 _ (pk 2).1 (pw W3 hW3) f3' (by omega) we' ((if_neg n1).trans ((if_neg n2).trans (if_pos y3))) (fun _ _ _ _ _ _ _ _ _ => trivial) (fun q W4 nq qp er hW4 q46 q49 => w_readRule_122 ⟨fun _ => ⟨by omega, fun z => absurd z (by decide), fun _ => ⟨fun _ => ⟨fun _ => ⟨fun z => absurd z (by decide), fun _ => ⟨fun z => absurd z (by decide), fun _ => ?_⟩⟩, fun z => absurd z (by decide)⟩, fun z => absurd z (by decide)⟩⟩, fun z => absurd z (by decide)⟩)
      have u := up1 _ 2 (W4 49) (pk 2).1
      exact H1 (q.1, 2, q.2, 0, none) _ W4 er u.1.1 hW4.1 q46 hW4.2.1 hW4.2.2.1 (by rw [hW4.2.2.2]; show W 58 = W 58 + 0; omega) ⟨u.1.2.1, u.2.trans q49, u.1.2.2.1, u.1.2.2.2.1, u.1.2.2.2.2.1⟩ (fun i _ hi => u.1.2.2.2.2.2 i hi)
    refine tk W3 4 wFat _ hW3 (Or.inr f3) c4 (by decide) (fun W4 n4 hW4 f4 => am_av (w_readRule_42 ⟨fun _ => ?_, fun z => absurd rfl z⟩)) (fun W4 y4 hW4 f4 we => am_av (w_readRule_42 ⟨fun z => absurd z (by decide), fun _ => ⟨by omega, ?_⟩⟩))
    rotate_left
    · have f4' : W4 46 = (bE t n a) + 3 := f4
      have we' : (bE t n a) + 3 ≤ n := we
      refine fst _ _ 3 ((bE t n a) + 3) 0 99 _ (pk 3).1 (pw W4 hW4) f4' (by omega) we' ((if_neg n1).trans ((if_neg n2).trans ((if_neg n3).trans (if_pos y4)))) (fun _ _ _ _ _ _ _ _ _ => trivial) (fun q W5 nq qp er hW5 q46 q49 => w_readRule_122 ⟨fun _ => ⟨by omega, fun z => absurd z (by decide), fun _ => ⟨fun _ => ⟨fun _ => ⟨fun z => absurd z (by decide), fun _ => ⟨fun z => absurd z (by decide), fun _ => ?_⟩⟩, fun z => absurd z (by decide)⟩, fun z => absurd z (by decide)⟩⟩, fun z => absurd z (by decide)⟩)
      have u := up1 _ 3 (W5 49) (pk 3).1
      exact H1 (q.1, 3, q.2, 0, none) _ W5 er u.1.1 hW5.1 q46 hW5.2.1 hW5.2.2.1 (by rw [hW5.2.2.2]; show W 58 = W 58 + 0; omega) ⟨u.1.2.1, u.2.trans q49, u.1.2.2.1, u.1.2.2.2.1, u.1.2.2.2.2.1⟩ (fun i _ hi => u.1.2.2.2.2.2 i hi)
    refine tk W4 5 wPay _ hW4 (Or.inr f4) c5 (by decide) (fun W5 n5 hW5 f5 => am_av (w_readRule_48 ⟨fun _ => ?_, fun z => absurd rfl z⟩)) (fun W5 y5 hW5 f5 we => am_av (w_readRule_48 ⟨fun z => absurd z (by decide), fun _ => ⟨by omega, ?_⟩⟩))
    rotate_left
    · have f5' : W5 46 = (bE t n a) + 3 := f5
      have we' : (bE t n a) + 3 ≤ n := we
      refine fst _ _ 4 ((bE t n a) + 3) 0 999 _ (pk 4).1 (pw W5 hW5) f5' (by omega) we' ((if_neg n1).trans ((if_neg n2).trans ((if_neg n3).trans ((if_neg n4).trans (if_pos y5))))) (fun _ _ _ _ _ _ _ _ _ => trivial) (fun q W6 nq qp er hW6 q46 q49 => w_readRule_122 ⟨fun _ => ⟨by omega, fun z => absurd z (by decide), fun _ => ⟨fun z => absurd rfl z, fun _ => ?_⟩⟩, fun z => absurd z (by decide)⟩)
      have u := up1 _ 4 (W6 49) (pk 4).1
      exact ifs _ W6 4 q.2 q.1 false 0 _ u.1.1 u.1.2.1 (u.2.trans q49) u.1.2.2.1 u.1.2.2.2.1 u.1.2.2.2.2.1 u.1.2.2.2.2.2 hW6 q46 (by omega) (by omega) rfl er (fun y V' W' hy hK => am_av (w_readRule_141 ⟨hy, hK⟩))
    refine tk W5 6 wFree _ hW5 (Or.inr f5) c6 (by decide) (fun W6 n6 hW6 f6 => am_av (w_readRule_54 ⟨fun _ => ?_, fun z => absurd rfl z⟩)) (fun W6 y6 hW6 f6 we => am_av (w_readRule_54 ⟨fun z => absurd z (by decide), fun _ => ⟨by omega, ?_⟩⟩))
    rotate_left
    · have f6' : W6 46 = (bE t n a) + 4 := f6
      have we' : (bE t n a) + 4 ≤ n := we
      have u := pk 5
      exact ifs _ W6 5 0 ((bE t n a) + 4) true 1 _ u.1.1 u.1.2.1 u.2 u.1.2.2.1 u.1.2.2.2.1 u.1.2.2.2.2.1 u.1.2.2.2.2.2 (pw W6 hW6) f6' (by omega) we' rfl ((if_neg n1).trans ((if_neg n2).trans ((if_neg n3).trans ((if_neg n4).trans ((if_neg n5).trans (if_pos y6)))))) (fun y V' W' hy hK => am_av (w_readRule_82 ⟨hy, hK⟩))
    refine tk W6 7 wClos _ hW6 (Or.inr f6) c7 (by decide) (fun W7 n7 hW7 f7 => am_av (w_readRule_60 ⟨fun _ => c_fails (by omega) (am_av (w_readRule_70 ⟨Or.inl rfl, H0 (bE t n a) V0 _ ?_ hV0.1 (fa_up (fa_sub hW7 rfl) rfl) (by rw [am_up_eq, f7])⟩)), fun z => absurd rfl z⟩)) (fun W7 y7 hW7 f7 we => am_av (w_readRule_60 ⟨fun z => absurd z (by decide), fun _ => ⟨by omega, ?_⟩⟩))
    · exact (if_neg n1).trans ((if_neg n2).trans ((if_neg n3).trans ((if_neg n4).trans ((if_neg n5).trans ((if_neg n6).trans (if_neg n7))))))
    · have f7' : W7 46 = (bE t n a) + 5 := f7
      have we' : (bE t n a) + 5 ≤ n := we
      refine fst _ _ 6 ((bE t n a) + 5) 0 5 _ (pk 6).1 (pw W7 hW7) f7' (by omega) we' ((if_neg n1).trans ((if_neg n2).trans ((if_neg n3).trans ((if_neg n4).trans ((if_neg n5).trans ((if_neg n6).trans (if_pos y7))))))) (fun _ _ _ _ _ _ _ _ _ => trivial) (fun q W8 nq qp er hW8 q46 q49 => w_readRule_122 ⟨fun _ => ⟨by omega, fun z => absurd z (by decide), fun _ => ⟨fun _ => ⟨fun z => absurd rfl z, fun _ => ?_⟩, fun z => absurd z (by decide)⟩⟩, fun z => absurd z (by decide)⟩)
      have u := up1 _ 6 (W8 49) (pk 6).1
      have e4 : (am_up (am_up V0 10 (am_uz (V0 10) (2 + 5 * j) 6)) 10 (am_uz ((am_up V0 10 (am_uz (V0 10) (2 + 5 * j) 6)) 10) ((2 + 5 * j) + 1) (W8 49))) 4 = V 4 := u.1.1 4 rfl
      have qv := bE_v (t := t) (n := n) (a := q.1)
      have qe := qv.1.2 qp.2
      refine c_takes (t := t) (n := n) (by omega) ((hW8.1 45 rfl).trans h45) hn (by omega) (by rw [e4]; exact tp) c8 (by decide) (fun W9 n9 hW9 f9 => am_av (w_readRule_148 ⟨fun z => absurd rfl z, fun _ => c_fails (by omega) (am_av (w_readRule_151 ⟨Or.inl rfl, H0 (bE t n q.1) _ _ ?_ u.1.1 (fa_up (fa_trans hW8.1 (fa_sub hW9 rfl)) rfl) ?_⟩))⟩)) (fun W9 y9 hW9 f9 => am_av (w_readRule_148 ⟨fun _ => ⟨fun z => absurd z (by decide), fun _ => ⟨fun _ => ⟨fun _ => ⟨fun _ => ?_, fun z => absurd z (by decide)⟩, fun z => absurd z (by decide)⟩, fun z => absurd rfl z⟩⟩, fun z => absurd z (by decide)⟩))
      · rw [q46] at n9
        exact er.trans (if_neg n9)
      · rw [am_up_eq, f9, q46]
      · rw [q46] at y9 f9
        have f9' : W9 46 = bE t n q.1 + 2 := f9
        have w9 := wAt_e y9 qe
        have w9' : bE t n q.1 + 2 ≤ n := w9
        exact sec _ W9 6 q.2 (bE t n q.1 + 2) 0 600 0 5 u.1.1 u.1.2.1 (u.2.trans q49) u.1.2.2.2.1 u.1.2.2.2.2.1 u.1.2.2.2.2.2 ⟨fa_trans hW8.1 (fa_sub hW9 rfl), (hW9 47 rfl).trans hW8.2.1, (hW9 48 rfl).trans hW8.2.2.1, (hW9 58 rfl).trans hW8.2.2.2⟩ f9' (by omega) w9' (er.trans (if_pos y9))
  -- the rule's numbers are nought
  have zero : ∀ i, 0 ≤ i → i ≤ 5 → ∀ V1 : Nat → Int → Int, fa [10] V V1 → (∀ p, (2 + 5 * j) ≤ p → p < (2 + 5 * j) + i → V1 10 p = 0) → (∀ p, ¬ ((2 + 5 * j) ≤ p ∧ p < (2 + 5 * j) + 5) → V1 10 p = V 10 p) → am_W m_X5_readRule (am_ev am_prog (d + 3)) K 9 [some (.inr (.inl r)), some (.inl ((2 + 5 * j))), some (.inl (i)), none, none] [] (mo b r (ms S) V1 W) := by
    refine lp_z ?_ ?_
    · intro i i1 i2 hL V1 hV1 z1 o1
      have v10 : am_up V1 10 (am_uz (V1 10) ((2 + 5 * j) + i) 0) 10 = am_uz (V1 10) ((2 + 5 * j) + i) 0 := am_up_eq
      refine w_readRule_9 ⟨fun z => absurd z (by omega), fun _ => ⟨by omega, by omega, hL _ (fa_up hV1 rfl) (fun p p1 p2 => ?_) (fun p hp => ?_)⟩⟩
      · rw [v10]
        by_cases e : p = (2 + 5 * j) + i
        · rw [e, am_uz_eq]
        · rw [am_uz_ne e]
          exact z1 p p1 (by omega)
      · rw [v10, am_uz_ne (by omega)]
        exact o1 p hp
    · intro V1 hV1 z1 o1
      exact w_readRule_9 ⟨fun _ => main V1 ⟨hV1, z1 _ (by omega) (by omega), z1 _ (by omega) (by omega), z1 _ (by omega) (by omega), z1 _ (by omega) (by omega), o1⟩ (z1 _ (by omega) (by omega)), fun z => absurd z (by omega)⟩
  refine w_readRule_0 ?_
  rw [h57]
  exact ⟨by omega, zero 0 (by omega) (by omega) V fa_refl (fun p p1 p2 => absurd p1 (by omega)) (fun _ _ => rfl)⟩
end
