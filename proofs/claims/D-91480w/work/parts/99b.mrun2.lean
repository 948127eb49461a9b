set_option maxRecDepth 100000
/-! the model: a machine runs on -/
/-- the model's note of where a whole job ends -/
def fx5 (S : am_G) (k : Int) (S1 : am_G) : am_G := if (S 5 k 28 = 0 ∧ S 5 k 29 ≠ 0) ∧ S1 5 k 29 = S 5 k 29 ∧ S1 5 k 37 ≠ 0 then u3 S1 5 k 35 (S1 3 (S1 5 k 33) 4) else S1
/-- the row's note of the slug -/
def rwW (S : am_G) (k a : Int) : am_G := if a = -1 then S else u3 S 10 0 (1 + 5 * (S 0 0 7 - 1) + k) a
def msF (S : am_G) (k : Int) (S1 : am_G) (a : Int) : am_G := rwW (fx5 S k S1) k a
theorem awy_35 {S : am_G} {k v : Int} : awy (u3 S 5 k 35 v) k = awy S k := by
  funext c q i
  unfold awy
  by_cases h : c = 5 ∧ q = k
  · rw [if_pos h, if_pos h, u3_no (by decide)]
    by_cases g : i = 29
    · rw [if_pos g, if_pos g]
    · rw [if_neg g, if_neg g]
      by_cases g2 : 33 ≤ i ∧ i < 178
      · rw [if_pos g2, if_pos g2, u3_no (by omega)]
      · rw [if_neg g2, if_neg g2, u3_no (by omega)]
  · rw [if_neg h, if_neg h]
    exact if_neg (fun z => h ⟨z.1, z.2.1⟩)
theorem awy_10 {S : am_G} {k q i v : Int} : awy (u3 S 10 q i v) k = u3 (awy S k) 10 q i v := by
  funext c q' j
  by_cases h : c = 5 ∧ q' = k
  · have e : u3 (awy S k) 10 q i v c q' j = awy S k c q' j := u3_nc (by omega)
    rw [e]
    unfold awy
    rw [if_pos h, if_pos h, u3_r (by decide)]
  · have e1 : ∀ X : am_G, awy X k c q' j = X c q' j := fun X => if_neg h
    rw [e1]
    unfold u3
    rw [e1]
theorem spk_35 {S : am_G} {k v : Int} : spk (u3 S 5 k 35 v) k = spk S k := by
  unfold spk
  rw [u3_no (by decide), u3_cm (c := 5) (c' := 5) (Or.inr (Or.inr (by decide))), awy_35]
theorem cs1_35 {S : am_G} {k' v : Int} {ml : List Int} {p k l co : Int} : cs1 (u3 S 5 k' 35 v) ml p k l co = u3 (cs1 S ml p k l co) 5 k' 35 v := by
  funext c q i
  have en : nsl (u3 S 5 k' 35 v) ml p k l co = nsl S ml p k l co := by
    funext i
    unfold nsl
    rw [u3_nc (by decide), u3_nc (by decide), u3_r (by decide)]
  unfold cs1
  rw [u3_nc (by decide), en]
  by_cases h : c = 4 ∧ q = S 0 0 4
  · rw [if_pos h]
    have e : u3 (fun c q i => if c = 4 ∧ q = S 0 0 4 then nsl S ml p k l co i else S c q i) 5 k' 35 v c q i = (fun c q i => if c = 4 ∧ q = S 0 0 4 then nsl S ml p k l co i else S c q i) c q i := u3_nc (by omega)
    rw [e]
    exact (if_pos h).symm
  · rw [if_neg h]
    unfold u3
    by_cases g : c = 5 ∧ q = k' ∧ i = 35
    · rw [if_pos g, if_pos g]
    · rw [if_neg g, if_neg g]
      exact (if_neg h).symm
theorem csA_35 {S : am_G} {k' v : Int} {ml : List Int} {p k l co : Int} : csA (u3 S 5 k' 35 v) ml p k l co = u3 (csA S ml p k l co) 5 k' 35 v := by
  unfold csA
  rw [cs1_35, u3_nc (by decide), u3_cm (c := 5) (c' := 4) (Or.inl (by decide)), u3_cm (c := 5) (c' := 4) (Or.inl (by decide)), u3_cm (c := 5) (c' := 0) (Or.inl (by decide))]
theorem ptS_35 {S : am_G} {k' v s p l : Int} : ptS (u3 S 5 k' 35 v) s p l = u3 (ptS S s p l) 5 k' 35 v := by
  have cm : ∀ (S : am_G) (c : Nat) (a i w : Int), c ≠ 5 → u3 (u3 S 5 k' 35 v) c a i w = u3 (u3 S c a i w) 5 k' 35 v := fun S c a i w h => u3_cm (Or.inl (Ne.symm h))
  unfold ptS
  rw [u3_nc (by decide)]
  by_cases c : S 3 p (45 + l) = 0
  · rw [if_pos c, if_pos c, cm _ 4 _ _ _ (by decide), cm _ 4 _ _ _ (by decide), cm _ 3 _ _ _ (by decide)]
  · rw [if_neg c, if_neg c, cm _ 4 _ _ _ (by decide), cm _ 4 _ _ _ (by decide), cm _ 4 _ _ _ (by decide), cm _ 4 _ _ _ (by decide), cm _ 4 _ _ _ (by decide), cm _ 3 _ _ _ (by decide)]
/-- brasses lacking for ever, counted on -/
def msB (S : am_G) (k : Int) (ml : List Int) : Nat → Int
  | 0 => 0
  | c + 1 => if msB S k ml c = 0 then am_b (S 5 k (c : Int) < cn (sgn (c : Int)) ml) else 1
theorem msB_e {S : am_G} {k : Int} {ml : List Int} : ∀ c : Nat, (msB S k ml c = 0 ∧ ∀ q : Nat, q < c → ¬ S 5 k (q : Int) < cn (sgn (q : Int)) ml) ∨ (msB S k ml c = 1 ∧ ∃ q : Nat, q < c ∧ S 5 k (q : Int) < cn (sgn (q : Int)) ml)
  | 0 => Or.inl ⟨rfl, fun q h => absurd h (Nat.not_lt_zero q)⟩
  | c + 1 => by
    rcases msB_e (S := S) (k := k) (ml := ml) c with ⟨h1, h2⟩ | ⟨h1, q, h2, h3⟩
    · by_cases g : S 5 k (c : Int) < cn (sgn (c : Int)) ml
      · right
        refine ⟨?_, c, by omega, g⟩
        show (if msB S k ml c = 0 then am_b (S 5 k (c : Int) < cn (sgn (c : Int)) ml) else 1) = 1
        rw [if_pos h1, am_bt g]
      · left
        refine ⟨?_, fun q hq => ?_⟩
        · show (if msB S k ml c = 0 then am_b (S 5 k (c : Int) < cn (sgn (c : Int)) ml) else 1) = 0
          rw [if_pos h1, am_bf g]
        · by_cases e : q = c
          · rw [e]
            exact g
          · exact h2 q (by omega)
    · right
      refine ⟨?_, q, by omega, h3⟩
      show (if msB S k ml c = 0 then am_b (S 5 k (c : Int) < cn (sgn (c : Int)) ml) else 1) = 1
      rw [if_neg (by omega)]
section
variable {K : am_K} {b : am_H} {r : Nat} {S : am_G} {V : Nat → Int → Int} {W : Nat → Int}
theorem S2_v {k : Int} : (∀ c, c ≠ 5 → (if S 5 k 37 = 1 then u3 S 5 k 35 (S 3 (S 5 k 33) 4) else S) c = S c) ∧ (∀ o, o ≠ 35 → (if S 5 k 37 = 1 then u3 S 5 k 35 (S 3 (S 5 k 33) 4) else S) 5 k o = S 5 k o) := by
  refine ⟨fun c h => ?_, fun o h => ?_⟩
  · split
    · exact u3_r h
    · rfl
  · split
    · exact u3_no h
    · rfl
theorem c_run {k : Int} {d : Nat} {o7 o8 o9 : Option am_V} (hd : 6 ≤ d + 3) (hG : okG S) (hM : okM S) (h0 : 0 ≤ S 0 0 0 ∧ S 0 0 0 ≤ 1000) (hk : 0 ≤ k ∧ k < 4) (act : S 5 k 28 = 0 ∧ S 5 k 29 ≠ 0) (hp : 0 ≤ (S 5 k 33) ∧ (S 5 k 33) < 100) (ho : okP (S 3 (S 5 k 33))) (set : S 3 (S 5 k 33) 3 ≠ 0) (h4 : 0 ≤ S 3 (S 5 k 33) 4 ∧ S 3 (S 5 k 33) 4 ≤ 40) (hl : 0 ≤ (S 5 k 34) ∧ (S 5 k 34) < S 3 (S 5 k 33) 4) (hb : 0 ≤ bg (S 3 (S 5 k 33)) (S 5 k 34) ∧ bg (S 3 (S 5 k 33)) (S 5 k 34) ≤ S 3 (S 5 k 33) (5 + (S 5 k 34))) (he : S 3 (S 5 k 33) (5 + (S 5 k 34)) < 40) (hm : (((lnS (S 3 (S 5 k 33)) (S 5 k 34))).length : Int) ≤ 420) (h45 : 0 ≤ S 3 (S 5 k 33) (45 + (S 5 k 34)) ∧ S 3 (S 5 k 33) (45 + (S 5 k 34)) ≤ (S 0 0 4)) (h7 : 1 ≤ S 0 0 7 ∧ S 0 0 7 ≤ 8) (h37 : S 5 k 37 = 0 ∨ S 5 k 37 = 1) (H : ∀ S' a V' W', runR S k S' a → fa [17, 18] V V' → fa [73] W W' → K (.inl none) (mo b r (ms (msF S k S' a)) V' W')) : am_ev am_prog (d + 3) 193 [.inr (.inl r), .inl (S 5 k 33), .inl (S 5 k 34)] (mo b r (ms (if S 5 k 37 = 1 then u3 S 5 k 35 (S 3 (S 5 k 33) 4) else S)) V W) (am_aft (am_hand m_X5_runsOn K (am_W m_X5_runsOn (am_ev am_prog (d + 3)) K) 137) (am_W m_X5_runsOn (am_ev am_prog (d + 3)) K) 137 [some (.inr (.inl r)), some (.inl (k)), some (.inl (320230 + 183 * k)), some (.inl (320230 + 183 * k + 33)), some (.inl ((S 5 k 33))), some (.inl (130 + 645 * (S 5 k 33))), some (.inl ((S 5 k 34))), o7, o8, o9] []) := by
  obtain ⟨sv, so⟩ := S2_v (S := S) (k := k)
  have mo' := hM k hk.1 hk.2
  have g4 := hG.1
  have bh : bhd S k 0 = (if S 5 k 37 = 1 then u3 S 5 k 35 (S 3 (S 5 k 33) 4) else S) 5 k 35 := by
    have e : bhd S k 0 = if S 5 k 37 = 0 then S 5 k 35 else if S 3 (S 5 k 33) 3 = 0 then -1 else S 3 (S 5 k 33) 4 := rfl
    rw [e]
    rcases h37 with w | w
    · rw [if_pos w, if_neg (by omega)]
    · rw [if_neg (by omega), if_neg set, if_pos w, u3_eq]
  have f5 : ∀ X : am_G, X 5 k 29 = S 5 k 29 → X 5 k 37 = S 5 k 37 → X 5 k 33 = (S 5 k 33) → X 3 (S 5 k 33) 4 = S 3 (S 5 k 33) 4 → fx5 S k X = if S 5 k 37 = 1 then u3 X 5 k 35 (S 3 (S 5 k 33) 4) else X := fun X a b c e => by
    unfold fx5
    rw [a, b, c, e]
    rcases h37 with w | w
    · rw [if_neg (fun z => z.2.2 w), if_neg (by omega)]
    · rw [if_pos ⟨act, rfl, by omega⟩, if_pos w]
  have f5r : ∀ X : am_G, X 5 k 29 ≠ S 5 k 29 → fx5 S k X = X := fun X a => if_neg (fun z => a z.2.1)
  generalize hS2 : (if S 5 k 37 = 1 then u3 S 5 k 35 (S 3 (S 5 k 33) 4) else S) = S2 at *
  have hG2 : okG S2 := by
    unfold okG
    rw [sv 0 (by decide), sv 4 (by decide)]
    exact hG
  have s3 : S2 3 = S 3 := sv 3 (by decide)
  have s0 : S2 0 = S 0 := sv 0 (by decide)
  refine c_write (S := S2) (by omega) hp (by rw [s3]; exact ho) (by omega) (by rw [s3]; exact h4) (by rw [s3]; exact hb) (by rw [s3]; exact he) (by rw [s3]; exact hm) (fun V' W' hV hW q1 q2 q3 => am_an (w_runsOn_138 ?_))
  rw [s3] at q1 q2 q3
  rw [s0]
  have et : ∀ c, 0 ≤ c → c < 27 → thr S2 k c (S 0 0 0) = thr S k c (S 0 0 0) := fun c c1 c2 => by
    unfold thr
    rw [s0, so c (by omega), so 27 (by decide), outN_c (sv 4 (by decide))]
  have HH := fun S' a (rr : runR S k S' a) => H S' a V' W' rr hV hW
  have main : ∀ c, 0 ≤ c → c ≤ 27 → am_W m_X5_runsOn (am_ev am_prog (d + 3)) K 152 [some (.inr (.inl r)), some (.inl (k)), some (.inl (320230 + 183 * k)), some (.inl (320230 + 183 * k + 33)), some (.inl ((S 5 k 33))), some (.inl (130 + 645 * (S 5 k 33))), some (.inl ((S 5 k 34))), some (.inl (msB S k (lnS (S 3 (S 5 k 33)) (S 5 k 34)) c.toNat)), some (.inl (wtF S k (lnS (S 3 (S 5 k 33)) (S 5 k 34)) c.toNat)), some (.inl (c))] [] (mo b r (ms S2) V' W') := by
    refine lp_z ?_ ?_
    · intro c c1 c2 hL
      have e1 : (c + 1).toNat = c.toNat + 1 := by omega
      have e2 : ((c.toNat : Nat) : Int) = c := by omega
      have esm : msB S k (lnS (S 3 (S 5 k 33)) (S 5 k 34)) (c.toNat + 1) = if msB S k (lnS (S 3 (S 5 k 33)) (S 5 k 34)) c.toNat = 0 then am_b (S 5 k c < cn (sgn c) (lnS (S 3 (S 5 k 33)) (S 5 k 34))) else 1 := by
        show (if msB S k (lnS (S 3 (S 5 k 33)) (S 5 k 34)) c.toNat = 0 then am_b (S 5 k ((c.toNat : Nat) : Int) < cn (sgn ((c.toNat : Nat) : Int)) (lnS (S 3 (S 5 k 33)) (S 5 k 34))) else 1) = _
        rw [e2]
      have esw : wtF S k (lnS (S 3 (S 5 k 33)) (S 5 k 34)) (c.toNat + 1) = if wtF S k (lnS (S 3 (S 5 k 33)) (S 5 k 34)) c.toNat = 0 then am_b (0 < cn (sgn c) (lnS (S 3 (S 5 k 33)) (S 5 k 34)) ∧ thr S k c (S 0 0 0) < cn (sgn c) (lnS (S 3 (S 5 k 33)) (S 5 k 34))) else 1 := by
        show (if wtF S k (lnS (S 3 (S 5 k 33)) (S 5 k 34)) c.toNat = 0 then am_b (0 < cn (sgn ((c.toNat : Nat) : Int)) (lnS (S 3 (S 5 k 33)) (S 5 k 34)) ∧ thr S k ((c.toNat : Nat) : Int) (S 0 0 0) < cn (sgn ((c.toNat : Nat) : Int)) (lnS (S 3 (S 5 k 33)) (S 5 k 34))) else 1) = _
        rw [e2]
      rw [e1, esm, esw] at hL
      have cb := cn_bd (x := sgn c) (lnS (S 3 (S 5 k 33)) (S 5 k 34))
      have bb := mo'.1 c c1 c2
      have th : ∀ KK, KK (.inl (some (.inl (thr S k c (S 0 0 0))))) (mo b r (ms S2) V' W') → am_ev am_prog (d + 3) 181 [.inr (.inl r), .inl k, .inl c, .inl (S 0 0 0)] (mo b r (ms S2) V' W') KK := fun KK hKK => c_there (S := S2) (by omega) hk (by omega) h0 hG2 (by rw [so 27 (by decide)]; exact mo'.2.1) (by rw [so c (by omega)]; exact bb) (by rw [et c c1 c2]; exact hKK)
      have ea : ∀ x : Int, am_b (x < cn (sgn c) (lnS (S 3 (S 5 k 33)) (S 5 k 34))) = am_b (x < cn (sgn c) (lnS (S 3 (S 5 k 33)) (S 5 k 34))) := fun _ => rfl
      refine w_runsOn_152 ⟨fun z => absurd z (by omega), fun _ => ⟨fun u => ⟨fun w => ⟨by omega, ?_⟩, fun w => ⟨by omega, fun y => ⟨by omega, ?_⟩, fun y => ⟨by omega, ?_⟩⟩⟩, fun u => ⟨by omega, fun w => ⟨by omega, ?_⟩, fun w => ⟨by omega, fun y => ⟨by omega, ?_⟩, fun y => ⟨by omega, ?_⟩⟩⟩⟩⟩
      · rw [if_neg u, if_neg w] at hL
        exact hL
      · rw [q3 c c1 c2] at y
        rw [if_neg u, if_pos w, am_bf (fun z => absurd z.1 (by omega))] at hL
        exact hL
      · rw [q3 c c1 c2] at y ⊢
        rw [s0]
        refine th _ (am_av (w_runsOn_191 ⟨by omega, ?_⟩))
        rw [if_neg u, if_pos w, am_bc (q := thr S k c (S 0 0 0) < cn (sgn c) (lnS (S 3 (S 5 k 33)) (S 5 k 34))) ⟨fun z => z.2, fun z => ⟨y, z⟩⟩] at hL
        exact hL
      · rw [so c (by omega), q3 c c1 c2]
        rw [if_pos u, if_neg w] at hL
        exact hL
      · rw [q3 c c1 c2] at y
        rw [so c (by omega), q3 c c1 c2]
        rw [if_pos u, if_pos w, am_bf (c := 0 < cn (sgn c) (lnS (S 3 (S 5 k 33)) (S 5 k 34)) ∧ thr S k c (S 0 0 0) < cn (sgn c) (lnS (S 3 (S 5 k 33)) (S 5 k 34))) (fun z => absurd z.1 (by omega))] at hL
        exact hL
      · rw [q3 c c1 c2] at y
        rw [so c (by omega), q3 c c1 c2, s0]
        refine th _ (am_av (w_runsOn_191 ⟨by omega, ?_⟩))
        rw [if_pos u, if_pos w, am_bc (p := 0 < cn (sgn c) (lnS (S 3 (S 5 k 33)) (S 5 k 34)) ∧ thr S k c (S 0 0 0) < cn (sgn c) (lnS (S 3 (S 5 k 33)) (S 5 k 34))) (q := thr S k c (S 0 0 0) < cn (sgn c) (lnS (S 3 (S 5 k 33)) (S 5 k 34))) ⟨fun z => z.2, fun z => ⟨y, z⟩⟩] at hL
        exact hL
    · have e27 : (27 : Int).toNat = 27 := rfl
      rw [e27]
      have mse := msB_e (S := S) (k := k) (ml := (lnS (S 3 (S 5 k 33)) (S 5 k 34))) 27
      have wt := wtF_01 (S := S) (k := k) (ml := (lnS (S 3 (S 5 k 33)) (S 5 k 34))) 27
      have r29 : S2 5 k 29 = S 5 k 29 := so 29 (by decide)
      have r32 : S2 5 k 32 = S 5 k 32 := so 32 (by decide)
      rcases mse with ⟨ms0, msa⟩ | ⟨ms1, q, ms2, ms3⟩
      · have hno : ¬ mss S k (lnS (S 3 (S 5 k 33)) (S 5 k 34)) := fun z => by
          obtain ⟨c, c1, c2⟩ := z
          have e2 : ((c.toNat : Nat) : Int) = c := by omega
          have := msa c.toNat (by omega)
          rw [e2] at this
          exact this c2
        rw [ms0]
        rcases wt with w0 | w1
        · rw [w0]
          have h300 : (S 0 0 4) < 300 := by
            by_cases q : (S 0 0 4) = 300
            · exfalso
              have st : ∀ j : Nat, wtF S k (lnS (S 3 (S 5 k 33)) (S 5 k 34)) j = 1 := by
                intro j
                induction j with
                | zero => exact am_bt q
                | succ j ih =>
                  show (if wtF S k (lnS (S 3 (S 5 k 33)) (S 5 k 34)) j = 0 then _ else 1) = 1
                  rw [if_neg (by rw [ih]; decide)]
              rw [st 27] at w0
              exact absurd w0 (by decide)
            · omega
          refine w_runsOn_152 ⟨fun _ => ⟨fun _ => ⟨fun _ => ⟨by omega, ?_⟩, fun z => absurd rfl z⟩, fun z => absurd rfl z⟩, fun z => absurd z (by omega)⟩
          rw [so 36 (by decide)]
          have rr : runR S k (csE S k) (S 0 0 4) := Or.inr (Or.inr ⟨hno, w0, rfl, rfl⟩)
          have FF := HH (csE S k) (S 0 0 4) rr
          refine c_casts (S := S2) (ml := (lnS (S 3 (S 5 k 33)) (S 5 k 34))) (by omega) hk hp (by omega) (by rw [s0]; omega) hm q1 q2 (by rw [s3, s0]; exact h45) (by rw [s0]; exact h7) (by rw [so 30 (by decide)]; have := mo'.2.2.2.2.1; omega) (am_an (w_runsOn_228 ?_))
          obtain ⟨a1, a2, a3, a4, a5⟩ := csA_v (S := S2) (m := (lnS (S 3 (S 5 k 33)) (S 5 k 34))) (p := (S 5 k 33)) (k := k) (l := (S 5 k 34)) (co := S 5 k 36) hm
          obtain ⟨t1, t2⟩ := ptS_r (S := csA S2 (lnS (S 3 (S 5 k 33)) (S 5 k 34)) (S 5 k 33) k (S 5 k 34) (S 5 k 36)) (s := S2 0 0 4) (p := (S 5 k 33)) (l := (S 5 k 34))
          obtain ⟨b1, b2, b3, b4, b5⟩ := csA_v (S := S) (m := (lnS (S 3 (S 5 k 33)) (S 5 k 34))) (p := (S 5 k 33)) (k := k) (l := (S 5 k 34)) (co := S 5 k 36) hm
          obtain ⟨v1, v2⟩ := ptS_r (S := csA S (lnS (S 3 (S 5 k 33)) (S 5 k 34)) (S 5 k 33) k (S 5 k 34) (S 5 k 36)) (s := (S 0 0 4)) (p := (S 5 k 33)) (l := (S 5 k 34))
          have y5 : ptS (csA S2 (lnS (S 3 (S 5 k 33)) (S 5 k 34)) (S 5 k 33) k (S 5 k 34) (S 5 k 36)) (S2 0 0 4) (S 5 k 33) (S 5 k 34) 5 = S2 5 := (t1 5 (by decide) (by decide)).trans (a1 5 (by decide) (by decide))
          have z5 : ptS (csA S (lnS (S 3 (S 5 k 33)) (S 5 k 34)) (S 5 k 33) k (S 5 k 34) (S 5 k 36)) (S 0 0 4) (S 5 k 33) (S 5 k 34) 5 = S 5 := (v1 5 (by decide) (by decide)).trans (b1 5 (by decide) (by decide))
          have z0 : ∀ j, j ≠ 4 → ptS (csA S (lnS (S 3 (S 5 k 33)) (S 5 k 34)) (S 5 k 33) k (S 5 k 34) (S 5 k 36)) (S 0 0 4) (S 5 k 33) (S 5 k 34) 0 0 j = S 0 0 j := fun j hj => by rw [v1 0 (by decide) (by decide), b2 j hj]
          have y34 : u3 (u3 (ptS (csA S2 (lnS (S 3 (S 5 k 33)) (S 5 k 34)) (S 5 k 33) k (S 5 k 34) (S 5 k 36)) (S2 0 0 4) (S 5 k 33) (S 5 k 34)) 5 k 30 (S2 5 k 30 + 1)) 10 0 (1 + 5 * (S2 0 0 7 - 1) + k) (S2 0 0 4) 5 k 34 = (S 5 k 34) := by
            rw [u3_nc (by decide), u3_no (by decide), y5, so 34 (by decide)]
          have y35 : u3 (u3 (ptS (csA S2 (lnS (S 3 (S 5 k 33)) (S 5 k 34)) (S 5 k 33) k (S 5 k 34) (S 5 k 36)) (S2 0 0 4) (S 5 k 33) (S 5 k 34)) 5 k 30 (S2 5 k 30 + 1)) 10 0 (1 + 5 * (S2 0 0 7 - 1) + k) (S2 0 0 4) 5 k 35 = bhd S k 0 := by
            rw [u3_nc (by decide), u3_no (by decide), y5, bh]
          have y29 : u3 (u3 (ptS (csA S2 (lnS (S 3 (S 5 k 33)) (S 5 k 34)) (S 5 k 33) k (S 5 k 34) (S 5 k 36)) (S2 0 0 4) (S 5 k 33) (S 5 k 34)) 5 k 30 (S2 5 k 30 + 1)) 10 0 (1 + 5 * (S2 0 0 7 - 1) + k) (S2 0 0 4) 5 k 29 = S 5 k 29 := by
            rw [u3_nc (by decide), u3_no (by decide), y5, r29]
          have EY : u3 (u3 (u3 (ptS (csA S2 (lnS (S 3 (S 5 k 33)) (S 5 k 34)) (S 5 k 33) k (S 5 k 34) (S 5 k 36)) (S2 0 0 4) (S 5 k 33) (S 5 k 34)) 5 k 30 (S2 5 k 30 + 1)) 10 0 (1 + 5 * (S2 0 0 7 - 1) + k) (S2 0 0 4)) 5 k 34 ((S 5 k 34) + 1) = u3 (if S 5 k 37 = 1 then u3 (csS S k) 5 k 35 (S 3 (S 5 k 33) 4) else csS S k) 10 0 (1 + 5 * (S 0 0 7 - 1) + k) (S 0 0 4) := by
            rw [s0, so 30 (by decide), u3_cm (c := 10) (c' := 5) (Or.inl (by decide)), ← hS2]
            by_cases w : S 5 k 37 = 1
            · rw [if_pos w, if_pos w, csA_35, ptS_35, u3_cm (c := 5) (c' := 5) (i := 35) (i' := 30) (Or.inr (Or.inr (by decide))), u3_cm (c := 5) (c' := 5) (i := 35) (i' := 34) (Or.inr (Or.inr (by decide)))]
              rfl
            · rw [if_neg w, if_neg w]
              rfl
          have c29 : csS S k 5 k 29 = S 5 k 29 := by
            unfold csS
            rw [u3_no (by decide), u3_no (by decide), z5]
          have c37 : csS S k 5 k 37 = S 5 k 37 := by
            unfold csS
            rw [u3_no (by decide), u3_no (by decide), z5]
          have c33 : csS S k 5 k 33 = (S 5 k 33) := by
            unfold csS
            rw [u3_no (by decide), u3_no (by decide), z5]
          have c34 : csS S k 3 (S 5 k 33) 4 = S 3 (S 5 k 33) 4 := by
            unfold csS
            rw [u3_nc (by decide), u3_nc (by decide), v2 _ 4 (by decide) hl.1, b1 3 (by decide) (by decide)]
          have c07 : csS S k 0 0 7 = S 0 0 7 := by
            unfold csS
            rw [u3_nc (by decide), u3_nc (by decide), z0 7 (by decide)]
          have nn1 : ¬ ((S 0 0 4) = -1) := by omega
          rw [y34, y35]
          refine ⟨⟨by omega, by omega, by omega⟩, ⟨by omega, by omega, by omega⟩, fun c => w_runsOn_254 ?_, fun c => ?_⟩
          · rw [EY]
            have e : msF S k (csE S k) (S 0 0 4) = u3 (if S 5 k 37 = 1 then u3 (csS S k) 5 k 35 (S 3 (S 5 k 33) 4) else csS S k) 10 0 (1 + 5 * (S 0 0 7 - 1) + k) (S 0 0 4) := by
              have ec : csE S k = csS S k := if_neg c
              unfold msF rwW
              rw [if_neg nn1, ec, f5 _ c29 c37 c33 c34]
              have e07 : (if S 5 k 37 = 1 then u3 (csS S k) 5 k 35 (S 3 (S 5 k 33) 4) else csS S k) 0 0 7 = S 0 0 7 := by
                split
                · rw [u3_nc (by decide)]
                  exact c07
                · exact c07
              rw [e07]
            rw [e] at FF
            exact FF
          · rw [EY]
            have e30 := mo'.2.2.2.1
            refine c_away (by omega) hk ?_ (am_an (w_runsOn_254 ?_))
            · rw [u3_nc (by decide)]
              split
              · rw [u3_no (by decide), c29]
                exact e30
              · rw [c29]
                exact e30
            · have e : msF S k (csE S k) (S 0 0 4) = awy (u3 (if S 5 k 37 = 1 then u3 (csS S k) 5 k 35 (S 3 (S 5 k 33) 4) else csS S k) 10 0 (1 + 5 * (S 0 0 7 - 1) + k) (S 0 0 4)) k := by
                have ec : csE S k = awy (csS S k) k := if_pos c
                obtain ⟨q1', q2', q3', q4', q5'⟩ := awy_c (S := csS S k) (k := k)
                unfold msF rwW
                rw [if_neg nn1, ec, f5r _ (by rw [q3', c29]; omega), awy_10, q1' 0 (by decide), c07]
                congr 1
                split
                · rw [awy_35]
                · rfl
              rw [e] at FF
              exact FF
        · rw [w1]
          have r31 : S2 5 k 31 = S 5 k 31 := so 31 (by decide)
          have b31 := mo'.2.2.2.2.2.1
          refine w_runsOn_152 ⟨fun _ => ⟨fun _ => ⟨fun z => absurd z (by decide), fun _ => ⟨by rw [r31]; omega, ?_⟩⟩, fun z => absurd rfl z⟩, fun z => absurd z (by omega)⟩
          have FF := HH _ (-1) (Or.inr (Or.inl ⟨hno, by rw [w1]; decide, rfl, rfl⟩))
          have e : msF S k (u3 S 5 k 31 (S 5 k 31 + 1)) (-1) = u3 S2 5 k 31 (S2 5 k 31 + 1) := by
            unfold msF rwW
            rw [if_pos rfl, f5 _ (u3_no (by decide)) (u3_no (by decide)) (u3_no (by decide)) (u3_nc (by decide)), r31, ← hS2]
            by_cases w : S 5 k 37 = 1
            · rw [if_pos w, if_pos w, u3_cm (c := 5) (c' := 5) (Or.inr (Or.inr (by decide)))]
            · rw [if_neg w, if_neg w]
          rw [e] at FF
          exact FF
      · rw [ms1]
        have hms : mss S k (lnS (S 3 (S 5 k 33)) (S 5 k 34)) := ⟨(q : Int), by omega, ms3⟩
        refine w_runsOn_152 ⟨fun _ => ⟨fun z => absurd z (by decide), fun _ => c_spikes (S := S2) (by omega) hk (by rw [r29]; exact mo'.2.2.2.1) (by rw [r32]; have := mo'.2.2.2.2.2.2.1; omega) (am_an (w_runsOn_203 ?_))⟩, fun z => absurd z (by omega)⟩
        have FF := HH _ (-1) (Or.inl ⟨hms, rfl, rfl⟩)
        have e : msF S k (spk S k) (-1) = spk S2 k := by
          unfold msF rwW
          have e29 : spk S k 5 k 29 ≠ S 5 k 29 := by
            rw [spk_e, u3_no (by decide), (awy_c (S := S) (k := k)).2.2.1]
            omega
          rw [if_pos rfl, f5r _ e29, ← hS2]
          by_cases w : S 5 k 37 = 1
          · rw [if_pos w, spk_35]
          · rw [if_neg w]
        rw [e] at FF
        exact FF
  exact main 0 (by omega) (by omega)
end
