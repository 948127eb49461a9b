set_option maxRecDepth 100000
/-! jobs that have not begun -/
theorem sg_le {f g : Int → Int} : ∀ (n : Nat) (i : Int), (∀ j, i ≤ j → j < i + n → f j ≤ g j) → sg f i n ≤ sg g i n
  | 0, i, h => Int.le_refl _
  | n + 1, i, h => by
    have a := h i (by omega) (by omega)
    have b := sg_le n (i + 1) (fun j a b => h j (by omega) (by omega))
    show f i + sg f (i + 1) n ≤ g i + sg g (i + 1) n
    omega
theorem sg_sh {f : Int → Int} : ∀ (n : Nat) (i : Int), sg (fun j => f (j + 1)) i n = sg f (i + 1) n
  | 0, i => rfl
  | n + 1, i => by
    show f (i + 1) + sg (fun j => f (j + 1)) (i + 1) n = f (i + 1) + sg f (i + 1 + 1) n
    rw [sg_sh n (i + 1)]
theorem am_b_le {p q : Prop} [Decidable p] [Decidable q] (h : p → q) : am_b p ≤ am_b q := by
  unfold am_b
  by_cases a : p
  · rw [if_pos a, if_pos (h a)]
    exact Int.le_refl _
  · rw [if_neg a]
    split <;> decide
/-- a job of a whole part that has not begun -/
def ust (S : am_G) (k i : Int) : Prop := S 5 k (37 + 5 * i) ≠ 0 ∧ S 3 (S 5 k (33 + 5 * i)) 3 = 0
def usb (S : am_G) (k i : Int) : Int := am_b (S 5 k (37 + 5 * i) ≠ 0 ∧ S 3 (S 5 k (33 + 5 * i)) 3 = 0)
theorem usb_le {S S' : am_G} {k i k' i' : Int} (h : ust S k i → ust S' k' i') : usb S k i ≤ usb S' k' i' := am_b_le h
theorem usb_1 {S : am_G} {k i : Int} (h : ust S k i) : usb S k i = 1 := if_pos h
theorem usb_0 {S : am_G} {k i : Int} (h : ¬ ust S k i) : usb S k i = 0 := if_neg h
def un (S : am_G) (k : Int) : Int := sg (usb S k) 0 (S 5 k 29).toNat
theorem un_le {S S' : am_G} {q : Int} (e29 : S' 5 q 29 = S 5 q 29) (e : ∀ i, 0 ≤ i → S' 5 q (33 + 5 * i) = S 5 q (33 + 5 * i) ∧ S' 5 q (37 + 5 * i) = S 5 q (37 + 5 * i)) (e3 : ∀ p, S' 3 p 3 = 0 → S 3 p 3 = 0) : un S' q ≤ un S q := by
  unfold un
  rw [e29]
  refine sg_le _ _ (fun j j1 _ => usb_le (fun z => ?_))
  unfold ust at z ⊢
  rw [(e j j1).1, (e j j1).2] at z
  exact ⟨z.1, e3 _ z.2⟩
theorem un_st {S S' : am_G} {q : Int} (hn : 0 < S 5 q 29) (e29 : S' 5 q 29 = S 5 q 29) (e : ∀ i, 0 ≤ i → S' 5 q (33 + 5 * i) = S 5 q (33 + 5 * i) ∧ S' 5 q (37 + 5 * i) = S 5 q (37 + 5 * i)) (e3 : ∀ p, S' 3 p 3 = 0 → S 3 p 3 = 0) (hu : ust S q 0) (hs : S' 3 (S 5 q 33) 3 ≠ 0) : un S' q + 1 ≤ un S q := by
  unfold un
  rw [e29]
  obtain ⟨m, hm⟩ : ∃ m, (S 5 q 29).toNat = m + 1 := ⟨(S 5 q 29).toNat - 1, by omega⟩
  rw [hm]
  show usb S' q 0 + sg (usb S' q) (0 + 1) m + 1 ≤ usb S q 0 + sg (usb S q) (0 + 1) m
  have n0 : ¬ ust S' q 0 := fun z => by
    have w := z.2
    rw [(e 0 (by decide)).1] at w
    exact hs w
  have b := sg_le (f := usb S' q) (g := usb S q) m (0 + 1) (fun j j1 _ => usb_le (fun z => by
    unfold ust at z ⊢
    rw [(e j (by omega)).1, (e j (by omega)).2] at z
    exact ⟨z.1, e3 _ z.2⟩))
  have c1 : usb S' q 0 = 0 := usb_0 n0
  have c2 : usb S q 0 = 1 := usb_1 hu
  omega
theorem un_aw {S : am_G} {k : Int} (hn : 0 < S 5 k 29 ∧ S 5 k 29 ≤ 30) : un (awy S k) k + usb S k 0 = un S k := by
  obtain ⟨a1, a2, a3, a4, a5⟩ := awy_c (S := S) (k := k)
  unfold un
  rw [a3]
  obtain ⟨m, hm⟩ : ∃ m, (S 5 k 29).toNat = m + 1 := ⟨(S 5 k 29).toNat - 1, by omega⟩
  have hm' : (S 5 k 29 - 1).toNat = m := by omega
  rw [hm, hm']
  show _ = usb S k 0 + sg (usb S k) (0 + 1) m
  rw [← sg_sh]
  have e := sg_ext (f := fun i => usb (awy S k) k i) (g := fun j => (usb S k) (j + 1)) m 0 (fun j j1 j2 => by
    show usb (awy S k) k j = usb S k (j + 1)
    unfold usb
    have e1 : (37 + 5 * j + 5 : Int) = 37 + 5 * (j + 1) := by omega
    have e2 : (33 + 5 * j + 5 : Int) = 33 + 5 * (j + 1) := by omega
    simp only [a5 (37 + 5 * j) (by omega) (by omega), a5 (33 + 5 * j) (by omega) (by omega), a1 3 (by decide), e1, e2])
  rw [e]
  omega
theorem am_b_01 {p : Prop} [Decidable p] : 0 ≤ am_b p ∧ am_b p ≤ 1 := by
  unfold am_b
  split <;> decide
theorem usb_01 {S : am_G} {k i : Int} : 0 ≤ usb S k i ∧ usb S k i ≤ 1 := am_b_01
theorem un_spk {S : am_G} {k : Int} (hn : 0 < S 5 k 29 ∧ S 5 k 29 ≤ 30) : un (spk S k) k + usb S k 0 ≤ un S k ∧ ∀ q, q ≠ k → un (spk S k) q ≤ un S q := by
  have a := un_aw hn
  rw [spk_e]
  refine ⟨?_, fun q hq => ?_⟩
  · have b := un_le (S := awy S k) (S' := u3 (awy S k) 5 k 32 (awy S k 5 k 32 + 1)) (q := k) (u3_no (by decide)) (fun i i1 => ⟨u3_no (by omega), u3_no (by omega)⟩) (fun p z => by rw [u3_nc (by decide)] at z; exact z)
    omega
  · refine un_le ?_ (fun i i1 => ⟨?_, ?_⟩) (fun p z => ?_)
    · rw [u3_np hq, (awy_c (S := S) (k := k)).2.1 q hq]
    · rw [u3_np hq, (awy_c (S := S) (k := k)).2.1 q hq]
    · rw [u3_np hq, (awy_c (S := S) (k := k)).2.1 q hq]
    · rw [u3_nc (by decide), (awy_c (S := S) (k := k)).1 3 (by decide)] at z
      exact z
theorem un_run {S S' : am_G} {k a : Int} (h : runR S k S' a) (hn : 0 < S 5 k 29 ∧ S 5 k 29 ≤ 30) (hl : 0 ≤ (S 5 k 34)) (hm : (((lnS (S 3 (S 5 k 33)) (S 5 k 34))).length : Int) ≤ 420) : ∀ q, un S' q ≤ un S q := by
  intro q
  rcases h with ⟨_, e, _⟩ | ⟨_, _, e, _⟩ | ⟨_, _, e, _⟩
  · rw [e]
    have u := un_spk hn
    by_cases c : q = k
    · rw [c]
      have := usb_01 (S := S) (k := k) (i := 0)
      omega
    · exact u.2 q c
  · rw [e]
    exact un_le (u3_no (by decide)) (fun i i1 => ⟨u3_no (by omega), u3_no (by omega)⟩) (fun p z => by rw [u3_nc (by decide)] at z; exact z)
  · have p5 : ptS (csA S (lnS (S 3 (S 5 k 33)) (S 5 k 34)) (S 5 k 33) k (S 5 k 34) (S 5 k 36)) (S 0 0 4) (S 5 k 33) (S 5 k 34) 5 = S 5 := by
      rw [(ptS_r (S := csA S (lnS (S 3 (S 5 k 33)) (S 5 k 34)) (S 5 k 33) k (S 5 k 34) (S 5 k 36)) (s := (S 0 0 4)) (p := (S 5 k 33)) (l := (S 5 k 34))).1 5 (by decide) (by decide), (csA_v (S := S) (p := (S 5 k 33)) (k := k) (l := (S 5 k 34)) (co := S 5 k 36) hm).1 5 (by decide) (by decide)]
    have p3 : ∀ p, ptS (csA S (lnS (S 3 (S 5 k 33)) (S 5 k 34)) (S 5 k 33) k (S 5 k 34) (S 5 k 36)) (S 0 0 4) (S 5 k 33) (S 5 k 34) 3 p 3 = S 3 p 3 := fun p => by
      rw [(ptS_r (S := csA S (lnS (S 3 (S 5 k 33)) (S 5 k 34)) (S 5 k 33) k (S 5 k 34) (S 5 k 36)) (s := (S 0 0 4)) (p := (S 5 k 33)) (l := (S 5 k 34))).2 p 3 (by decide) hl, (csA_v (S := S) (p := (S 5 k 33)) (k := k) (l := (S 5 k 34)) (co := S 5 k 36) hm).1 3 (by decide) (by decide)]
    have c5 : ∀ q i, i ≠ 30 → i ≠ 34 → csS S k 5 q i = S 5 q i := fun q i i1 i2 => by
      unfold csS
      rw [u3_no i2, u3_no i1, p5]
    have c3 : ∀ p, csS S k 3 p 3 = S 3 p 3 := fun p => by
      unfold csS
      rw [u3_nc (by decide), u3_nc (by decide), p3]
    have c : ∀ q, un (csS S k) q ≤ un S q := fun q => un_le (c5 _ _ (by decide) (by decide)) (fun i i1 => ⟨c5 _ _ (by omega) (by omega), c5 _ _ (by omega) (by omega)⟩) (fun p z => by rw [c3] at z; exact z)
    rw [e]
    unfold csE
    split
    · have u := un_aw (S := csS S k) (k := k) (by rw [c5 _ _ (by decide) (by decide)]; exact hn)
      have cq := c q
      by_cases c' : q = k
      · rw [c'] at cq ⊢
        have := usb_01 (S := csS S k) (k := k) (i := 0)
        omega
      · refine Int.le_trans (un_le ?_ (fun i i1 => ⟨?_, ?_⟩) (fun p z => ?_)) cq
        · rw [(awy_c (S := csS S k) (k := k)).2.1 q c']
        · rw [(awy_c (S := csS S k) (k := k)).2.1 q c']
        · rw [(awy_c (S := csS S k) (k := k)).2.1 q c']
        · rw [(awy_c (S := csS S k) (k := k)).1 3 (by decide)] at z
          exact z
    · exact c q
theorem un_ms {S S1 : am_G} {k a q : Int} : un (msF S k S1 a) q = un S1 q := by
  have f : un (fx5 S k S1) q = un S1 q := by
    unfold fx5
    split
    · unfold un
      rw [u3_no (by decide)]
      refine sg_ext _ _ (fun j j1 j2 => ?_)
      have e1 : u3 S1 5 k 35 (S1 3 (S1 5 k 33) 4) 5 q (37 + 5 * j) = S1 5 q (37 + 5 * j) := u3_no (by omega)
      have e2 : u3 S1 5 k 35 (S1 3 (S1 5 k 33) 4) 5 q (33 + 5 * j) = S1 5 q (33 + 5 * j) := u3_no (by omega)
      have e3 : u3 S1 5 k 35 (S1 3 (S1 5 k 33) 4) 3 = S1 3 := u3_r (by decide)
      unfold usb
      simp only [e1, e2, e3]
    · rfl
  unfold msF rwW
  split
  · exact f
  · rw [← f]
    unfold un
    rw [u3_nc (by decide)]
    refine sg_ext _ _ (fun j j1 j2 => ?_)
    have e1 : ∀ v i, u3 (fx5 S k S1) 10 0 i v 5 = fx5 S k S1 5 := fun v i => u3_r (by decide)
    have e2 : ∀ v i, u3 (fx5 S k S1) 10 0 i v 3 = fx5 S k S1 3 := fun v i => u3_r (by decide)
    unfold usb
    simp only [e1, e2]
/-- a turn: no more of them, one less if one begins; rows are left -/
theorem un_tur {S S1 : am_G} {k a : Int} (h0 : okT0 S) (h5 : okT5 S) (hk : 0 ≤ k ∧ k < S 0 0 3) (tr : turR S k S1 a) : (un S1 k + stA S k ≤ un S k ∧ ∀ q, q ≠ k → un S1 q ≤ un S q) ∧ S1 10 = S 10 := by
  obtain ⟨hC, hF, hG, hA, hY, hY1, hW, hg, h00, hX⟩ := h0
  obtain ⟨hM, hJ, hJg⟩ := h5
  have c3 := hC.2.2.1
  have mk := hM k hk.1 (by omega)
  have start : S 5 k 29 ≠ 0 → bhd S k 0 < 0 → ust S k 0 := fun hn hb => by
    have mj := mk.2.2.2.2.2.2.2 0 (by omega) (by omega)
    have ap := hA _ mj.1
    unfold bhd at hb
    by_cases c : S 5 k (37 + 5 * 0) = 0
    · rw [if_pos c] at hb
      exact absurd mj.2.2.1.1 (by omega)
    · rw [if_neg c] at hb
      by_cases g : S 3 (S 5 k (33 + 5 * 0)) 3 = 0
      · exact ⟨c, g⟩
      · rw [if_neg g] at hb
        exact absurd ap.2.2.2.2.2.2.2.1 (by omega)
  rcases tr with ⟨c, e, _⟩ | ⟨c, d, f, g, e, _⟩ | ⟨c, d, f, g, r⟩ | ⟨c, d, f, r⟩
  · rw [e]
    have s0 : stA S k = 0 := if_neg (fun z => c.elim (fun w => w z.1) (fun w => z.2.1 w))
    exact ⟨⟨by omega, fun q _ => Int.le_refl _⟩, rfl⟩
  · have s1 : stA S k = 1 := if_pos ⟨c, d, f⟩
    have u := un_spk (S := S) (k := k) (by have := mk.2.2.2.1; omega)
    have b1 : usb S k 0 = 1 := usb_1 (start d f)
    rw [e]
    refine ⟨⟨by omega, u.2⟩, ?_⟩
    rw [spk_e, u3_r (by decide), (awy_c (S := S) (k := k)).1 10 (by decide)]
  · have s1 : stA S k = 1 := if_pos ⟨c, d, f⟩
    have us := start d f
    have mj := mk.2.2.2.2.2.2.2 0 (by omega) (by have := mk.2.2.2.1; omega)
    have ip : isP S (S 5 k 33) := mj.1
    have ap := hA _ ip
    have pb := isP_bd hC hF ip
    have okw := hW _ pb.2.2.1.1 pb.2.2.1.2
    have tl := tells_bd (p := (S 5 k 33)) (mi := S 0 0 0) hY
    have le1 := leS_1 (p := (S 5 k 33)) (mi := S 0 0 0) hY hY1
    have nl := nx_ln ap.1 okw ap.2.1 tl.1 tl.2.1 le1 tl.2.2.2.1 (mo := moS S (S 5 k 33) (S 0 0 0)) g
    have nl1 : 1 ≤ ((tbS S (S 5 k 33) (S 0 0 0)) 0).2.1 ∧ ((tbS S (S 5 k 33) (S 0 0 0)) 0).2.1 ≤ S 3 (S 5 k 33) 1 := nl.1
    have p40 := ap.1.1
    obtain ⟨v1, v2, v3, v4, v5, v6⟩ := stL_v (S := S) (p := (S 5 k 33)) (T := (tbS S (S 5 k 33) (S 0 0 0))) (by have := p40; omega)
    have s5 : stL S (S 5 k 33) (tbS S (S 5 k 33) (S 0 0 0)) 5 = S 5 := v1 5 (by decide)
    have e3 : ∀ p, stL S (S 5 k 33) (tbS S (S 5 k 33) (S 0 0 0)) 3 p 3 = 0 → S 3 p 3 = 0 := fun p z => by
      by_cases e : p = (S 5 k 33)
      · rw [e, v3] at z
        exact absurd z (by decide)
      · rw [v2 p e] at z
        exact z
    have T0 := okT_st (k := k) ⟨hC, hF, hG, hA, hY, hY1, hW, hg, h00, hX⟩ ⟨hM, hJ, hJg⟩ hk (by have := mk.2.2.2.1; omega) us.1 us.2 g
    have ip' : isP (stL S (S 5 k 33) (tbS S (S 5 k 33) (S 0 0 0))) (S 5 k 33) := by
      unfold isP
      rw [v1 0 (by decide), v1 2 (by decide)]
      exact mj.1
    have set1 : stL S (S 5 k 33) (tbS S (S 5 k 33) (S 0 0 0)) 3 (S 5 k 33) 3 = 1 := v3
    have l0 : (S 5 k 34) = 0 := (((hJ.1 k 0 hk.1 hk.2 (by omega) (by have := mk.2.2.2.1; omega)).2 us.1).1 us.2)
    have oL := (T0.1.2.2.2.1 _ ip').2.2.2.2.2.2.1 set1
    have hml := (oL.2.2 0 (by omega) (by have := oL.1; omega)).2.1
    have rn' := un_run r (by rw [s5]; have := mk.2.2.2.1; omega) (by rw [s5]; omega) (by rw [s5, l0]; exact hml)
    have r10 := runR_10 r (by rw [s5]; omega) (by rw [s5, l0]; exact hml)
    have A := un_st (S := S) (S' := stL S (S 5 k 33) (tbS S (S 5 k 33) (S 0 0 0))) (q := k) (by have := mk.2.2.2.1; omega) (by rw [s5]) (fun i _ => ⟨by rw [s5], by rw [s5]⟩) e3 us (by rw [v3]; decide)
    have Bq : ∀ q, un (stL S (S 5 k 33) (tbS S (S 5 k 33) (S 0 0 0))) q ≤ un S q := fun q => un_le (by rw [s5]) (fun i _ => ⟨by rw [s5], by rw [s5]⟩) e3
    refine ⟨⟨by have := rn' k; omega, fun q _ => Int.le_trans (rn' q) (Bq q)⟩, ?_⟩
    rw [r10, v1 10 (by decide)]
  · have s0 : stA S k = 0 := if_neg (fun z => absurd z.2.2 (by omega))
    have hn : 0 < S 5 k 29 := by have := mk.2.2.2.1; omega
    have mj := mk.2.2.2.2.2.2.2 0 (by omega) hn
    have ap := hA _ mj.1
    have jj := hJ.1 k 0 hk.1 hk.2 (by omega) hn
    have set1 : S 3 (S 5 k 33) 3 = 1 ∧ (S 5 k 34) < S 3 (S 5 k 33) 4 := by
      have c0 : S 5 k 37 = 0 ∨ S 5 k 37 ≠ 0 := by omega
      rcases c0 with c0 | c0
      · have q := jj.1 c0
        have q1 : S 3 (S 5 k 33) 3 = 1 := q.1
        have q2 : (S 5 k 34) < S 5 k 35 := q.2.1
        have q3 : S 5 k 35 ≤ S 3 (S 5 k 33) 4 := q.2.2
        exact ⟨q1, by omega⟩
      · have q := jj.2 c0
        have a1 : S 3 (S 5 k 33) 3 = 0 ∨ S 3 (S 5 k 33) 3 = 1 := ap.2.2.2.2.1
        rcases a1 with a1 | a1
        · have e : bhd S k 0 = -1 := by
            unfold bhd
            exact (if_neg c0).trans (if_pos a1)
          omega
        · exact ⟨a1, q.2 a1⟩
    have oL := ap.2.2.2.2.2.2.1 set1.1
    have l0 : 0 ≤ (S 5 k 34) := mj.2.1.1
    have hml := (oL.2.2 (S 5 k 34) l0 set1.2).2.1
    have rn' := un_run r (by have := mk.2.2.2.1; omega) l0 hml
    exact ⟨⟨by have := rn' k; omega, fun q _ => rn' q⟩, runR_10 r l0 hml⟩
