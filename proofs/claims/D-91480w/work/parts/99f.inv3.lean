set_option maxRecDepth 100000
def sm3 (S : am_G) (q : Int) : Int := S 5 q 30 + S 5 q 31 + S 5 q 32
/-- what a turn leaves -/
def tuL (S S' : am_G) (k a : Int) : Prop := (∀ j, j ≠ 4 → S' 0 0 j = S 0 0 j) ∧ (S 0 0 4 ≤ S' 0 0 4 ∧ S' 0 0 4 ≤ S 0 0 4 + 1) ∧ sm3 S' k ≤ sm3 S k + 1 ∧ (∀ q, q ≠ k → S' 5 q = S 5 q) ∧ (∀ c, c = 1 ∨ c = 2 ∨ c = 6 ∨ c = 7 ∨ c = 8 ∨ c = 9 → S' c = S c) ∧ (∀ q, q < S 0 0 4 → S' 4 q 1 = S 4 q 1 ∧ S' 4 q 2 = S 4 q 2) ∧ ((a = -1 ∧ S' 0 0 4 = S 0 0 4) ∨ (a = S 0 0 4 ∧ S' 0 0 4 = S 0 0 4 + 1 ∧ S' 4 (S 0 0 4) 1 = k ∧ S' 4 (S 0 0 4) 2 = S 0 0 0)) ∧ (0 ≤ S' 5 k 29 ∧ S' 5 k 29 ≤ S 5 k 29) ∧ S' 5 k 28 = S 5 k 28
theorem tuL_5 {S S' S'' : am_G} {k a : Int} (t : tuL S S' k a) (e : ∀ c, c ≠ 5 → c ≠ 10 → S'' c = S' c) (eq : ∀ q, q ≠ k → S'' 5 q = S' 5 q) (es : sm3 S'' k = sm3 S' k) (e29 : S'' 5 k 29 = S' 5 k 29) (e28 : S'' 5 k 28 = S' 5 k 28) : tuL S S'' k a := by
  obtain ⟨t1, t2, t3, t4, t5, t6, t7, t8, t9⟩ := t
  unfold tuL
  rw [e 0 (by decide) (by decide), e 4 (by decide) (by decide), es, e29, e28]
  refine ⟨t1, t2, t3, fun q hq => (eq q hq).trans (t4 q hq), fun c hc => ?_, t6, t7, t8, t9⟩
  rw [e c (by omega) (by omega)]
  exact t5 c hc
theorem okT_run {S : am_G} {k : Int} (h0 : okT0 S) (h5 : okT5 S) (hk : 0 ≤ k ∧ k < S 0 0 3) (hn : 0 < S 5 k 29) (set : S 3 (S 5 k 33) 3 = 1) (hl : 0 ≤ (S 5 k 34) ∧ (S 5 k 34) < S 3 (S 5 k 33) 4) (hs : sm3 S k ≤ 599) {S' : am_G} {a : Int} (rr : runR S k S' a) : okT0 S' ∧ okT5 S' ∧ tuL S S' k a := by
  have hC := h0.1
  have c3 := hC.2.2.1
  have hM := h5.1
  have mo' := hM k hk.1 (by omega)
  have b30 := mo'.2.2.2.2.1
  have b31 := mo'.2.2.2.2.2.1
  have b32 := mo'.2.2.2.2.2.2.1
  have b29 := mo'.2.2.2.1
  have mj := mo'.2.2.2.2.2.2.2 0 (by omega) hn
  have ip : isP S (S 5 k 33) := mj.1
  have jk := h5.2.1.1 k 0 hk.1 hk.2 (by omega) hn
  have jk0 : S 5 k 37 = 0 → S 3 (S 5 k 33) 3 = 1 ∧ (S 5 k 34) < S 5 k 35 ∧ S 5 k 35 ≤ S 3 (S 5 k 33) 4 := jk.1
  have ap := h0.2.2.2.1 (S 5 k 33) ip
  have a4 := ap.2.2.2.2.2.2.2
  have g04 := h0.2.2.1.1
  unfold sm3 at hs
  rcases rr with ⟨_, e, ea⟩ | ⟨_, _, e, ea⟩ | ⟨_, w0, e, ea⟩
  · obtain ⟨w1, w2, w3, w4, w5⟩ := awy_c (S := S) (k := k)
    have e32 : awy S k 5 k 32 = S 5 k 32 := w4 32 (by decide) (by decide)
    have r : ∀ c, c ≠ 5 → S' c = S c := fun c hc => by rw [e, spk_e, u3_r hc, w1 c hc]
    refine ⟨okT0_c (fun c hc _ => r c hc) h0, ?_, ?_⟩
    · rw [e, spk_e, e32]
      exact okT5_n (by omega) (by omega) (okT5_a hk (by omega) hn h5)
    · unfold tuL sm3
      rw [r 0 (by decide), r 4 (by decide)]
      refine ⟨fun _ _ => rfl, by omega, ?_, fun q hq => by rw [e, spk_e, u3_rp hq, w2 q hq], fun c hc => r c (by omega), fun _ _ => ⟨rfl, rfl⟩, Or.inl ⟨ea, rfl⟩, ?_, ?_⟩
      · rw [e, spk_e, u3_no (by decide), u3_no (by decide), u3_eq, e32, w4 30 (by decide) (by decide), w4 31 (by decide) (by decide)]
        omega
      · rw [e, spk_e, u3_no (by decide), w3]
        omega
      · rw [e, spk_e, u3_no (by decide), w4 28 (by decide) (by decide)]
  · have r : ∀ c, c ≠ 5 → S' c = S c := fun c hc => by rw [e, u3_r hc]
    refine ⟨okT0_c (fun c hc _ => r c hc) h0, ?_, ?_⟩
    · rw [e]
      exact okT5_n (by omega) (by omega) h5
    · unfold tuL sm3
      rw [r 0 (by decide), r 4 (by decide)]
      refine ⟨fun _ _ => rfl, by omega, ?_, fun q hq => by rw [e, u3_rp hq], fun c hc => r c (by omega), fun _ _ => ⟨rfl, rfl⟩, Or.inl ⟨ea, rfl⟩, ?_, ?_⟩
      · rw [e, u3_no (by decide), u3_eq, u3_no (by decide)]
        omega
      · rw [e, u3_no (by decide)]
        omega
      · rw [e, u3_no (by decide)]
  · have h300 : (S 0 0 4) < 300 := by
      by_cases q : (S 0 0 4) = 300
      · exfalso
        have st : ∀ j : Nat, wtF S k (lnS (S 3 (S 5 k 33)) (S 5 k 34)) j = 1 := by
          intro j
          induction j with
          | zero => exact am_bt q
          | succ j ih =>
            show (if wtF S k (lnS (S 3 (S 5 k 33)) (S 5 k 34)) j = 0 then _ else 1) = 1
            rw [if_neg (by rw [ih]; decide)]
        rw [st 27] at w0
        exact absurd w0 (by decide)
      · omega
    have al := (ap.2.2.2.2.2.2.1 set).2.2 (S 5 k 34) hl.1 hl.2
    have hm := al.2.1
    have hne : S 3 (S 5 k 33) (45 + (S 5 k 34)) - 1 ≠ (S 0 0 4) := by have := al.2.2; omega
    obtain ⟨X0, X5⟩ := okT_cs h0 h5 hk hn set hl h300
    obtain ⟨v1, v2, v3, v4, v5, v6, v7, v8⟩ := csA_v (S := S) (m := (lnS (S 3 (S 5 k 33)) (S 5 k 34))) (p := (S 5 k 33)) (k := k) (l := (S 5 k 34)) (co := S 5 k 36) hm
    obtain ⟨x1, ⟨x2, x2'⟩, ⟨x3, x3'⟩, x4, x5, x6, x6', x6''⟩ := cx_v (S := S) (ml := (lnS (S 3 (S 5 k 33)) (S 5 k 34))) (q := (S 5 k 33)) (k := k) (l := (S 5 k 34)) (co := S 5 k 36) hm hne
    have s5 : ptS (csA S (lnS (S 3 (S 5 k 33)) (S 5 k 34)) (S 5 k 33) k (S 5 k 34) (S 5 k 36)) (S 0 0 4) (S 5 k 33) (S 5 k 34) 5 = S 5 := x1 5 (by decide) (by decide) (by decide)
    have bh : bhd S k 0 = if S 5 k 37 = 0 then S 5 k 35 else if S 3 (S 5 k 33) 3 = 0 then -1 else S 3 (S 5 k 33) 4 := rfl
    have tX : tuL S (u3 (ptS (csA S (lnS (S 3 (S 5 k 33)) (S 5 k 34)) (S 5 k 33) k (S 5 k 34) (S 5 k 36)) (S 0 0 4) (S 5 k 33) (S 5 k 34)) 5 k 30 (S 5 k 30 + 1)) k a := by
      have r : ∀ c, c ≠ 5 → u3 (ptS (csA S (lnS (S 3 (S 5 k 33)) (S 5 k 34)) (S 5 k 33) k (S 5 k 34) (S 5 k 36)) (S 0 0 4) (S 5 k 33) (S 5 k 34)) 5 k 30 (S 5 k 30 + 1) c = ptS (csA S (lnS (S 3 (S 5 k 33)) (S 5 k 34)) (S 5 k 33) k (S 5 k 34) (S 5 k 36)) (S 0 0 4) (S 5 k 33) (S 5 k 34) c := fun c hc => u3_r hc
      unfold tuL sm3
      rw [r 0 (by decide), r 4 (by decide)]
      refine ⟨x2, by omega, ?_, fun q hq => by rw [u3_rp hq, s5], fun c hc => by rw [r c (by omega)]; exact x1 c (by omega) (by omega) (by omega), fun q hq => ?_, Or.inr ⟨ea, x2', by rw [x6'' 1 (by decide) (by decide)]; exact v6, by rw [x6'' 2 (by decide) (by decide)]; exact v7⟩, ?_, ?_⟩
      · rw [u3_eq, u3_no (by decide), u3_no (by decide), s5]
        omega
      · by_cases c : S 3 (S 5 k 33) (45 + (S 5 k 34)) ≠ 0 ∧ q = S 3 (S 5 k 33) (45 + (S 5 k 34)) - 1
        · rw [c.2]
          exact ⟨(x5 c.1).2 1 (by decide) (by decide) (by decide), (x5 c.1).2 2 (by decide) (by decide) (by decide)⟩
        · rw [x4 q (by omega) (by omega)]
          exact ⟨rfl, rfl⟩
      · rw [u3_no (by decide), s5]
        omega
      · rw [u3_no (by decide), s5]
    have Y5 : okT5 (u3 (ptS (csA S (lnS (S 3 (S 5 k 33)) (S 5 k 34)) (S 5 k 33) k (S 5 k 34) (S 5 k 36)) (S 0 0 4) (S 5 k 33) (S 5 k 34)) 5 k 30 (S 5 k 30 + 1)) := okT5_n (by omega) (by omega) X5
    have Y0 : okT0 (u3 (ptS (csA S (lnS (S 3 (S 5 k 33)) (S 5 k 34)) (S 5 k 33) k (S 5 k 34) (S 5 k 36)) (S 0 0 4) (S 5 k 33) (S 5 k 34)) 5 k 30 (S 5 k 30 + 1)) := okT0_c (fun c hc _ => u3_r hc) X0
    have y5 : ∀ o, o ≠ 30 → u3 (ptS (csA S (lnS (S 3 (S 5 k 33)) (S 5 k 34)) (S 5 k 33) k (S 5 k 34) (S 5 k 36)) (S 0 0 4) (S 5 k 33) (S 5 k 34)) 5 k 30 (S 5 k 30 + 1) 5 k o = S 5 k o := fun o ho => by rw [u3_no ho, s5]
    have y03 : u3 (ptS (csA S (lnS (S 3 (S 5 k 33)) (S 5 k 34)) (S 5 k 33) k (S 5 k 34) (S 5 k 36)) (S 0 0 4) (S 5 k 33) (S 5 k 34)) 5 k 30 (S 5 k 30 + 1) 0 0 3 = S 0 0 3 := by rw [u3_nc (by decide), x2 3 (by decide)]
    have y3 : ∀ o, o < 45 → u3 (ptS (csA S (lnS (S 3 (S 5 k 33)) (S 5 k 34)) (S 5 k 33) k (S 5 k 34) (S 5 k 36)) (S 0 0 4) (S 5 k 33) (S 5 k 34)) 5 k 30 (S 5 k 30 + 1) 3 (S 5 k 33) o = S 3 (S 5 k 33) o := fun o ho => by rw [u3_nc (by decide), x3 _ _ (fun z => by omega)]
    have ecs : csS S k = u3 (u3 (ptS (csA S (lnS (S 3 (S 5 k 33)) (S 5 k 34)) (S 5 k 33) k (S 5 k 34) (S 5 k 36)) (S 0 0 4) (S 5 k 33) (S 5 k 34)) 5 k 30 (S 5 k 30 + 1)) 5 k 34 ((S 5 k 34) + 1) := rfl
    generalize hY : u3 (ptS (csA S (lnS (S 3 (S 5 k 33)) (S 5 k 34)) (S 5 k 33) k (S 5 k 34) (S 5 k 36)) (S 0 0 4) (S 5 k 33) (S 5 k 34)) 5 k 30 (S 5 k 30 + 1) = Y at *
    have r34 : ∀ c, c ≠ 5 → u3 Y 5 k 34 ((S 5 k 34) + 1) c = Y c := fun c hc => u3_r hc
    by_cases c : (S 5 k 34) + 1 = bhd S k 0
    · have eE : S' = awy Y k := by
        rw [e]
        unfold csE
        rw [if_pos c, ecs, awy_o (by omega)]
      obtain ⟨w1, w2, w3, w4, w5⟩ := awy_c (S := Y) (k := k)
      refine ⟨by rw [eE]; exact okT0_c (fun c hc _ => w1 c hc) Y0, by rw [eE]; exact okT5_a (by rw [y03]; exact hk) (by rw [y03]; omega) (by rw [y5 29 (by decide)]; exact hn) Y5, ?_⟩
      obtain ⟨t1, t2, t3, t4, t5, t6, t7, t8, t9⟩ := tX
      have es : sm3 (awy Y k) k = sm3 Y k := by
        unfold sm3
        rw [w4 30 (by decide) (by decide), w4 31 (by decide) (by decide), w4 32 (by decide) (by decide)]
      rw [eE]
      unfold tuL
      rw [w1 0 (by decide), w1 4 (by decide), es, w3, w4 28 (by decide) (by decide)]
      refine ⟨t1, t2, t3, fun q hq => (w2 q hq).trans (t4 q hq), fun c hc => ?_, t6, t7, ?_, t9⟩
      · rw [w1 c (by omega)]
        exact t5 c hc
      · rw [y5 29 (by decide)]
        omega
    · have eE : S' = u3 Y 5 k 34 ((S 5 k 34) + 1) := by
        rw [e]
        unfold csE
        rw [if_neg c, ecs]
      have lt0 : S 5 k 37 = 0 → (S 5 k 34) + 1 < S 5 k 35 := fun z => by
        rw [bh, if_pos z] at c
        have := (jk0 z).2.1
        omega
      have lt1 : S 5 k 37 ≠ 0 → (S 5 k 34) + 1 < S 3 (S 5 k 33) 4 := fun z => by
        rw [bh, if_neg z, if_neg (by omega)] at c
        omega
      have l40 : (S 5 k 34) + 1 < 40 := by
        by_cases z : S 5 k 37 = 0
        · have := lt0 z
          have := (jk0 z).2.2
          omega
        · have := lt1 z
          omega
      refine ⟨by rw [eE]; exact okT0_c (fun c hc _ => r34 c hc) Y0, ?_, ?_⟩
      · rw [eE]
        refine okT5_j (by rw [y03]; exact hk) (by rw [y03]; omega) (by rw [y5 29 (by decide)]; exact hn) (Or.inl ⟨rfl, by omega, ?_, ?_⟩) Y5
        · rw [y5 37 (by decide), y5 35 (by decide)]
          exact lt0
        · rw [y5 37 (by decide), y5 33 (by decide), y3 3 (by omega), y3 4 (by omega)]
          exact fun z => ⟨set, lt1 z⟩
      · rw [eE]
        refine tuL_5 tX (fun c hc _ => r34 c hc) (fun q hq => u3_rp hq) ?_ (u3_no (by decide)) (u3_no (by decide))
        unfold sm3
        rw [u3_no (by decide), u3_no (by decide), u3_no (by decide)]
/-- a turn, and the model's notes: the state is right -/
theorem okT_tur {S : am_G} {k : Int} (h0 : okT0 S) (h5 : okT5 S) (hk : 0 ≤ k ∧ k < S 0 0 3) (hs : sm3 S k ≤ 599) {S1 : am_G} {a : Int} (tr : turR S k S1 a) : okT0 (msF S k S1 a) ∧ okT5 (msF S k S1 a) ∧ tuL S (msF S k S1 a) k a := by
  have hC := h0.1
  have c3 := hC.2.2.1
  have hM := h5.1
  have mo' := hM k hk.1 (by omega)
  have b29 := mo'.2.2.2.1
  have g04 := h0.2.2.1.1
  -- the state as the turn leaves it
  have one : okT0 S1 ∧ okT5 S1 ∧ tuL S S1 k a := by
    rcases tr with ⟨_, e, ea⟩ | ⟨q1, q2, q3, q4, e, ea⟩ | ⟨q1, q2, q3, q4, rr⟩ | ⟨q1, q2, q3, rr⟩
    · rw [e]
      refine ⟨h0, h5, fun _ _ => rfl, by omega, by omega, fun _ _ => rfl, fun _ _ => rfl, fun _ _ => ⟨rfl, rfl⟩, Or.inl ⟨ea, rfl⟩, by omega, rfl⟩
    · have hn : 0 < S 5 k 29 := by omega
      have b32 := mo'.2.2.2.2.2.2.1
      have b30 := mo'.2.2.2.2.1
      have b31 := mo'.2.2.2.2.2.1
      obtain ⟨w1, w2, w3, w4, w5⟩ := awy_c (S := S) (k := k)
      have e32 : awy S k 5 k 32 = S 5 k 32 := w4 32 (by decide) (by decide)
      have r : ∀ c, c ≠ 5 → S1 c = S c := fun c hc => by rw [e, spk_e, u3_r hc, w1 c hc]
      unfold sm3 at hs
      refine ⟨okT0_c (fun c hc _ => r c hc) h0, ?_, ?_⟩
      · rw [e, spk_e, e32]
        exact okT5_n (by omega) (by omega) (okT5_a hk (by omega) hn h5)
      · unfold tuL sm3
        rw [r 0 (by decide), r 4 (by decide)]
        refine ⟨fun _ _ => rfl, by omega, ?_, fun q hq => by rw [e, spk_e, u3_rp hq, w2 q hq], fun c hc => r c (by omega), fun _ _ => ⟨rfl, rfl⟩, Or.inl ⟨ea, rfl⟩, ?_, ?_⟩
        · rw [e, spk_e, u3_no (by decide), u3_no (by decide), u3_eq, e32, w4 30 (by decide) (by decide), w4 31 (by decide) (by decide)]
          omega
        · rw [e, spk_e, u3_no (by decide), w3]
          omega
        · rw [e, spk_e, u3_no (by decide), w4 28 (by decide) (by decide)]
    · have hn : 0 < S 5 k 29 := by omega
      have mj := mo'.2.2.2.2.2.2.2 0 (by omega) hn
      have jk := h5.2.1.1 k 0 hk.1 hk.2 (by omega) hn
      have jk0 : S 5 k 37 = 0 → S 3 (S 5 k 33) 3 = 1 ∧ (S 5 k 34) < S 5 k 35 ∧ S 5 k 35 ≤ S 3 (S 5 k 33) 4 := jk.1
      have jk1 : S 5 k 37 ≠ 0 → (S 3 (S 5 k 33) 3 = 0 → (S 5 k 34) = 0) ∧ (S 3 (S 5 k 33) 3 = 1 → (S 5 k 34) < S 3 (S 5 k 33) 4) := jk.2
      have bh : bhd S k 0 = if S 5 k 37 = 0 then S 5 k 35 else if S 3 (S 5 k 33) 3 = 0 then -1 else S 3 (S 5 k 33) 4 := rfl
      have h34 : 0 ≤ (S 5 k 34) ∧ (S 5 k 34) < 40 := mj.2.1
      have a4 := (h0.2.2.2.1 (S 5 k 33) mj.1).2.2.2.2.2.2.2
      have w37 : S 5 k 37 ≠ 0 := fun w => by
        have := (jk0 w).2.1
        rw [bh, if_pos w] at q3
        omega
      have s3 : S 3 (S 5 k 33) 3 = 0 := by
        rw [bh, if_neg w37] at q3
        by_cases s0 : S 3 (S 5 k 33) 3 = 0
        · exact s0
        · rw [if_neg s0] at q3
          omega
      obtain ⟨T0, T5⟩ := okT_st h0 h5 hk hn w37 s3 q4
      have l0 := (jk1 w37).1 s3
      have v40 : ((tbS S (S 5 k 33) (S 0 0 0)) 0).2.1 ≤ 40 := by
        have ip : isP S (S 5 k 33) := mj.1
        have ip' : isP (stL S (S 5 k 33) (tbS S (S 5 k 33) (S 0 0 0))) (S 5 k 33) := by
          unfold isP
          have s0 : stL S (S 5 k 33) (tbS S (S 5 k 33) (S 0 0 0)) 0 = S 0 := by
            funext q i
            exact if_neg (fun z => absurd z.1 (by decide))
          have s2 : stL S (S 5 k 33) (tbS S (S 5 k 33) (S 0 0 0)) 2 = S 2 := by
            funext q i
            exact if_neg (fun z => absurd z.1 (by decide))
          rw [s0, s2]
          exact ip
        have w := (T0.2.2.2.1 (S 5 k 33) ip').2.2.2.2.2.2.2.2
        have e4 : stL S (S 5 k 33) (tbS S (S 5 k 33) (S 0 0 0)) 3 (S 5 k 33) 4 = ((tbS S (S 5 k 33) (S 0 0 0)) 0).2.1 := (if_pos ⟨rfl, rfl⟩).trans ((if_neg (by decide)).trans (if_pos rfl))
        rw [e4] at w
        exact w
      obtain ⟨v1, v2, v3, v4, v5, v6⟩ := stL_v (S := S) (p := (S 5 k 33)) (T := (tbS S (S 5 k 33) (S 0 0 0))) v40
      have s5 : stL S (S 5 k 33) (tbS S (S 5 k 33) (S 0 0 0)) 5 = S 5 := v1 5 (by decide)
      have s0 : stL S (S 5 k 33) (tbS S (S 5 k 33) (S 0 0 0)) 0 = S 0 := v1 0 (by decide)
      have s4 : stL S (S 5 k 33) (tbS S (S 5 k 33) (S 0 0 0)) 4 = S 4 := v1 4 (by decide)
      have ip' : isP (stL S (S 5 k 33) (tbS S (S 5 k 33) (S 0 0 0))) (S 5 k 33) := by
        unfold isP
        rw [s0, v1 2 (by decide)]
        exact mj.1
      have L := ((T0.2.2.2.1 (S 5 k 33) ip').2.2.2.2.2.2.1 v3).1
      have R := okT_run (S := stL S (S 5 k 33) (tbS S (S 5 k 33) (S 0 0 0))) T0 T5 (k := k) (by rw [s0]; exact hk) (by rw [s5]; exact hn) (by rw [s5]; exact v3) (by rw [s5, l0]; omega) (by unfold sm3; rw [s5]; exact hs) rr
      refine ⟨R.1, R.2.1, ?_⟩
      have t := R.2.2
      unfold tuL sm3 at t ⊢
      rw [s0, s4, s5] at t
      refine ⟨t.1, t.2.1, t.2.2.1, t.2.2.2.1, fun c hc => ?_, t.2.2.2.2.2⟩
      rw [t.2.2.2.2.1 c hc, v1 c (by omega)]
    · have hn : 0 < S 5 k 29 := by omega
      have mj := mo'.2.2.2.2.2.2.2 0 (by omega) hn
      have jk := h5.2.1.1 k 0 hk.1 hk.2 (by omega) hn
      have jk0 : S 5 k 37 = 0 → S 3 (S 5 k 33) 3 = 1 ∧ (S 5 k 34) < S 5 k 35 ∧ S 5 k 35 ≤ S 3 (S 5 k 33) 4 := jk.1
      have jk1 : S 5 k 37 ≠ 0 → (S 3 (S 5 k 33) 3 = 0 → (S 5 k 34) = 0) ∧ (S 3 (S 5 k 33) 3 = 1 → (S 5 k 34) < S 3 (S 5 k 33) 4) := jk.2
      have bh : bhd S k 0 = if S 5 k 37 = 0 then S 5 k 35 else if S 3 (S 5 k 33) 3 = 0 then -1 else S 3 (S 5 k 33) 4 := rfl
      have h34 : 0 ≤ (S 5 k 34) ∧ (S 5 k 34) < 40 := mj.2.1
      have a3 := (h0.2.2.2.1 (S 5 k 33) mj.1).2.2.2.2.1
      have set : S 3 (S 5 k 33) 3 = 1 ∧ (S 5 k 34) < S 3 (S 5 k 33) 4 := by
        by_cases w : S 5 k 37 = 0
        · have := jk0 w
          omega
        · have q := jk1 w
          rw [bh, if_neg w] at q3
          by_cases s0 : S 3 (S 5 k 33) 3 = 0
          · rw [if_pos s0] at q3
            omega
          · exact ⟨by omega, q.2 (by omega)⟩
      exact okT_run h0 h5 hk hn set.1 ⟨h34.1, set.2⟩ hs rr
  obtain ⟨A0, A5, At⟩ := one
  -- the notes
  have two : okT0 (fx5 S k S1) ∧ okT5 (fx5 S k S1) ∧ tuL S (fx5 S k S1) k a := by
    unfold fx5
    by_cases c : (S 5 k 28 = 0 ∧ S 5 k 29 ≠ 0) ∧ S1 5 k 29 = S 5 k 29 ∧ S1 5 k 37 ≠ 0
    · rw [if_pos c]
      have e03 : S1 0 0 3 = S 0 0 3 := At.1 3 (by decide)
      have hn1 : 0 < S1 5 k 29 := by rw [c.2.1]; omega
      have mj1 := (A5.1 k hk.1 (by omega)).2.2.2.2.2.2.2 0 (by omega) hn1
      have i1 : isP S1 (S1 5 k 33) := mj1.1
      have w4 := (A0.2.2.2.1 _ i1).2.2.2.2.2.2.2
      refine ⟨okT0_c (fun c hc _ => u3_r hc) A0, okT5_j (by rw [e03]; exact hk) (by rw [e03]; omega) hn1 (Or.inr ⟨rfl, w4, c.2.2⟩) A5, tuL_5 At (fun c hc _ => u3_r hc) (fun q hq => u3_rp hq) ?_ (u3_no (by decide)) (u3_no (by decide))⟩
      unfold sm3
      rw [u3_no (by decide), u3_no (by decide), u3_no (by decide)]
    · rw [if_neg c]
      exact ⟨A0, A5, At⟩
  obtain ⟨B0, B5, Bt⟩ := two
  unfold msF rwW
  by_cases c : a = -1
  · rw [if_pos c]
    exact ⟨B0, B5, Bt⟩
  · rw [if_neg c]
    refine ⟨okT0_c (fun c _ hc => u3_r hc) B0, okT5_c (fun c _ hc => u3_r hc) B5, tuL_5 Bt (fun c _ hc => u3_r hc) (fun q _ => by rw [u3_r (by decide)]) ?_ (u3_nc (by decide)) (u3_nc (by decide))⟩
    unfold sm3
    rw [u3_r (by decide)]
