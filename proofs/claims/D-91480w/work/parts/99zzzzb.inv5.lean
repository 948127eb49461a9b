set_option maxRecDepth 100000
/-! minutes keep what holds -/
def chr (l : List Int) : Prop := ∀ i : Nat, i < l.length → 0 ≤ gt l i ∧ gt l i ≤ 122
theorem chr_ap {l m : List Int} (h : chr l) (g : chr m) : chr (l ++ m) := by
  intro i hi
  by_cases c : i < l.length
  · rw [gt_app1 l i c]
    exact h i c
  · have e : i = l.length + (i - l.length) := by omega
    rw [List.length_append] at hi
    rw [e, gt_app2]
    exact g _ (by omega)
theorem chr_1 {x : Int} (h : 0 ≤ x ∧ x ≤ 122) : chr [x] := by
  intro i hi
  have e : i = 0 := by
    have : i < 1 := hi
    omega
  rw [e]
  exact h
theorem chr_0 : chr [] := fun i hi => absurd hi (Nat.not_lt_zero i)
theorem chr_pcp {v : Int → Int} (ho : okP v) {k : Int} (hk : 0 ≤ k ∧ k < 40) : ∀ n : Nat, n ≤ 12 → chr (pcp v k n)
  | 0, _ => chr_0
  | n + 1, hn => by
    have q := ho.2.2 k n hk.1 hk.2 (by omega) (by omega)
    exact chr_ap (chr_pcp ho hk n (by omega)) (chr_1 (by omega))
theorem chr_sayN {v : Int → Int} (ho : okP v) {a : Int} (ha : 0 ≤ a) : ∀ n : Nat, a + n ≤ 40 → chr (sayN v a n)
  | 0, _ => chr_0
  | n + 1, hn => by
    have q := (ho.2.1 (a + n) (by omega) (by omega)).1
    refine chr_ap (chr_ap (chr_sayN ho ha n (by omega)) ?_) (chr_pcp ho ⟨by omega, by omega⟩ _ (by omega))
    unfold sep
    split
    · exact chr_1 (by decide)
    · exact chr_0
theorem chr_lnS {v : Int → Int} (ho : okP v) {l : Int} (ha : 0 ≤ bg v l ∧ bg v l ≤ v (5 + l)) (hz : v (5 + l) < 40) : chr (lnS v l) := by
  unfold lnS say
  refine chr_ap (chr_sayN ho ha.1 _ (by omega)) ?_
  split
  · exact chr_0
  · exact chr_1 (by decide)
theorem ptS_v {S : am_G} {s p l : Int} : (∀ q o, o ≠ 4 → o ≠ 5 → o ≠ 6 → ptS S s p l 4 q o = S 4 q o) ∧ (∀ q, q ≠ p → ptS S s p l 3 q = S 3 q) := by
  unfold ptS
  refine ⟨fun q o o4 o5 o6 => ?_, fun q hq => ?_⟩
  · rw [u3_nc (by decide), u3_no o6, u3_no o5]
    split
    · rfl
    · rw [u3_no o6, u3_no o5, u3_no o4]
  · rw [u3_rp hq, u3_r (by decide), u3_r (by decide)]
    split
    · rfl
    · rw [u3_r (by decide), u3_r (by decide), u3_r (by decide)]
theorem run_tx {S S' : am_G} {k a : Int} (rr : runR S k S' a) (ho : okP (S 3 (S 5 k 33))) (hb : 0 ≤ bg (S 3 (S 5 k 33)) (S 5 k 34) ∧ bg (S 3 (S 5 k 33)) (S 5 k 34) ≤ S 3 (S 5 k 33) (5 + (S 5 k 34))) (hz : S 3 (S 5 k 33) (5 + (S 5 k 34)) < 40) (hm : ((lnS (S 3 (S 5 k 33)) (S 5 k 34)).length : Int) ≤ 420) (hX : okTx S) : (∀ q, q ≠ (S 5 k 33) → S' 3 q = S 3 q) ∧ okTx S' := by
  rcases rr with ⟨_, e, _⟩ | ⟨_, _, e, _⟩ | ⟨_, _, e, _⟩
  · have r : ∀ c, c ≠ 5 → S' c = S c := fun c hc => by rw [e, spk_e, u3_r hc, (awy_c (S := S) (k := k)).1 c hc]
    exact ⟨fun q _ => by rw [r 3 (by decide)], cg_Tx (by rw [r 0 (by decide)]) (r 4 (by decide)) hX⟩
  · have r : ∀ c, c ≠ 5 → S' c = S c := fun c hc => by rw [e, u3_r hc]
    exact ⟨fun q _ => by rw [r 3 (by decide)], cg_Tx (by rw [r 0 (by decide)]) (r 4 (by decide)) hX⟩
  · have ce : ∀ c, c ≠ 5 → S' c = csS S k c := fun c hc => by
      rw [e]
      unfold csE
      split
      · exact (awy_c (S := csS S k) (k := k)).1 c hc
      · rfl
    have cc := chr_lnS ho hb hz
    have cs : ∀ c, c ≠ 5 → csS S k c = ptS (csA S (lnS (S 3 (S 5 k 33)) (S 5 k 34)) (S 5 k 33) k (S 5 k 34) (S 5 k 36)) (S 0 0 4) (S 5 k 33) (S 5 k 34) c := fun c hc => by
      unfold csS
      rw [u3_r hc, u3_r hc]
    generalize lnS (S 3 (S 5 k 33)) (S 5 k 34) = m at hm cc cs
    obtain ⟨w1, w2, w3, w4, w5, w6, w7, w8, w9, w10, w11, w12, w13, w14, w15, w16, w17⟩ := csA_v (S := S) (p := (S 5 k 33)) (k := k) (l := (S 5 k 34)) (co := S 5 k 36) hm
    generalize csA S m (S 5 k 33) k (S 5 k 34) (S 5 k 36) = A at *
    obtain ⟨p1, p2⟩ := ptS_v (S := A) (s := S 0 0 4) (p := (S 5 k 33)) (l := (S 5 k 34))
    have p0 := (ptS_r (S := A) (s := S 0 0 4) (p := (S 5 k 33)) (l := (S 5 k 34))).1 0 (by decide) (by decide)
    have e04 : S' 0 0 4 = S 0 0 4 + 1 := by rw [ce 0 (by decide), cs 0 (by decide), p0, w3]
    have e4 : ∀ q o, o ≠ 4 → o ≠ 5 → o ≠ 6 → S' 4 q o = A 4 q o := fun q o o4 o5 o6 => by rw [ce 4 (by decide), cs 4 (by decide), p1 q o o4 o5 o6]
    refine ⟨fun q hq => by rw [ce 3 (by decide), cs 3 (by decide), p2 q hq, w1 3 (by decide) (by decide)], fun s j s0 s1 j0 j1 => ?_⟩
    rw [e4 s 9 (by decide) (by decide) (by decide)] at j1
    rw [e4 s _ (by omega) (by omega) (by omega)]
    rw [e04] at s1
    by_cases c : s = S 0 0 4
    · rw [c, w14] at j1
      have q := (w17 j.toNat (by omega)).2
      have ej : ((j.toNat : Nat) : Int) = j := by omega
      rw [ej] at q
      rw [c, q]
      exact cc j.toNat (by omega)
    · rw [w4 s c] at j1 ⊢
      exact hX s j s0 (by omega) j0 j1
theorem tur_tx {S S1 : am_G} {k a : Int} (h0 : okT0 S) (h5 : okT5 S) (hk : 0 ≤ k ∧ k < S 0 0 3) (tr : turR S k S1 a) (hX : okTx S) : (∀ q, ¬ isP S q → S1 3 q = S 3 q) ∧ okTx S1 := by
  have hA := h0.2.2.2.1
  have hM := h5.1
  have c3 := h0.1.2.2.1
  have mk := hM k hk.1 (by omega)
  have jb : S 5 k 29 ≠ 0 → isP S (S 5 k 33) ∧ (0 ≤ (S 5 k 34) ∧ (S 5 k 34) < 40) := fun hn => by
    have mj := mk.2.2.2.2.2.2.2 0 (by omega) (by have := mk.2.2.2.1; omega)
    exact ⟨mj.1, mj.2.1⟩
  have jk := fun hn => h5.2.1.1 k 0 hk.1 hk.2 (by omega) hn
  have run : ∀ T : am_G, okT0 T → T 5 = S 5 → (∀ q, isP T q ↔ isP S q) → S 5 k 29 ≠ 0 → T 3 (S 5 k 33) 3 = 1 → (S 5 k 34) < T 3 (S 5 k 33) 4 → okTx T → runR T k S1 a → (∀ q, ¬ isP S q → S1 3 q = T 3 q) ∧ okTx S1 := fun T t0 t5 tp hn s3 hl hX rr => by
    obtain ⟨j1, j2⟩ := jb hn
    have ap := t0.2.2.2.1 (S 5 k 33) ((tp _).2 j1)
    have oL := ap.2.2.2.2.2.2.1 s3
    have q := oL.2.2 (S 5 k 34) j2.1 hl
    have o1 := ap.1.1
    have e33 : T 5 k 33 = (S 5 k 33) := by rw [t5]
    have e34 : T 5 k 34 = (S 5 k 34) := by rw [t5]
    have z := run_tx rr (by rw [e33]; exact ap.1) (by rw [e33, e34]; exact ⟨q.1.1, q.1.2.1⟩) (by rw [e33, e34]; omega) (by rw [e33, e34]; exact q.2.1) hX
    rw [e33] at z
    exact ⟨fun q hq => z.1 q (fun e => hq (by rw [e]; exact j1)), z.2⟩
  rcases tr with ⟨_, e, _⟩ | ⟨_, _, _, _, e, _⟩ | ⟨q1, q2, q3, q4, rr⟩ | ⟨q1, q2, q3, rr⟩
  · rw [e]
    exact ⟨fun _ _ => rfl, hX⟩
  · have r : ∀ c, c ≠ 5 → S1 c = S c := fun c hc => by rw [e, spk_e, u3_r hc, (awy_c (S := S) (k := k)).1 c hc]
    exact ⟨fun q _ => by rw [r 3 (by decide)], cg_Tx (by rw [r 0 (by decide)]) (r 4 (by decide)) hX⟩
  · have hn : 0 < S 5 k 29 := by
      have := mk.2.2.2.1
      omega
    obtain ⟨j1, j2⟩ := jb q2
    have ap := hA _ j1
    have jk' := jk hn
    have jk0 : S 5 k 37 = 0 → S 3 (S 5 k 33) 3 = 1 ∧ (S 5 k 34) < S 5 k 35 ∧ S 5 k 35 ≤ S 3 (S 5 k 33) 4 := jk'.1
    have jk1 : S 5 k 37 ≠ 0 → (S 3 (S 5 k 33) 3 = 0 → (S 5 k 34) = 0) ∧ (S 3 (S 5 k 33) 3 = 1 → (S 5 k 34) < S 3 (S 5 k 33) 4) := jk'.2
    have bh : bhd S k 0 = if S 5 k 37 = 0 then S 5 k 35 else if S 3 (S 5 k 33) 3 = 0 then -1 else S 3 (S 5 k 33) 4 := rfl
    have w37 : S 5 k 37 ≠ 0 := fun w => by
      have := (jk0 w).2.1
      rw [if_pos w] at bh
      omega
    have s3 : S 3 (S 5 k 33) 3 = 0 := by
      rw [if_neg w37] at bh
      by_cases c : S 3 (S 5 k 33) 3 = 0
      · exact c
      · rw [if_neg c] at bh
        have := ap.2.2.2.2.2.2.2
        omega
    have T0 := okT_st h0 h5 hk hn w37 s3 q4
    have sv : ∀ c, c ≠ 3 → stL S (S 5 k 33) (tbS S (S 5 k 33) (S 0 0 0)) c = S c := fun c hc => by
      funext q i
      exact if_neg (fun z => hc z.1)
    have sq : ∀ q, q ≠ (S 5 k 33) → stL S (S 5 k 33) (tbS S (S 5 k 33) (S 0 0 0)) 3 q = S 3 q := fun q hq => by
      funext i
      exact if_neg (fun z => hq z.2)
    have s33 : stL S (S 5 k 33) (tbS S (S 5 k 33) (S 0 0 0)) 3 (S 5 k 33) 3 = 1 := by
      unfold stL
      rw [if_pos ⟨rfl, rfl⟩, if_pos rfl]
    generalize stL S (S 5 k 33) (tbS S (S 5 k 33) (S 0 0 0)) = T at *
    have iP : ∀ q, isP T q ↔ isP S q := fun q => cg_P (by rw [sv 0 (by decide)]) (sv 2 (by decide))
    have apT := T0.1.2.2.2.1 (S 5 k 33) ((iP _).2 j1)
    have n4 := (apT.2.2.2.2.2.2.1 s33).1.1
    have z := run T T0.1 (sv 5 (by decide)) iP q2 s33 (by have := (jk1 w37).1 s3; omega) (cg_Tx (by rw [sv 0 (by decide)]) (sv 4 (by decide)) hX) rr
    exact ⟨fun q hq => (z.1 q hq).trans (sq q (fun e => hq (by rw [e]; exact j1))), z.2⟩
  · have hn : 0 < S 5 k 29 := by
      have := mk.2.2.2.1
      omega
    obtain ⟨j1, j2⟩ := jb q2
    have ap := hA _ j1
    have jk' := jk hn
    have jk0 : S 5 k 37 = 0 → S 3 (S 5 k 33) 3 = 1 ∧ (S 5 k 34) < S 5 k 35 ∧ S 5 k 35 ≤ S 3 (S 5 k 33) 4 := jk'.1
    have jk1 : S 5 k 37 ≠ 0 → (S 3 (S 5 k 33) 3 = 0 → (S 5 k 34) = 0) ∧ (S 3 (S 5 k 33) 3 = 1 → (S 5 k 34) < S 3 (S 5 k 33) 4) := jk'.2
    have bh : bhd S k 0 = if S 5 k 37 = 0 then S 5 k 35 else if S 3 (S 5 k 33) 3 = 0 then -1 else S 3 (S 5 k 33) 4 := rfl
    have sl : S 3 (S 5 k 33) 3 = 1 ∧ (S 5 k 34) < S 3 (S 5 k 33) 4 := by
      by_cases w : S 5 k 37 = 0
      · have := jk0 w
        exact ⟨this.1, by omega⟩
      · rw [if_neg w] at bh
        have c5 := ap.2.2.2.2.1
        by_cases c : S 3 (S 5 k 33) 3 = 0
        · rw [if_pos c] at bh
          omega
        · have c1 : S 3 (S 5 k 33) 3 = 1 := by omega
          exact ⟨c1, (jk1 w).2 c1⟩
    exact run S h0 rfl (fun _ => Iff.rfl) q2 sl.1 sl.2 hX rr
/-- what else holds of a state is kept by a turn -/
def okK (S : am_G) : Prop := (okH S ∧ okE S ∧ okTe S ∧ okTx S) ∧ okNx S
theorem okK_s {S S1 : am_G} {k a : Int} (h0 : okT0 S) (h5 : okT5 S) (hk : 0 ≤ k ∧ k < S 0 0 3) (tr : turR S k S1 a) (t : tuL S (msF S k S1 a) k a) (h : okK S) : okK (msF S k S1 a) := by
  obtain ⟨⟨hH, hE, hT, hX⟩, nx⟩ := h
  obtain ⟨z1, z2⟩ := tur_tx h0 h5 hk tr hX
  have mc : ∀ c, c ≠ 5 → c ≠ 10 → msF S k S1 a c = S1 c := fun c c5 c10 => by
    have e1 : ∀ A : am_G, rwW A k a c = A c := fun A => by
      unfold rwW
      split
      · rfl
      · rw [u3_r c10]
    have e2 : fx5 S k S1 c = S1 c := by
      unfold fx5
      split
      · rw [u3_r c5]
      · rfl
    unfold msF
    rw [e1, e2]
  have m0 := mc 0 (by decide) (by decide)
  have m3 := mc 3 (by decide) (by decide)
  have m4 := mc 4 (by decide) (by decide)
  generalize msF S k S1 a = T at *
  obtain ⟨t1, t2, t3, t4, t5, t6, t7, t8, t9⟩ := t
  have iP : ∀ q, isP T q ↔ isP S q := fun q => cg_P (t1 1 (by decide)) (t5 2 (by omega))
  refine ⟨⟨cg_H (t5 8 (by omega)) hH, cg_E (t1 6 (by decide)) (t5 9 (by omega)) hE, cg_Te (t1 5 (by decide)) (t5 7 (by omega)) hT, cg_Tx (by rw [m0]) m4 z2⟩, fun q q0 q1 => ?_, fun p p0 p1 np => ?_⟩
  · rw [t1 3 (by decide)] at q0
    rw [t4 q (by omega)]
    exact nx.1 q q0 q1
  · have n1 : ¬ isP S p := fun z => np ((iP p).2 z)
    rw [m3, z1 p n1]
    exact nx.2 p p0 p1 n1
theorem okK_m {S : am_G} (hC : okC S) (h0 : okMn (mnS S) 0) (h : okK S) : ∀ k : Nat, (k : Int) ≤ S 0 0 3 → ∀ S', mnR (mnS S) k S' → okK S'
  | 0, _, S', e => by
    obtain ⟨v1, v2, v3, v4, v5, v6, v7, v8⟩ := mnS_v (S := S) hC.2.2.2.2.2
    obtain ⟨⟨hH, hE, hT, hX⟩, nx⟩ := h
    have e' : S' = mnS S := e
    rw [e']
    exact ⟨⟨cg_H (v1 8 (by decide) (by decide)) hH, cg_E (v4 6 (by decide) (by decide)) (v1 9 (by decide) (by decide)) hE, cg_Te (v4 5 (by decide) (by decide)) (v1 7 (by decide) (by decide)) hT, cg_Tx (v4 4 (by decide) (by decide)) (v1 4 (by decide) (by decide)) hX⟩, cg_Nx (v4 1 (by decide) (by decide)) (v4 3 (by decide) (by decide)) (v1 2 (by decide) (by decide)) (v1 3 (by decide) (by decide)) (v1 5 (by decide) (by decide)) nx⟩
  | k + 1, hk, S', ⟨A, A1, a, h1, h2, h3⟩ => by
    obtain ⟨v1, v2, v3, v4, v5, v6, v7, v8⟩ := mnS_v (S := S) hC.2.2.2.2.2
    have e03 : mnS S 0 0 3 = S 0 0 3 := v4 3 (by decide) (by decide)
    have ih := mnR_ok h0 k (by rw [e03]; omega) A h1
    have i2 := okK_m hC h0 h k (by omega) A h1
    have e3 : A 0 0 3 = S 0 0 3 := (ih.2 3 (by decide)).trans e03
    have c3 := hC.2.2.1
    have hk' : 0 ≤ (k : Int) ∧ (k : Int) < A 0 0 3 := by omega
    have q := okMn_s hk' ih.1 h2
    rw [h3]
    exact okK_s ih.1.1 ih.1.2.1 hk' h2 q.2 i2
/-- a minute -/
theorem I_minute {S S' : am_G} (hn : S 0 0 0 < 600) (m : mnR (mnS S) (S 0 0 3).toNat S') (h : okI S) : okI S' := by
  obtain ⟨o, r, k⟩ := h
  have c3 := o.1.1.2.2.1
  have q := okK_m o.1.1 (okMn_0 o.1 o.2.1 hn o.2.2) k (S 0 0 3).toNat (by omega) S' m
  exact ⟨(okMs_m o hn m).1, okR_m o r hn m, q⟩
theorem I_minutes {S : am_G} (h : okI S) : ∀ (n : Nat) (S' : am_G), mnsR S n S' → okI S'
  | 0, S', e => by
    have e' : S' = S := e
    rw [e']
    exact h
  | n + 1, S', ⟨A, h1, h2⟩ => by
    have i := I_minutes h n A h1
    rcases h2 with ⟨c, m⟩ | ⟨c, e⟩
    · exact I_minute c m i
    · rw [e]
      exact i
