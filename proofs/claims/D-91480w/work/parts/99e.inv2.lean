set_option maxRecDepth 100000
theorem okN_c {v v' : Int → Int} (e : ∀ o, 85 ≤ o → v' o = v o) (e1 : v' 1 = v 1) (h : okN v) : okN v' := by
  refine ⟨by rw [e 85 (by omega)]; exact h.1, fun k k1 k2 => ?_⟩
  rw [e1] at k2
  have a := e (86 + k) (by omega)
  have b := e (85 + k) (by omega)
  have c := h.2 k k1 k2
  have d := am_bc (ew_c e e1 k1)
  omega
theorem okP_c {v v' : Int → Int} (e : ∀ o, 85 ≤ o → v' o = v o) (e1 : v' 1 = v 1) (h : okP v) : okP v' := by
  refine ⟨by rw [e1]; exact h.1, fun k k1 k2 => ?_, fun k i k1 k2 i1 i2 => ?_⟩
  · rw [e _ (by omega), e _ (by omega)]
    exact h.2.1 k k1 k2
  · rw [e _ (by omega)]
    exact h.2.2 k i k1 k2 i1 i2
/-- a part is set -/
theorem okT_st {S : am_G} {k : Int} (h0 : okT0 S) (h5 : okT5 S) (hk : 0 ≤ k ∧ k < S 0 0 3) (hn : 0 < S 5 k 29) (w37 : S 5 k 37 ≠ 0) (s3 : S 3 (S 5 k 33) 3 = 0) (nn : ((tbS S (S 5 k 33) (S 0 0 0)) 0).1 ≠ -1) : okT0 (stL S (S 5 k 33) (tbS S (S 5 k 33) (S 0 0 0))) ∧ okT5 (stL S (S 5 k 33) (tbS S (S 5 k 33) (S 0 0 0))) := by
  obtain ⟨hC, hF, hG, hA, hY, hY1, hW, hg, h00, hX⟩ := h0
  obtain ⟨hM, hJ, hJg⟩ := h5
  have c3 := hC.2.2.1
  have mo' := hM k hk.1 (by omega)
  have mj := mo'.2.2.2.2.2.2.2 0 (by omega) hn
  have ip : isP S (S 5 k 33) := mj.1
  have pb := isP_bd hC hF ip
  have ap := hA (S 5 k 33) ip
  have p1 := ap.1.1
  have okw := hW _ pb.2.2.1.1 pb.2.2.1.2
  have tl := tells_bd (p := (S 5 k 33)) (mi := S 0 0 0) hY
  have le1 := leS_1 (p := (S 5 k 33)) (mi := S 0 0 0) hY hY1
  have nl := nx_ln ap.1 okw ap.2.1 tl.1 tl.2.1 le1 tl.2.2.2.1 (mo := moS S (S 5 k 33) (S 0 0 0)) nn
  have nl1 : 1 ≤ ((tbS S (S 5 k 33) (S 0 0 0)) 0).2.1 ∧ ((tbS S (S 5 k 33) (S 0 0 0)) 0).2.1 ≤ S 3 (S 5 k 33) 1 := nl.1
  have nl2 : ∀ l, 0 ≤ l → l < ((tbS S (S 5 k 33) (S 0 0 0)) 0).2.1 → (0 ≤ nx (tbS S (S 5 k 33) (S 0 0 0)) l.toNat 0 ∧ nx (tbS S (S 5 k 33) (S 0 0 0)) l.toNat 0 < nx (tbS S (S 5 k 33) (S 0 0 0)) (l.toNat + 1) 0 ∧ nx (tbS S (S 5 k 33) (S 0 0 0)) (l.toNat + 1) 0 ≤ S 3 (S 5 k 33) 1) ∧ ((say (S 3 (S 5 k 33)) (nx (tbS S (S 5 k 33) (S 0 0 0)) l.toNat 0) (nx (tbS S (S 5 k 33) (S 0 0 0)) (l.toNat + 1) 0 - 1)).length : Int) ≤ 400 := nl.2.1
  have nl3 : nx (tbS S (S 5 k 33) (S 0 0 0)) ((tbS S (S 5 k 33) (S 0 0 0)) 0).2.1.toNat 0 = S 3 (S 5 k 33) 1 := nl.2.2
  have gv : S 3 (S 5 k 33) 2 = 1 := hJg k 0 hk.1 hk.2 (by omega) hn
  have jk := (hJ.1 k 0 hk.1 hk.2 (by omega) hn).2 w37
  have l0 : (S 5 k 34) = 0 := jk.1 s3
  clear nl
  generalize (tbS S (S 5 k 33) (S 0 0 0)) = T at *
  obtain ⟨v1, v2, v3, v4, v5, v6⟩ := stL_v (S := S) (p := (S 5 k 33)) (T := T) (by omega)
  have s5 : stL S (S 5 k 33) T 5 = S 5 := v1 5 (by decide)
  have s0 : stL S (S 5 k 33) T 0 = S 0 := v1 0 (by decide)
  have s2 : stL S (S 5 k 33) T 2 = S 2 := v1 2 (by decide)
  have s4 : stL S (S 5 k 33) T 4 = S 4 := v1 4 (by decide)
  have s6 : stL S (S 5 k 33) T 6 = S 6 := v1 6 (by decide)
  have s1 : stL S (S 5 k 33) T 1 = S 1 := v1 1 (by decide)
  have ei : ∀ q, isP (stL S (S 5 k 33) T) q ↔ isP S q := fun q => by
    unfold isP
    rw [s0, s2]
  have v6' : ∀ o, 85 ≤ o → stL S (S 5 k 33) T 3 (S 5 k 33) o = S 3 (S 5 k 33) o := fun o ho => v6 o (Or.inr ho)
  have ebg : ∀ l, 0 ≤ l → l < (T 0).2.1 → bg (stL S (S 5 k 33) T 3 (S 5 k 33)) l = nx T l.toNat 0 := fun l l1 l2 => by
    unfold bg
    by_cases c0 : l = 0
    · rw [if_pos c0, c0]
      rfl
    · rw [if_neg c0]
      have q := (v5 (l - 1) (by omega) (by omega)).1
      have e1 : (5 + (l - 1) : Int) = 4 + l := by omega
      have e2 : (l - 1).toNat + 1 = l.toNat := by omega
      rw [e1, e2] at q
      rw [q]
      omega
  have g04 := hG.1
  constructor
  · refine ⟨by unfold okC; rw [s0]; exact hC, by unfold okF; rw [s0, s2]; exact hF, by unfold okG; rw [s0, s4]; exact hG, fun q iq => ?_, by unfold okY; rw [s0, s6]; exact hY, by unfold okY1; rw [s0, s6]; exact hY1, by unfold okWs; rw [s1]; exact hW, fun s s1' s2' => ?_, by unfold ok0; rw [s4]; exact h00, fun q iq q3 l l1 l2 l3 => ?_⟩
    · have aq := hA q ((ei q).mp iq)
      by_cases e : q = (S 5 k 33)
      · rw [e, v6 0 (by omega), v6 1 (by omega), v6 2 (by omega), v3, v4, v6' (84 + S 3 (S 5 k 33) 1) (by omega)]
        refine ⟨okP_c v6' (v6 1 (by omega)) ap.1, okN_c v6' (v6 1 (by omega)) ap.2.1, ap.2.2.1, ap.2.2.2.1, Or.inr rfl, fun _ => gv, fun _ => ⟨?_, ?_, fun l l1 l2 => ?_⟩, by omega⟩
        · rw [v4, v6 1 (by omega)]
          exact nl1
        · rw [v4, v6 1 (by omega)]
          have q := (v5 ((T 0).2.1 - 1) (by omega) (by omega)).1
          have e1 : (5 + ((T 0).2.1 - 1) : Int) = 4 + (T 0).2.1 := by omega
          have e2 : ((T 0).2.1 - 1).toNat + 1 = (T 0).2.1.toNat := by omega
          rw [e1, e2, nl3] at q
          exact q
        · rw [v4] at l2
          have q := nl2 l l1 l2
          have w := v5 l l1 l2
          rw [ebg l l1 l2, w.1, w.2, v6 1 (by omega), s0]
          refine ⟨⟨q.1.1, by omega, by omega⟩, ?_, by omega, by omega⟩
          unfold lnS
          rw [ebg l l1 l2, w.1, say_c v6' (v6 1 (by omega)) q.1.1 (by omega)]
          omega
      · unfold okL
        rw [v2 q e, s0]
        exact aq
    · rw [s0] at s2'
      rw [s4]
      obtain ⟨o1, o2, o3, o4, o5, o6⟩ := hg s s1' s2'
      refine ⟨(ei _).mpr o1, o2, o3, o4, o5, fun z => ?_⟩
      obtain ⟨u1, u2, u3', u4⟩ := o6 z
      have ne : S 4 s 6 ≠ (S 5 k 33) := fun w => by rw [w] at u2; omega
      rw [v2 _ ne]
      exact ⟨(ei _).mpr u1, u2, u3', u4⟩
    · by_cases e : q = (S 5 k 33)
      · rw [e] at l2 l3
        rw [v4] at l2
        exact absurd (v5 l l1 l2).2 l3
      · rw [v2 q e] at q3 l2 l3 ⊢
        rw [s4]
        exact hX q ((ei q).mp iq) q3 l l1 l2 l3
  · refine ⟨by unfold okM isP; rw [s0, s2, s5]; exact hM, ⟨fun q i q1 q2 i1 i2 => ?_, by rw [s0, s5]; exact hJ.2⟩, fun q i q1 q2 i1 i2 => ?_⟩
    · rw [s0] at q2
      rw [s5] at i2 ⊢
      have w := hJ.1 q i q1 q2 i1 i2
      by_cases e : S 5 q (33 + 5 * i) = (S 5 k 33)
      · rw [e] at w ⊢
        rw [v3, v4]
        refine ⟨fun z => ?_, fun z => ⟨fun z0 => absurd z0 (by decide), fun _ => ?_⟩⟩
        · have := (w.1 z).1
          omega
        · have := (w.2 z).1 s3
          omega
      · rw [v2 _ e]
        exact w
    · rw [s0] at q2
      rw [s5] at i2 ⊢
      have w := hJg q i q1 q2 i1 i2
      by_cases e : S 5 q (33 + 5 * i) = (S 5 k 33)
      · rw [e, v6 2 (by omega)]
        exact gv
      · rw [v2 _ e]
        exact w
/-- a slug is cast and put at its place: number by number -/
theorem cx_v {S : am_G} {ml : List Int} {q k l co : Int} (hm : (ml.length : Int) ≤ 420) (hne : S 3 q (45 + l) - 1 ≠ (S 0 0 4)) : (∀ c, c ≠ 0 → c ≠ 3 → c ≠ 4 → ptS (csA S ml q k l co) (S 0 0 4) q l c = S c) ∧ ((∀ j, j ≠ 4 → ptS (csA S ml q k l co) (S 0 0 4) q l 0 0 j = S 0 0 j) ∧ ptS (csA S ml q k l co) (S 0 0 4) q l 0 0 4 = (S 0 0 4) + 1) ∧ ((∀ a o, ¬ (a = q ∧ o = 45 + l) → ptS (csA S ml q k l co) (S 0 0 4) q l 3 a o = S 3 a o) ∧ ptS (csA S ml q k l co) (S 0 0 4) q l 3 q (45 + l) = (S 0 0 4) + 1) ∧ (∀ a, a ≠ (S 0 0 4) → (S 3 q (45 + l) = 0 ∨ a ≠ S 3 q (45 + l) - 1) → ptS (csA S ml q k l co) (S 0 0 4) q l 4 a = S 4 a) ∧ (S 3 q (45 + l) ≠ 0 → ptS (csA S ml q k l co) (S 0 0 4) q l 4 (S 3 q (45 + l) - 1) 4 = 2 ∧ ∀ o, o ≠ 4 → o ≠ 5 → o ≠ 6 → ptS (csA S ml q k l co) (S 0 0 4) q l 4 (S 3 q (45 + l) - 1) o = S 4 (S 3 q (45 + l) - 1) o) ∧ (ptS (csA S ml q k l co) (S 0 0 4) q l 4 (S 0 0 4) 5 = l ∧ ptS (csA S ml q k l co) (S 0 0 4) q l 4 (S 0 0 4) 6 = q ∧ ∀ o, o ≠ 5 → o ≠ 6 → ptS (csA S ml q k l co) (S 0 0 4) q l 4 (S 0 0 4) o = csA S ml q k l co 4 (S 0 0 4) o) := by
  obtain ⟨a1, a2, a3, a4, a5⟩ := csA_v (S := S) (m := ml) (p := q) (k := k) (l := l) (co := co) hm
  have e3 : csA S ml q k l co 3 = S 3 := a1 3 (by decide) (by decide)
  generalize hA : csA S ml q k l co = A at *
  have P : ptS A (S 0 0 4) q l = u3 (u3 (u3 (if S 3 q (45 + l) = 0 then A else u3 (u3 (u3 A 4 (S 3 q (45 + l) - 1) 4 2) 4 (S 3 q (45 + l) - 1) 5 (-1)) 4 (S 3 q (45 + l) - 1) 6 (-1)) 4 (S 0 0 4) 5 l) 4 (S 0 0 4) 6 q) 3 q (45 + l) ((S 0 0 4) + 1) := by
    unfold ptS
    rw [e3]
  rw [P]
  generalize hI : (if S 3 q (45 + l) = 0 then A else u3 (u3 (u3 A 4 (S 3 q (45 + l) - 1) 4 2) 4 (S 3 q (45 + l) - 1) 5 (-1)) 4 (S 3 q (45 + l) - 1) 6 (-1)) = I
  have i1 : ∀ c, c ≠ 4 → I c = A c := fun c hc => by
    rw [← hI]
    split
    · rfl
    · rw [u3_r hc, u3_r hc, u3_r hc]
  have i2 : ∀ a, (S 3 q (45 + l) = 0 ∨ a ≠ S 3 q (45 + l) - 1) → I 4 a = A 4 a := fun a ha => by
    rw [← hI]
    split
    · rfl
    · next c =>
      have ne := ha.elim (fun z => absurd z c) id
      rw [u3_rp ne, u3_rp ne, u3_rp ne]
  refine ⟨fun c c0 c3 c4 => ?_, ⟨fun j hj => ?_, ?_⟩, ⟨fun a o ha => ?_, u3_eq⟩, fun a an ha => ?_, fun c => ⟨?_, fun o o4 o5 o6 => ?_⟩, ?_, ?_, fun o o5 o6 => ?_⟩
  · rw [u3_r c3, u3_r c4, u3_r c4, i1 c c4, a1 c c4 c0]
  · rw [u3_nc (by decide), u3_nc (by decide), u3_nc (by decide), i1 0 (by decide), a2 j hj]
  · rw [u3_nc (by decide), u3_nc (by decide), u3_nc (by decide), i1 0 (by decide), a3]
  · have e : u3 (u3 (u3 I 4 (S 0 0 4) 5 l) 4 (S 0 0 4) 6 q) 3 q (45 + l) ((S 0 0 4) + 1) 3 a o = u3 (u3 I 4 (S 0 0 4) 5 l) 4 (S 0 0 4) 6 q 3 a o := if_neg (fun z => ha z.2)
    rw [e, u3_nc (by decide), u3_nc (by decide), i1 3 (by decide), e3]
  · rw [u3_r (by decide), u3_rp an, u3_rp an, i2 a ha, a4 a an]
  · rw [u3_nc (by decide), u3_np hne, u3_np hne, ← hI, if_neg c, u3_no (by decide), u3_no (by decide), u3_eq]
  · rw [u3_nc (by decide), u3_np hne, u3_np hne, ← hI, if_neg c, u3_no o6, u3_no o5, u3_no o4, a4 _ hne]
  · rw [u3_nc (by decide), u3_no (by decide), u3_eq]
  · rw [u3_nc (by decide), u3_eq]
  · rw [u3_nc (by decide), u3_no o6, u3_no o5, i2 _ (Or.inr (fun z => hne z.symm))]
/-- a slug is cast: the state is right -/
theorem okT_cs {S : am_G} {k : Int} (h0 : okT0 S) (h5 : okT5 S) (hk : 0 ≤ k ∧ k < S 0 0 3) (hn : 0 < S 5 k 29) (set : S 3 (S 5 k 33) 3 = 1) (hl : 0 ≤ (S 5 k 34) ∧ (S 5 k 34) < S 3 (S 5 k 33) 4) (h300 : (S 0 0 4) < 300) : okT0 (ptS (csA S (lnS (S 3 (S 5 k 33)) (S 5 k 34)) (S 5 k 33) k (S 5 k 34) (S 5 k 36)) (S 0 0 4) (S 5 k 33) (S 5 k 34)) ∧ okT5 (ptS (csA S (lnS (S 3 (S 5 k 33)) (S 5 k 34)) (S 5 k 33) k (S 5 k 34) (S 5 k 36)) (S 0 0 4) (S 5 k 33) (S 5 k 34)) := by
  obtain ⟨hC, hF, hG, hA, hY, hY1, hW, hg, h00, hX⟩ := h0
  obtain ⟨hM, hJ, hJg⟩ := h5
  have c3 := hC.2.2.1
  have c0 := hC.1
  have mo' := hM k hk.1 (by omega)
  have mj := mo'.2.2.2.2.2.2.2 0 (by omega) hn
  have ip : isP S (S 5 k 33) := mj.1
  have pb := isP_bd hC hF ip
  have ap := hA (S 5 k 33) ip
  have a4 := ap.2.2.2.2.2.2.2
  have al := (ap.2.2.2.2.2.2.1 set).2.2 (S 5 k 34) hl.1 hl.2
  have hm := al.2.1
  have h45 := al.2.2
  have co01 : S 5 k 36 = 0 ∨ S 5 k 36 = 1 := mj.2.2.2.1
  have g04 := hG.1
  have hne : S 3 (S 5 k 33) (45 + (S 5 k 34)) - 1 ≠ (S 0 0 4) := by omega
  obtain ⟨v1, v2, v3, v4, v5, v6, v7, v8, v9, v10, v11, v12, v13, v14, v15, v16, v17⟩ := csA_v (S := S) (m := (lnS (S 3 (S 5 k 33)) (S 5 k 34))) (p := (S 5 k 33)) (k := k) (l := (S 5 k 34)) (co := S 5 k 36) hm
  obtain ⟨x1, ⟨x2, x2'⟩, ⟨x3, x3'⟩, x4, x5, x6, x6', x6''⟩ := cx_v (S := S) (ml := (lnS (S 3 (S 5 k 33)) (S 5 k 34))) (q := (S 5 k 33)) (k := k) (l := (S 5 k 34)) (co := S 5 k 36) hm hne
  generalize hml : (lnS (S 3 (S 5 k 33)) (S 5 k 34)) = ml at *
  generalize hXX : ptS (csA S ml (S 5 k 33) k (S 5 k 34) (S 5 k 36)) (S 0 0 4) (S 5 k 33) (S 5 k 34) = X at *
  generalize csA S ml (S 5 k 33) k (S 5 k 34) (S 5 k 36) = A at *
  have b45 : ∀ a o, o < 45 ∨ 85 ≤ o → X 3 a o = S 3 a o := fun a o ho => x3 a o (fun z => by omega)
  have s2 : X 2 = S 2 := x1 2 (by decide) (by decide) (by decide)
  have s5 : X 5 = S 5 := x1 5 (by decide) (by decide) (by decide)
  have s6 : X 6 = S 6 := x1 6 (by decide) (by decide) (by decide)
  have s1 : X 1 = S 1 := x1 1 (by decide) (by decide) (by decide)
  have ei : ∀ q, isP X q ↔ isP S q := fun q => by
    unfold isP
    rw [x2 1 (by decide), s2]
  -- numbers of a slug that do not change
  have old : ∀ s o, s ≠ (S 0 0 4) → o ≠ 4 → o ≠ 5 → o ≠ 6 → X 4 s o = S 4 s o := fun s o sn o4 o5 o6 => by
    by_cases c : S 3 (S 5 k 33) (45 + (S 5 k 34)) ≠ 0 ∧ s = S 3 (S 5 k 33) (45 + (S 5 k 34)) - 1
    · rw [c.2]
      exact (x5 c.1).2 o o4 o5 o6
    · rw [x4 s sn (by omega)]
  have nw : ∀ o, o ≠ 5 → o ≠ 6 → X 4 (S 0 0 4) o = A 4 (S 0 0 4) o := x6''
  constructor
  · refine ⟨?_, ?_, ⟨by omega, fun s s1' s2' => ?_⟩, fun q iq => ?_, ?_, ?_, by unfold okWs; rw [s1]; exact hW, fun s s1' s2' => ?_, fun s s1' s2' => ?_, fun q iq q3 l l1 l2 l3 => ?_⟩
    · unfold okC
      rw [x2 0 (by decide), x2 1 (by decide), x2 3 (by decide), x2 5 (by decide), x2 6 (by decide), x2 7 (by decide)]
      exact hC
    · unfold okF
      rw [x2 1 (by decide), s2]
      exact hF
    · by_cases e : s = (S 0 0 4)
      · rw [e, nw 0 (by decide) (by decide), nw 1 (by decide) (by decide), nw 2 (by decide) (by decide), nw 9 (by decide) (by decide), v5, v6, v7, v14]
        exact ⟨pb.1, by omega, by omega, by omega, hm⟩
      · rw [old s 0 e (by decide) (by decide) (by decide), old s 1 e (by decide) (by decide) (by decide), old s 2 e (by decide) (by decide) (by decide), old s 9 e (by decide) (by decide) (by decide)]
        exact hG.2 s s1' (by omega)
    · have aq := hA q ((ei q).mp iq)
      have p1 := aq.1.1
      have e85 : ∀ o, 85 ≤ o → X 3 q o = S 3 q o := fun o ho => b45 q o (Or.inr ho)
      have elo : ∀ o, o < 45 → X 3 q o = S 3 q o := fun o ho => b45 q o (Or.inl ho)
      rw [elo 0 (by omega), elo 1 (by omega), elo 2 (by omega), elo 3 (by omega), elo 4 (by omega), e85 (84 + S 3 q 1) (by omega)]
      refine ⟨okP_c e85 (elo 1 (by omega)) aq.1, okN_c e85 (elo 1 (by omega)) aq.2.1, aq.2.2.1, aq.2.2.2.1, aq.2.2.2.2.1, aq.2.2.2.2.2.1, fun z => ?_, aq.2.2.2.2.2.2.2⟩
      have L := aq.2.2.2.2.2.2.1 z
      have q4 := aq.2.2.2.2.2.2.2
      refine ⟨by rw [elo 4 (by omega), elo 1 (by omega)]; exact L.1, by rw [elo 4 (by omega), elo 1 (by omega), elo _ (by omega)]; exact L.2.1, fun l' l1 l2 => ?_⟩
      rw [elo 4 (by omega)] at l2
      have w := L.2.2 l' l1 l2
      have ebg : bg (X 3 q) l' = bg (S 3 q) l' := by
        unfold bg
        rw [elo (4 + l') (by omega)]
      have eln := lnS_c (v := S 3 q) (v' := X 3 q) (fun o ho => b45 q o ho) (l := l') (by omega) w.1.1 (by omega)
      rw [ebg, eln, elo (5 + l') (by omega), elo 1 (by omega), x2']
      refine ⟨w.1, w.2.1, ?_⟩
      by_cases c : q = (S 5 k 33) ∧ 45 + l' = 45 + (S 5 k 34)
      · rw [c.1, c.2, x3']
        omega
      · rw [x3 q _ c]
        omega
    · unfold okY
      rw [x2 2 (by decide), s6]
      exact hY
    · unfold okY1
      rw [x2 2 (by decide), s6]
      exact hY1
    · rw [x2'] at s2'
      by_cases e : s = (S 0 0 4)
      · rw [e, nw 0 (by decide) (by decide), nw 7 (by decide) (by decide), nw 10 (by decide) (by decide), nw 11 (by decide) (by decide), nw 3 (by decide) (by decide), nw 9 (by decide) (by decide), nw 4 (by decide) (by decide), x6, x6', v5, v12, v15, v16, v8, v14, x3', b45 _ 3 (by omega), b45 _ 4 (by omega)]
        refine ⟨(ei _).mpr ip, co01, Or.inl rfl, Or.inl rfl, ?_, fun _ => ⟨(ei _).mpr ip, set, hl, rfl⟩⟩
        have e1 : ((ml.length : Int)).toNat = ml.length := by omega
        rw [e1]
        refine (nbl_sg (f := fun j => X 4 (S 0 0 4) (12 + j)) ml 0 (fun j hj => ?_)).symm
        show X 4 (S 0 0 4) (12 + (0 + (j : Int))) = gt ml j
        have e2 : (12 + (0 + (j : Int)) : Int) = 12 + j := by omega
        rw [e2, nw _ (by omega) (by omega)]
        exact (v17 j hj).1
      · have o := hg s s1' (by omega)
        obtain ⟨o1, o2, o3, o4, o5, o6⟩ := o
        rw [old s 0 e (by decide) (by decide) (by decide), old s 7 e (by decide) (by decide) (by decide), old s 10 e (by decide) (by decide) (by decide), old s 11 e (by decide) (by decide) (by decide), old s 3 e (by decide) (by decide) (by decide), old s 9 e (by decide) (by decide) (by decide)]
        have c9 := (hG.2 s s1' (by omega)).2.2.2
        refine ⟨(ei _).mpr o1, o2, o3, o4, o5.trans (sg_c _ (fun j j1 j2 => ?_)), fun z => ?_⟩
        · show am_b (S 4 s (12 + j) ≠ 32) = am_b (X 4 s (12 + j) ≠ 32)
          rw [old s _ e (by omega) (by omega) (by omega)]
        · by_cases c : S 3 (S 5 k 33) (45 + (S 5 k 34)) ≠ 0 ∧ s = S 3 (S 5 k 33) (45 + (S 5 k 34)) - 1
          · rw [c.2, (x5 c.1).1] at z
            exact absurd z (by decide)
          · have es := x4 s e (by omega)
            rw [es] at z ⊢
            obtain ⟨u1, u2, u3', u4⟩ := o6 z
            rw [b45 _ 3 (by omega), b45 _ 4 (by omega)]
            refine ⟨(ei _).mpr u1, u2, u3', ?_⟩
            rw [x3 _ _ (fun w => ?_)]
            · exact u4
            · have w2 : S 4 s 5 = (S 5 k 34) := by omega
              rw [w.1, w2] at u4
              exact c ⟨by omega, by omega⟩
    · by_cases e : s = (S 0 0 4)
      · rw [e, nw 0 (by decide) (by decide), v5]
        exact pb.1
      · rw [old s 0 e (by decide) (by decide) (by decide)]
        exact h00 s s1' s2'
    · rw [b45 _ 3 (by omega)] at q3
      rw [b45 _ 4 (by omega)] at l2
      by_cases c : q = (S 5 k 33) ∧ 45 + l = 45 + (S 5 k 34)
      · have el : l = (S 5 k 34) := by omega
        rw [c.1, el, x3']
        have e1 : (S 0 0 4) + 1 - 1 = (S 0 0 4) := by omega
        rw [e1, nw 4 (by decide) (by decide), x6, x6', v9]
        exact ⟨rfl, rfl, rfl⟩
      · rw [x3 q _ c] at l3 ⊢
        have w := hX q ((ei q).mp iq) q3 l l1 l2 l3
        have lq := ((hA q ((ei q).mp iq)).2.2.2.2.2.2.1 q3).2.2 l l1 l2
        have hb := lq.2.2
        have es : X 4 (S 3 q (45 + l) - 1) = S 4 (S 3 q (45 + l) - 1) := x4 _ (by omega) (by
          by_cases z : S 3 (S 5 k 33) (45 + (S 5 k 34)) = 0
          · exact Or.inl z
          · right
            intro y
            have w2 := hX (S 5 k 33) ip set (S 5 k 34) hl.1 hl.2 z
            rw [← y, w.2.1, w.2.2] at w2
            exact c ⟨w2.2.1, by omega⟩)
        rw [es]
        exact w
  · refine ⟨?_, ⟨fun q i q1 q2 i1 i2 => ?_, ?_⟩, fun q i q1 q2 i1 i2 => ?_⟩
    · unfold okM isP
      rw [x2 1 (by decide), s2, s5]
      exact hM
    · rw [x2 3 (by decide)] at q2
      rw [s5] at i2 ⊢
      rw [b45 _ 3 (by omega), b45 _ 4 (by omega)]
      exact hJ.1 q i q1 q2 i1 i2
    · rw [x2 3 (by decide), s5]
      exact hJ.2
    · rw [x2 3 (by decide)] at q2
      rw [s5] at i2 ⊢
      rw [b45 _ 2 (by omega)]
      exact hJg q i q1 q2 i1 i2
