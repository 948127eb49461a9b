set_option maxRecDepth 100000
/-! the component's minute: what the relation does not see -/
/-- the model's note of a whole job's end -/
theorem Nt_35 {h : am_H} {L : am_Lb} {x P N : Nat} {S : am_G} {B : Int} {k v : Int} (t : Nt h L x P N S B) (hk : 0 ≤ k ∧ k < S 0 0 3) (hw : S 5 k 37 ≠ 0) : Nt h L x P N (u3 S 5 k 35 v) B := by
  have x5 := t.2.2.2.1.2.2.2.2.1
  have a : fx (fun _ => False) h h := fx_refl
  have eb : ∀ i, 0 ≤ i → bhd (u3 S 5 k 35 v) k i = bhd S k i := fun i i1 => by
    have r3 : u3 S 5 k 35 v 3 = S 3 := u3_r (by decide)
    unfold bhd
    rw [r3, u3_no (i' := 37 + 5 * i) (by omega), u3_no (i' := 33 + 5 * i) (by omega)]
    by_cases c : i = 0
    · subst c
      have e : S 5 k (37 + 5 * 0) = S 5 k 37 := rfl
      rw [e, if_neg hw, if_neg hw]
    · rw [u3_no (by omega)]
  refine Nt_5 t (Int.le_refl _) a leL_refl t.1 (fun q hq z => z.elim) (fun c c1 _ => u3_r c1) (fun j => u3_nc (by decide)) ?_
  refine rM_one a leL_refl t.1 t.2.2.2.2.2.2 t.2.1.1 (k := k) (Int.le_refl _) (fun q hq z => z.elim) (u3_nc (by decide)) (fun q e => u3_rp e) (fun q i nq _ _ _ _ => ?_) x5 ?_
  · unfold bhd
    rw [u3_rp nq, u3_r (by decide)]
  · obtain ⟨m1, m2, m3, m4, m5, m6, m7, m8, m9, rl, m11, m12⟩ := x5.2.2 k hk.1 hk.2
    unfold rMc rQ
    rw [u3_no (i' := 27) (by decide), u3_no (i' := 28) (by decide), u3_no (i' := 29) (by decide), u3_no (i' := 30) (by decide), u3_no (i' := 31) (by decide), u3_no (i' := 32) (by decide)]
    refine ⟨m1, m2, m3, fun c c1 c2 => ?_, m5, m6, m7, m8, m9, rl, fun i i1 i2 => ?_, m12⟩
    · rw [u3_no (by omega)]
      exact m4 c c1 c2
    · have xj := m11 i i1 i2
      unfold rJ
      rw [u3_no (i' := 33 + 5 * i) (by omega), u3_no (i' := 36 + 5 * i) (by omega), u3_no (i' := 34 + 5 * i) (by omega), eb i i1]
      exact xj
/-- rows that are not yet -/
theorem Nt_rw {h : am_H} {L : am_Lb} {x P N : Nat} {S : am_G} {B : Int} {i v : Int} (t : Nt h L x P N S B) (hi : 5 * S 0 0 7 ≤ i) : Nt h L x P N (u3 S 10 0 i v) B := by
  have x10 := t.2.2.2.1.2.2.2.2.2.2.2.2.2
  have a : fx (fun _ => False) h h := fx_refl
  refine Nt_10 t (Int.le_refl _) a leL_refl t.1 (fun q hq z => z.elim) (fun c c1 _ => u3_r c1) (fun j => u3_nc (by decide)) ?_
  obtain ⟨r1, r2, r3, r4, r5⟩ := x10
  refine ⟨r1, r2, r3, r4, fun j q j1 j2 q1 q2 => ?_⟩
  rw [u3_nc (by decide)] at j2
  have w := r5 j q j1 j2 q1 q2
  rw [u3_no (i' := 1 + 5 * j + q) (by omega), u3_no (i' := 5 * j) (by omega), u3_nc (c' := 0) (by decide)]
  refine ⟨w.1, w.2.trans (lsG_c (u3_r (by decide)) _).symm⟩
/-- a turn, and the model's notes -/
theorem Nt_ms {h : am_H} {L : am_Lb} {x P N : Nat} {S S1 : am_G} {B R : Int} {k a : Int} (hk : 0 ≤ k ∧ k < S1 0 0 3) (h7 : S1 0 0 7 = R + 1) (t : Nt h L x P N (rs S1 R) B) : Nt h L x P N (rs (msF S k S1 a) R) B := by
  have two : Nt h L x P N (rs (fx5 S k S1) R) B ∧ fx5 S k S1 0 0 7 = R + 1 := by
    unfold fx5
    by_cases c : (S 5 k 28 = 0 ∧ S 5 k 29 ≠ 0) ∧ S1 5 k 29 = S 5 k 29 ∧ S1 5 k 37 ≠ 0
    · rw [if_pos c, ← u3_rs (Or.inl (by decide))]
      refine ⟨Nt_35 t (by rw [rs_j (by decide)]; exact hk) (by rw [rs_r (by decide)]; exact c.2.2), ?_⟩
      rw [u3_nc (by decide)]
      exact h7
    · rw [if_neg c]
      exact ⟨t, h7⟩
  unfold msF rwW
  by_cases c : a = -1
  · rw [if_pos c]
    exact two.1
  · rw [if_neg c, ← u3_rs (Or.inl (by decide))]
    refine Nt_rw two.1 ?_
    have e : rs (fx5 S k S1) R 0 0 7 = R := u3_eq
    rw [e, two.2]
    omega
