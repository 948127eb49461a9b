set_option maxRecDepth 100000
/-! the count of rows plays no part in a turn -/
def rs (S : am_G) (R : Int) : am_G := u3 S 0 0 7 R
theorem rs_r {S : am_G} {R : Int} {c : Nat} (h : c ≠ 0) : rs S R c = S c := u3_r h
theorem rs_j {S : am_G} {R j : Int} (h : j ≠ 7) : rs S R 0 0 j = S 0 0 j := u3_no h
theorem u3_rs {S : am_G} {R : Int} {c : Nat} {p i v : Int} (h : c ≠ 0 ∨ p ≠ 0 ∨ i ≠ 7) : u3 (rs S R) c p i v = rs (u3 S c p i v) R := u3_cm (by omega)
theorem awy_rs {S : am_G} {R k : Int} : awy (rs S R) k = rs (awy S k) R := by
  funext c q i
  unfold awy
  by_cases h : c = 5 ∧ q = k
  · rw [if_pos h]
    have e : rs (fun c q i => if c = 5 ∧ q = k then (if i = 29 then S 5 k 29 - 1 else if 33 ≤ i ∧ i < 178 then S 5 k (i + 5) else S 5 k i) else S c q i) R c q i = (fun c q i => if c = 5 ∧ q = k then (if i = 29 then S 5 k 29 - 1 else if 33 ≤ i ∧ i < 178 then S 5 k (i + 5) else S 5 k i) else S c q i) c q i := u3_nc (by omega)
    rw [e, rs_r (by decide)]
    exact (if_pos h).symm
  · rw [if_neg h]
    unfold rs u3
    by_cases g : c = 0 ∧ q = 0 ∧ i = 7
    · rw [if_pos g, if_pos g]
    · rw [if_neg g, if_neg g]
      exact (if_neg h).symm
theorem spk_rs {S : am_G} {R k : Int} : spk (rs S R) k = rs (spk S k) R := by
  unfold spk
  rw [u3_rs (Or.inl (by decide)), awy_rs, rs_r (by decide)]
theorem bhd_rs {S : am_G} {R k i : Int} : bhd (rs S R) k i = bhd S k i := by
  unfold bhd
  rw [rs_r (c := 5) (by decide), rs_r (c := 3) (by decide)]
theorem stL_rs {S : am_G} {R p : Int} {T : Int → Int × Int × Int} : stL (rs S R) p T = rs (stL S p T) R := by
  funext c q i
  unfold stL
  by_cases h : c = 3 ∧ q = p
  · rw [if_pos h]
    have e : rs (fun c q i => if c = 3 ∧ q = p then (if i = 3 then 1 else if i = 4 then (T 0).2.1 else if 5 ≤ i ∧ i < 5 + (T 0).2.1 then nx T ((i - 5).toNat + 1) 0 - 1 else if 45 ≤ i ∧ i < 45 + (T 0).2.1 then 0 else S 3 p i) else S c q i) R c q i = (fun c q i => if c = 3 ∧ q = p then (if i = 3 then 1 else if i = 4 then (T 0).2.1 else if 5 ≤ i ∧ i < 5 + (T 0).2.1 then nx T ((i - 5).toNat + 1) 0 - 1 else if 45 ≤ i ∧ i < 45 + (T 0).2.1 then 0 else S 3 p i) else S c q i) c q i := u3_nc (by omega)
    rw [e, rs_r (by decide)]
    exact (if_pos h).symm
  · rw [if_neg h]
    unfold rs u3
    by_cases g : c = 0 ∧ q = 0 ∧ i = 7
    · rw [if_pos g, if_pos g]
    · rw [if_neg g, if_neg g]
      exact (if_neg h).symm
theorem outN_c {S S' : am_G} (e : S' 4 = S 4) {k c f mi : Int} : ∀ m : Nat, outN S' k c f mi m = outN S k c f mi m
  | 0 => rfl
  | m + 1 => by
    unfold outN cst
    rw [e, outN_c e m]
theorem thr_rs {S : am_G} {R k c mi : Int} : thr (rs S R) k c mi = thr S k c mi := by
  unfold thr
  rw [rs_j (by decide), rs_r (c := 5) (by decide), outN_c (rs_r (by decide))]
theorem wtF_rs {S : am_G} {R k : Int} {ml : List Int} : ∀ c : Nat, wtF (rs S R) k ml c = wtF S k ml c
  | 0 => by
    unfold wtF
    rw [rs_j (by decide)]
  | c + 1 => by
    unfold wtF
    rw [wtF_rs c, thr_rs, rs_j (by decide)]
theorem ptS_rs {S : am_G} {R s p l : Int} : ptS (rs S R) s p l = rs (ptS S s p l) R := by
  unfold ptS
  rw [rs_r (c := 3) (by decide)]
  by_cases c : S 3 p (45 + l) = 0
  · rw [if_pos c, if_pos c, u3_rs (Or.inl (by decide)), u3_rs (Or.inl (by decide)), u3_rs (Or.inl (by decide))]
  · rw [if_neg c, if_neg c, u3_rs (Or.inl (by decide)), u3_rs (Or.inl (by decide)), u3_rs (Or.inl (by decide)), u3_rs (Or.inl (by decide)), u3_rs (Or.inl (by decide)), u3_rs (Or.inl (by decide))]
theorem cs1_rs {S : am_G} {R : Int} {m : List Int} {p k l co : Int} : cs1 (rs S R) m p k l co = rs (cs1 S m p k l co) R := by
  funext c q i
  have en : nsl (rs S R) m p k l co = nsl S m p k l co := by
    funext i
    unfold nsl
    rw [rs_j (by decide), rs_j (by decide), rs_r (c := 4) (by decide)]
  unfold cs1
  rw [rs_j (by decide), en]
  by_cases h : c = 4 ∧ q = S 0 0 4
  · rw [if_pos h]
    have e : rs (fun c q i => if c = 4 ∧ q = S 0 0 4 then nsl S m p k l co i else S c q i) R c q i = (fun c q i => if c = 4 ∧ q = S 0 0 4 then nsl S m p k l co i else S c q i) c q i := u3_nc (by omega)
    rw [e]
    exact (if_pos h).symm
  · rw [if_neg h]
    unfold rs u3
    by_cases g : c = 0 ∧ q = 0 ∧ i = 7
    · rw [if_pos g, if_pos g]
    · rw [if_neg g, if_neg g]
      exact (if_neg h).symm
theorem csA_rs {S : am_G} {R : Int} {m : List Int} {p k l co : Int} : csA (rs S R) m p k l co = rs (csA S m p k l co) R := by
  unfold csA
  rw [cs1_rs, rs_j (by decide), u3_rs (Or.inl (by decide)), u3_rs (Or.inl (by decide)), u3_rs (by omega)]
theorem csE_rs {S : am_G} {R k : Int} : csE (rs S R) k = rs (csE S k) R := by
  have e : csS (rs S R) k = rs (csS S k) R := by
    unfold csS
    rw [csA_rs, rs_r (c := 5) (by decide), rs_r (c := 3) (by decide), rs_j (by decide), ptS_rs, u3_rs (Or.inl (by decide)), u3_rs (Or.inl (by decide))]
  unfold csE
  rw [e, bhd_rs, rs_r (c := 5) (by decide), awy_rs]
  split <;> rfl
theorem runR_rs {S : am_G} {R k : Int} {S' : am_G} {a : Int} (h : runR (rs S R) k S' a) : ∃ S1, runR S k S1 a ∧ S' = rs S1 R := by
  unfold runR mss at h
  rw [rs_r (c := 5) (by decide), rs_r (c := 3) (by decide), wtF_rs, spk_rs, u3_rs (Or.inl (by decide)), csE_rs, rs_j (by decide)] at h
  rcases h with ⟨h1, h2, h3⟩ | ⟨h1, h2, h3, h4⟩ | ⟨h1, h2, h3, h4⟩
  · exact ⟨_, Or.inl ⟨h1, rfl, h3⟩, h2⟩
  · exact ⟨_, Or.inr (Or.inl ⟨h1, h2, rfl, h4⟩), h3⟩
  · exact ⟨_, Or.inr (Or.inr ⟨h1, h2, rfl, h4⟩), h3⟩
theorem sty_rs {S : am_G} {R mi : Int} : sty (rs S R) mi = sty S mi := by
  unfold sty
  rw [rs_r (c := 6) (by decide), rs_j (by decide)]
theorem tells_rs {S : am_G} {R p mi : Int} : meS (rs S R) p mi = meS S p mi ∧ leS (rs S R) p mi = leS S p mi ∧ moS (rs S R) p mi = moS S p mi ∧ coS (rs S R) p mi = coS S p mi := by
  have e1 : tgs (rs S R) p mi 0 = tgs S p mi 0 := by
    unfold tgs
    rw [rs_r (c := 2) (by decide)]
  have e2 : fcs (rs S R) p mi 0 99 = fcs S p mi 0 99 := by
    unfold fcs
    rw [rs_r (c := 2) (by decide), rs_r (c := 3) (by decide)]
  unfold meS leS moS coS sdd lrl
  rw [e1, e2, sty_rs, rs_r (c := 6) (by decide)]
  exact ⟨rfl, rfl, rfl, rfl⟩
theorem tbS_rs {S : am_G} {R p mi : Int} : tbS (rs S R) p mi = tbS S p mi := by
  obtain ⟨e1, e2, e3, e4⟩ := tells_rs (S := S) (R := R) (p := p) (mi := mi)
  unfold tbS
  rw [e1, e2, e3, e4, rs_r (c := 3) (by decide), rs_r (c := 1) (by decide), rs_r (c := 2) (by decide)]
theorem turR_rs {S : am_G} {R k : Int} {S' : am_G} {a : Int} (h : turR (rs S R) k S' a) : ∃ S1, turR S k S1 a ∧ S' = rs S1 R := by
  unfold turR at h
  rw [rs_r (c := 5) (by decide), rs_j (by decide), bhd_rs, tbS_rs, spk_rs, stL_rs] at h
  rcases h with ⟨h1, h2, h3⟩ | ⟨h1, h2, h3, h4, h5, h6⟩ | ⟨h1, h2, h3, h4, h5⟩ | ⟨h1, h2, h3, h4⟩
  · exact ⟨_, Or.inl ⟨h1, rfl, h3⟩, h2⟩
  · exact ⟨_, Or.inr (Or.inl ⟨h1, h2, h3, h4, rfl, h6⟩), h5⟩
  · obtain ⟨S1, q1, q2⟩ := runR_rs h5
    exact ⟨S1, Or.inr (Or.inr (Or.inl ⟨h1, h2, h3, h4, q1⟩)), q2⟩
  · obtain ⟨S1, q1, q2⟩ := runR_rs h4
    exact ⟨S1, Or.inr (Or.inr (Or.inr ⟨h1, h2, h3, q1⟩)), q2⟩
