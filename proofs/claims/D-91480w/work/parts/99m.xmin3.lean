set_option maxRecDepth 100000
/-! rows and slugs in a minute -/
theorem runR_10 {S S' : am_G} {k a : Int} (h : runR S k S' a) (hl : 0 ≤ S 5 k 34) (hm : ((lnS (S 3 (S 5 k 33)) (S 5 k 34)).length : Int) ≤ 420) : S' 10 = S 10 := by
  rcases h with ⟨_, e, _⟩ | ⟨_, _, e, _⟩ | ⟨_, _, e, _⟩
  · rw [e, spk_e, u3_r (by decide), (awy_c (S := S) (k := k)).1 10 (by decide)]
  · rw [e, u3_r (by decide)]
  · have c : csS S k 10 = S 10 := by
      unfold csS
      rw [u3_r (by decide), u3_r (by decide), (ptS_r (S := csA S (lnS (S 3 (S 5 k 33)) (S 5 k 34)) (S 5 k 33) k (S 5 k 34) (S 5 k 36)) (s := S 0 0 4) (p := S 5 k 33) (l := S 5 k 34)).1 10 (by decide) (by decide), (csA_v (S := S) (p := S 5 k 33) (k := k) (l := S 5 k 34) (co := S 5 k 36) hm).1 10 (by decide) (by decide)]
    rw [e]
    unfold csE
    split
    · rw [(awy_c (S := csS S k) (k := k)).1 10 (by decide), c]
    · exact c
/-- slugs that are left have the same last ones -/
theorem lsG_s {S S' : am_G} {k mi : Int} : ∀ m : Nat, (∀ q : Nat, q < m → S' 4 (q : Int) 1 = S 4 (q : Int) 1 ∧ S' 4 (q : Int) 2 = S 4 (q : Int) 2) → lsG S' k mi m = lsG S k mi m
  | 0, _ => rfl
  | m + 1, h => by
    unfold lsG
    rw [(h m (by omega)).1, (h m (by omega)).2, lsG_s m (fun q hq => h q (by omega))]
/-- after a turn: the last slug of a machine in this minute -/
theorem lsG_t {S S' : am_G} {k a q : Int} (h0 : 0 ≤ S 0 0 4) (t : tuL S S' k a) : lsG S' q (S 0 0 0) (S' 0 0 4).toNat = if a ≠ -1 ∧ q = k then a else lsG S q (S 0 0 0) (S 0 0 4).toNat := by
  obtain ⟨t1, t2, t3, t4, t5, t6, t7, t8, t9⟩ := t
  have old : lsG S' q (S 0 0 0) (S 0 0 4).toNat = lsG S q (S 0 0 0) (S 0 0 4).toNat := lsG_s _ (fun j hj => t6 j (by omega))
  rcases t7 with ⟨ea, en⟩ | ⟨ea, en, e1, e2⟩
  · rw [if_neg (fun z => z.1 ea), en]
    exact old
  · have e3 : (S' 0 0 4).toNat = (S 0 0 4).toNat + 1 := by omega
    have e4 : (((S 0 0 4).toNat : Nat) : Int) = S 0 0 4 := by omega
    rw [e3]
    show (if S' 4 (((S 0 0 4).toNat : Nat) : Int) 1 = q ∧ S' 4 (((S 0 0 4).toNat : Nat) : Int) 2 = S 0 0 0 then (((S 0 0 4).toNat : Nat) : Int) else lsG S' q (S 0 0 0) (S 0 0 4).toNat) = _
    rw [e4, e1, e2, old]
    by_cases c : q = k
    · rw [if_pos ⟨c.symm, rfl⟩, if_pos ⟨by omega, c⟩, ea]
    · rw [if_neg (fun z => c z.1.symm), if_neg (fun z => c z.2)]
/-- no slug is of a minute to come -/
theorem lsG_0 {S : am_G} {k mi : Int} : ∀ m : Nat, (∀ q : Nat, q < m → S 4 (q : Int) 2 < mi) → lsG S k mi m = -1
  | 0, _ => rfl
  | m + 1, h => by
    unfold lsG
    have := h m (by omega)
    rw [if_neg (fun z => absurd z.2 (by omega)), lsG_0 m (fun q hq => h q (by omega))]
