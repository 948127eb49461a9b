set_option maxRecDepth 100000
/-! the component corrects: the relation -/
section
variable {S2 : am_G} {v : Int → Int} {p l0 n m s : Int}
theorem pkS_s {j : Nat} : (pkS S2 v p l0 n m s (j + 1)) = if v (45 + (l0 + ((j : Nat) : Int))) = 0 then (pkS S2 v p l0 n m s j) else if n - s ≤ (l0 + ((j : Nat) : Int)) then u3 (u3 (u3 (pkS S2 v p l0 n m s j) 4 (v (45 + (l0 + ((j : Nat) : Int))) - 1) 5 ((l0 + ((j : Nat) : Int)) - n + m)) 4 (v (45 + (l0 + ((j : Nat) : Int))) - 1) 6 p) 3 p (45 + ((l0 + ((j : Nat) : Int)) - n + m)) (v (45 + (l0 + ((j : Nat) : Int)))) else u3 (u3 (u3 (pkS S2 v p l0 n m s j) 4 (v (45 + (l0 + ((j : Nat) : Int))) - 1) 4 2) 4 (v (45 + (l0 + ((j : Nat) : Int))) - 1) 5 (-1)) 4 (v (45 + (l0 + ((j : Nat) : Int))) - 1) 6 (-1) := rfl
theorem pkS_q {q : Int} (h : q ≠ p) : ∀ j : Nat, (pkS S2 v p l0 n m s j) 3 q = S2 3 q
  | 0 => rfl
  | j + 1 => by
    rw [pkS_s]
    split
    · exact pkS_q h j
    · split
      · rw [u3_rp h, u3_r (by decide), u3_r (by decide)]
        exact pkS_q h j
      · rw [u3_r (by decide), u3_r (by decide), u3_r (by decide)]
        exact pkS_q h j
theorem pkS_4 {g o : Int} (h4 : o ≠ 4) (h5 : o ≠ 5) (h6 : o ≠ 6) : ∀ j : Nat, (pkS S2 v p l0 n m s j) 4 g o = S2 4 g o
  | 0 => rfl
  | j + 1 => by
    rw [pkS_s]
    split
    · exact pkS_4 h4 h5 h6 j
    · split
      · rw [u3_nc (by decide), u3_no h6, u3_no h5]
        exact pkS_4 h4 h5 h6 j
      · rw [u3_no h6, u3_no h5, u3_no h4]
        exact pkS_4 h4 h5 h6 j
/-- slugs of no old line are left -/
theorem pkS_g {g : Int} : ∀ j : Nat, (∀ i, l0 ≤ i → i < l0 + (j : Int) → v (45 + i) ≠ 0 → v (45 + i) - 1 ≠ g) → (pkS S2 v p l0 n m s j) 4 g = S2 4 g
  | 0, _ => rfl
  | j + 1, h => by
    have i := pkS_g (g := g) j (fun i a b => h i a (by omega))
    rw [pkS_s]
    split
    · exact i
    · next c =>
      have ne : g ≠ v (45 + (l0 + ((j : Nat) : Int))) - 1 := fun e => h (l0 + ((j : Nat) : Int)) (by omega) (by omega) c e.symm
      split
      · rw [u3_r (by decide), u3_rp ne, u3_rp ne]
        exact i
      · rw [u3_rp ne, u3_rp ne, u3_rp ne]
        exact i
theorem pkS_o {o : Int} (h : o < 45 + (m - s) ∨ 45 + m ≤ o) : ∀ j : Nat, l0 + j ≤ n → (pkS S2 v p l0 n m s j) 3 p o = S2 3 p o
  | 0, _ => rfl
  | j + 1, hj => by
    have i := pkS_o (o := o) h j (by omega)
    rw [pkS_s]
    split
    · exact i
    · split
      · next c => 
        rw [u3_no (by omega), u3_nc (by decide), u3_nc (by decide)]
        exact i
      · rw [u3_nc (by decide), u3_nc (by decide), u3_nc (by decide)]
        exact i
theorem pkS_p {k : Int} (hz : S2 3 p (45 + k) = 0) (hk : m - s ≤ k ∧ k < m) : ∀ j : Nat, l0 + j ≤ n → (pkS S2 v p l0 n m s j) 3 p (45 + k) = if l0 ≤ k - m + n ∧ k - m + n < l0 + (j : Int) then v (45 + (k - m + n)) else 0
  | 0, _ => by
    rw [if_neg (by omega)]
    exact hz
  | j + 1, hj => by
    have i := pkS_p (k := k) hz hk j (by omega)
    rw [pkS_s]
    by_cases e : k - m + n = (l0 + ((j : Nat) : Int))
    · have c1 : l0 ≤ k - m + n ∧ k - m + n < l0 + ((j + 1 : Nat) : Int) := by omega
      have c0 : ¬ (l0 ≤ k - m + n ∧ k - m + n < l0 + (j : Int)) := by omega
      rw [if_neg c0] at i
      rw [if_pos c1, e]
      by_cases z : v (45 + (l0 + ((j : Nat) : Int))) = 0
      · rw [if_pos z, i, z]
      · rw [if_neg z, if_pos (by omega)]
        have e2 : 45 + k = 45 + ((l0 + ((j : Nat) : Int)) - n + m) := by omega
        rw [e2, u3_eq]
    · have ci : (l0 ≤ k - m + n ∧ k - m + n < l0 + ((j + 1 : Nat) : Int)) ↔ (l0 ≤ k - m + n ∧ k - m + n < l0 + (j : Int)) := by omega
      have r : (if l0 ≤ k - m + n ∧ k - m + n < l0 + ((j + 1 : Nat) : Int) then v (45 + (k - m + n)) else 0) = (if l0 ≤ k - m + n ∧ k - m + n < l0 + (j : Int) then v (45 + (k - m + n)) else 0) := by
        by_cases c : l0 ≤ k - m + n ∧ k - m + n < l0 + (j : Int)
        · rw [if_pos c, if_pos (ci.mpr c)]
        · rw [if_neg c, if_neg (fun z => c (ci.mp z))]
      rw [r]
      split
      · exact i
      · split
        · rw [u3_no (by omega), u3_nc (by decide), u3_nc (by decide)]
          exact i
        · rw [u3_nc (by decide), u3_nc (by decide), u3_nc (by decide)]
          exact i
end
/-- one slug of the list is another -/
theorem rG_u {h h' : am_H} {L : am_Lb} {N l g : Nat} {S S' : am_G} {B : Int} {s : Int} (ok : okLb h L) (n0 : N ≠ 0) (x : rG h L N l S B) (hs : 0 ≤ s ∧ s < S 0 0 4) (hg : g = am_ar h (am_fr h 194 l) s) (a : fx (fun q => q = g) h h') (e0 : S' 0 0 4 = S 0 0 4) (e2 : S' 2 = S 2) (e4 : ∀ q, q ≠ s → S' 4 q = S 4 q) (y : rSg h' L N S' s g) : rG h' L N l S' B ∧ am_fr h' 194 l = am_fr h 194 l ∧ am_ar h' (am_fr h 194 l) = am_ar h (am_fr h 194 l) := by
  obtain ⟨x1, x2⟩ := x
  have xs := x2 s hs.1 hs.2
  rw [← hg] at xs
  have tg : am_ty h g = 24 ∨ am_ty h g = 23 := by
    rw [xs.1.1]
    split
    · exact Or.inl rfl
    · exact Or.inr rfl
  have n1 : ¬ (l = g) := fun e => by
    have := x1.1.1.1
    rw [e] at this
    omega
  have n2 : ¬ (am_fr h 194 l = g) := fun e => by
    have := x1.1.1.2.1
    rw [e] at this
    omega
  have r := rL_fx a (leL_refl (L := L)) (Int.le_refl B) x1 n1 n2
  refine ⟨?_, r.2.1, r.2.2⟩
  unfold rG
  rw [r.2.1, r.2.2, e0]
  refine ⟨r.1, fun q q0 q1 => ?_⟩
  by_cases e : q = s
  · rw [e, ← hg]
    exact y
  · have xq := x2 q q0 q1
    have ne : am_ar h (am_fr h 194 l) q ≠ g := fun w => by
      have l1 := xq.1.2.2.2
      rw [w, xs.1.2.2.2] at l1
      injection l1 with _ l1
      injection l1 with _ l1
      injection l1 with _ l1
      exact e l1.symm
    exact rSg_fx a leL_refl ok (fun c _ w => by rw [w, xs.1.2.2.2]; exact n0) (by rw [e2]) (e4 q e) xq ne
/-- the whole relation, when a part, slugs and the paper are others -/
theorem Nt_cor {L : am_Lb} {x P N : Nat} {S : am_G} {B : Int} {S' : am_G} {h h' : am_H} {L' : am_Lb} {p : Int} {T : Nat} (t : Nt h L x P N S B) (hT : T = am_ar h (am_fr h 20 N) p) (ip : isP S p) (pb : 0 ≤ p ∧ p < 100) (a : fx (fun q => q = T ∨ ((L q).1 = N ∧ (L q).2.1 = 4) ∨ ((L q).1 = x ∧ (L q).2.1 = 1)) h h') (le : leL h L L') (ok : okLb h' L') (hp : rPap h' L' x P) (e0 : S' 0 = S 0) (e2 : S' 2 = S 2) (eS : S' 1 = S 1 ∧ S' 5 = S 5 ∧ S' 6 = S 6 ∧ S' 7 = S 7 ∧ S' 8 = S 8 ∧ S' 9 = S 9 ∧ S' 10 = S 10) (e3 : ∀ q, q ≠ p → S' 3 q = S 3 q) (e4 : ∀ s o, o ≠ 4 → o ≠ 5 → o ≠ 6 → S' 4 s o = S 4 s o) (nj : ∀ k i, 0 ≤ k → k < S 0 0 3 → 0 ≤ i → i < S 5 k 29 → S 5 k (33 + 5 * i) ≠ p) (yG : rG h' L' N (am_fr h 25 N) S' B) (yP : rPt h' L' N S' p T) : Nt h' L' x P N S' B := by
  obtain ⟨x1, x2, x3, x4, x5, x6, x7, x8, x9, x10⟩ := t.2.2.2.1
  have okh := t.1
  have xN := t.2.2.2.2
  have pT := (x3.2.2 p pb.1 pb.2).2 ip
  rw [← hT] at pT
  have hX0 : ∀ q, q ≤ am_sz h → (fun q => q = T ∨ ((L q).1 = N ∧ (L q).2.1 = 4) ∨ ((L q).1 = x ∧ (L q).2.1 = 1)) q → ((L q).1 = N ∧ ((L q).2.1 = 3 ∨ (L q).2.1 = 4)) ∨ ((L q).1 = x ∧ (L q).2.1 = 1) := fun q hq z => by
    rcases z with z | z | z
    · rw [z, pT.1.2.2.2]
      exact Or.inl ⟨rfl, Or.inl rfl⟩
    · exact Or.inl ⟨z.1, Or.inr z.2⟩
    · exact Or.inr z
  have hz0 : ∀ q, q ≤ am_sz h → (fun q => q = T ∨ ((L q).1 = N ∧ (L q).2.1 = 4) ∨ ((L q).1 = x ∧ (L q).2.1 = 1)) q → (L q).1 ≠ 0 := fun q hq z => by
    rcases hX0 q hq z with w | w
    · rw [w.1]
      exact xN.2.2
    · rw [w.1]
      exact xN.2.1
  have zg : ∀ g, g ≠ 3 → g ≠ 4 → ∀ q, q ≤ am_sz h → (fun q => q = T ∨ ((L q).1 = N ∧ (L q).2.1 = 4) ∨ ((L q).1 = x ∧ (L q).2.1 = 1)) q → zf L N g q := fun g g3 g4 q hq z => ⟨hz0 q hq z, fun w => by
    rcases hX0 q hq z with u | u
    · have := u.2
      rw [w.2] at this
      omega
    · exact xN.1 (u.1.symm.trans w.1)⟩
  have nN : ¬ (fun q => q = T ∨ ((L q).1 = N ∧ (L q).2.1 = 4) ∨ ((L q).1 = x ∧ (L q).2.1 = 1)) N := fun z => nd_zf x1.1 (zg 0 (by decide) (by decide) N x1.1.2.1 z)
  have yN := nd_fx a le x1.1 nN
  refine Nt_all2 t (Int.le_refl B) a le ok (fun q hq z => ?_) hp yN.2.2.2.1 ⟨eS.1, eS.2.2.1, eS.2.2.2.1, eS.2.2.2.2.1, eS.2.2.2.2.2.1⟩ (by rw [e0]; exact ⟨rfl, rfl, rfl⟩) ?_ ?_ ?_ yG ?_
  · rcases hX0 q hq z with w | w
    · exact Or.inl ⟨w.1, by omega⟩
    · exact Or.inr w
  · refine ⟨yN.1, ?_⟩
    have cr : crN S' = crN S := by
      unfold crN
      rw [e0]
      exact sg_ext _ _ (fun j _ _ => by rw [e4 j 7 (by decide) (by decide) (by decide)])
    rw [yN.2.2.1, yN.2.2.1, yN.2.2.1, yN.2.2.1, yN.2.2.1, yN.2.2.2.1, e0, cr]
    exact x1.2
  · have n3 : ¬ (fun q => q = T ∨ ((L q).1 = N ∧ (L q).2.1 = 4) ∨ ((L q).1 = x ∧ (L q).2.1 = 1)) (am_fr h 20 N) := fun z => by
      rcases z with z | z | z
      · have := x3.1.1
        rw [z, pT.1.1] at this
        exact absurd this (by decide)
      · rw [x3.1.2.2.2] at z
        exact absurd z.2 (by show (3 : Nat) ≠ 4; decide)
      · rw [x3.1.2.2.2] at z
        exact xN.1 z.1.symm
    have y := nd_fx a le x3.1 n3
    refine ⟨y.1, y.2.1.trans x3.2.1, fun q q0 q1 => ?_⟩
    rw [y.2.2.2.2.2]
    have ei : isP S' q ↔ isP S q := by
      unfold isP
      rw [e0, e2]
    refine ⟨fun w => (x3.2.2 q q0 q1).1 (fun z => w (ei.mpr z)), fun w => ?_⟩
    by_cases e : q = p
    · rw [e, ← hT]
      exact yP
    · have pq := (x3.2.2 q q0 q1).2 (ei.mp w)
      refine rPt_fz a le okh hz0 e2 (e3 q e) pq (fun z => ?_) (fun c z => ?_)
      · rcases z with z | z | z
        · have l1 := pq.1.2.2.2
          rw [z, pT.1.2.2.2] at l1
          injection l1 with _ l1
          injection l1 with _ l1
          injection l1 with _ l1
          exact e l1.symm
        · rw [pq.1.2.2.2] at z
          exact absurd z.2 (by show (3 : Nat) ≠ 4; decide)
        · rw [pq.1.2.2.2] at z
          exact xN.1 z.1.symm
      · have n118 := (pq.2.2.2.2.2.2.2.2 c).2.2.1
        rcases z with z | z | z
        · have l1 := n118.1
          rw [z, pT.1.1] at l1
          exact absurd l1 (by decide)
        · rw [n118.2.2.2] at z
          exact absurd z.2 (by show (3 : Nat) ≠ 4; decide)
        · rw [n118.2.2.2] at z
          exact xN.1 z.1.symm
  · refine rM_fx a le okh t.2.1.1 (zg 5 (by decide) (by decide)) (Int.le_refl B) (by rw [e0]) eS.2.1 (fun k i k0 k1 i0 i1 => ?_) x5
    unfold bhd
    rw [eS.2.1, e3 _ (nj k i k0 k1 i0 i1)]
  · refine rR_fx a le okh t.2.1.1 (zg 10 (by decide) (by decide)) (by rw [e0]) eS.2.2.2.2.2.2 (fun i k i0 i1 k0 k1 => ?_) x10
    rw [e0]
    have : ∀ n : Nat, lsG S' k (S 10 0 (5 * i)) n = lsG S k (S 10 0 (5 * i)) n := fun n => by
      induction n with
      | zero => rfl
      | succ n ih =>
        show (if S' 4 (n : Int) 1 = k ∧ S' 4 (n : Int) 2 = S 10 0 (5 * i) then (n : Int) else lsG S' k (S 10 0 (5 * i)) n) = (if S 4 (n : Int) 1 = k ∧ S 4 (n : Int) 2 = S 10 0 (5 * i) then (n : Int) else lsG S k (S 10 0 (5 * i)) n)
        rw [ih, e4 n 1 (by decide) (by decide) (by decide), e4 n 2 (by decide) (by decide) (by decide)]
    exact this _
