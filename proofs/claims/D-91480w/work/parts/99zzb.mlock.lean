set_option maxRecDepth 100000
/-! a page is locked -/
theorem lkV_bd {S : am_G} {pg : Int} {st : Int → Int} {n : Nat} {s : am_Ft} (h8 : S 8 pg 1 ≤ 60) (hs : ∀ j, 0 ≤ j → j < (n : Int) → (0 ≤ S 2 2 (st j) ∧ S 2 2 (st j) ≤ 5) ∧ ∀ k, 0 ≤ k → k < S 2 2 (st j) → 0 ≤ S 3 (5 * st j + k) 4) (hg : gdR S pg st n s) (h : s.1 ≠ -1) : ((lkV S st s.2.1 s.2.2 n 3).length : Int) = s.1 ∧ s.1 ≤ 180 := by
  have g := hg.2 h
  have cl : ∀ c : Int, ((clV S st s.2.1 s.2.2 c n).length : Int) = cu (lnJ S st s.2.2) s.2.1 c n := fun c => clV_len n (fun j a b k k0 k1 => (hs j a b).2 k k0 (by have := (g.1 j a b).2; omega)) (fun j a b => by have := (g.1 j a b).2; omega)
  have b0 := g.2.1 0 (by omega) (by omega)
  have b1 := g.2.1 1 (by omega) (by omega)
  have b2 := g.2.1 2 (by omega) (by omega)
  have c0 := cl 0
  have c1 := cl 1
  have c2 := cl 2
  have e : lkV S st s.2.1 s.2.2 n 3 = (([] ++ clV S st s.2.1 s.2.2 0 n) ++ clV S st s.2.1 s.2.2 1 n) ++ clV S st s.2.1 s.2.2 2 n := rfl
  rw [e, List.length_append, List.length_append, List.nil_append]
  have := g.2.2
  omega
theorem ltR_b {y : Int → Int} {pg : Int} : ∀ m : Nat, (∀ q, 0 ≤ q → q < (m : Int) → 0 ≤ y (4 + 5 * q) ∧ y (4 + 5 * q) ≤ 999) → 0 ≤ ltR y pg m ∧ ltR y pg m ≤ 999
  | 0, _ => by
    show (0 : Int) ≤ 600 ∧ (600 : Int) ≤ 999
    omega
  | m + 1, h => by
    have e : ltR y pg (m + 1) = if y (2 + 5 * (m : Int)) = 6 ∧ y (3 + 5 * (m : Int)) = pg then y (4 + 5 * (m : Int)) else ltR y pg m := rfl
    rw [e]
    by_cases c : y (2 + 5 * (m : Int)) = 6 ∧ y (3 + 5 * (m : Int)) = pg
    · rw [if_pos c]
      exact h m (by omega) (by omega)
    · rw [if_neg c]
      exact ltR_b m (fun q a b => h q a (by omega))
theorem lkT_b {S : am_G} {pg : Int} (hY : okY S) : 0 ≤ lkT S pg ∧ lkT S pg ≤ 999 := by
  unfold lkT
  have sb := sty_bd (S := S) (mi := S 0 0 0) hY
  by_cases cs : sty S (S 0 0 0) = -1
  · rw [if_pos cs]
    omega
  · rw [if_neg cs]
    have y := hY.2 (sty S (S 0 0 0)) (by omega) sb.2
    exact ltR_b _ (fun q a b => (y.2.2 q a (by omega)).2.2.1)
section
variable {K : am_K} {b : am_H} {r : Nat} {S : am_G} {V : Nat → Int → Int} {W : Nat → Int}
/-- the page's slugs are written -/
theorem m_lock2 {pg x : Int} {n : Nat} {st : Int → Int} {σ : am_Ft} {d : Nat} {f3 : Int} (hd : 20 ≤ d) (hC : okC S) (hF : okF S) (hA : okA S) (hH : okH S) (hG : okG S) (hY : okY S) (hp : 0 ≤ pg ∧ pg < 6) (hn : n ≤ 4) (hs : ∀ j, 0 ≤ j → j < (n : Int) → (0 ≤ st j ∧ st j < (S 0 0 1)) ∧ (0 ≤ S 2 2 (st j) ∧ S 2 2 (st j) ≤ 5) ∧ ∀ k, 0 ≤ k → k < S 2 2 (st j) → 0 ≤ S 3 (5 * st j + k) 4 ∧ S 3 (5 * st j + k) 3 ≠ 0) (hg : gdR S pg st n σ) (h1 : σ.1 ≠ -1) (w89 : W 89 = n) (v27 : ∀ j, 0 ≤ j → j < (n : Int) → V 27 j = st j) (v30 : ∀ j, 0 ≤ j → j < (n : Int) → V 30 j = σ.2.1 j ∧ V 31 j = σ.2.2 j) (H : K (.inl (some (.inl (σ.1)))) (mo b r (ms (lkS S pg (lkV S st σ.2.1 σ.2.2 n 3))) V W)) : ∀ o7 o8 o9 o10, am_W m_X5_lock (am_ev am_prog (d + 3)) K 90 [some (.inr (.inl r)), some (.inl (pg)), some (.inl (x)), some (.inl (f3)), some (.inl (327382 + 185 * pg)), some (.inl (0)), some (.inl (0)), o7, o8, o9, o10] [] (mo b r (ms S) V W) := by
  have c0 := hC.1
  have c1 := hC.2.1
  have h8 := hH pg hp.1 hp.2
  have g := hg.2 h1
  obtain ⟨ll, l180⟩ := lkV_bd h8.2.1.2 (fun j a b => ⟨(hs j a b).2.1, fun k k0 k1 => ((hs j a b).2.2 k k0 k1).1⟩) hg h1
  -- lines of a part
  have q4 : ∀ (c j k : Int) (A : List Int), 0 ≤ j → j < (n : Int) → 0 ≤ k → k < σ.2.2 j → ((A ++ lnV S (5 * st j + k) (S 3 (5 * st j + k) 4).toNat).length : Int) ≤ 180 → (∀ o9 o10, am_W m_X5_lock (am_ev am_prog (d + 3)) K 101 [some (.inr (.inl r)), some (.inl (pg)), some (.inl (x)), some (.inl (f3)), some (.inl (327382 + 185 * pg)), some (.inl (((A ++ lnV S (5 * st j + k) (S 3 (5 * st j + k) 4).toNat).length : Int))), some (.inl (c)), some (.inl (j)), some (.inl (k + 1)), o9, o10] [] (mo b r (ms (wrL S pg (A ++ lnV S (5 * st j + k) (S 3 (5 * st j + k) 4).toNat))) V W)) → ∀ i, 0 ≤ i → i ≤ S 3 (5 * st j + k) 4 → am_W m_X5_lock (am_ev am_prog (d + 3)) K 125 [some (.inr (.inl r)), some (.inl (pg)), some (.inl (x)), some (.inl (f3)), some (.inl (327382 + 185 * pg)), some (.inl (((A ++ lnV S (5 * st j + k) i.toNat).length : Int))), some (.inl (c)), some (.inl (j)), some (.inl (k)), some (.inl (130 + 645 * (5 * st j + k))), some (.inl (i))] [] (mo b r (ms (wrL S pg (A ++ lnV S (5 * st j + k) i.toNat))) V W) := by
    intro c j k A j0 j1 k0 k1 hb HK
    have sj := hs j j0 j1
    have gj := g.1 j j0 j1
    have ip := isP_5 (S := S) (s := st j) (p := k) sj.1 ⟨k0, by omega⟩ sj.2.1.2
    have a := hA _ ip
    have s3 := sj.2.2 k k0 (by omega)
    have oL := a.2.2.2.2.2.2.1 (by rcases a.2.2.2.2.1 with q | q; exact absurd q s3.2; exact q)
    have p4 := a.2.2.2.2.2.2.2
    have g4 := hG.1
    rw [List.length_append, lnV_len] at hb
    refine lp_z ?_ ?_
    · intro i i0 i1 hL
      have ov := (oL.2.2 i i0 i1).2.2
      have e3 : wrL S pg (A ++ lnV S (5 * st j + k) i.toNat) 3 = S 3 := wrL_c (by decide)
      have el : ((A ++ lnV S (5 * st j + k) i.toNat).length : Int) = A.length + i := by
        rw [List.length_append, lnV_len]
        omega
      have ei : (i + 1).toNat = i.toNat + 1 := by omega
      have eii : ((i.toNat : Nat) : Int) = i := by omega
      have es : A ++ lnV S (5 * st j + k) (i + 1).toNat = (A ++ lnV S (5 * st j + k) i.toNat) ++ [S 3 (5 * st j + k) (45 + i) - 1] := by
        rw [ei]
        show A ++ (lnV S (5 * st j + k) i.toNat ++ [S 3 (5 * st j + k) (45 + ((i.toNat : Nat) : Int)) - 1]) = _
        rw [eii, List.append_assoc]
      rw [es, ← wrL_s] at hL
      have el2 : (((A ++ lnV S (5 * st j + k) i.toNat) ++ [S 3 (5 * st j + k) (45 + i) - 1]).length : Int) = ((A ++ lnV S (5 * st j + k) i.toNat).length : Int) + 1 := by
        rw [List.length_append]
        rfl
      rw [el2] at hL
      refine w_lock_125 ?_
      rw [e3]
      exact ⟨by omega, fun z => absurd z (by omega), fun _ => ⟨by omega, by omega, hL⟩⟩
    · refine w_lock_125 ?_
      have e3 : wrL S pg (A ++ lnV S (5 * st j + k) (S 3 (5 * st j + k) 4).toNat) 3 = S 3 := wrL_c (by decide)
      rw [e3]
      exact ⟨by omega, fun _ => ⟨by omega, HK _ _⟩, fun z => absurd z (by omega)⟩
  -- parts of a story
  have q3 : ∀ (c j : Int) (A : List Int), 0 ≤ j → j < (n : Int) → σ.2.1 j = c → ((A ++ ptV S (st j) (σ.2.2 j).toNat).length : Int) ≤ 180 → (∀ o8 o9 o10, am_W m_X5_lock (am_ev am_prog (d + 3)) K 95 [some (.inr (.inl r)), some (.inl (pg)), some (.inl (x)), some (.inl (f3)), some (.inl (327382 + 185 * pg)), some (.inl (((A ++ ptV S (st j) (σ.2.2 j).toNat).length : Int))), some (.inl (c)), some (.inl (j + 1)), o8, o9, o10] [] (mo b r (ms (wrL S pg (A ++ ptV S (st j) (σ.2.2 j).toNat))) V W)) → ∀ k, 0 ≤ k → k ≤ σ.2.2 j → ∀ o9 o10, am_W m_X5_lock (am_ev am_prog (d + 3)) K 101 [some (.inr (.inl r)), some (.inl (pg)), some (.inl (x)), some (.inl (f3)), some (.inl (327382 + 185 * pg)), some (.inl (((A ++ ptV S (st j) k.toNat).length : Int))), some (.inl (c)), some (.inl (j)), some (.inl (k)), o9, o10] [] (mo b r (ms (wrL S pg (A ++ ptV S (st j) k.toNat))) V W) := by
    intro c j A j0 j1 jc hb HK
    have sj := hs j j0 j1
    have gj := g.1 j j0 j1
    have e27 := v27 j j0 j1
    have e30 := v30 j j0 j1
    have up : ∀ k : Int, 0 ≤ k → k ≤ σ.2.2 j → ((A ++ ptV S (st j) k.toNat).length : Int) ≤ 180 := by
      refine lp_z ?_ hb
      intro k k0 k1 h
      have ek : (k + 1).toNat = k.toNat + 1 := by omega
      rw [ek] at h
      have h' : ((A ++ (ptV S (st j) k.toNat ++ lnV S (5 * st j + ((k.toNat : Nat) : Int)) (S 3 (5 * st j + ((k.toNat : Nat) : Int)) 4).toNat)).length : Int) ≤ 180 := h
      rw [List.length_append, List.length_append] at h'
      rw [List.length_append]
      omega
    refine lp_z ?_ ?_
    · intro k k0 k1 hL o9 o10
      have ek : (k + 1).toNat = k.toNat + 1 := by omega
      have ekk : ((k.toNat : Nat) : Int) = k := by omega
      have es : A ++ ptV S (st j) (k + 1).toNat = (A ++ ptV S (st j) k.toNat) ++ lnV S (5 * st j + k) (S 3 (5 * st j + k) 4).toNat := by
        rw [ek]
        show A ++ (ptV S (st j) k.toNat ++ lnV S (5 * st j + ((k.toNat : Nat) : Int)) (S 3 (5 * st j + ((k.toNat : Nat) : Int)) 4).toNat) = _
        rw [ekk, List.append_assoc]
      have u := up (k + 1) (by omega) (by omega)
      rw [es] at hL u
      refine w_lock_101 ?_
      rw [e27, e30.1, e30.2]
      refine ⟨by omega, fun z => absurd z (by omega), fun _ => ⟨by omega, fun z => absurd jc z, fun _ => ⟨by omega, by omega, ?_⟩⟩⟩
      have q := q4 c j k (A ++ ptV S (st j) k.toNat) j0 j1 k0 k1 u hL 0 (by omega) (sj.2.2 k k0 (by omega)).1
      have e0 : (A ++ ptV S (st j) k.toNat) ++ lnV S (5 * st j + k) ((0 : Int)).toNat = A ++ ptV S (st j) k.toNat := List.append_nil _
      rw [e0] at q
      exact q
    · intro o9 o10
      refine w_lock_101 ?_
      rw [e30.2]
      exact ⟨by omega, fun _ => ⟨by omega, HK _ _ _⟩, fun z => absurd z (by omega)⟩
  -- stories of a column
  have q2 : ∀ (c : Int) (A : List Int), 0 ≤ c → ((A ++ clV S st σ.2.1 σ.2.2 c n).length : Int) ≤ 180 → (∀ o7 o8 o9 o10, am_W m_X5_lock (am_ev am_prog (d + 3)) K 90 [some (.inr (.inl r)), some (.inl (pg)), some (.inl (x)), some (.inl (f3)), some (.inl (327382 + 185 * pg)), some (.inl (((A ++ clV S st σ.2.1 σ.2.2 c n).length : Int))), some (.inl (c + 1)), o7, o8, o9, o10] [] (mo b r (ms (wrL S pg (A ++ clV S st σ.2.1 σ.2.2 c n))) V W)) → c < 3 → ∀ j, 0 ≤ j → j ≤ (n : Int) → ∀ o8 o9 o10, am_W m_X5_lock (am_ev am_prog (d + 3)) K 95 [some (.inr (.inl r)), some (.inl (pg)), some (.inl (x)), some (.inl (f3)), some (.inl (327382 + 185 * pg)), some (.inl (((A ++ clV S st σ.2.1 σ.2.2 c j.toNat).length : Int))), some (.inl (c)), some (.inl (j)), o8, o9, o10] [] (mo b r (ms (wrL S pg (A ++ clV S st σ.2.1 σ.2.2 c j.toNat))) V W) := by
    intro c A c00 hb HK c3
    have en : ((n : Int)).toNat = n := by omega
    have up : ∀ j : Int, 0 ≤ j → j ≤ (n : Int) → ((A ++ clV S st σ.2.1 σ.2.2 c j.toNat).length : Int) ≤ 180 := by
      refine lp_z ?_ (by rw [en]; exact hb)
      intro k k0 k1 h
      have ek : (k + 1).toNat = k.toNat + 1 := by omega
      rw [ek] at h
      have h' : ((A ++ (clV S st σ.2.1 σ.2.2 c k.toNat ++ _)).length : Int) ≤ 180 := h
      rw [List.length_append, List.length_append] at h'
      rw [List.length_append]
      omega
    refine lp_z ?_ ?_
    · intro j j0 j1 hL o8 o9 o10
      have ek : (j + 1).toNat = j.toNat + 1 := by omega
      have ekk : ((j.toNat : Nat) : Int) = j := by omega
      have es : A ++ clV S st σ.2.1 σ.2.2 c (j + 1).toNat = (A ++ clV S st σ.2.1 σ.2.2 c j.toNat) ++ (if σ.2.1 j = c then ptV S (st j) (σ.2.2 j).toNat else []) := by
        rw [ek]
        show A ++ (clV S st σ.2.1 σ.2.2 c j.toNat ++ (if σ.2.1 ((j.toNat : Nat) : Int) = c then ptV S (st ((j.toNat : Nat) : Int)) (σ.2.2 ((j.toNat : Nat) : Int)).toNat else [])) = _
        rw [ekk, List.append_assoc]
      have u := up (j + 1) (by omega) (by omega)
      rw [es] at hL u
      have gj := g.1 j j0 j1
      have e30 := v30 j j0 j1
      refine w_lock_95 ⟨fun z => absurd z (by omega), fun _ => ?_⟩
      by_cases jc : σ.2.1 j = c
      · rw [if_pos jc] at hL u
        have q := q3 c j (A ++ clV S st σ.2.1 σ.2.2 c j.toNat) j0 j1 jc u hL 0 (by omega) (by omega) o9 o10
        have e0 : (A ++ clV S st σ.2.1 σ.2.2 c j.toNat) ++ ptV S (st j) ((0 : Int)).toNat = A ++ clV S st σ.2.1 σ.2.2 c j.toNat := List.append_nil _
        rw [e0] at q
        exact q
      · rw [if_neg jc, List.append_nil] at hL
        refine w_lock_101 ?_
        rw [e30.1, e30.2]
        exact ⟨by omega, fun z => absurd z (by omega), fun _ => ⟨by omega, fun _ => ⟨by omega, hL _ _ _⟩, fun z => absurd z jc⟩⟩
    · intro o8 o9 o10
      rw [en]
      exact w_lock_95 ⟨fun _ => ⟨by omega, HK _ _ _ _⟩, fun z => absurd z (by omega)⟩
  -- columns
  have up1 : ∀ c : Nat, c ≤ 3 → ((lkV S st σ.2.1 σ.2.2 n c).length : Int) ≤ 180 := by
    intro c hc
    have e1 : (lkV S st σ.2.1 σ.2.2 n 1).length = (lkV S st σ.2.1 σ.2.2 n 0).length + (clV S st σ.2.1 σ.2.2 0 n).length := List.length_append
    have e2 : (lkV S st σ.2.1 σ.2.2 n 2).length = (lkV S st σ.2.1 σ.2.2 n 1).length + (clV S st σ.2.1 σ.2.2 1 n).length := List.length_append
    have e3 : (lkV S st σ.2.1 σ.2.2 n 3).length = (lkV S st σ.2.1 σ.2.2 n 2).length + (clV S st σ.2.1 σ.2.2 2 n).length := List.length_append
    have cc : c = 0 ∨ c = 1 ∨ c = 2 ∨ c = 3 := by omega
    rcases cc with e | e | e | e <;> rw [e] <;> omega
  have q1 : ∀ c, 0 ≤ c → c ≤ 3 → ∀ o7 o8 o9 o10, am_W m_X5_lock (am_ev am_prog (d + 3)) K 90 [some (.inr (.inl r)), some (.inl (pg)), some (.inl (x)), some (.inl (f3)), some (.inl (327382 + 185 * pg)), some (.inl (((lkV S st σ.2.1 σ.2.2 n c.toNat).length : Int))), some (.inl (c)), o7, o8, o9, o10] [] (mo b r (ms (wrL S pg (lkV S st σ.2.1 σ.2.2 n c.toNat))) V W) := by
    refine lp_z ?_ ?_
    · intro c c00 c3 hL o7 o8 o9 o10
      have ek : (c + 1).toNat = c.toNat + 1 := by omega
      have ekk : ((c.toNat : Nat) : Int) = c := by omega
      have es : lkV S st σ.2.1 σ.2.2 n (c + 1).toNat = lkV S st σ.2.1 σ.2.2 n c.toNat ++ clV S st σ.2.1 σ.2.2 c n := by
        rw [ek]
        show lkV S st σ.2.1 σ.2.2 n c.toNat ++ clV S st σ.2.1 σ.2.2 ((c.toNat : Nat) : Int) n = _
        rw [ekk]
      have u := up1 (c + 1).toNat (by omega)
      rw [es] at hL u
      refine w_lock_90 ⟨fun z => absurd z (by omega), fun _ => ?_⟩
      have q := q2 c (lkV S st σ.2.1 σ.2.2 n c.toNat) c00 u hL c3 0 (by omega) (by omega) o8 o9 o10
      have e0 : lkV S st σ.2.1 σ.2.2 n c.toNat ++ clV S st σ.2.1 σ.2.2 c ((0 : Int)).toNat = lkV S st σ.2.1 σ.2.2 n c.toNat := List.append_nil _
      rw [e0] at q
      exact q
    · intro o7 o8 o9 o10
      refine w_lock_90 ⟨fun _ => ⟨by omega, by omega, ?_⟩, fun z => absurd z (by omega)⟩
      have e3 : ((3 : Int)).toNat = 3 := rfl
      rw [e3]
      have lk : lkS S pg (lkV S st σ.2.1 σ.2.2 n 3) = u3 (u3 (u3 (wrL S pg (lkV S st σ.2.1 σ.2.2 n 3)) 8 pg 2 ((lkV S st σ.2.1 σ.2.2 n 3).length : Int)) 8 pg 3 (S 0 0 0)) 8 pg 4 (lkD S pg) := rfl
      rw [lk] at H
      have w0 : wrL S pg (lkV S st σ.2.1 σ.2.2 n 3) 0 = S 0 := wrL_c (by decide)
      have w6 : wrL S pg (lkV S st σ.2.1 σ.2.2 n 3) 6 = S 6 := wrL_c (by decide)
      rw [w0]
      have T0 : u3 (u3 (wrL S pg (lkV S st σ.2.1 σ.2.2 n 3)) 8 pg 2 ((lkV S st σ.2.1 σ.2.2 n 3).length : Int)) 8 pg 3 (S 0 0 0) 0 = S 0 := (u3_r (by decide)).trans ((u3_r (by decide)).trans w0)
      have T6 : u3 (u3 (wrL S pg (lkV S st σ.2.1 σ.2.2 n 3)) 8 pg 2 ((lkV S st σ.2.1 σ.2.2 n 3).length : Int)) 8 pg 3 (S 0 0 0) 6 = S 6 := (u3_r (by decide)).trans ((u3_r (by decide)).trans w6)
      generalize u3 (u3 (wrL S pg (lkV S st σ.2.1 σ.2.2 n 3)) 8 pg 2 ((lkV S st σ.2.1 σ.2.2 n 3).length : Int)) 8 pg 3 (S 0 0 0) = T at *
      rw [ll]
      refine c_styleOf (by omega) (okY_c T0 T6 hY) (am_av (w_lock_183 ?_))
      rw [sty_c T0 T6]
      have fin : ∀ t, t = lkT S pg → (S 0 0 0 ≤ t → (0 ≤ pg ∧ pg < 6) ∧ K (.inl (some (.inl (σ.1)))) (mo b r (ms (u3 T 8 pg 4 0)) V W)) ∧ (t < S 0 0 0 → (-2147483648 ≤ S 0 0 0 - t ∧ S 0 0 0 - t ≤ 2147483647) ∧ ((0 ≤ pg ∧ pg < 6) ∧ K (.inl (some (.inl (σ.1)))) (mo b r (ms (u3 T 8 pg 4 (S 0 0 0 - t))) V W))) := by
        intro t et
        have tb := lkT_b (S := S) (pg := pg) hY
        unfold lkD at H
        rw [← et] at H tb
        constructor
        · intro z
          rw [if_pos z] at H
          exact ⟨hp, H⟩
        · intro z
          rw [if_neg (by omega)] at H
          exact ⟨by omega, hp, H⟩
      have sb := sty_bd (S := S) (mi := S 0 0 0) hY
      by_cases cs : sty S (S 0 0 0) = -1
      · have et : (600 : Int) = lkT S pg := (if_pos cs).symm
        have f := fin 600 et
        rw [cs, adr_n]
        refine w_lock_188 (p6 := 0) ?_
        rw [T0]
        exact ⟨fun _ => ⟨by omega, f⟩, fun z => absurd rfl z⟩
      · have y := hY.2 (sty S (S 0 0 0)) (by omega) sb.2
        have y10 := hY.1
        have et : ltR (S 6 (sty S (S 0 0 0))) pg (S 6 (sty S (S 0 0 0)) 1).toNat = lkT S pg := (if_neg cs).symm
        have f := fin _ et
        rw [adr_p (by omega)]
        generalize sty S (S 0 0 0) = k at *
        have loop : ∀ q, 0 ≤ q → q ≤ S 6 k 1 → ∀ o9 o10, am_W m_X5_lock (am_ev am_prog (d + 3)) K 188 [some (.inr (.inl r)), some (.inl (pg)), some (.inl (x)), some (.inl (f3)), some (.inl (327382 + 185 * pg)), some (.inl (σ.1)), some (.inl (320962 + 562 * k)), some (.inl (ltR (S 6 k) pg q.toNat)), some (.inl (q)), o9, o10] [] (mo b r (ms T) V W) := by
          refine lp_z ?_ ?_
          · intro q q0 q1 hL o9 o10
            have yq := y.2.2 q q0 q1
            have ek : (q + 1).toNat = q.toNat + 1 := by omega
            have ekk : ((q.toNat : Nat) : Int) = q := by omega
            have es : ltR (S 6 k) pg (q + 1).toNat = if S 6 k (2 + 5 * q) = 6 ∧ S 6 k (3 + 5 * q) = pg then S 6 k (4 + 5 * q) else ltR (S 6 k) pg q.toNat := by
              rw [ek]
              show (if S 6 k (2 + 5 * ((q.toNat : Nat) : Int)) = 6 ∧ S 6 k (3 + 5 * ((q.toNat : Nat) : Int)) = pg then S 6 k (4 + 5 * ((q.toNat : Nat) : Int)) else ltR (S 6 k) pg q.toNat) = _
              rw [ekk]
            rw [es] at hL
            refine w_lock_188 (p6 := k) ?_
            rw [T6]
            refine ⟨fun z => absurd z (by omega), fun _ => ⟨by omega, fun z => absurd z (by omega), fun _ => ⟨by omega, fun z => ⟨by omega, ?_⟩, fun z => ⟨by omega, fun z2 => ⟨by omega, ?_⟩, fun z2 => ⟨by omega, by omega, ?_⟩⟩⟩⟩⟩
            · rw [if_neg (fun w => z w.1)] at hL
              exact hL _ _
            · rw [if_neg (fun w => z2 w.2)] at hL
              exact hL _ _
            · rw [if_pos ⟨z, z2⟩] at hL
              exact hL _ _
          · intro o9 o10
            refine w_lock_188 (p6 := k) ?_
            rw [T6, T0]
            exact ⟨fun z => absurd z (by omega), fun _ => ⟨by omega, fun _ => ⟨by omega, f⟩, fun z => absurd z (by omega)⟩⟩
        exact loop 0 (by omega) y.2.1.1 _ _
  have q := q1 0 (by omega) (by omega)
  have e0 : lkV S st σ.2.1 σ.2.2 n ((0 : Int)).toNat = [] := rfl
  rw [e0, wrL_0] at q
  exact q
theorem M_lock {pg x : Int} {D : Nat} (hD : 90 ≤ D) (hC : okC S) (hF : okF S) (hA : okA S) (hH : okH S) (hG : okG S) (h0 : ok0 S) (hY : okY S) (hx : -2147483648 ≤ x ∧ x ≤ 2147483647) (H1 : ¬ ((0 ≤ pg ∧ pg < 6) ∧ (0 ≤ x ∧ x < am_shlz 1 (S 0 0 1))) → MR b r K S V W 1 (0)) (H2 : (0 ≤ pg ∧ pg < 6) ∧ (0 ≤ x ∧ x < am_shlz 1 (S 0 0 1)) → ¬ (1 ≤ (bcn x.toNat (S 0 0 1).toNat : Int) ∧ (bcn x.toNat (S 0 0 1).toNat : Int) ≤ 4) → MR b r K S V W 2 (0)) (H3 : (0 ≤ pg ∧ pg < 6) ∧ (0 ≤ x ∧ x < am_shlz 1 (S 0 0 1)) → 1 ≤ (bcn x.toNat (S 0 0 1).toNat : Int) ∧ (bcn x.toNat (S 0 0 1).toNat : Int) ≤ 4 → ¬ stS S x → MR b r K S V W 3 (0)) (H4 : (0 ≤ pg ∧ pg < 6) ∧ (0 ≤ x ∧ x < am_shlz 1 (S 0 0 1)) → 1 ≤ (bcn x.toNat (S 0 0 1).toNat : Int) ∧ (bcn x.toNat (S 0 0 1).toNat : Int) ≤ 4 → stS S x → ¬ ((fiR S pg (skL x.toNat (S 0 0 1).toNat) (bcn x.toNat ((S 0 0 1)).toNat)).1 ≠ -1 ∧ AR S (skL x.toNat (S 0 0 1).toNat) (fiR S pg (skL x.toNat (S 0 0 1).toNat) (bcn x.toNat ((S 0 0 1)).toNat)).2.2 (bcn x.toNat (S 0 0 1).toNat : Int)) → MR b r K S V W 0 (-1)) (H0 : (0 ≤ pg ∧ pg < 6) ∧ (0 ≤ x ∧ x < am_shlz 1 (S 0 0 1)) → 1 ≤ (bcn x.toNat (S 0 0 1).toNat : Int) ∧ (bcn x.toNat (S 0 0 1).toNat : Int) ≤ 4 → stS S x → (fiR S pg (skL x.toNat (S 0 0 1).toNat) (bcn x.toNat ((S 0 0 1)).toNat)).1 ≠ -1 → AR S (skL x.toNat (S 0 0 1).toNat) (fiR S pg (skL x.toNat (S 0 0 1).toNat) (bcn x.toNat ((S 0 0 1)).toNat)).2.2 (bcn x.toNat (S 0 0 1).toNat : Int) → MR b r K (lkS S pg (lkV S (skL x.toNat (S 0 0 1).toNat) (fiR S pg (skL x.toNat (S 0 0 1).toNat) (bcn x.toNat ((S 0 0 1)).toNat)).2.1 (fiR S pg (skL x.toNat (S 0 0 1).toNat) (bcn x.toNat ((S 0 0 1)).toNat)).2.2 (bcn x.toNat (S 0 0 1).toNat) 3)) V W 0 ((fiR S pg (skL x.toNat (S 0 0 1).toNat) (bcn x.toNat ((S 0 0 1)).toNat)).1)) : am_ev am_prog D 79 [.inr (.inl r), .inl pg, .inl x] (mo b r (ms S) V W) K := by
  have c1 := hC.2.1
  obtain ⟨d, rfl⟩ : ∃ d, D = d + 4 := ⟨D - 4, by omega⟩
  refine am_en p_X5_lock rfl rfl ?_
  refine w_lock_0 (c_notFit (by omega) hC hF hx (fun c => am_av (w_lock_5 ⟨fun z => absurd z (by omega), fun _ => MR_up (H1 c)⟩)) (fun c c2 => am_av (w_lock_5 ⟨fun z => absurd z (by omega), fun _ => MR_up (H2 c c2)⟩)) (fun c c2 c3 => am_av (w_lock_5 ⟨fun z => absurd z (by omega), fun _ => MR_up (H3 c c2 c3)⟩)) (fun c c2 c3 => am_av (w_lock_5 ⟨fun _ => ?_, fun z => absurd z (by omega)⟩)))
  refine c_fitting (by omega) hC hF hA hH hx.2 c c2 (fun V' W' fV fW e89 e27 eF => am_an (w_lock_15 ?_))
  have H4' := H4 c c2 c3
  have H0' := H0 c c2 c3
  have gd := fiR_gd hC hF hA hH c.1 c.2.1
  have hs : ∀ j, 0 ≤ j → j < (bcn x.toNat (S 0 0 1).toNat : Int) → (0 ≤ (skL x.toNat (S 0 0 1).toNat) j ∧ (skL x.toNat (S 0 0 1).toNat) j < (S 0 0 1)) ∧ (0 ≤ S 2 2 ((skL x.toNat (S 0 0 1).toNat) j) ∧ S 2 2 ((skL x.toNat (S 0 0 1).toNat) j) ≤ 5) ∧ ∀ k, 0 ≤ k → k < S 2 2 ((skL x.toNat (S 0 0 1).toNat) j) → 0 ≤ S 3 (5 * (skL x.toNat (S 0 0 1).toNat) j + k) 4 ∧ S 3 (5 * (skL x.toNat (S 0 0 1).toNat) j + k) 3 ≠ 0 := by
    intro j j0 j1
    have sv := skL_v x.toNat ((S 0 0 1)).toNat j j0 j1
    have sb := st_SB hC hF hA c.2.1 j j0 j1
    have sc : (skL x.toNat (S 0 0 1).toNat) j < (S 0 0 1) := by omega
    have bx : bt x ((skL x.toNat (S 0 0 1).toNat) j) = 1 := sv.2
    exact ⟨⟨sv.1.1, sc⟩, sb.2.1, fun k k0 k1 => ⟨(sb.2.2 k k0 k1).1, c3 _ sv.1.1 sc bx k k0 k1⟩⟩
  generalize (fiR S pg (skL x.toNat (S 0 0 1).toNat) (bcn x.toNat ((S 0 0 1)).toNat)) = σ at *
  generalize (skL x.toNat (S 0 0 1).toNat) = st at *
  generalize (bcn x.toNat (S 0 0 1).toNat) = n at *
  have q : ∀ V' W', fa [27, 28, 29, 30, 31, 32, 17, 18] V V' → fa [89, 90, 73] (am_up W 38 0) W' → W' 89 = n → (∀ j, 0 ≤ j → j < (n : Int) → V' 27 j = st j) → FtR n V' W' σ → ∀ (x4 x3 : Int), 0 ≤ x4 → x4 ≤ n → ((x3 = 1 ∧ σ.1 ≠ -1 ∧ AR S st σ.2.2 x4) ∨ (x3 = 0 ∧ ¬ (σ.1 ≠ -1 ∧ AR S st σ.2.2 n))) → ∀ o5 o6 o7 o8 o9 o10, am_W m_X5_lock (am_ev am_prog (d + 3)) K 25 [some (.inr (.inl r)), some (.inl (pg)), some (.inl (x)), some (.inl (x3)), some (.inl (x4)), o5, o6, o7, o8, o9, o10] [] (mo b r (ms S) V' W') := by
    intro V' W' fV fW e89 e27 eF x4 x3 h0' h4 hor
    -- the flag is down
    have dn : ∀ V' W', fa [27, 28, 29, 30, 31, 32, 17, 18] V V' → fa [89, 90, 73] (am_up W 38 0) W' → ¬ (σ.1 ≠ -1 ∧ AR S st σ.2.2 n) → ∀ (x4 : Int), ∀ o5 o6 o7 o8 o9 o10, am_W m_X5_lock (am_ev am_prog (d + 3)) K 25 [some (.inr (.inl r)), some (.inl (pg)), some (.inl (x)), some (.inl (0)), some (.inl (x4)), o5, o6, o7, o8, o9, o10] [] (mo b r (ms S) V' W') := by
      intro V' W' fV fW na x4 o5 o6 o7 o8 o9 o10
      exact w_lock_25 ⟨fun _ => ⟨fun z => absurd rfl z, fun _ => MR_f (H4' na) fV fW rfl rfl rfl rfl rfl rfl⟩, fun _ => ⟨fun _ => ⟨fun z => absurd rfl z, fun _ => MR_f (H4' na) fV fW rfl rfl rfl rfl rfl rfl⟩, fun z => absurd rfl z⟩⟩
    rcases hor with hor | hor
    · obtain ⟨e3, e1, _⟩ := hor
      have ek := eF.2.2 e1
      -- all right so far
      have q3 : ∀ j, 0 ≤ j → j ≤ (n : Int) → AR S st σ.2.2 j → ∀ V' W', fa [27, 28, 29, 30, 31, 32, 17, 18] V V' → fa [89, 90, 73] (am_up W 38 0) W' → W' 89 = n → (∀ j, 0 ≤ j → j < (n : Int) → V' 27 j = st j) → FtR n V' W' σ → ∀ o5 o6 o7 o8 o9 o10, am_W m_X5_lock (am_ev am_prog (d + 3)) K 25 [some (.inr (.inl r)), some (.inl (pg)), some (.inl (x)), some (.inl (1)), some (.inl (j)), o5, o6, o7, o8, o9, o10] [] (mo b r (ms S) V' W') := by
        refine lp_z ?_ ?_
        · intro j j0 j1 hL hj V' W' fV fW e89 e27 eF o5 o6 o7 o8 o9 o10
          have sj := hs j j0 j1
          have gj := ((gd.2 e1).1 j j0 j1).2
          refine w_lock_25 ⟨fun z => absurd z (by omega), fun _ => ⟨fun z => absurd z (by decide), fun _ => ?_⟩⟩
          -- a story's parts, the flag down
          have d33 : ¬ AR S st σ.2.2 n → ∀ k, 0 ≤ k → k ≤ σ.2.2 j → ∀ V' W', fa [27, 28, 29, 30, 31, 32, 17, 18] V V' → fa [89, 90, 73] (am_up W 38 0) W' → W' 89 = n → (∀ j, 0 ≤ j → j < (n : Int) → V' 27 j = st j) → FtR n V' W' σ → ∀ o6 o7 o8 o9 o10, am_W m_X5_lock (am_ev am_prog (d + 3)) K 33 [some (.inr (.inl r)), some (.inl (pg)), some (.inl (x)), some (.inl (0)), some (.inl (j)), some (.inl (k)), o6, o7, o8, o9, o10] [] (mo b r (ms S) V' W') := by
            intro na
            refine lp_z ?_ ?_
            · intro k k0 k1 hK V' W' fV fW e89 e27 eF o6 o7 o8 o9 o10
              refine w_lock_33 ?_
              rw [(eF.2.2 e1 j j0 j1).2, e27 j j0 j1]
              refine ⟨by omega, fun z => absurd z (by omega), fun _ => ⟨by omega, ?_⟩⟩
              have p4 := (sj.2.2 k k0 (by omega)).1
              have l50 : ∀ l, 0 ≤ l → l ≤ S 3 (5 * st j + k) 4 → am_W m_X5_lock (am_ev am_prog (d + 3)) K 50 [some (.inr (.inl r)), some (.inl (pg)), some (.inl (x)), some (.inl (0)), some (.inl (j)), some (.inl (k)), some (.inl (5 * st j + k)), some (.inl (l)), o8, o9, o10] [] (mo b r (ms S) V' W') := by
                have p40 := (hA _ (isP_5 (S := S) (s := st j) (p := k) sj.1 ⟨k0, by omega⟩ sj.2.1.2)).2.2.2.2.2.2.2
                refine lp_z ?_ ?_
                · intro l l0 l1 hl
                  exact w_lock_50 ⟨by omega, by omega, fun z => absurd z (by omega), fun _ => ⟨fun _ => ⟨by omega, hl⟩, fun z => absurd rfl z⟩⟩
                · exact w_lock_50 ⟨by omega, by omega, fun _ => ⟨by omega, hK V' W' fV fW e89 e27 eF _ _ _ _ _⟩, fun z => absurd z (by omega)⟩
              exact l50 0 (by omega) p4
            · intro V' W' fV fW e89 e27 eF o6 o7 o8 o9 o10
              refine w_lock_33 ?_
              rw [(eF.2.2 e1 j j0 j1).2]
              exact ⟨by omega, fun _ => ⟨by omega, dn V' W' fV fW (fun z => na z.2) _ _ _ _ _ _ _⟩, fun z => absurd z (by omega)⟩
          have q33 : ∀ k, 0 ≤ k → k ≤ σ.2.2 j → (∀ k', 0 ≤ k' → k' < k → ∀ l, 0 ≤ l → l < S 3 (5 * st j + k') 4 → rgt S (5 * st j + k') l) → ∀ V' W', fa [27, 28, 29, 30, 31, 32, 17, 18] V V' → fa [89, 90, 73] (am_up W 38 0) W' → W' 89 = n → (∀ j, 0 ≤ j → j < (n : Int) → V' 27 j = st j) → FtR n V' W' σ → ∀ o6 o7 o8 o9 o10, am_W m_X5_lock (am_ev am_prog (d + 3)) K 33 [some (.inr (.inl r)), some (.inl (pg)), some (.inl (x)), some (.inl (1)), some (.inl (j)), some (.inl (k)), o6, o7, o8, o9, o10] [] (mo b r (ms S) V' W') := by
            refine lp_z ?_ ?_
            · intro k k0 k1 hK hk V' W' fV fW e89 e27 eF o6 o7 o8 o9 o10
              have ip := isP_5 (S := S) (s := st j) (p := k) sj.1 ⟨k0, by omega⟩ sj.2.1.2
              have p40 := (hA _ ip).2.2.2.2.2.2.2
              have s3 := sj.2.2 k k0 (by omega)
              refine w_lock_33 ?_
              rw [(eF.2.2 e1 j j0 j1).2, e27 j j0 j1]
              refine ⟨by omega, fun z => absurd z (by omega), fun _ => ⟨by omega, ?_⟩⟩
              have l50 : ∀ l, 0 ≤ l → l ≤ S 3 (5 * st j + k) 4 → (∀ l', 0 ≤ l' → l' < l → rgt S (5 * st j + k) l') → ∀ V' W', fa [27, 28, 29, 30, 31, 32, 17, 18] V V' → fa [89, 90, 73] (am_up W 38 0) W' → W' 89 = n → (∀ j, 0 ≤ j → j < (n : Int) → V' 27 j = st j) → FtR n V' W' σ → am_W m_X5_lock (am_ev am_prog (d + 3)) K 50 [some (.inr (.inl r)), some (.inl (pg)), some (.inl (x)), some (.inl (1)), some (.inl (j)), some (.inl (k)), some (.inl (5 * st j + k)), some (.inl (l)), o8, o9, o10] [] (mo b r (ms S) V' W') := by
                refine lp_z ?_ ?_
                · intro l l0 l1 hl hr V' W' fV fW e89 e27 eF
                  refine w_lock_50 ⟨by omega, by omega, fun z => absurd z (by omega), fun _ => ⟨fun z => absurd z (by decide), fun _ => ?_⟩⟩
                  refine c_rightS (by omega) hC hF hA hG h0 ip s3.2 ⟨l0, l1⟩ (fun V2 W2 f2 fw2 => ⟨fun rt => am_av (w_lock_65 ⟨by omega, ?_⟩), fun rt => am_av (w_lock_65 ⟨by omega, ?_⟩)⟩)
                  · exact hl (fun l' a b => by
                      by_cases e : l' = l
                      · rw [e]
                        exact rt
                      · exact hr l' a (by omega)) V2 W2 (fa_trans fV (fa_sub f2 rfl)) (fa_trans fW (fa_sub fw2 rfl)) ((fw2 89 rfl).trans e89) (fun j a b => by rw [f2 27 rfl]; exact e27 j a b) (FtR_f eF (fw2 90 rfl) (f2 30 rfl) (f2 31 rfl))
                  · have na : ¬ AR S st σ.2.2 n := fun z => rt (z j j0 j1 k k0 k1 l l0 l1)
                    have l51 : ∀ l, 0 ≤ l → l ≤ S 3 (5 * st j + k) 4 → am_W m_X5_lock (am_ev am_prog (d + 3)) K 50 [some (.inr (.inl r)), some (.inl (pg)), some (.inl (x)), some (.inl (0)), some (.inl (j)), some (.inl (k)), some (.inl (5 * st j + k)), some (.inl (l)), o8, o9, o10] [] (mo b r (ms S) V2 W2) := by
                      refine lp_z ?_ ?_
                      · intro l l0 l1 hl
                        exact w_lock_50 ⟨by omega, by omega, fun z => absurd z (by omega), fun _ => ⟨fun _ => ⟨by omega, hl⟩, fun z => absurd rfl z⟩⟩
                      · exact w_lock_50 ⟨by omega, by omega, fun _ => ⟨by omega, d33 na (k + 1) (by omega) (by omega) V2 W2 (fa_trans fV (fa_sub f2 rfl)) (fa_trans fW (fa_sub fw2 rfl)) ((fw2 89 rfl).trans e89) (fun j a b => by rw [f2 27 rfl]; exact e27 j a b) (FtR_f eF (fw2 90 rfl) (f2 30 rfl) (f2 31 rfl)) _ _ _ _ _⟩, fun z => absurd z (by omega)⟩
                    exact l51 (l + 1) (by omega) (by omega)
                · intro hr V' W' fV fW e89 e27 eF
                  refine w_lock_50 ⟨by omega, by omega, fun _ => ⟨by omega, hK (fun k' a b => ?_) V' W' fV fW e89 e27 eF _ _ _ _ _⟩, fun z => absurd z (by omega)⟩
                  by_cases e : k' = k
                  · rw [e]
                    exact hr
                  · exact hk k' a (by omega)
              exact l50 0 (by omega) s3.1 (fun l' a b => absurd b (by omega)) V' W' fV fW e89 e27 eF
            · intro hk V' W' fV fW e89 e27 eF o6 o7 o8 o9 o10
              refine w_lock_33 ?_
              rw [(eF.2.2 e1 j j0 j1).2]
              refine ⟨by omega, fun _ => ⟨by omega, hL (fun j' a b => ?_) V' W' fV fW e89 e27 eF _ _ _ _ _ _⟩, fun z => absurd z (by omega)⟩
              by_cases e : j' = j
              · rw [e]
                exact hk
              · exact hj j' a (by omega)
          exact q33 0 (by omega) (by omega) (fun k' a b => absurd b (by omega)) V' W' fV fW e89 e27 eF _ _ _ _ _
        · intro ar V' W' fV fW e89 e27 eF o5 o6 o7 o8 o9 o10
          refine w_lock_25 ⟨fun _ => ⟨fun _ => ⟨by omega, ?_⟩, fun z => absurd z (by decide)⟩, fun z => absurd z (by omega)⟩
          refine m_lock2 (by omega) hC hF hA hH hG hY c.1 (by omega) hs gd e1 e89 e27 (eF.2.2 e1) ?_ _ _ _ _
          exact MR_f (H0' e1 ar) fV fW rfl rfl rfl rfl rfl rfl
      intro o5 o6 o7 o8 o9 o10
      rw [e3]
      exact q3 x4 h0' h4 (by assumption) V' W' fV fW e89 e27 eF _ _ _ _ _ _
    · intro o5 o6 o7 o8 o9 o10
      rw [hor.1]
      exact dn V' W' fV fW hor.2 x4 _ _ _ _ _ _
  have w90 := eF.1
  refine q V' W' (fa_sub fV rfl) (fa_sub fW rfl) e89 e27 eF 0 _ (by omega) (by omega) ?_ _ _ _ _ _ _
  rw [w90]
  by_cases e1 : σ.1 = -1
  · exact Or.inr ⟨am_bf (fun z => z e1), fun z => z.1 e1⟩
  · exact Or.inl ⟨am_bt e1, e1, fun j a b => absurd b (by omega)⟩
end
