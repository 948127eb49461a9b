set_option maxRecDepth 100000
/-- how often a sign is in what was cast as slug s -/
def cst (S : am_G) (c s : Int) : Int := sg (fun j => am_b (S 4 s (12 + j) = sgn c)) 0 (S 4 s 9).toNat
/-- what machine k has of sign c in what it cast from minute f on, ahead of minute mi; the first n slugs -/
def outN (S : am_G) (k c f mi : Int) : Nat → Int
  | 0 => 0
  | n + 1 => if S 4 n 2 < f then 0 else (if S 4 n 1 = k ∧ S 4 n 2 < mi then cst S c n else 0) + outN S k c f mi n
def thr (S : am_G) (k c mi : Int) : Int := if 0 ≤ S 5 k c - outN S k c (mi - S 5 k 27) mi (S 0 0 4).toNat then S 5 k c - outN S k c (mi - S 5 k 27) mi (S 0 0 4).toNat else 0
/-- the slugs' numbers are in their ranges -/
def okG (S : am_G) : Prop := (0 ≤ S 0 0 4 ∧ S 0 0 4 ≤ 300) ∧ ∀ s, 0 ≤ s → s < S 0 0 4 → (0 ≤ S 4 s 0 ∧ S 4 s 0 < 100) ∧ (0 ≤ S 4 s 1 ∧ S 4 s 1 < 4) ∧ (0 ≤ S 4 s 2 ∧ S 4 s 2 ≤ 600) ∧ (0 ≤ S 4 s 9 ∧ S 4 s 9 ≤ 420)
theorem cst_bd {S : am_G} {c s : Int} (h : 0 ≤ S 4 s 9 ∧ S 4 s 9 ≤ 420) : 0 ≤ cst S c s ∧ cst S c s ≤ 420 := by
  have e := sg_bd (f := fun j => am_b (S 4 s (12 + j) = sgn c)) (c := 1) (S 4 s 9).toNat 0 (fun j _ _ => by
    show 0 ≤ am_b (S 4 s (12 + j) = sgn c) ∧ am_b (S 4 s (12 + j) = sgn c) ≤ 1
    rcases am_bz (S 4 s (12 + j) = sgn c) with e | e <;> rw [e] <;> omega)
  unfold cst
  omega
theorem outN_bd {S : am_G} {k c f mi : Int} (h : okG S) : ∀ n : Nat, (n : Int) ≤ S 0 0 4 → 0 ≤ outN S k c f mi n ∧ outN S k c f mi n ≤ 420 * (n : Int)
  | 0, _ => by
    show (0 : Int) ≤ 0 ∧ (0 : Int) ≤ 420 * ((0 : Nat) : Int)
    omega
  | n + 1, hn => by
    have ih := outN_bd (k := k) (c := c) (f := f) (mi := mi) h n (by omega)
    have e := cst_bd (S := S) (c := c) (s := (n : Int)) (h.2 n (by omega) (by omega)).2.2.2
    unfold outN
    split
    · omega
    · split <;> omega
section
variable {K : am_K} {b : am_H} {r : Nat} {S : am_G} {V : Nat → Int → Int} {W : Nat → Int}
theorem c_there {k c mi : Int} {D : Nat} (hD : 4 ≤ D) (hk : 0 ≤ k ∧ k < 4) (hc : 0 ≤ c ∧ c < 27) (hmi : 0 ≤ mi ∧ mi ≤ 1000) (hG : okG S) (hbk : 0 ≤ S 5 k 27 ∧ S 5 k 27 ≤ 9) (hbr : 0 ≤ S 5 k c ∧ S 5 k c ≤ 40) (H : K (.inl (some (.inl (thr S k c mi)))) (mo b r (ms S) V W)) : am_ev am_prog D 181 [.inr (.inl r), .inl k, .inl c, .inl mi] (mo b r (ms S) V W) K := by
  have h0 := hG.1
  obtain ⟨d, rfl⟩ : ∃ d, D = d + 4 := ⟨D - 4, by omega⟩
  refine am_en p_X5_there rfl rfl ?_
  refine w_there_0 ⟨by omega, by omega, by omega, by omega, ?_⟩
  have fin : ∀ x : Int, S 5 k c - outN S k c (mi - S 5 k 27) mi (S 0 0 4).toNat = x → (0 ≤ x → K (.inl (some (.inl (x)))) (mo b r (ms S) V W)) ∧ (x < 0 → K (.inl (some (.inl (0)))) (mo b r (ms S) V W)) := by
    intro x e
    unfold thr at H
    rw [e] at H
    refine ⟨fun z => ?_, fun z => ?_⟩
    · rw [if_pos z] at H
      exact H
    · rw [if_neg (by omega)] at H
      exact H
  have main : ∀ (n : Nat) (x : Int) (o7 o8 o9 : Option am_V), (n : Int) ≤ S 0 0 4 → x - outN S k c (mi - S 5 k 27) mi n = S 5 k c - outN S k c (mi - S 5 k 27) mi (S 0 0 4).toNat → -200000 + 420 * (n : Int) ≤ x → x ≤ 40 → am_W m_X5_there (am_ev am_prog (d + 3)) K 25 [some (.inr (.inl r)), some (.inl (k)), some (.inl (c)), some (.inl (mi)), some (.inl (x)), some (.inl (mi - S 5 k 27)), some (.inl ((n : Int) - 1)), o7, o8, o9] [] (mo b r (ms S) V W) := by
    intro n
    induction n with
    | zero =>
      intro x o7 o8 o9 _ e _ _
      have e2 : x - outN S k c (mi - S 5 k 27) mi 0 = x := Int.sub_zero x
      rw [e2] at e
      exact w_there_25 ⟨fun _ => fin x e.symm, fun z => absurd z (by simp)⟩
    | succ n ih =>
      intro x o7 o8 o9 hn e hx1 hx2
      have en : (((n + 1 : Nat) : Int) - 1) = (n : Int) := by omega
      have g := hG.2 n (by omega) (by omega)
      have bc := cst_bd (S := S) (c := c) (s := (n : Int)) g.2.2.2
      rw [en]
      have eo : outN S k c (mi - S 5 k 27) mi (n + 1) = if S 4 n 2 < mi - S 5 k 27 then 0 else (if S 4 n 1 = k ∧ S 4 n 2 < mi then cst S c n else 0) + outN S k c (mi - S 5 k 27) mi n := rfl
      rw [eo] at e
      refine w_there_25 ⟨fun z => absurd z (by omega), fun _ => ⟨by omega, by omega, fun c1 => ?_, fun c1 => ⟨by omega, by omega, fun c2 => ⟨by omega, ?_⟩, fun c2 => ⟨by omega, fun c3 => ?_, fun c3 => ⟨by omega, ?_⟩⟩⟩⟩⟩
      · rw [if_pos c1, Int.sub_zero] at e
        exact fin x e.symm
      · rw [if_neg (by omega), if_neg (fun z => c2 z.1), Int.zero_add] at e
        exact ih x _ _ _ (by omega) e (by omega) hx2
      · rw [if_neg (by omega), if_pos ⟨c2, c3⟩] at e
        refine lp_sg (f := fun j => - am_b (S 4 n (12 + j) = sgn c)) (lo := 0) (hi := S 4 n 9) (fun y j => x - j ≤ y ∧ y ≤ x) (fun y j => ∀ o9 : Option am_V, am_W m_X5_there (am_ev am_prog (d + 3)) K 58 [some (.inr (.inl r)), some (.inl (k)), some (.inl (c)), some (.inl (mi)), some (.inl (y)), some (.inl (mi - S 5 k 27)), some (.inl ((n : Int))), some (.inl (64630 + 852 * (n : Int))), some (.inl (j)), o9] [] (mo b r (ms S) V W)) ?_ ?_ (S 4 n 9).toNat x 0 (by omega) (by omega) (by omega) ?_ _
        · intro y j g1 g2 gb
          show x - (j + 1) ≤ y + - am_b (S 4 n (12 + j) = sgn c) ∧ y + - am_b (S 4 n (12 + j) = sgn c) ≤ x
          rcases am_bz (S 4 n (12 + j) = sgn c) with e | e <;> rw [e] <;> omega
        · intro y j g1 g2 gb gL o9
          have gb1 : x - j ≤ y ∧ y ≤ x := gb
          have bz := am_bz (S 4 n (12 + j) = sgn c)
          refine w_there_58 ⟨by omega, fun z => absurd z (by omega), fun _ => ⟨by omega, fun c4 => ⟨by omega, ?_⟩, fun c4 => ?_⟩⟩
          · have es : sgn c = 97 + c := if_neg c4
            rw [es] at gL bz
            refine ⟨⟨?_, by omega⟩, gL _⟩
            rcases bz with e | e <;> rw [e] <;> omega
          · have es : sgn c = 45 := if_pos c4
            rw [es] at gL bz
            refine ⟨⟨?_, by omega⟩, gL _⟩
            rcases bz with e | e <;> rw [e] <;> omega
        · intro o9
          have es : x + sg (fun j => - am_b (S 4 n (12 + j) = sgn c)) 0 (S 4 n 9).toNat = x - cst S c n := by
            have : ∀ (m : Nat) (i : Int), sg (fun j => - am_b (S 4 n (12 + j) = sgn c)) i m = - sg (fun j => am_b (S 4 n (12 + j) = sgn c)) i m := by
              intro m
              induction m with
              | zero => exact fun _ => rfl
              | succ m im =>
                intro i
                show - am_b (S 4 n (12 + i) = sgn c) + sg _ (i + 1) m = - (am_b (S 4 n (12 + i) = sgn c) + sg _ (i + 1) m)
                rw [im]
                omega
            rw [this]
            rfl
          rw [es]
          exact w_there_58 ⟨by omega, fun _ => ⟨by omega, ih _ _ _ _ (by omega) (by omega) (by omega) (by omega)⟩, fun z => absurd z (by omega)⟩
      · rw [if_neg (by omega), if_neg (fun z => by omega), Int.zero_add] at e
        exact ih x _ _ _ (by omega) e (by omega) hx2
  have e1 : (((S 0 0 4).toNat : Nat) : Int) - 1 = S 0 0 4 - 1 := by omega
  have m := main (S 0 0 4).toNat (S 5 k c) none none none (by omega) rfl (by omega) (by omega)
  rw [e1] at m
  exact m
/-- how many jobs wait -/
def jbs (S : am_G) : Int := sg (fun k => S 5 k 29) 0 (S 0 0 3).toNat
theorem c_jobs {D : Nat} (hD : 4 ≤ D) (hm : 0 ≤ S 0 0 3 ∧ S 0 0 3 ≤ 4) (hj : ∀ k, 0 ≤ k → k < 4 → 0 ≤ S 5 k 29 ∧ S 5 k 29 ≤ 30) (H : K (.inl (some (.inl (jbs S)))) (mo b r (ms S) V W)) : am_ev am_prog D 142 [.inr (.inl r)] (mo b r (ms S) V W) K := by
  obtain ⟨d, rfl⟩ : ∃ d, D = d + 4 := ⟨D - 4, by omega⟩
  refine am_en p_X5_jobs rfl rfl ?_
  refine w_jobs_0 ?_
  refine lp_sg (f := fun k => S 5 k 29) (lo := 0) (hi := S 0 0 3) (fun y k => 0 ≤ y ∧ y ≤ 30 * k) (fun y k => am_W m_X5_jobs (am_ev am_prog (d + 3)) K 4 [some (.inr (.inl r)), some (.inl (y)), some (.inl (k))] [] (mo b r (ms S) V W)) ?_ ?_ (S 0 0 3).toNat 0 0 (by omega) (by omega) (by omega) ?_
  · intro y k g1 g2 gb
    have := hj k g1 (by omega)
    show 0 ≤ y + S 5 k 29 ∧ y + S 5 k 29 ≤ 30 * (k + 1)
    omega
  · intro y k g1 g2 gb gL
    have := hj k g1 (by omega)
    have gb1 : 0 ≤ y ∧ y ≤ 30 * k := gb
    exact w_jobs_4 ⟨fun z => absurd z (by omega), fun _ => ⟨by omega, by omega, gL⟩⟩
  · rw [Int.zero_add]
    exact w_jobs_4 ⟨fun _ => H, fun z => absurd z (by omega)⟩
end
