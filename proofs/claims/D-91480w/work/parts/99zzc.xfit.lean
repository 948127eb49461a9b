set_option maxRecDepth 100000
/-! the component's search -/
section
variable {K : am_K} {h : am_H}
theorem x_partsOf {L : am_Lb} {x P N : Nat} {S : am_G} {B : Int} {s : Int} {D : Nat} (hD : 13 ≤ D) (t : Nt h L x P N S B) (hC : okC S) (hF : okF S) (hs : 0 ≤ s ∧ s < (S 0 0 1)) (H : K (.inl (some (.inl (S 2 2 s)))) h) : am_ev am_prog D 310 [.inr (.inl N), .inl s] h K := by
  have c1 := hC.2.1
  have f := (hF s hs.1 hs.2).2.2
  obtain ⟨g1, g2, g3, g4⟩ := P_fc t
  obtain ⟨d, rfl⟩ : ∃ d, D = d + 13 := ⟨D - 13, by omega⟩
  refine am_en p_X3_partsOf rfl rfl ?_
  refine v_X3_partsOf_0 ?_
  have loop : ∀ k, 0 ≤ k → k ≤ S 2 2 s → am_W m_X3_partsOf (am_ev am_prog (d + 12)) K 2 [some (.inr (.inl (N))), some (.inl (s)), some (.inl (k))] [] h := by
    refine lp_z ?_ ?_
    · intro k k0 k1 hL
      have ip := isP_5 (S := S) hs ⟨k0, k1⟩ f.2
      refine v_X3_partsOf_2 ⟨fun z => absurd z (by omega), fun _ => ⟨⟨g1, by omega, by omega, g2, by omega⟩, fun z => absurd z ((g4 (5 * s + k) (by omega) (by omega)).2 ip).1.2.2.1, fun _ => ⟨by omega, hL⟩⟩⟩
    · refine v_X3_partsOf_2 ⟨fun _ => H, fun _ => ⟨⟨g1, by omega, by omega, g2, by omega⟩, fun _ => H, fun z => absurd ((g4 (5 * s + S 2 2 s) (by omega) (by omega)).1 (fun ip => ?_)) z⟩⟩
      have e1 : (5 * s + S 2 2 s) / 5 = s := by omega
      have e2 : (5 * s + S 2 2 s) % 5 = S 2 2 s := by omega
      unfold isP at ip
      rw [e1, e2] at ip
      omega
  exact loop 0 (by omega) (by omega)
theorem x_linesO {L : am_Lb} {x P N : Nat} {S : am_G} {B : Int} {s k : Int} {D : Nat} (hD : 13 ≤ D) (t : Nt h L x P N S B) (hC : okC S) (hF : okF S) (hA : okA S) (hs : 0 ≤ s ∧ s < (S 0 0 1)) (hk : 0 ≤ k ∧ k ≤ S 2 2 s) (h3 : ∀ j, 0 ≤ j → j < k → S 3 (5 * s + j) 3 ≠ 0) (H : K (.inl (some (.inl (lnO S s k.toNat)))) h) : am_ev am_prog D 402 [.inr (.inl N), .inl s, .inl k] h K := by
  have c1 := hC.2.1
  have f := (hF s hs.1 hs.2).2.2
  obtain ⟨g1, g2, g3, g4⟩ := P_fc t
  obtain ⟨d, rfl⟩ : ∃ d, D = d + 13 := ⟨D - 13, by omega⟩
  refine am_en p_X3_linesOf rfl rfl ?_
  refine v_X3_linesOf_0 ?_
  have loop : ∀ j, 0 ≤ j → j ≤ k → am_W m_X3_linesOf (am_ev am_prog (d + 12)) K 4 [some (.inr (.inl (N))), some (.inl (s)), some (.inl (k)), some (.inl (lnO S s j.toNat)), some (.inl (j))] [] h := by
    refine lp_z ?_ ?_
    · intro j j0 j1 hL
      have ip := isP_5 (S := S) hs ⟨j0, (by omega : j < S 2 2 s)⟩ f.2
      have q := (g4 (5 * s + j) (by omega) (by omega)).2 ip
      have q3 := (q.2.2.2.2.2.2.2.2 (h3 j j0 j1)).1
      have a4 := (hA _ ip).2.2.2.2.2.2.2
      have ls : lnO S s (j + 1).toNat = lnO S s j.toNat + S 3 (5 * s + j) 4 := sg_s j0
      have lb := lnO_b (S := S) (s := s) (x := j.toNat) (m := S 2 2 s) (by omega) f.2 (fun k a b => (hA _ (isP_5 (S := S) hs ⟨a, b⟩ f.2)).2.2.2.2.2.2.2)
      rw [ls] at hL
      refine v_X3_linesOf_4 ⟨fun z => absurd z (by omega), fun _ => ?_⟩
      rw [q3.2.2.2.2.1]
      exact ⟨⟨g1, by omega, by omega, g2, by omega, q.1.1, Or.inl q3.1, by omega, by omega⟩, hL⟩
    · exact v_X3_linesOf_4 ⟨fun _ => H, fun z => absurd z (by omega)⟩
  exact loop 0 (by omega) (by omega)
end
def FtX (h0 h : am_H) (f N g : Nat) (a : Nat → Nat) (n : Int) (st : Int → Int) : Prop := fx (fun _ => False) h0 h ∧ (am_ty h f = 26 ∧ am_sz h0 < f ∧ f ≤ am_sz h) ∧ am_fr h 170 f = N ∧ am_fr h 171 f = g ∧ (∀ i, 2 ≤ i → i ≤ 6 → am_fr h (170 + i) f = a i ∧ am_ty h (a i) = 101 ∧ am_ln h (a i) = n ∧ (am_sz h0 < a i ∧ a i ≤ am_sz h) ∧ a i ≠ f) ∧ (∀ i j, 2 ≤ i → i < j → j ≤ 6 → a i ≠ a j) ∧ ∀ j, 0 ≤ j → j < n → am_ai h (a 2) j = st j
theorem FtX_f {h0 h h' : am_H} {f N g : Nat} {a : Nat → Nat} {n : Int} {st : Int → Int} {X : Nat → Prop} (x : FtX h0 h f N g a n st) (b : fx X h h') (hX : ∀ q, q ≤ am_sz h → X q → am_sz h0 < q ∧ q ≠ a 2) (hr : ∀ i, am_fr h' i f = am_fr h i f) : FtX h0 h' f N g a n st := by
  obtain ⟨x1, x2, x3, x4, x5, x6, x7⟩ := x
  refine ⟨fx_trans2 x1 b (fun q hq z => ?_), ⟨(b.2.2.2 f x2.2.2).1.trans x2.1, x2.2.1, Nat.le_trans x2.2.2 b.1⟩, (hr _).trans x3, (hr _).trans x4, fun i i2 i6 => ?_, x6, fun j j0 j1 => ?_⟩
  · have := hX q (Nat.le_trans hq x1.1) z
    omega
  · obtain ⟨y1, y2, y3, y4, y5⟩ := x5 i i2 i6
    have w := b.2.2.2 (a i) y4.2
    exact ⟨(hr _).trans y1, w.1.trans y2, w.2.1.trans y3, ⟨y4.1, Nat.le_trans y4.2 b.1⟩, y5⟩
  · have w := b.2.2.2 (a 2) (x5 2 (by omega) (by omega)).2.2.2.1.2
    rw [(w.2.2 (fun z => (hX (a 2) (x5 2 (by omega) (by omega)).2.2.2.1.2 z).2 rfl)).2.2.1]
    exact x7 j j0 j1
/-- the best so far, in the component -/
def FtY (h : am_H) (f : Nat) (a : Nat → Nat) (n : Int) (s : am_Ft) : Prop := am_fi h 177 f = s.1 ∧ -1 ≤ s.1 ∧ (s.1 ≠ -1 → ∀ j, 0 ≤ j → j < n → am_ai h (a 3) j = s.2.1 j ∧ am_ai h (a 4) j = s.2.2 j)
theorem FtY_f {h h' : am_H} {f : Nat} {a : Nat → Nat} {n : Int} {s : am_Ft} (y : FtY h f a n s) (e1 : am_fi h' 177 f = am_fi h 177 f) (e3 : am_ai h' (a 3) = am_ai h (a 3)) (e4 : am_ai h' (a 4) = am_ai h (a 4)) : FtY h' f a n s := by
  unfold FtY
  rw [e1, e3, e4]
  exact y
theorem FtX_g {h0 h : am_H} {L : am_Lb} {x P N f : Nat} {S : am_G} {B : Int} {a : Nat → Nat} {n pg : Int} {st : Int → Int} (t : Nt h0 L x P N S B) (hp : 0 ≤ pg ∧ pg < 6) (y : fx (fun _ => False) h0 h) : am_ty h (am_ar h0 (am_fr h0 27 N) pg) = 4 ∧ am_fi h 33 (am_ar h0 (am_fr h0 27 N) pg) = S 8 pg 0 ∧ am_fi h 34 (am_ar h0 (am_fr h0 27 N) pg) = S 8 pg 1 := by
  have r := t.2.2.2.1.2.2.2.2.2.2.2.1.2.2 pg hp.1 hp.2
  have w := nd_fx y leL_refl r.1 (fun z => z)
  rw [w.2.2.1, w.2.2.1]
  exact ⟨w.1.1, r.2.1, r.2.2.1⟩
section
theorem x_keeps {L : am_Lb} {x P N : Nat} {S : am_G} {B : Int} {h0 : am_H} {f : Nat} {a : Nat → Nat} {pg n : Int} {st col : Int → Int} (t : Nt h0 L x P N S B) (hC : okC S) (hF : okF S) (hA : okA S) (hH : okH S) (hp : 0 ≤ pg ∧ pg < 6) (hn : 0 ≤ n ∧ n ≤ 4) (hs : ∀ j, 0 ≤ j → j < n → (0 ≤ st j ∧ st j < (S 0 0 1)) ∧ ∀ k, 0 ≤ k → k < S 2 2 (st j) → S 3 (5 * st j + k) 3 ≠ 0) (hc : ∀ j, 0 ≤ j → j < n → 0 ≤ col j ∧ col j < S 8 pg 0) : ∀ (k : Nat) {K : am_K} {h : am_H} {r2 : Nat} {parts us : Int → Int} {i tot : Int} {s : am_Ft} {D : Nat}, 20 + k ≤ D → i + k = n → 0 ≤ i → FtX h0 h f N (am_ar h0 (am_fr h0 27 N) pg) a n st → (∀ j, 0 ≤ j → j < n → am_ai h (a 5) j = col j) → (∀ j, 0 ≤ j → j < i → am_ai h (a 6) j = parts j) → (am_ty h r2 = 101 ∧ am_ln h r2 = S 8 pg 0 ∧ (am_sz h0 < r2 ∧ r2 ≤ am_sz h) ∧ r2 ≠ f ∧ ∀ i, 2 ≤ i → i ≤ 6 → r2 ≠ a i) → (∀ c, 0 ≤ c → c < S 8 pg 0 → am_ai h r2 c = us c ∧ (0 ≤ us c ∧ us c ≤ 200 * i)) → 0 ≤ tot ∧ tot ≤ 200 * i → FtY h f a n s → (∀ h', fx (fun q => q = f ∨ q = a 3 ∨ q = a 4 ∨ q = a 6 ∨ q = r2) h h' → am_sz h' = am_sz h → am_us h' = am_us h → (∀ i, am_fr h' i f = am_fr h i f) → (∀ j, 0 ≤ j → j < i → am_ai h' (a 6) j = am_ai h (a 6) j) → (∀ c, 0 ≤ c → c < S 8 pg 0 → am_ai h' r2 c = us c) → FtY h' f a n (keR S pg st col k i parts us tot s) → K (.inl none) h') → am_ev am_prog D 385 [.inr (.inl f), .inl i, .inr (.inl r2), .inl tot] h K := by
  intro k
  induction k with
  | zero =>
    intro K h r2 parts us i tot s D hD hi i0 hX v5 v6 hU v2 ht hY H
    have ei : i = n := by omega
    have H' : ∀ h', fx (fun q => q = f ∨ q = a 3 ∨ q = a 4 ∨ q = a 6 ∨ q = r2) h h' → am_sz h' = am_sz h → am_us h' = am_us h → (∀ i, am_fr h' i f = am_fr h i f) → (∀ j, 0 ≤ j → j < i → am_ai h' (a 6) j = am_ai h (a 6) j) → (∀ c, 0 ≤ c → c < S 8 pg 0 → am_ai h' r2 c = us c) → FtY h' f a n (if s.1 < tot then (tot, col, parts) else s) → K (.inl none) h' := H
    obtain ⟨x1, x2, x3, x4, x5, x6, x7⟩ := id hX
    have a2 := x5 2 (by omega) (by omega)
    have a3 := x5 3 (by omega) (by omega)
    have a4 := x5 4 (by omega) (by omega)
    have a5 := x5 5 (by omega) (by omega)
    have a6 := x5 6 (by omega) (by omega)
    have e2 : am_fr h 172 f = a 2 := a2.1
    have e3 : am_fr h 173 f = a 3 := a3.1
    have e4 : am_fr h 174 f = a 4 := a4.1
    have e5 : am_fr h 175 f = a 5 := a5.1
    have e6 : am_fr h 176 f = a 6 := a6.1
    obtain ⟨d, rfl⟩ : ∃ d, D = d + 13 := ⟨D - 13, by omega⟩
    refine am_en p_X28_keeps rfl rfl ?_
    refine v_X28_keeps_0 ?_
    rw [e2, e3, e4, e5, e6, a2.2.2.1, a3.2.2.1, a4.2.2.1, a5.2.2.1, a6.2.2.1, hY.1]
    refine ⟨⟨x2.1, Or.inl a2.2.1⟩, fun z => absurd ei z, fun _ => ⟨fun z => ?_, fun z => ?_⟩⟩
    · refine ⟨⟨Or.inl a5.2.1, a3.2.1, by omega⟩, ⟨Or.inl a6.2.1, a4.2.1, by omega⟩, ?_⟩
      rw [if_pos z] at H'
      have n34 := x6 3 4 (by omega) (by omega) (by omega)
      have n35 := x6 3 5 (by omega) (by omega) (by omega)
      have n36 := x6 3 6 (by omega) (by omega) (by omega)
      have n46 := x6 4 6 (by omega) (by omega) (by omega)
      have r23 := hU.2.2.2.2 3 (by omega) (by omega)
      have r24 := hU.2.2.2.2 4 (by omega) (by omega)
      have q6 : am_ai (am_wai (am_sfi h 177 f tot) (a 3) (am_cpy (am_ai h (a 5)) (am_ai h (a 3)) 0 0 i)) (a 6) = am_ai h (a 6) := x_air (fun z => n36 z.symm)
      have q4 : am_ai (am_wai (am_sfi h 177 f tot) (a 3) (am_cpy (am_ai h (a 5)) (am_ai h (a 3)) 0 0 i)) (a 4) = am_ai h (a 4) := x_air (fun z => n34 z.symm)
      rw [q6, q4]
      refine H' _ (fx_wai (fx_wai (fx_sfi fx_refl (Or.inr (Or.inl rfl))) (Or.inr (Or.inr (Or.inl rfl)))) (Or.inr (Or.inr (Or.inr (Or.inl rfl))))) rfl rfl (fun _ => rfl) (fun j _ _ => ?_) (fun c c0 c1 => ?_) ⟨?_, by show -1 ≤ tot; omega, fun _ j j0 j1 => ?_⟩
      · rw [x_air (fun z => n46 z.symm), x_air (fun z => n36 z.symm)]
        rfl
      · rw [x_air r24, x_air r23]
        exact (v2 c c0 c1).1
      · show am_fi (am_sfi h 177 f tot) 177 f = tot
        exact x_fie
      · rw [x_aiwe, x_air n34, x_aiwe]
        have cp : ∀ (u w : Int → Int), am_cpy u w 0 0 i j = u j := fun u w => by
          unfold am_cpy
          rw [if_pos (by omega)]
          congr 1
          omega
        rw [cp, cp]
        exact ⟨v5 j j0 j1, v6 j j0 (by omega)⟩
    · rw [if_neg (by omega)] at H'
      exact H' h fx_refl rfl rfl (fun _ => rfl) (fun _ _ _ => rfl) (fun c c0 c1 => (v2 c c0 c1).1) hY
  | succ k ih =>
    intro K h r2 parts us i tot s D hD hi i0 hX v5 v6 hU v2 ht hY H
    have si := hs i i0 (by omega)
    have ci := hc i i0 (by omega)
    have c1 := hC.2.1
    have ff := (hF (st i) si.1.1 si.1.2).2.2
    have h8 := hH pg hp.1 hp.2
    have hl : ∀ k, 0 ≤ k → k < S 2 2 (st i) → 0 ≤ S 3 (5 * st i + k) 4 ∧ S 3 (5 * st i + k) 4 ≤ 40 := fun k a b => (hA _ (isP_5 (S := S) si.1 ⟨a, b⟩ ff.2)).2.2.2.2.2.2.2
    have tg : ∀ h', FtX h0 h' f N (am_ar h0 (am_fr h0 27 N) pg) a n st → Nt h' L x P N S B := fun h' y => Nt_fx0 y.1 t
    obtain ⟨x1, x2, x3, x4, x5, x6, x7⟩ := id hX
    have a2 := x5 2 (by omega) (by omega)
    have a5 := x5 5 (by omega) (by omega)
    have e2 : am_fr h 172 f = a 2 := a2.1
    have e5 : am_fr h 175 f = a 5 := a5.1
    obtain ⟨d, rfl⟩ : ∃ d, D = d + 13 := ⟨D - 13, by omega⟩
    refine am_en p_X28_keeps rfl rfl ?_
    refine v_X28_keeps_0 ?_
    rw [e2, e5, a2.2.2.1, a5.2.2.1, x3, x7 i i0 (by omega), v5 i i0 (by omega)]
    refine ⟨⟨x2.1, Or.inl a2.2.1⟩, fun _ => ⟨⟨Or.inl a5.2.1, by omega, by omega⟩, (tg h hX).2.2.2.1.1.1.1, ?_⟩, fun z => absurd z (by omega)⟩
    refine x_partsOf (by omega) (tg h hX) hC hF si.1 (am_av (v_X28_keeps_42 ?_))
    generalize hf : (fun (x : Nat) (s : am_Ft) => if us (col i) + lnO S (st i) x ≤ S 8 pg 1 then keR S pg st col k (i + 1) (am_uz parts i x) (am_uz us (col i) (us (col i) + lnO S (st i) x)) (tot + lnO S (st i) x) s else s) = g
    have H' : ∀ h', fx (fun q => q = f ∨ q = a 3 ∨ q = a 4 ∨ q = a 6 ∨ q = r2) h h' → am_sz h' = am_sz h → am_us h' = am_us h → (∀ i, am_fr h' i f = am_fr h i f) → (∀ j, 0 ≤ j → j < i → am_ai h' (a 6) j = am_ai h (a 6) j) → (∀ c, 0 ≤ c → c < S 8 pg 0 → am_ai h' r2 c = us c) → FtY h' f a n (dnL g (S 2 2 (st i)).toNat s) → K (.inl none) h' := by
      rw [← hf]
      exact H
    have hXS : ∀ q, q ≤ am_sz h → (fun q => q = f ∨ q = a 3 ∨ q = a 4 ∨ q = a 6 ∨ q = r2) q → am_sz h0 < q ∧ q ≠ a 2 := by
      intro q _ z
      rcases z with e | e | e | e | e
      · rw [e]
        exact ⟨x2.2.1, fun z => a2.2.2.2.2 z.symm⟩
      · rw [e]
        exact ⟨(x5 3 (by omega) (by omega)).2.2.2.1.1, fun z => x6 2 3 (by omega) (by omega) (by omega) z.symm⟩
      · rw [e]
        exact ⟨(x5 4 (by omega) (by omega)).2.2.2.1.1, fun z => x6 2 4 (by omega) (by omega) (by omega) z.symm⟩
      · rw [e]
        exact ⟨(x5 6 (by omega) (by omega)).2.2.2.1.1, fun z => x6 2 6 (by omega) (by omega) (by omega) z.symm⟩
      · rw [e]
        exact ⟨hU.2.2.1.1, hU.2.2.2.2 2 (by omega) (by omega)⟩
    have n35 := x6 3 5 (by omega) (by omega) (by omega)
    have n45 := x6 4 5 (by omega) (by omega) (by omega)
    have n36 := x6 3 6 (by omega) (by omega) (by omega)
    have n46 := x6 4 6 (by omega) (by omega) (by omega)
    have n56 := x6 5 6 (by omega) (by omega) (by omega)
    have r23 := hU.2.2.2.2 3 (by omega) (by omega)
    have r24 := hU.2.2.2.2 4 (by omega) (by omega)
    have r25 := hU.2.2.2.2 5 (by omega) (by omega)
    have r26 := hU.2.2.2.2 6 (by omega) (by omega)
    have n5X : ¬ (fun q => q = f ∨ q = a 3 ∨ q = a 4 ∨ q = a 6 ∨ q = r2) (a 5) := by
      intro z
      rcases z with e | e | e | e | e
      · exact a5.2.2.2.2 e
      · exact n35 e.symm
      · exact n45 e.symm
      · exact n56 e
      · exact r25 e.symm
    have loop : ∀ (m : Nat), (m : Int) ≤ S 2 2 (st i) → ∀ (s : am_Ft) h', fx (fun q => q = f ∨ q = a 3 ∨ q = a 4 ∨ q = a 6 ∨ q = r2) h h' → am_sz h' = am_sz h → am_us h' = am_us h → (∀ i, am_fr h' i f = am_fr h i f) → (∀ j, 0 ≤ j → j < i → am_ai h' (a 6) j = am_ai h (a 6) j) → (∀ c, 0 ≤ c → c < S 8 pg 0 → am_ai h' r2 c = us c) → FtY h' f a n s → (∀ h', fx (fun q => q = f ∨ q = a 3 ∨ q = a 4 ∨ q = a 6 ∨ q = r2) h h' → am_sz h' = am_sz h → am_us h' = am_us h → (∀ i, am_fr h' i f = am_fr h i f) → (∀ j, 0 ≤ j → j < i → am_ai h' (a 6) j = am_ai h (a 6) j) → (∀ c, 0 ≤ c → c < S 8 pg 0 → am_ai h' r2 c = us c) → FtY h' f a n (dnL g m s) → K (.inl none) h') → ∀ o6, am_W m_X28_keeps (am_ev am_prog (d + 12)) K 43 [some (.inr (.inl (f))), some (.inl (i)), some (.inr (.inl (r2))), some (.inl (tot)), some (.inl (col i)), some (.inl (m)), o6] [] h' := by
      intro m
      induction m with
      | zero =>
        intro _ s h' b z u fr g6 g2 gY G o6
        exact v_X28_keeps_43 ⟨fun _ => G h' b z u fr g6 g2 gY, fun z => absurd z (by omega)⟩
      | succ m ihm =>
        intro hm s h' b z u fr g6 g2 gY G o6
        have X' := FtX_f hX b hXS fr
        obtain ⟨y1, y2, y3, y4, y5, y6, y7⟩ := id X'
        have b2 := y5 2 (by omega) (by omega)
        have b6 := y5 6 (by omega) (by omega)
        have e2 : am_fr h' 172 f = a 2 := b2.1
        have e6 : am_fr h' 176 f = a 6 := b6.1
        have lb := lnO_b (S := S) (s := st i) (x := m + 1) hm ff.2 hl
        have ub := (v2 (col i) ci.1 ci.2).2
        have em : ((m + 1 : Nat) : Int) + (-1) = (m : Int) := by omega
        have tu := b.2.2.2 r2 hU.2.2.1.2
        refine v_X28_keeps_43 ⟨fun z => absurd z (by omega), fun _ => ?_⟩
        rw [e2, b2.2.2.1, y3, y7 i i0 (by omega)]
        refine ⟨⟨y2.1, Or.inl b2.2.1, by omega⟩, (tg h' X').2.2.2.1.1.1.1, ?_⟩
        have etn : (((m + 1 : Nat) : Int)).toNat = m + 1 := by omega
        refine x_linesO (by omega) (tg h' X') hC hF hA si.1 (by omega) (fun j j0 j1 => si.2 j j0 (by omega)) (am_av (v_X28_keeps_53 ?_))
        have pgf := FtX_g (a := a) (n := n) (st := st) (f := f) t hp y1
        have n62 : a 6 ≠ r2 := fun z => r26 z.symm
        rw [etn, e6, y4, pgf.2.2, b6.2.2.1, x_ais (r := a 6) (q := r2) r26, g2 (col i) ci.1 ci.2, tu.2.1, hU.2.1]
        have er : dnL g (m + 1) s = dnL g m (g (m + 1) s) := rfl
        rw [er] at G
        refine ⟨⟨Or.inl (tu.1.trans hU.1), by omega, by omega, y2.1, pgf.1⟩, fun c => ⟨⟨b6.2.1, by omega⟩, ⟨by omega, tu.1.trans hU.1⟩, by omega, ?_⟩, fun c => ⟨by omega, ?_⟩⟩
        · have ef : g (m + 1) s = keR S pg st col k (i + 1) (am_uz parts i ((m + 1 : Nat) : Int)) (am_uz us (col i) (us (col i) + lnO S (st i) (m + 1))) (tot + lnO S (st i) (m + 1)) s := by
            rw [← hf]
            exact if_pos c
          rw [ef] at G
          generalize hh2 : am_sai (am_sai h' (a 6) i ((m + 1 : Nat) : Int)) r2 (col i) (us (col i) + lnO S (st i) (m + 1)) = h2
          have f2 : fx (fun q => q = f ∨ q = a 3 ∨ q = a 4 ∨ q = a 6 ∨ q = r2) h' h2 := by
            rw [← hh2]
            exact fx_sai (fx_sai fx_refl (Or.inr (Or.inr (Or.inr (Or.inr (Or.inl rfl)))))) (Or.inr (Or.inr (Or.inr (Or.inr (Or.inr rfl)))))
          have fr2 : ∀ i, am_fr h2 i f = am_fr h' i f := fun i => by
            rw [← hh2]
            rfl
          have fi2 : am_fi h2 177 f = am_fi h' 177 f := by
            rw [← hh2]
            rfl
          have k6 : am_ai h2 (a 6) = am_uz (am_ai h' (a 6)) i ((m + 1 : Nat) : Int) := by
            rw [← hh2, x_ais n62, x_aise]
          have k2 : am_ai h2 r2 = am_uz (am_ai h' r2) (col i) (us (col i) + lnO S (st i) (m + 1)) := by
            rw [← hh2, x_aise, x_ais r26]
          have k3 : am_ai h2 (a 3) = am_ai h' (a 3) := by
            rw [← hh2, x_ais (fun z => r23 z.symm), x_ais n36]
          have k4 : am_ai h2 (a 4) = am_ai h' (a 4) := by
            rw [← hh2, x_ais (fun z => r24 z.symm), x_ais n46]
          have z2 : am_sz h2 = am_sz h := by
            rw [← hh2]
            exact z
          have u2 : am_us h2 = am_us h := by
            rw [← hh2]
            exact u
          have b2' : fx (fun q => q = f ∨ q = a 3 ∨ q = a 4 ∨ q = a 6 ∨ q = r2) h h2 := fx_trans b f2
          have X2 := FtX_f hX b2' hXS (fun i => (fr2 i).trans (fr i))
          have k5 : am_ai h2 (a 5) = am_ai h (a 5) := ((b2'.2.2.2 (a 5) a5.2.2.2.1.2).2.2 n5X).2.2.1
          have tu2 := b2'.2.2.2 r2 hU.2.2.1.2
          refine ih (parts := am_uz parts i ((m + 1 : Nat) : Int)) (us := am_uz us (col i) (us (col i) + lnO S (st i) (m + 1))) (s := s) (by omega) (by omega) (by omega) X2 (fun j a c => by rw [k5]; exact v5 j a c) (fun j a c => ?_) ⟨tu2.1.trans hU.1, tu2.2.1.trans hU.2.1, ⟨hU.2.2.1.1, by have := hU.2.2.1.2; omega⟩, hU.2.2.2⟩ (fun c c0 c1 => ?_) (by omega) (FtY_f gY fi2 k3 k4) (fun h3 f3 z3 u3 fr3 q6 q2 qY => am_an (v_X28_keeps_85 ?_))
          · rw [k6]
            by_cases e : j = i
            · rw [e, am_uz_eq, am_uz_eq]
            · rw [am_uz_ne e, am_uz_ne e, g6 j a (by omega)]
              exact v6 j a (by omega)
          · rw [k2]
            have uj := (v2 c c0 c1).2
            by_cases e : c = col i
            · rw [e, am_uz_eq, am_uz_eq]
              omega
            · rw [am_uz_ne e, am_uz_ne e]
              exact ⟨g2 c c0 c1, by omega⟩
          · have q2' := q2 (col i) ci.1 ci.2
            rw [am_uz_eq] at q2'
            have tu3 := f3.2.2.2 r2 (by have := hU.2.2.1.2; omega)
            rw [q2', em, tu3.2.1, tu2.2.1, hU.2.1]
            have es : us (col i) + lnO S (st i) (m + 1) - lnO S (st i) (m + 1) = us (col i) := by omega
            rw [es]
            refine ⟨⟨Or.inl (tu3.1.trans (tu2.1.trans hU.1)), by omega, by omega, tu3.1.trans (tu2.1.trans hU.1)⟩, by omega, ihm (by omega) _ _ (fx_sai (fx_trans b2' f3) (Or.inr (Or.inr (Or.inr (Or.inr (Or.inr rfl)))))) (z3.trans z2) (u3.trans u2) (fun i => (fr3 i).trans ((fr2 i).trans (fr i))) (fun j a c => ?_) (fun c c0 c1 => ?_) (FtY_f qY rfl (x_ais (fun z => r23 z.symm)) (x_ais (fun z => r24 z.symm))) G _⟩
            · rw [x_ais n62, q6 j a (by omega), k6, am_uz_ne (by omega)]
              exact g6 j a c
            · rw [x_aise]
              by_cases e2 : c = col i
              · rw [e2, am_uz_eq]
              · rw [am_uz_ne e2, q2 c c0 c1, am_uz_ne e2]
        · have ef : g (m + 1) s = s := by
            rw [← hf]
            exact if_neg (by omega)
          rw [ef] at G
          rw [em]
          exact ihm (by omega) s h' b z u fr g6 g2 gY G _
    have etn : (((S 2 2 (st i)).toNat : Nat) : Int) = S 2 2 (st i) := by omega
    have q := loop (S 2 2 (st i)).toNat (by omega) s h fx_refl rfl rfl (fun _ => rfl) (fun _ _ _ => rfl) (fun c c0 c1 => (v2 c c0 c1).1) hY H' none
    rw [etn] at q
    exact q
theorem x_columns {L : am_Lb} {x P N : Nat} {S : am_G} {B : Int} {h0 : am_H} {f : Nat} {a : Nat → Nat} {pg n : Int} {st : Int → Int} (t : Nt h0 L x P N S B) (hC : okC S) (hF : okF S) (hA : okA S) (hH : okH S) (hp : 0 ≤ pg ∧ pg < 6) (hn : 0 ≤ n ∧ n ≤ 4) (hs : ∀ j, 0 ≤ j → j < n → (0 ≤ st j ∧ st j < (S 0 0 1)) ∧ ∀ k, 0 ≤ k → k < S 2 2 (st j) → S 3 (5 * st j + k) 3 ≠ 0) : ∀ (k : Nat) {K : am_K} {h : am_H} {col : Int → Int} {i : Int} {s : am_Ft} {D : Nat}, 40 + k ≤ D → i + k = n → 0 ≤ i → FtX h0 h f N (am_ar h0 (am_fr h0 27 N) pg) a n st → (∀ j, 0 ≤ j → j < i → am_ai h (a 5) j = col j ∧ (0 ≤ col j ∧ col j < S 8 pg 0)) → FtY h f a n s → (∀ h', fx (fun q => q = f ∨ q = a 3 ∨ q = a 4 ∨ q = a 5 ∨ q = a 6) h h' → am_sz h' ≤ am_sz h + 3 ^ k → am_us h' ≤ am_us h + 3 * 3 ^ k → (∀ i, am_fr h' i f = am_fr h i f) → (∀ j, 0 ≤ j → j < i → am_ai h' (a 5) j = am_ai h (a 5) j) → FtY h' f a n (coR S pg st n.toNat k i col s) → K (.inl none) h') → am_ev am_prog D 356 [.inr (.inl f), .inl i] h K := by
  have hXC : ∀ h, FtX h0 h f N (am_ar h0 (am_fr h0 27 N) pg) a n st → ∀ q, q ≤ am_sz h → (fun q => q = f ∨ q = a 3 ∨ q = a 4 ∨ q = a 5 ∨ q = a 6) q → am_sz h0 < q ∧ q ≠ a 2 := by
    intro h hX q _ z
    obtain ⟨x1, x2, x3, x4, x5, x6, x7⟩ := hX
    rcases z with e | e | e | e | e
    · rw [e]
      exact ⟨x2.2.1, fun z => (x5 2 (by omega) (by omega)).2.2.2.2 z.symm⟩
    · rw [e]
      exact ⟨(x5 3 (by omega) (by omega)).2.2.2.1.1, fun z => x6 2 3 (by omega) (by omega) (by omega) z.symm⟩
    · rw [e]
      exact ⟨(x5 4 (by omega) (by omega)).2.2.2.1.1, fun z => x6 2 4 (by omega) (by omega) (by omega) z.symm⟩
    · rw [e]
      exact ⟨(x5 5 (by omega) (by omega)).2.2.2.1.1, fun z => x6 2 5 (by omega) (by omega) (by omega) z.symm⟩
    · rw [e]
      exact ⟨(x5 6 (by omega) (by omega)).2.2.2.1.1, fun z => x6 2 6 (by omega) (by omega) (by omega) z.symm⟩
  have h8 := hH pg hp.1 hp.2
  intro k
  induction k with
  | zero =>
    intro K h col i s D hD hi i0 hX v5 hY H
    have ei : i = n := by omega
    obtain ⟨x1, x2, x3, x4, x5, x6, x7⟩ := id hX
    have a2 := x5 2 (by omega) (by omega)
    have e2 : am_fr h 172 f = a 2 := a2.1
    have pgf := FtX_g (a := a) (n := n) (st := st) (f := f) t hp x1
    obtain ⟨d, rfl⟩ : ∃ d, D = d + 13 := ⟨D - 13, by omega⟩
    refine am_en p_X28_columns rfl rfl ?_
    refine v_X28_columns_0 ?_
    rw [e2, a2.2.2.1, x4, pgf.2.1]
    refine ⟨⟨x2.1, Or.inl a2.2.1⟩, fun z => absurd ei z, fun _ => ⟨⟨pgf.1, by omega⟩, x2.2.2, ?_⟩⟩
    have le : ∀ i, 2 ≤ i → i ≤ 6 → a i ≤ am_sz h := fun i u w => (x5 i u w).2.2.2.1.2
    have f1 : fx (fun q => q = f ∨ q = a 3 ∨ q = a 4 ∨ q = a 5 ∨ q = a 6) h (am_new h 101 (S 8 pg 0).toNat) := fx_new fx_refl
    have X1 := FtX_f hX f1 (hXC h hX) (fun i => x_frn x2.2.2)
    have aiE : ∀ i, 2 ≤ i → i ≤ 6 → am_ai (am_new h 101 (S 8 pg 0).toNat) (a i) = am_ai h (a i) := fun i u w => x_ain (le i u w)
    have l2 : am_ln (am_new h 101 (S 8 pg 0).toNat) (am_sz h + 1) = S 8 pg 0 := (x_lnn0 rfl).trans (by omega)
    refine x_keeps (r2 := am_sz h + 1) (parts := fun _ => 0) (us := fun _ => 0) (s := s) (col := col) t hC hF hA hH hp hn hs (fun j a c => (v5 j a (by omega)).2) n.toNat (by omega) (by omega) (by omega) X1 (fun j a c => by rw [aiE 5 (by omega) (by omega)]; exact (v5 j a (by omega)).1) (fun j a c => absurd c (by omega)) ⟨x_tyn0 rfl, l2, ⟨by have := x1.1; omega, Nat.le_refl _⟩, by have := x2.2.2; omega, fun i u w => by have := le i u w; omega⟩ (fun c _ _ => ⟨by rw [x_ain0 rfl], by show (0 : Int) ≤ 0 ∧ (0 : Int) ≤ 200 * 0; omega⟩) (by omega) (FtY_f hY (x_fin x2.2.2) (aiE 3 (by omega) (by omega)) (aiE 4 (by omega) (by omega))) (fun h2 f2 z2 u2 fr2 q6 q2 qY => am_an (v_X28_columns_13 ?_))
    have n5 : am_ai h2 (a 5) = am_ai h (a 5) := by
      have w := (f2.2.2.2 (a 5) (Nat.le_succ_of_le (le 5 (by omega) (by omega)))).2.2 (fun z => by
        rcases z with e | e | e | e | e
        · exact (x5 5 (by omega) (by omega)).2.2.2.2 e
        · exact x6 3 5 (by omega) (by omega) (by omega) e.symm
        · exact x6 4 5 (by omega) (by omega) (by omega) e.symm
        · exact x6 5 6 (by omega) (by omega) (by omega) e
        · have := le 5 (by omega) (by omega)
          omega)
      exact w.2.2.1.trans (aiE 5 (by omega) (by omega))
    refine H h2 (fx_trans2 f1 f2 (fun q hq z => ?_)) ?_ ?_ (fun i => (fr2 i).trans (x_frn x2.2.2)) (fun j _ _ => by rw [n5]) qY
    · rcases z with e | e | e | e | e
      · exact Or.inl e
      · exact Or.inr (Or.inl e)
      · exact Or.inr (Or.inr (Or.inl e))
      · exact Or.inr (Or.inr (Or.inr (Or.inr e)))
      · omega
    · rw [z2, x_sz_new]
      exact Nat.le_refl _
    · rw [u2, x_us_new]
      show am_us h + _ ≤ am_us h + 3 * 1
      omega
  | succ k ih =>
    intro K h col i s D hD hi i0 hX v5 hY H
    obtain ⟨x1, x2, x3, x4, x5, x6, x7⟩ := id hX
    have a2 := x5 2 (by omega) (by omega)
    have e2 : am_fr h 172 f = a 2 := a2.1
    obtain ⟨d, rfl⟩ : ∃ d, D = d + 13 := ⟨D - 13, by omega⟩
    refine am_en p_X28_columns rfl rfl ?_
    refine v_X28_columns_0 ?_
    rw [e2, a2.2.2.1]
    refine ⟨⟨x2.1, Or.inl a2.2.1⟩, fun _ => ?_, fun z => absurd z (by omega)⟩
    generalize hf : (fun (c : Nat) (s : am_Ft) => coR S pg st n.toNat k (i + 1) (am_uz col i c) s) = g
    have H' : ∀ h', fx (fun q => q = f ∨ q = a 3 ∨ q = a 4 ∨ q = a 5 ∨ q = a 6) h h' → am_sz h' ≤ am_sz h + 3 ^ (k + 1) → am_us h' ≤ am_us h + 3 * 3 ^ (k + 1) → (∀ i, am_fr h' i f = am_fr h i f) → (∀ j, 0 ≤ j → j < i → am_ai h' (a 5) j = am_ai h (a 5) j) → FtY h' f a n (upL g (S 8 pg 0).toNat s) → K (.inl none) h' := by
      rw [← hf]
      exact H
    have p3 : 3 ^ (k + 1) = 3 * 3 ^ k := by
      rw [Nat.pow_succ]
      omega
    rw [p3] at H'
    generalize 3 ^ k = w at *
    have loop : ∀ x, 0 ≤ x → x ≤ S 8 pg 0 → ∀ h', fx (fun q => q = f ∨ q = a 3 ∨ q = a 4 ∨ q = a 5 ∨ q = a 6) h h' → am_sz h' ≤ am_sz h + x.toNat * w → am_us h' ≤ am_us h + x.toNat * (3 * w) → (∀ i, am_fr h' i f = am_fr h i f) → (∀ j, 0 ≤ j → j < i → am_ai h' (a 5) j = am_ai h (a 5) j) → FtY h' f a n (upL g x.toNat s) → am_W m_X28_columns (am_ev am_prog (d + 12)) K 16 [some (.inr (.inl (f))), some (.inl (i)), some (.inl (x))] [] h' := by
      refine lp_z ?_ ?_
      · intro x x0 xn hL h' b z u fr g5 gY
        have X' := FtX_f hX b (hXC h hX) fr
        obtain ⟨y1, y2, y3, y4, y5, y6, y7⟩ := id X'
        have pgf := FtX_g (a := a) (n := n) (st := st) (f := f) t hp y1
        have b5 := y5 5 (by omega) (by omega)
        have e5 : am_fr h' 175 f = a 5 := b5.1
        refine v_X28_columns_16 ?_
        rw [y4, pgf.2.1, e5, b5.2.2.1]
        refine ⟨⟨y2.1, pgf.1⟩, fun z => absurd z (by omega), fun _ => ⟨⟨b5.2.1, by omega⟩, by omega, ?_⟩⟩
        generalize hh2 : am_sai h' (a 5) i x = h2
        have f2 : fx (fun q => q = f ∨ q = a 3 ∨ q = a 4 ∨ q = a 5 ∨ q = a 6) h' h2 := by
          rw [← hh2]
          exact fx_sai fx_refl (Or.inr (Or.inr (Or.inr (Or.inr (Or.inl rfl)))))
        have fr2 : ∀ i, am_fr h2 i f = am_fr h' i f := fun i => by
          rw [← hh2]
          rfl
        have k5 : am_ai h2 (a 5) = am_uz (am_ai h' (a 5)) i x := by
          rw [← hh2, x_aise]
        have k3 : am_ai h2 (a 3) = am_ai h' (a 3) := by
          rw [← hh2, x_ais (y6 3 5 (by omega) (by omega) (by omega))]
        have k4 : am_ai h2 (a 4) = am_ai h' (a 4) := by
          rw [← hh2, x_ais (y6 4 5 (by omega) (by omega) (by omega))]
        have fi2 : am_fi h2 177 f = am_fi h' 177 f := by
          rw [← hh2]
          rfl
        have z2 : am_sz h2 = am_sz h' := by
          rw [← hh2]
          rfl
        have u2 : am_us h2 = am_us h' := by
          rw [← hh2]
          rfl
        have X2 := FtX_f X' f2 (hXC h' X') fr2
        have ex : ((x.toNat : Nat) : Int) = x := by omega
        have ex1 : (x + 1).toNat = x.toNat + 1 := by omega
        refine ih (col := am_uz col i x) (s := upL g x.toNat s) (by omega) (by omega) (by omega) X2 (fun j a c => ?_) (FtY_f gY fi2 k3 k4) (fun h3 f3 z3 u3 fr3 q5 qY => am_an (v_X28_columns_31 ⟨by omega, hL h3 (fx_trans2 b (fx_trans f2 f3) (fun _ _ z => z)) ?_ ?_ (fun i => (fr3 i).trans ((fr2 i).trans (fr i))) (fun j a c => ?_) ?_⟩))
        · rw [k5]
          by_cases e : j = i
          · rw [e, am_uz_eq, am_uz_eq]
            exact ⟨rfl, by omega⟩
          · rw [am_uz_ne e, am_uz_ne e, g5 j a (by omega)]
            exact v5 j a (by omega)
        · rw [ex1, Nat.succ_mul]
          omega
        · rw [ex1, Nat.succ_mul]
          omega
        · rw [q5 j a (by omega), k5, am_uz_ne (by omega)]
          exact g5 j a c
        · have e2 : upL g (x.toNat + 1) s = coR S pg st n.toNat k (i + 1) (am_uz col i x) (upL g x.toNat s) := by
            show g x.toNat (upL g x.toNat s) = _
            rw [← hf]
            show coR S pg st n.toNat k (i + 1) (am_uz col i ((x.toNat : Nat) : Int)) _ = _
            rw [ex]
          rw [ex1, e2]
          exact qY
      · intro h' b z u fr g5 gY
        have X' := FtX_f hX b (hXC h hX) fr
        obtain ⟨y1, y2, y3, y4, y5, y6, y7⟩ := id X'
        have pgf := FtX_g (a := a) (n := n) (st := st) (f := f) t hp y1
        refine v_X28_columns_16 ?_
        rw [y4, pgf.2.1]
        have m1 : (S 8 pg 0).toNat * w ≤ 3 * w := Nat.mul_le_mul_right _ (by omega)
        have m2 : (S 8 pg 0).toNat * (3 * w) ≤ 3 * (3 * w) := Nat.mul_le_mul_right _ (by omega)
        exact ⟨⟨y2.1, pgf.1⟩, fun _ => H' h' b (by omega) (by omega) fr g5 gY, fun z => absurd z (by omega)⟩
    exact loop 0 (by omega) h8.1.1 h fx_refl (by omega) (by omega) (fun _ => rfl) (fun _ _ _ => rfl) hY
end
