set_option maxRecDepth 100000
/-- two strings say the same -/
def xEq (h : am_H) (s t : Nat) : Prop := am_ln h (am_fr h 189 s) = am_ln h (am_fr h 189 t) ∧ ∀ k, 0 ≤ k → k < am_ln h (am_fr h 189 s) → am_ai h (am_fr h 189 s) k = am_ai h (am_fr h 189 t) k
section
variable {K : am_K} {h : am_H}
theorem c_equals {s t : Nat} {d : Nat} (hs : xS h s) (ht : xS h t) (H1 : xEq h s t → K (.inl (some (.inl (1)))) h) (H0 : ¬ xEq h s t → K (.inl (some (.inl (0)))) h) : am_ev am_prog (d + 7) 301 [.inr (.inl s), .inr (.inl t)] h K := by
  obtain ⟨s1, s2, s3, s4, s5, s6⟩ := hs
  obtain ⟨t1, t2, t3, t4, t5, t6⟩ := ht
  refine am_en p_J2_equals rfl rfl (v_J2_equals_0 ⟨fun c => ⟨t1, Or.inr t1, s1, fun c2 => absurd (s3.trans t3.symm) c2, fun _ => ?_⟩, fun c => ?_⟩)
  · have y1 : xEq h s t → am_W m_J2_equals (am_ev am_prog (d + 6)) K 23 [some (.inr (.inl (s))), some (.inr (.inl (t))), some (.inr (.inl (t)))] [.inl 1] h := fun e => v_J2_equals_23 ⟨fun z => absurd z (by decide), fun _ => H1 e⟩
    have y0 : ¬ xEq h s t → am_W m_J2_equals (am_ev am_prog (d + 6)) K 23 [some (.inr (.inl (s))), some (.inr (.inl (t))), some (.inr (.inl (t)))] [.inl 0] h := fun e => v_J2_equals_23 ⟨fun _ => H0 e, fun z => absurd rfl z⟩
    refine am_en p_J18_equals rfl rfl (v_J18_equals_0 ⟨⟨s2, t2⟩, fun c => am_av (y0 (fun e => c e.1)), fun c => ?_⟩)
    have main : ∀ k, 0 ≤ k → k ≤ am_ln h (am_fr h 189 s) → (∀ j, 0 ≤ j → j < k → am_ai h (am_fr h 189 s) j = am_ai h (am_fr h 189 t) j) → am_W m_J18_equals (am_ev am_prog (d + 5)) (am_aft (am_hand m_J2_equals K (am_W m_J2_equals (am_ev am_prog (d + 6)) K) 22) (am_W m_J2_equals (am_ev am_prog (d + 6)) K) 22 [some (.inr (.inl (s))), some (.inr (.inl (t))), some (.inr (.inl (t)))] []) 7 [some (.inr (.inl ((am_fr h 189 s)))), some (.inr (.inl ((am_fr h 189 t)))), some (.inl (k))] [] h := by
      refine lp_z ?_ ?_
      · intro k g1 g2 hL e
        refine v_J18_equals_7 ⟨s2, fun q => absurd q (by omega), fun _ => ⟨⟨by omega, t2, by omega⟩, fun q => ⟨by omega, hL (fun j j1 j2 => ?_)⟩, fun q => am_av (y0 (fun z => q (z.2 k g1 g2)))⟩⟩
        by_cases ej : j = k
        · rw [ej]
          exact q
        · exact e j j1 (by omega)
      · intro e
        exact v_J18_equals_7 ⟨s2, fun _ => am_av (y1 ⟨c, e⟩), fun q => absurd q (by omega)⟩
    exact main 0 (by omega) s4.1 (fun j j1 j2 => absurd j2 (by omega))
  · subst c
    exact H1 ⟨rfl, fun _ _ _ => rfl⟩
/-- how often a sign is in a string -/
theorem x_needs {s : Nat} {c : Int} {D : Nat} (hD : 13 ≤ D) (hs : xS h s) (hc : 0 ≤ c ∧ c < 27) (H : K (.inl (some (.inl (sg (fun k => am_b (am_ai h (am_fr h 189 s) k = sgn c)) 0 (am_ln h (am_fr h 189 s)).toNat)))) h) : am_ev am_prog D 326 [.inr (.inl s), .inl c] h K := by
  have hs' := hs
  obtain ⟨s1, s2, s3, s4, s5, s6⟩ := hs
  obtain ⟨d, rfl⟩ : ∃ d, D = d + 13 := ⟨D - 13, by omega⟩
  refine am_en p_X23_needs rfl rfl ?_
  refine v_X23_needs_0 ?_
  refine lp_sg (f := fun k => am_b (am_ai h (am_fr h 189 s) k = sgn c)) (lo := 0) (hi := am_ln h (am_fr h 189 s)) (fun y k => 0 ≤ y ∧ y ≤ k) (fun y k => am_W m_X23_needs (am_ev am_prog (d + 12)) K 4 [some (.inr (.inl (s))), some (.inl (c)), some (.inl (y)), some (.inl (k))] [] h) ?_ ?_ (am_ln h (am_fr h 189 s)).toNat 0 0 (by omega) (by omega) (by omega) ?_
  · intro y k g1 g2 gb
    have gb1 : 0 ≤ y ∧ y ≤ k := gb
    show 0 ≤ y + am_b (am_ai h (am_fr h 189 s) k = sgn c) ∧ y + am_b (am_ai h (am_fr h 189 s) k = sgn c) ≤ k + 1
    rcases am_bz (am_ai h (am_fr h 189 s) k = sgn c) with e | e <;> rw [e] <;> omega
  · intro y k g1 g2 gb gL
    have gb1 : 0 ≤ y ∧ y ≤ k := gb
    have gL1 : am_W m_X23_needs (am_ev am_prog (d + 12)) K 4 [some (.inr (.inl (s))), some (.inl (c)), some (.inl (y + am_b (am_ai h (am_fr h 189 s) k = sgn c))), some (.inl (k + 1))] [] h := gL
    refine v_X23_needs_4 ⟨s1, hs', fun q => absurd q (by omega), fun _ => ⟨by omega, fun q => ⟨by omega, fun w => ⟨by omega, ?_⟩, fun w => ⟨by omega, ?_⟩⟩, fun q => ⟨fun w => ⟨by omega, ?_⟩, fun w => ⟨by omega, ?_⟩⟩⟩⟩
    · have es : sgn c = 97 + c := if_neg q
      rw [es, am_bf w] at gL1
      exact gL1
    · have es : sgn c = 97 + c := if_neg q
      rw [es, am_bt w] at gL1
      exact gL1
    · have es : sgn c = 45 := if_pos q
      rw [es, am_bf w] at gL1
      exact gL1
    · have es : sgn c = 45 := if_pos q
      rw [es, am_bt w] at gL1
      exact gL1
  · rw [Int.zero_add]
    exact v_X23_needs_4 ⟨s1, hs', fun _ => H, fun q => absurd q (by omega)⟩
/-- letters of a slug -/
theorem x_letters {g s : Nat} {D : Nat} (hD : 13 ≤ D) (hg : am_ty h g = 23 ∨ am_ty h g = 24) (hgs : am_fr h 160 g = s) (hs : xS h s) (H : K (.inl (some (.inl (sg (fun k => am_b (am_ai h (am_fr h 189 s) k ≠ 32)) 0 (am_ln h (am_fr h 189 s)).toNat)))) h) : am_ev am_prog D 247 [.inr (.inl g)] h K := by
  have hs' := hs
  obtain ⟨s1, s2, s3, s4, s5, s6⟩ := hs
  obtain ⟨d, rfl⟩ : ∃ d, D = d + 13 := ⟨D - 13, by omega⟩
  refine am_en p_X23_letters rfl rfl ?_
  refine v_X23_letters_0 ?_
  refine lp_sg (f := fun k => am_b (am_ai h (am_fr h 189 s) k ≠ 32)) (lo := 0) (hi := am_ln h (am_fr h 189 s)) (fun y k => 0 ≤ y ∧ y ≤ k) (fun y k => am_W m_X23_letters (am_ev am_prog (d + 12)) K 4 [some (.inr (.inl (g))), some (.inl (y)), some (.inl (k))] [] h) ?_ ?_ (am_ln h (am_fr h 189 s)).toNat 0 0 (by omega) (by omega) (by omega) ?_
  · intro y k g1 g2 gb
    have gb1 : 0 ≤ y ∧ y ≤ k := gb
    show 0 ≤ y + am_b (am_ai h (am_fr h 189 s) k ≠ 32) ∧ y + am_b (am_ai h (am_fr h 189 s) k ≠ 32) ≤ k + 1
    rcases am_bz (am_ai h (am_fr h 189 s) k ≠ 32) with e | e <;> rw [e] <;> omega
  · intro y k g1 g2 gb gL
    have gb1 : 0 ≤ y ∧ y ≤ k := gb
    have gL1 : am_W m_X23_letters (am_ev am_prog (d + 12)) K 4 [some (.inr (.inl (g))), some (.inl (y + am_b (am_ai h (am_fr h 189 s) k ≠ 32))), some (.inl (k + 1))] [] h := gL
    refine v_X23_letters_4 ⟨hg, ?_⟩
    rw [hgs]
    refine ⟨s1, hs', fun q => absurd q (by omega), fun _ => ⟨by omega, fun w => ⟨by omega, ?_⟩, fun w => ⟨by omega, ?_⟩⟩⟩
    · rw [am_bt w] at gL1
      exact gL1
    · rw [am_bf (fun z => z w)] at gL1
      exact gL1
  · rw [Int.zero_add]
    refine v_X23_letters_4 ⟨hg, ?_⟩
    rw [hgs]
    exact ⟨s1, hs', fun _ => H, fun q => absurd q (by omega)⟩
/-- what of a sign a machine has in what it cast -/
theorem x_out {N l : Nat} {S : am_G} {k c f mi : Int} {D : Nat} (hD : 14 ≤ D) (hG : okG S) (hc : 0 ≤ c ∧ c < 27) (h1 : am_ty h N = 3) (h3 : am_fr h 25 N = l) (hl : xL h l) (hl2 : am_fi h 195 l = S 0 0 4) (he : ∀ s, 0 ≤ s → s < S 0 0 4 → (am_ty h (am_ar h (am_fr h 194 l) s) = 23 ∨ am_ty h (am_ar h (am_fr h 194 l) s) = 24) ∧ am_fi h 156 (am_ar h (am_fr h 194 l) s) = S 4 s 1 ∧ am_fi h 157 (am_ar h (am_fr h 194 l) s) = S 4 s 2 ∧ xSc h (am_fr h 160 (am_ar h (am_fr h 194 l) s)) (S 4 s 9) (fun j => S 4 s (12 + j))) (H : K (.inl (some (.inl (outN S k c f mi (S 0 0 4).toNat)))) h) : am_ev am_prog D 259 [.inr (.inl N), .inl k, .inl c, .inl f, .inl (mi - 1)] h K := by
  have h0 := hG.1
  have tl := hl.1
  obtain ⟨d, rfl⟩ : ∃ d, D = d + 13 := ⟨D - 13, by omega⟩
  refine am_en p_X3_out rfl rfl ?_
  refine v_X3_out_0 ⟨h1, by rw [h3]; exact tl, ?_⟩
  rw [h3, hl2]
  refine ⟨by omega, ?_⟩
  have main : ∀ (n : Nat) (x : Int) (o7 : Option am_V), (n : Int) ≤ S 0 0 4 → x + outN S k c f mi n = outN S k c f mi (S 0 0 4).toNat → (0 ≤ x ∧ x ≤ 420 * (S 0 0 4 - n)) → am_W m_X3_out (am_ev am_prog (d + 12)) K 8 [some (.inr (.inl (N))), some (.inl (k)), some (.inl (c)), some (.inl (f)), some (.inl (mi - 1)), some (.inl (x)), some (.inl ((n : Int) - 1)), o7] [] h := by
    intro n
    induction n with
    | zero =>
      intro x o7 _ e _
      have e2 : x + outN S k c f mi 0 = x := Int.add_zero x
      rw [e2] at e
      exact v_X3_out_8 ⟨fun _ => am_uv H e.symm, fun z => absurd z (by simp)⟩
    | succ n ih =>
      intro x o7 hn e hx
      have en : (((n + 1 : Nat) : Int) - 1) = (n : Int) := by omega
      have g := hG.2 n (by omega) (by omega)
      have bc := cst_bd (S := S) (c := c) (s := (n : Int)) g.2.2.2
      obtain ⟨y1, y2, y3, y4⟩ := he n (by omega) (by omega)
      rw [en]
      have eo : outN S k c f mi (n + 1) = if S 4 n 2 < f then 0 else (if S 4 n 1 = k ∧ S 4 n 2 < mi then cst S c n else 0) + outN S k c f mi n := rfl
      rw [eo] at e
      refine v_X3_out_8 ⟨fun z => absurd z (by omega), fun _ => ⟨h1, by rw [h3]; exact tl, ?_⟩⟩
      rw [h3, hl2, y2, y3]
      refine ⟨⟨hl, by omega⟩, ⟨Or.inr y1, y1⟩, fun c1 => ?_, fun c1 => ⟨fun c2 => ⟨by omega, ?_⟩, fun c2 => ⟨fun c3 => ⟨by omega, ?_⟩, fun c3 => ?_⟩⟩⟩
      · rw [if_pos c1, Int.add_zero] at e
        exact am_uv H e.symm
      · rw [if_neg (by omega), if_neg (fun z => c2 z.1), Int.zero_add] at e
        exact ih x _ (by omega) e (by omega)
      · rw [if_neg (by omega), if_neg (fun z => by omega), Int.zero_add] at e
        exact ih x _ (by omega) e (by omega)
      · rw [if_neg (by omega), if_pos ⟨c2, by omega⟩] at e
        refine x_needs (by omega) y4.1 hc (am_av ?_)
        have ec : sg (fun j => am_b (am_ai h (am_fr h 189 (am_fr h 160 (am_ar h (am_fr h 194 l) (n : Int)))) j = sgn c)) 0 (am_ln h (am_fr h 189 (am_fr h 160 (am_ar h (am_fr h 194 l) (n : Int))))).toNat = cst S c n := by
          rw [y4.2.1]
          unfold cst
          refine sg_ext _ _ (fun j j1 j2 => ?_)
          show am_b (am_ai h _ j = sgn c) = am_b (S 4 n (12 + j) = sgn c)
          rw [y4.2.2 j j1 (by omega)]
        rw [ec]
        exact v_X3_out_37 ⟨by omega, by omega, ih _ _ (by omega) (by omega) (by omega)⟩
  have e1 : (((S 0 0 4).toNat : Nat) : Int) - 1 = S 0 0 4 - 1 := by omega
  have m := main (S 0 0 4).toNat 0 none (by omega) (by omega) (by omega)
  rw [e1] at m
  exact m
end
