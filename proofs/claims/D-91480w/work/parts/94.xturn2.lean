set_option maxRecDepth 100000
section
variable {K : am_K} {h : am_H}
/-- from the line on: the brasses are looked at -/
theorem x_run {L : am_Lb} {x P N : Nat} {S : am_G} {B : Int} {k : Int} {tx : Nat} {d : Nat} {o8 : Option am_V} (hd : 14 ≤ d + 12) (hB2 : B + 2 ≤ 1000000) (t : Nt h L x P N S B) (hx : am_ty h x = 1) {Rn : Nat} (hN : am_fr h 1 x = Rn) (hz : x ≤ am_sz h) (hl : L x = (x, 0, 0, 0)) (hB : B ≤ 1000000) (hC : okC S) (hF : okF S) (hG : okG S) (hM : okM S) (hk : 0 ≤ k ∧ k < S 0 0 3) (hn : 0 < S 5 k 29) (oP : okPl S (S 5 k 33)) (hl2 : 0 ≤ (S 5 k 34) ∧ (S 5 k 34) < S 3 (S 5 k 33) 4) (h45 : 0 ≤ S 3 (S 5 k 33) (45 + (S 5 k 34)) ∧ S 3 (S 5 k 33) (45 + (S 5 k 34)) ≤ (S 0 0 4)) (hm : (((lnS (S 3 (S 5 k 33)) (S 5 k 34))).length : Int) ≤ 420) (hr : ∀ i, 0 ≤ i → i < S 0 0 7 → S 10 0 (5 * i) < S 0 0 0) (ht : iSl h L tx (lnS (S 3 (S 5 k 33)) (S 5 k 34))) (H : ∀ S' a h' L', runR S k S' a → Nt h' L' x P N S' (B + 2) → Ow h L N h' L' → ((am_sz h' : Int) + capG h N ≤ am_sz h + capG h' N + (S' 0 0 4 - S 0 0 4)) ∧ ((am_us h' : Int) + 5 * capG h N ≤ am_us h + 5 * capG h' N + 11 * (S' 0 0 4 - S 0 0 4)) → K (.inl (some (.inl (a)))) h') : am_W m_X3_turn (am_ev am_prog (d + 12)) K 87 [some (.inr (.inl (N))), some (.inl (k)), some (.inr (.inl ((am_ar h (am_fr h 23 N) k)))), some (.inr (.inl ((am_ar h (am_fr h 194 (am_fr h 147 (am_ar h (am_fr h 23 N) k))) 0)))), some (.inr (.inl ((am_ar h (am_fr h 20 N) (S 5 k 33))))), some (.inr (.inl (tx))), some (.inl (am_b ((S 0 0 4) = 300))), some (.inl (0)), o8] [] h := by
  obtain ⟨g1, g2, g3, g4⟩ := G_fc t
  have x1 := t.2.2.2.1.1
  have x5 := t.2.2.2.1.2.2.2.2.1
  have mk := x5.2.2 k hk.1 hk.2
  have m1 := mk.1
  have m2 := mk.2.1
  have m3 := mk.2.2.1
  have m4 := mk.2.2.2.1
  have m5 := mk.2.2.2.2.1
  have m8 := mk.2.2.2.2.2.2.2.1
  have mo' := (hM k hk.1 (by have := hC.2.2.1; omega))
  have g04 := hG.1
  have c0 := hC.1
  have nd27 : ∀ c, 0 ≤ c → c < 27 → sg (fun j => am_b (am_ai h (am_fr h 189 tx) j = sgn c)) 0 (am_ln h (am_fr h 189 tx)).toNat = cn (sgn c) (lnS (S 3 (S 5 k 33)) (S 5 k 34)) := fun c _ _ => by
    have e1 : (am_ln h (am_fr h 189 tx)).toNat = ((lnS (S 3 (S 5 k 33)) (S 5 k 34))).length := by
      rw [ht.1.2.1]
      omega
    rw [e1]
    exact sg_cn _ (fun j hj => ht.1.2.2 j hj)
  have main : ∀ c, 0 ≤ c → c ≤ 27 → (∀ c', 0 ≤ c' → c' < c → cn (sgn c') (lnS (S 3 (S 5 k 33)) (S 5 k 34)) ≤ S 5 k c') → ∀ o8, am_W m_X3_turn (am_ev am_prog (d + 12)) K 87 [some (.inr (.inl (N))), some (.inl (k)), some (.inr (.inl ((am_ar h (am_fr h 23 N) k)))), some (.inr (.inl ((am_ar h (am_fr h 194 (am_fr h 147 (am_ar h (am_fr h 23 N) k))) 0)))), some (.inr (.inl ((am_ar h (am_fr h 20 N) (S 5 k 33))))), some (.inr (.inl (tx))), some (.inl (wtF S k (lnS (S 3 (S 5 k 33)) (S 5 k 34)) c.toNat)), some (.inl (c)), o8] [] h := by
    refine lp_z ?_ ?_
    · intro c l1 l2 hL hc o8
      have e1 : (c + 1).toNat = c.toNat + 1 := by omega
      have e2 : ((c.toNat : Nat) : Int) = c := by omega
      have cb := cn_bd (x := sgn c) (lnS (S 3 (S 5 k 33)) (S 5 k 34))
      have bb := mo'.1 c l1 l2
      have es : wtF S k (lnS (S 3 (S 5 k 33)) (S 5 k 34)) (c.toNat + 1) = if wtF S k (lnS (S 3 (S 5 k 33)) (S 5 k 34)) c.toNat = 0 then am_b (0 < cn (sgn c) (lnS (S 3 (S 5 k 33)) (S 5 k 34)) ∧ thr S k c (S 0 0 0) < cn (sgn c) (lnS (S 3 (S 5 k 33)) (S 5 k 34))) else 1 := by
        show (if wtF S k (lnS (S 3 (S 5 k 33)) (S 5 k 34)) c.toNat = 0 then am_b (0 < cn (sgn ((c.toNat : Nat) : Int)) (lnS (S 3 (S 5 k 33)) (S 5 k 34)) ∧ thr S k ((c.toNat : Nat) : Int) (S 0 0 0) < cn (sgn ((c.toNat : Nat) : Int)) (lnS (S 3 (S 5 k 33)) (S 5 k 34))) else 1) = _
        rw [e2]
      rw [e1, es] at hL
      refine v_X3_turn_87 ⟨fun z => absurd z (by omega), fun _ => x_needs (by omega) ht.1.1 (by omega) (am_av (v_X3_turn_93 ?_))⟩
      rw [nd27 c l1 l2, m3, m4 c l1 (by omega)]
      have hL' : cn (sgn c) (lnS (S 3 (S 5 k 33)) (S 5 k 34)) ≤ S 5 k c → ∀ o8, am_W m_X3_turn (am_ev am_prog (d + 12)) K 87 [some (.inr (.inl (N))), some (.inl (k)), some (.inr (.inl ((am_ar h (am_fr h 23 N) k)))), some (.inr (.inl ((am_ar h (am_fr h 194 (am_fr h 147 (am_ar h (am_fr h 23 N) k))) 0)))), some (.inr (.inl ((am_ar h (am_fr h 20 N) (S 5 k 33))))), some (.inr (.inl (tx))), some (.inl (if wtF S k (lnS (S 3 (S 5 k 33)) (S 5 k 34)) c.toNat = 0 then am_b (0 < cn (sgn c) (lnS (S 3 (S 5 k 33)) (S 5 k 34)) ∧ thr S k c (S 0 0 0) < cn (sgn c) (lnS (S 3 (S 5 k 33)) (S 5 k 34))) else 1)), some (.inl (c + 1)), o8] [] h := fun hle => hL (fun c' y1 y2 => by
        by_cases e : c' = c
        · rw [e]
          exact hle
        · exact hc c' y1 (by omega))
      refine ⟨⟨m1.1, Or.inl m2.1, by omega⟩, fun y => ⟨fun u => ⟨by omega, ?_⟩, fun u => ⟨fun w => ⟨by omega, ?_⟩, fun w => ?_⟩⟩, fun y => ?_⟩
      · have q := hL' y
        rw [if_neg u] at q
        exact q _
      · have q := hL' y
        rw [if_pos u, am_bf (fun z => absurd z.1 (by omega))] at q
        exact q _
      · have q := hL' y
        rw [x1.2.2.1, m5]
        refine ⟨⟨x1.1.1, by omega, by omega⟩, x_out (mi := S 0 0 0) (by omega) hG (by omega) x1.1.1 rfl g1 g2 (fun s s1 s2 => ?_) (am_av (v_X3_turn_126 ?_))⟩
        · have v := g4 s s1 s2
          exact ⟨G_ty v, v.2.2.1, v.2.2.2.1, v.2.2.2.2.2.2.1.1⟩
        · have bd := outN_bd (k := k) (c := c) (f := S 0 0 0 - S 5 k 27) (mi := S 0 0 0) hG ((S 0 0 4)).toNat (by omega)
          have et : thr S k c (S 0 0 0) < cn (sgn c) (lnS (S 3 (S 5 k 33)) (S 5 k 34)) ↔ S 5 k c - outN S k c (S 0 0 0 - S 5 k 27) (S 0 0 0) ((S 0 0 4)).toNat < cn (sgn c) (lnS (S 3 (S 5 k 33)) (S 5 k 34)) := by
            unfold thr
            split <;> omega
          refine ⟨by omega, fun v => ⟨by omega, ?_⟩, fun v => ⟨by omega, ?_⟩⟩
          · rw [if_pos u, am_bf (fun z => absurd (et.mp z.2) (by omega))] at q
            exact q _
          · rw [if_pos u, am_bt ⟨w, et.mpr v⟩] at q
            exact q _
      · refine x_spike (by omega) t hB hk ⟨hn, mo'.2.2.2.1.2⟩ (by have := mo'.2.2.2.2.2.2.1; omega) (fun h' t' f z u => am_an (v_X3_turn_102 ?_))
        have cp := nG_cap t f
        refine H (spk S k) (-1) h' L (Or.inl ⟨⟨c, ⟨l1, l2⟩, y⟩, rfl, rfl⟩) (Nt_B (by omega) t') ⟨fx_sub f (fun q _ w => ⟨w.1, w.2.2.2⟩), leL_refl, fun q hq => Or.inl (t.1.2.2 q hq), cp.2⟩ ?_
        have e04 : spk S k 0 0 4 = S 0 0 4 := by
          rw [spk_e, u3_nc (by decide), (awy_c (S := S) (k := k)).1 0 (by decide)]
        rw [e04, cp.1]
        exact ⟨by omega, by omega⟩
    · intro hc o8
      have hno : ¬ mss S k (lnS (S 3 (S 5 k 33)) (S 5 k 34)) := fun z => by
        obtain ⟨c, c1, c2⟩ := z
        have := hc c c1.1 c1.2
        omega
      rcases wtF_01 (S := S) (k := k) (ml := (lnS (S 3 (S 5 k 33)) (S 5 k 34))) 27 with e | e
      · have h300 : (S 0 0 4) < 300 := by
          by_cases q : (S 0 0 4) = 300
          · exfalso
            have st : ∀ j : Nat, wtF S k (lnS (S 3 (S 5 k 33)) (S 5 k 34)) j = 1 := by
              intro j
              induction j with
              | zero => exact am_bt q
              | succ j ih =>
                show (if wtF S k (lnS (S 3 (S 5 k 33)) (S 5 k 34)) j = 0 then _ else 1) = 1
                rw [if_neg (by rw [ih]; decide)]
            rw [st 27] at e
            exact absurd e (by decide)
          · omega
        have e' : wtF S k (lnS (S 3 (S 5 k 33)) (S 5 k 34)) (27 : Int).toNat = 0 := e
        rw [e']
        exact x_cast hd hB2 t hx hN hz hl hB hC hF hG hM hk hn oP hl2 h45 hm hr ht hno e h300 H
      · have e' : wtF S k (lnS (S 3 (S 5 k 33)) (S 5 k 34)) (27 : Int).toNat = 1 := e
        rw [e']
        have b31 := mo'.2.2.2.2.2.1
        refine v_X3_turn_87 ⟨fun _ => ⟨fun z => absurd z (by decide), fun _ => ⟨⟨m1.1, by rw [m8]; omega⟩, ?_⟩⟩, fun z => absurd z (by omega)⟩
        rw [m8]
        have a : fx (fun q => q = (am_ar h (am_fr h 23 N) k)) h (am_sfi h 149 (am_ar h (am_fr h 23 N) k) (S 5 k 31 + 1)) := fx_sfi fx_refl (Or.inr rfl)
        have t' : Nt (am_sfi h 149 (am_ar h (am_fr h 23 N) k) (S 5 k 31 + 1)) L x P N (u3 S 5 k 31 (S 5 k 31 + 1)) B := by
          refine Nt_mn t (k := k) (m := (am_ar h (am_fr h 23 N) k)) hk rfl a (fun f => rfl) (fun c c1 => u3_r c1) (fun q e => u3_rp e) (fun o ho => u3_no (by omega)) (x_fif (by decide)) ?_ ?_ ?_ ?_
          · rw [x_fif (by decide), u3_no (by decide)]
            exact mk.2.2.2.2.2.1
          · rw [x_fif (by decide), u3_no (by decide)]
            exact mk.2.2.2.2.2.2.1
          · rw [x_fie, u3_eq]
          · rw [x_fif (by decide), u3_no (by decide)]
            exact mk.2.2.2.2.2.2.2.2.1
        refine H _ (-1) _ L (Or.inr (Or.inl ⟨hno, by rw [e]; decide, rfl, rfl⟩)) (Nt_B (by omega) t') ⟨fx_sub a (fun q hq w => by
          have w1 : q = (am_ar h (am_fr h 23 N) k) := w
          rw [w1, m1.2.2.2]
          exact ⟨rfl, by show (5 : Nat) ≠ 10; decide⟩), leL_refl, fun q hq => Or.inl (t.1.2.2 q hq), fun f => rfl⟩ ?_
        rw [u3_nc (by decide)]
        exact ⟨by show (am_sz h : Int) + capG h N ≤ am_sz h + capG h N + _; omega, by show (am_us h : Int) + 5 * capG h N ≤ am_us h + 5 * capG h N + _; omega⟩
  exact main 0 (by omega) (by omega) (fun c' y1 y2 => absurd y2 (by omega)) _
end
