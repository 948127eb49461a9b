set_option maxRecDepth 100000
/-! the component's lines -/
/-- string r has the bytes f 0 .. f (n - 1) -/
def xSc (h : am_H) (r : Nat) (n : Int) (f : Int → Int) : Prop := xS h r ∧ am_ln h (am_fr h 189 r) = n ∧ ∀ k, 0 ≤ k → k < n → am_ai h (am_fr h 189 r) k = f k
/-- a row of pieces -/
def xPc (h : am_H) (a : Nat) (v : Int → Int) : Prop := am_ty h a = 115 ∧ am_ln h a = v 1 ∧ (∀ k, 0 ≤ k → k < v 1 → am_ty h (am_ar h a k) = 8 ∧ am_fi h 109 (am_ar h a k) = am_b (ew v k) ∧ xSc h (am_fr h 108 (am_ar h a k)) (v (125 + k)) (fun i => 97 + v (165 + 12 * k + i)) ∧ am_ar h a k ≤ am_sz h) ∧ a ≤ am_sz h
def xW (h : am_H) (a : Nat) (w : Int → Int) : Prop := am_ty h a = 101 ∧ am_ln h a = 27 ∧ (∀ i, 0 ≤ i → i < 27 → am_ai h a i = w i) ∧ a ≤ am_sz h
def xPp (h : am_H) (r : Nat) (v w : Int → Int) (me le mo co : Int) : Prop := am_ty h r = 2 ∧ xPc h (am_fr h 6 r) v ∧ xW h (am_fr h 7 r) w ∧ am_fi h 8 r = me ∧ am_fi h 9 r = le ∧ am_fi h 10 r = mo ∧ am_fi h 11 r = co ∧ r ≤ am_sz h
theorem xPc_fx {X : Nat → Prop} {h h' : am_H} {r : Nat} {v : Int → Int} (a : fx X h h') (hX : ∀ q, X q → am_ty h q = 101 ∨ am_ty h q = 2 ∨ am_ty h q = 3) (x : xPc h r v) : xPc h' r v := by
  obtain ⟨x1, x2, x3, x4⟩ := x
  obtain ⟨a1, a2, a3⟩ := a.2.2.2 r x4
  obtain ⟨c1, c2, c3, c4⟩ := a3 (fun z => by have := hX _ z; omega)
  refine ⟨a1.trans x1, a2.trans x2, fun k h1 h2 => ?_, Nat.le_trans x4 a.1⟩
  obtain ⟨y1, y2, ⟨y3, y4, y5⟩, y6⟩ := x3 k h1 h2
  obtain ⟨b1, b2, b3⟩ := a.2.2.2 _ y6
  obtain ⟨d1, d2, d3, d4⟩ := b3 (fun z => by have := hX _ z; omega)
  have e : am_ar h' r k = am_ar h r k := by rw [c4]
  have f := xS_fx a y3 (fun z => by have := hX _ z; have := y3.1; omega) (fun z => by have := hX _ z; have := y3.2.1; omega)
  rw [e]
  refine ⟨b1.trans y1, (d1 109).trans y2, ?_, Nat.le_trans y6 a.1⟩
  rw [d2 108]
  refine ⟨f.1, ?_, ?_⟩
  · rw [f.2.1, f.2.2.2]
    exact y4
  · rw [f.2.1, f.2.2.1]
    exact y5
theorem xW_fx {X : Nat → Prop} {h h' : am_H} {r : Nat} {w : Int → Int} (a : fx X h h') (hX : ¬ X r) (x : xW h r w) : xW h' r w := by
  obtain ⟨x1, x2, x3, x4⟩ := x
  obtain ⟨a1, a2, a3⟩ := a.2.2.2 r x4
  obtain ⟨c1, c2, c3, c4⟩ := a3 hX
  refine ⟨a1.trans x1, a2.trans x2, ?_, Nat.le_trans x4 a.1⟩
  rw [c3]
  exact x3
theorem xPp_fx {X : Nat → Prop} {h h' : am_H} {r : Nat} {v w : Int → Int} {me le mo co : Int} (a : fx X h h') (hX : ∀ q, X q → am_ty h q = 101 ∧ q ≠ am_fr h 7 r) (x : xPp h r v w me le mo co) : xPp h' r v w me le mo co ∧ (∀ f, am_fr h' f r = am_fr h f r) := by
  obtain ⟨x1, x2, x3, x4, x5, x6, x7, x8⟩ := x
  obtain ⟨a1, a2, a3⟩ := a.2.2.2 r x8
  obtain ⟨c1, c2, c3, c4⟩ := a3 (fun z => by have := (hX _ z).1; omega)
  refine ⟨⟨a1.trans x1, ?_, ?_, (c1 8).trans x4, (c1 9).trans x5, (c1 10).trans x6, (c1 11).trans x7, Nat.le_trans x8 a.1⟩, c2⟩
  · rw [c2 6]
    exact xPc_fx a (fun q z => Or.inl (hX q z).1) x2
  · rw [c2 7]
    exact xW_fx a (fun z => (hX _ z).2 rfl) x3
section
variable {K : am_K} {h : am_H}
theorem x_wide {r : Nat} {v w : Int → Int} {me le mo co a z : Int} {D : Nat} (hD : 13 ≤ D) (ho : okP v) (hw : okW w) (hx : xPp h r v w me le mo co) (ha : 0 ≤ a) (haz : a ≤ z) (hz : z < v 1) (H : K (.inl (some (.inl (wd v w a z)))) h) : am_ev am_prog D 344 [.inr (.inl r), .inl a, .inl z] h K := by
  obtain ⟨x1, ⟨x2, x3, x4, _⟩, ⟨x5, x6, x7, _⟩, _⟩ := hx
  have h1 := ho.1
  obtain ⟨d, rfl⟩ : ∃ d, D = d + 13 := ⟨D - 13, by omega⟩
  refine am_en p_X2_wide rfl rfl ?_
  have main : ∀ (x : Int) (o5 o6 : Option am_V), 0 ≤ x → x ≤ 20 → K (.inl (some (.inl (x + sg (pwd v w) a (z + 1 - a).toNat)))) h → am_W m_X2_wide (am_ev am_prog (d + 12)) K 15 [some (.inr (.inl (r))), some (.inl (a)), some (.inl (z)), some (.inl (x)), some (.inl (a)), o5, o6] [] h := by
    intro x o5 o6 hx0 hx1 HK
    refine lp_sg (f := pwd v w) (lo := a) (hi := z + 1) (fun x k => 0 ≤ x ∧ x ≤ 20 + 240 * (k - a)) (fun x k => ∀ o5 o6 : Option am_V, am_W m_X2_wide (am_ev am_prog (d + 12)) K 15 [some (.inr (.inl (r))), some (.inl (a)), some (.inl (z)), some (.inl (x)), some (.inl (k)), o5, o6] [] h) ?_ ?_ (z + 1 - a).toNat x a (by omega) (by omega) (by omega) ?_ o5 o6
    · intro x k g1 g2 hb
      have e := pwd_bd ho hw (k := k) (by omega)
      show 0 ≤ x + pwd v w k ∧ x + pwd v w k ≤ 20 + 240 * (k + 1 - a)
      omega
    · intro x k g1 g2 hb hL o5 o6
      obtain ⟨y1, y2, ⟨y3, y4, y5⟩, _⟩ := x4 k (by omega) (by omega)
      have q1 := ho.2.1 k (by omega) (by omega)
      have hb1 : 0 ≤ x ∧ x ≤ 20 + 240 * (k - a) := hb
      refine v_X2_wide_15 ⟨fun c => absurd c (by omega), fun _ => ⟨⟨x1, x2, by omega⟩, y1, ?_⟩⟩
      refine lp_sg (f := fun i => w (v (165 + 12 * k + i))) (lo := 0) (hi := v (125 + k)) (fun y i => 0 ≤ y ∧ y ≤ 20 + 240 * (k - a) + 20 * i) (fun y i => am_W m_X2_wide (am_ev am_prog (d + 12)) K 26 [some (.inr (.inl (r))), some (.inl (a)), some (.inl (z)), some (.inl (y)), some (.inl (k)), some (.inr (.inl (am_fr h 108 (am_ar h (am_fr h 6 r) k)))), some (.inl (i))] [] h) ?_ ?_ (v (125 + k)).toNat x 0 (by omega) (by omega) (by omega) ?_
      · intro y i f1 f2 fb
        have q2 := ho.2.2 k i (by omega) (by omega) f1 (by omega)
        have q3 := hw _ q2.1 (by omega)
        show 0 ≤ y + w (v (165 + 12 * k + i)) ∧ y + w (v (165 + 12 * k + i)) ≤ 20 + 240 * (k - a) + 20 * (i + 1)
        have fb1 : 0 ≤ y ∧ y ≤ 20 + 240 * (k - a) + 20 * i := fb
        omega
      · intro y i f1 f2 fb fL
        have q2 := ho.2.2 k i (by omega) (by omega) f1 (by omega)
        have q3 := hw _ q2.1 (by omega)
        have fb1 : 0 ≤ y ∧ y ≤ 20 + 240 * (k - a) + 20 * i := fb
        have e1 : am_ai h (am_fr h 189 (am_fr h 108 (am_ar h (am_fr h 6 r) k))) i - 97 = v (165 + 12 * k + i) := by
          rw [y5 i f1 f2]
          show 97 + v (165 + 12 * k + i) - 97 = _
          omega
        have e2 : am_ai h (am_fr h 7 r) (v (165 + 12 * k + i)) = w (v (165 + 12 * k + i)) := x7 _ q2.1 (by omega)
        refine v_X2_wide_26 ⟨y3.1, y3, fun c => absurd c (by omega), fun _ => ⟨x1, by omega, ?_, ?_⟩⟩
        · rw [e1, e2]
          exact ⟨by omega, Or.inl x5, by omega, by omega, by omega⟩
        · rw [e1, e2]
          exact fL
      · refine v_X2_wide_26 ⟨y3.1, y3, fun c => ⟨by omega, hL _ _⟩, fun c => absurd c (by omega)⟩
    · intro o5 o6
      exact v_X2_wide_15 ⟨fun c => HK, fun c => absurd c (by omega)⟩
  obtain ⟨y1, y2, y3⟩ := x4 z (by omega) hz
  have q0 := hw 26 (by omega) (by omega)
  have q1 : am_ai h (am_fr h 7 r) 26 = w 26 := x7 26 (by omega) (by omega)
  refine v_X2_wide_0 ⟨⟨x1, x2, by omega⟩, y1, by rw [y2]; exact am_bz _, fun c => ⟨⟨Or.inl x5, by omega⟩, ?_⟩, fun c => ?_⟩
  · rw [y2] at c
    rw [q1]
    refine main _ _ _ (by omega) (by omega) (am_uv H ?_)
    unfold wd
    rw [if_neg (am_b0 c)]
  · rw [y2] at c
    refine main _ _ _ (by omega) (by omega) (am_uv H ?_)
    unfold wd
    rw [if_pos (am_b1 c)]
theorem gaps_sg {v : Int → Int} (hn : okN v) : ∀ (n : Nat) (a : Int), 0 ≤ a → a + n < v 1 → sg (fun k => am_b (ew v k)) a n = v (85 + (a + n)) - v (85 + a)
  | 0, a, h1, h2 => by
    show (0 : Int) = v (85 + (a + ((0 : Nat) : Int))) - v (85 + a)
    have e : a + ((0 : Nat) : Int) = a := by omega
    rw [e]
    omega
  | n + 1, a, h1, h2 => by
    have ih := gaps_sg hn n (a + 1) (by omega) (by omega)
    have e1 := hn.2 a h1 (by omega)
    show am_b (ew v a) + sg (fun k => am_b (ew v k)) (a + 1) n = _
    rw [ih]
    have e2 : a + 1 + (n : Int) = a + ((n + 1 : Nat) : Int) := by omega
    have e3 : 85 + (a + 1) = 86 + a := by omega
    rw [e2, e3]
    omega
theorem x_gaps {r : Nat} {v w : Int → Int} {me le mo co a z : Int} {D : Nat} (hD : 13 ≤ D) (ho : okP v) (hn : okN v) (hx : xPp h r v w me le mo co) (ha : 0 ≤ a) (haz : a ≤ z) (hz : z < v 1) (H : K (.inl (some (.inl (v (85 + z) - v (85 + a))))) h) : am_ev am_prog D 345 [.inr (.inl r), .inl a, .inl z] h K := by
  obtain ⟨x1, ⟨x2, x3, x4, _⟩, _⟩ := hx
  have h1 := ho.1
  have e0 := gaps_sg hn (z - a).toNat a ha (by omega)
  have e1 : a + (((z - a).toNat : Nat) : Int) = z := by omega
  rw [e1] at e0
  obtain ⟨d, rfl⟩ : ∃ d, D = d + 13 := ⟨D - 13, by omega⟩
  refine am_en p_X2_gaps rfl rfl ?_
  refine v_X2_gaps_0 ?_
  refine lp_sg (f := fun k => am_b (ew v k)) (lo := a) (hi := z) (fun x k => 0 ≤ x ∧ x ≤ k - a) (fun x k => am_W m_X2_gaps (am_ev am_prog (d + 12)) K 4 [some (.inr (.inl (r))), some (.inl (a)), some (.inl (z)), some (.inl (x)), some (.inl (k))] [] h) ?_ ?_ (z - a).toNat 0 a (by omega) (by omega) (by omega) ?_
  · intro x k g1 g2 gb
    have gb1 : 0 ≤ x ∧ x ≤ k - a := gb
    show 0 ≤ x + am_b (ew v k) ∧ x + am_b (ew v k) ≤ k + 1 - a
    rcases am_bz (ew v k) with e | e <;> rw [e] <;> omega
  · intro x k g1 g2 gb gL
    have gb1 : 0 ≤ x ∧ x ≤ k - a := gb
    obtain ⟨y1, y2, y3⟩ := x4 k (by omega) (by omega)
    refine v_X2_gaps_4 ⟨fun c => absurd c (by omega), fun _ => ⟨⟨x1, x2, by omega⟩, y1, by rw [y2]; exact am_bz _, fun c => ⟨by omega, ?_⟩, fun c => ⟨by omega, ?_⟩⟩⟩
    · rw [y2] at c
      have gL1 : am_W m_X2_gaps (am_ev am_prog (d + 12)) K 4 [some (.inr (.inl (r))), some (.inl (a)), some (.inl (z)), some (.inl (x + am_b (ew v k))), some (.inl (k + 1))] [] h := gL
      rw [c] at gL1
      exact gL1
    · rw [y2] at c
      have gL1 : am_W m_X2_gaps (am_ev am_prog (d + 12)) K 4 [some (.inr (.inl (r))), some (.inl (a)), some (.inl (z)), some (.inl (x + am_b (ew v k))), some (.inl (k + 1))] [] h := gL
      rw [am_bt (am_b1 c)] at gL1
      exact gL1
  · rw [e0, Int.zero_add]
    exact v_X2_gaps_4 ⟨fun _ => H, fun c => absurd c (by omega)⟩
theorem x_loose {r : Nat} {v w : Int → Int} {me le mo co a z : Int} {D : Nat} (hD : 14 ≤ D) (ho : okP v) (hw : okW w) (hn : okN v) (hx : xPp h r v w me le mo co) (hme : 0 ≤ me ∧ me ≤ 400) (hle : 0 ≤ le ∧ le ≤ 40) (ha : 0 ≤ a) (haz : a ≤ z) (hz : z < v 1) (H : K (.inl (some (.inl (me - tgt v w le a z)))) h) : am_ev am_prog D 319 [.inr (.inl r), .inl a, .inl z] h K := by
  have h1 := ho.1
  have e1 := wd_bd ho hw ha (z := z) (by omega)
  have e2 := (ho.2.1 a ha (by omega)).2
  have e3 := (ho.2.1 z (by omega) (by omega)).2
  have e4 := mul_in (y := v (85 + z) - v (85 + a)) (e := 23) hle (by omega)
  have e5 : (v (85 + z) - v (85 + a)) * le = le * (v (85 + z) - v (85 + a)) := Int.mul_comm _ _
  have x1 := hx.1
  have x8 := hx.2.2.2.1
  have x9 := hx.2.2.2.2.1
  obtain ⟨d, rfl⟩ : ∃ d, D = d + 13 := ⟨D - 13, by omega⟩
  refine am_en p_X2_loose rfl rfl ?_
  refine v_X2_loose_0 ⟨x1, x_wide (by omega) ho hw hx ha haz hz (am_av ?_)⟩
  rw [x8]
  refine v_X2_loose_6 ⟨by omega, x1, x_gaps (by omega) ho hn hx ha haz hz (am_av ?_)⟩
  refine v_X2_loose_11 ⟨⟨x1, ?_, ?_⟩, am_uv H ?_⟩
  · rw [x9, e5]
    omega
  · rw [x9, e5]
    omega
  · rw [x9, e5]
    unfold tgt
    omega
theorem x_stands {r : Nat} {v w : Int → Int} {me le mo co a z : Int} {D : Nat} (hD : 15 ≤ D) (ho : okP v) (hw : okW w) (hn : okN v) (hx : xPp h r v w me le mo co) (hme : 0 ≤ me ∧ me ≤ 400) (hle : 0 ≤ le ∧ le ≤ 40) (hmo : 0 ≤ mo ∧ mo ≤ 40) (ha : 0 ≤ a) (haz : a ≤ z) (hz : z < v 1) (H : K (.inl (some (.inl (am_b (stn v w me le mo a z))))) h) : am_ev am_prog D 298 [.inr (.inl r), .inl a, .inl z] h K := by
  have h1 := ho.1
  have e1 := wd_bd ho hw ha (z := z) (by omega)
  have e2 := (ho.2.1 a ha (by omega)).2
  have e3 := (ho.2.1 z (by omega) (by omega)).2
  have e4 := mul_in (y := v (85 + z) - v (85 + a)) (e := 23) hmo (by omega)
  have e5 : (v (85 + z) - v (85 + a)) * mo = mo * (v (85 + z) - v (85 + a)) := Int.mul_comm _ _
  have x1 := hx.1
  have x2 := hx.2.1.1
  have x3 := hx.2.1.2.1
  have x8 := hx.2.2.2.1
  have x10 := hx.2.2.2.2.2.1
  obtain ⟨d, rfl⟩ : ∃ d, D = d + 13 := ⟨D - 13, by omega⟩
  refine am_en p_X2_stands rfl rfl ?_
  refine v_X2_stands_0 ⟨x1, x_loose (by omega) ho hw hn hx hme hle ha haz hz (am_av ?_)⟩
  refine v_X2_stands_4 ⟨fun c => am_ubn (fun q => absurd q.1 (by omega)) H, fun c => ⟨x1, x2, by rw [x3]; omega, fun c2 => ?_, fun c2 => ?_⟩⟩
  · rw [x3] at c2
    exact am_ub ⟨by omega, Or.inl c2⟩ H
  · rw [x3] at c2
    refine x_wide (by omega) ho hw hx ha haz hz (am_av ?_)
    refine v_X2_stands_15 ⟨x1, x_gaps (by omega) ho hn hx ha haz hz (am_av ?_)⟩
    refine v_X2_stands_19 ⟨⟨x1, ?_, ?_⟩, fun c3 => ?_, fun c3 => ?_⟩
    · rw [x10, e5]
      omega
    · rw [x10, e5]
      omega
    · rw [x10, x8, e5] at c3
      exact am_ubn (fun q => q.2.elim c2 (fun q => absurd q (by omega))) H
    · rw [x10, x8, e5] at c3
      exact am_ub ⟨by omega, Or.inr c3⟩ H
theorem x_badness {r : Nat} {v w : Int → Int} {me le mo co a z : Int} {D : Nat} (hD : 15 ≤ D) (ho : okP v) (hw : okW w) (hn : okN v) (hx : xPp h r v w me le mo co) (hme : 0 ≤ me ∧ me ≤ 400) (hle : 0 ≤ le ∧ le ≤ 40) (hco : 0 ≤ co ∧ co ≤ 999) (ha : 0 ≤ a) (haz : a ≤ z) (hz : z < v 1) (H : K (.inl (some (.inl (bdn v w me le co a z)))) h) : am_ev am_prog D 299 [.inr (.inl r), .inl a, .inl z] h K := by
  have h1 := ho.1
  have e1 := tgt_bd ho hw hle ha haz (z := z) (by omega)
  have e2 := sq_bd (x := me - tgt v w le a z) (c := 12000) (by omega)
  have x1 := hx.1
  have x2 := hx.2.1.1
  have x3 := hx.2.1.2.1
  obtain ⟨y1, y2, y3⟩ := hx.2.1.2.2.1 z (by omega) hz
  have x11 := hx.2.2.2.2.2.2.1
  obtain ⟨d, rfl⟩ : ∃ d, D = d + 13 := ⟨D - 13, by omega⟩
  refine am_en p_X2_badness rfl rfl ?_
  refine v_X2_badness_0 ⟨x1, x2, by rw [x3]; omega, fun c => ?_, fun c => ?_⟩
  · rw [x3] at c
    have q : bdn v w me le co a z = (me - tgt v w le a z) * (me - tgt v w le a z) + (if ew v z then 0 else co) := if_neg c
    refine x_loose (by omega) ho hw hn hx hme hle ha haz hz (am_av ?_)
    refine v_X2_badness_12 ⟨⟨by omega, x1, x2, by omega⟩, y1, by rw [y2]; exact am_bz _, fun c2 => ⟨?_, ?_⟩, fun c2 => ⟨by omega, ?_⟩⟩
    · rw [x11]
      omega
    · rw [y2] at c2
      rw [x11]
      refine am_uv H ?_
      rw [q, if_neg (am_b0 c2)]
    · rw [y2] at c2
      refine am_uv H ?_
      rw [q, if_pos (am_b1 c2)]
  · rw [x3] at c
    exact am_uv H (if_pos c)
end
