set_option maxRecDepth 100000
theorem gt_pcp {v : Int → Int} {k : Int} : ∀ (n j : Nat), j < n → gt (pcp v k n) j = 97 + v (165 + 12 * k + (j : Int))
  | 0, j, h => absurd h (Nat.not_lt_zero j)
  | n + 1, j, h => by
    show gt (pcp v k n ++ [97 + v (165 + 12 * k + (n : Int))]) j = _
    by_cases e : j = n
    · subst e
      have e1 : gt (pcp v k j ++ [97 + v (165 + 12 * k + (j : Int))]) (pcp v k j).length = _ := gt_last (pcp v k j)
      rw [pcp_len] at e1
      exact e1
    · rw [gt_app _ _ (by rw [pcp_len]; omega)]
      exact gt_pcp n j (by omega)
theorem mem_pcp {v : Int → Int} {k : Int} : ∀ (n : Nat), (∀ i : Int, 0 ≤ i → i < (n : Int) → 0 ≤ v (165 + 12 * k + i) ∧ v (165 + 12 * k + i) ≤ 25) → ∀ x, x ∈ pcp v k n → 0 ≤ x ∧ x ≤ 127
  | 0, _, x, h => absurd h (List.not_mem_nil)
  | n + 1, hv, x, h => by
    rcases List.mem_append.mp h with h | h
    · exact mem_pcp n (fun i a b => hv i a (by omega)) x h
    · have e : x = 97 + v (165 + 12 * k + (n : Int)) := List.mem_singleton.mp h
      have := hv n (by omega) (by omega)
      omega
theorem xPc_fx2 {X : Nat → Prop} {h h' : am_H} {r : Nat} {v : Int → Int} (a : fx X h h') (hX : ∀ q, X q → am_ty h q ≠ 115 ∧ am_ty h q ≠ 8 ∧ am_ty h q ≠ 30 ∧ am_ty h q ≠ 90) (x : xPc h r v) (hs : ∀ k, 0 ≤ k → k < v 1 → ¬ X (am_fr h 189 (am_fr h 108 (am_ar h r k)))) : xPc h' r v ∧ am_ar h' r = am_ar h r ∧ (∀ k, 0 ≤ k → k < v 1 → am_fr h' 108 (am_ar h r k) = am_fr h 108 (am_ar h r k) ∧ am_fr h' 189 (am_fr h 108 (am_ar h r k)) = am_fr h 189 (am_fr h 108 (am_ar h r k))) := by
  obtain ⟨x1, x2, x3, x4⟩ := x
  obtain ⟨a1, a2, a3⟩ := a.2.2.2 r x4
  obtain ⟨c1, c2, c3, c4⟩ := a3 (fun z => (hX _ z).1 x1)
  have key : ∀ k, 0 ≤ k → k < v 1 → (am_ty h' (am_ar h r k) = 8 ∧ am_fi h' 109 (am_ar h r k) = am_b (ew v k) ∧ xSc h' (am_fr h 108 (am_ar h r k)) (v (125 + k)) (fun i => 97 + v (165 + 12 * k + i)) ∧ am_ar h r k ≤ am_sz h') ∧ am_fr h' 108 (am_ar h r k) = am_fr h 108 (am_ar h r k) ∧ am_fr h' 189 (am_fr h 108 (am_ar h r k)) = am_fr h 189 (am_fr h 108 (am_ar h r k)) := by
    intro k h1 h2
    obtain ⟨y1, y2, ⟨y3, y4, y5⟩, y6⟩ := x3 k h1 h2
    obtain ⟨b1, b2, b3⟩ := a.2.2.2 _ y6
    obtain ⟨d1, d2, d3, d4⟩ := b3 (fun z => (hX _ z).2.1 y1)
    have f := xS_fx a y3 (fun z => y3.1.elim (hX _ z).2.2.1 (hX _ z).2.2.2) (hs k h1 h2)
    refine ⟨⟨b1.trans y1, (d1 109).trans y2, ⟨f.1, ?_, ?_⟩, Nat.le_trans y6 a.1⟩, d2 108, f.2.1⟩
    · rw [f.2.1, f.2.2.2]
      exact y4
    · rw [f.2.1, f.2.2.1]
      exact y5
  refine ⟨⟨a1.trans x1, a2.trans x2, fun k h1 h2 => ?_, Nat.le_trans x4 a.1⟩, c4, fun k h1 h2 => (key k h1 h2).2⟩
  rw [c4]
  obtain ⟨⟨k1, k2, k3, k4⟩, k5, k6⟩ := key k h1 h2
  rw [k5]
  exact ⟨k1, k2, k3, k4⟩
theorem say_pre {v : Int → Int} {a z : Int} (haz : a ≤ z) : ∀ k, a ≤ k → k ≤ z → ((sayN v a (k - a).toNat ++ sep v a k).length : Int) + ((pcp v k (v (125 + k)).toNat).length : Int) ≤ ((say v a z).length : Int) := by
  intro k h1 h2
  have e1 : sayN v a ((k - a).toNat + 1) = sayN v a (k - a).toNat ++ sep v a k ++ pcp v k (v (125 + k)).toNat := by
    have ek : a + (((k - a).toNat : Nat) : Int) = k := by omega
    show sayN v a (k - a).toNat ++ sep v a (a + (((k - a).toNat : Nat) : Int)) ++ pcp v (a + (((k - a).toNat : Nat) : Int)) (v (125 + (a + (((k - a).toNat : Nat) : Int)))).toNat = _
    rw [ek]
  have e2 := sayN_le (v := v) (a := a) ((k - a).toNat + 1) (z + 1 - a).toNat (by omega)
  have e3 : (sayN v a (z + 1 - a).toNat).length ≤ (say v a z).length := by
    unfold say
    rw [List.length_append]
    omega
  rw [e1, List.length_append] at e2
  omega
theorem fx_trans2 {X Y : Nat → Prop} {h h' h'' : am_H} (a : fx X h h') (b : fx Y h' h'') (s : ∀ q, q ≤ am_sz h → Y q → X q) : fx X h h'' := by
  refine ⟨Nat.le_trans a.1 b.1, Nat.le_trans a.2.1 b.2.1, b.2.2.1.trans a.2.2.1, fun q hq => ?_⟩
  obtain ⟨a1, a2, a3⟩ := a.2.2.2 q hq
  obtain ⟨b1, b2, b3⟩ := b.2.2.2 q (Nat.le_trans hq a.1)
  refine ⟨b1.trans a1, b2.trans a2, fun n => ?_⟩
  obtain ⟨c1, c2, c3, c4⟩ := a3 n
  obtain ⟨d1, d2, d3, d4⟩ := b3 (fun y => n (s q hq y))
  exact ⟨fun f => (d1 f).trans (c1 f), fun f => (d2 f).trans (c2 f), d3.trans c3, d4.trans c4⟩
/-- behind h the builder b (its row was A, N long) holds C -/
def sayI (h h' : am_H) (b A : Nat) (N : Int) (C : List Int) : Prop := fx (fun q => q = b ∨ q = A) h h' ∧ xB h' b C ∧ (am_fr h' 185 b = A ∨ am_sz h < am_fr h' 185 b) ∧ (N ≤ am_ln h' (am_fr h' 185 b) ∧ am_ln h' (am_fr h' 185 b) ≤ 1000) ∧ (am_sz h' : Int) + N ≤ am_sz h + am_ln h' (am_fr h' 185 b) ∧ (am_us h' : Int) + 2 * N ≤ am_us h + 2 * am_ln h' (am_fr h' 185 b)
theorem sayI_go {h h' h3 : am_H} {b A : Nat} {N : Int} {C C' : List Int} (i : sayI h h' b A N C) (f : fx (fun q => q = b ∨ q = am_fr h' 185 b) h' h3) (x : xB h3 b C') (z : (am_sz h3 : Int) + am_ln h' (am_fr h' 185 b) ≤ am_sz h' + am_ln h3 (am_fr h3 185 b)) (u : (am_us h3 : Int) + 2 * am_ln h' (am_fr h' 185 b) ≤ am_us h' + 2 * am_ln h3 (am_fr h3 185 b)) (n : am_ln h' (am_fr h' 185 b) ≤ am_ln h3 (am_fr h3 185 b) ∧ am_ln h3 (am_fr h3 185 b) ≤ 1000) (a : am_fr h3 185 b = am_fr h' 185 b ∨ am_sz h' < am_fr h3 185 b) : sayI h h3 b A N C' := by
  obtain ⟨i1, i2, i3, i4, i5, i6⟩ := i
  refine ⟨fx_trans2 i1 f (fun q hq y => ?_), x, ?_, ?_, ?_, ?_⟩
  · rcases y with y | y
    · exact Or.inl y
    · rcases i3 with e | e
      · exact Or.inr (y.trans e)
      · omega
  · have := i1.1
    rcases a with a | a
    · rw [a]
      exact i3
    · right
      omega
  · omega
  · omega
  · omega
theorem sayI_c {K : am_K} {h h' : am_H} {b A : Nat} {N x : Int} {C : List Int} {d : Nat} (i : sayI h h' b A N C) (hx : 0 ≤ x ∧ x ≤ 127) (hl : (C.length : Int) ≤ 422) (H : ∀ h3, sayI h h3 b A N (C ++ [x]) → K (.inl (some (.inr (.inl (b))))) h3) : am_ev am_prog (d + 8) 381 [.inr (.inl b), .inl x] h' K := by
  refine am_en p_J1_append_3 rfl rfl (v_J1_append_3_0 ⟨i.2.1.1, ?_⟩)
  refine c_appc i.2.1 hx (by omega) (by have := i.2.2.2.1; omega) (fun h3 f b3 z u n a => am_av (v_J1_append_3_3 (H h3 (sayI_go i f b3 z u ?_ a))))
  have := i.2.2.2.1
  omega
theorem sayI_s {K : am_K} {h h' : am_H} {b A s : Nat} {N : Int} {C m : List Int} {d : Nat} (i : sayI h h' b A N C) (w : xSl h' s m) (hm : ∀ x, x ∈ m → 0 ≤ x ∧ x ≤ 127) (hs : s ≠ 0) (hA : am_fr h' 189 s ≠ am_fr h' 185 b) (hl : (C.length : Int) + m.length ≤ 422) (H : ∀ h3, sayI h h3 b A N (C ++ m) → K (.inl (some (.inr (.inl (b))))) h3) : am_ev am_prog (d + 8) 395 [.inr (.inl b), .inr (.inl s)] h' K := by
  refine am_en p_J1_append rfl rfl (v_J1_append_0 ⟨i.2.1.1, ?_⟩)
  refine c_apps i.2.1 w hm hs hA (by omega) (by have := i.2.2.2.1; omega) (fun h3 f b3 z u n a => am_av (v_J1_append_3 (H h3 (sayI_go i f b3 z u ?_ a))))
  have := i.2.2.2.1
  omega
section
variable {K : am_K} {h : am_H}
/-- what pieces say -/
theorem x_saying {r pa : Nat} {v : Int → Int} {a z : Int} {l0 : List Int} {D : Nat} (hD : 13 ≤ D) (h00 : am_ty h 0 = 0) (ho : okP v) (h1 : am_ty h r = 2) (h2 : r ≤ am_sz h) (hb : xB h (am_fr h 15 r) l0) (hb1 : (l0.length : Int) ≤ 1000) (hN : (am_ln h (am_fr h 185 (am_fr h 15 r))) ≤ 1000) (hp : xPc h pa v) (hpv : ∀ k, 0 ≤ k → k < v 1 → am_fr h 189 (am_fr h 108 (am_ar h pa k)) ≠ (am_fr h 185 (am_fr h 15 r))) (ha : 0 ≤ a) (haz : a ≤ z) (hz : z < v 1) (hlen : ((say v a z).length : Int) ≤ 420)
    (H : ∀ h' h4 s, sayI h h' (am_fr h 15 r) (am_fr h 185 (am_fr h 15 r)) (am_ln h (am_fr h 185 (am_fr h 15 r))) (say v a z) → fx (fun _ => False) h' h4 → am_sz h4 = am_sz h' + 2 → am_us h4 = am_us h' + 4 + (say v a z).length → s = am_sz h' + 1 → xSl h4 s (say v a z) → am_ty h4 s = 30 → am_fr h4 189 s = am_sz h' + 2 → K (.inl (some (.inr (.inl (s))))) h4) : am_ev am_prog D 371 [.inr (.inl r), .inr (.inl pa), .inl a, .inl z] h K := by
  have hv1 := ho.1
  have tb := hb.1
  have ta := hb.2.1
  have zb := hb.2.2.2.2.2.1
  have hX : ∀ q, (fun q => q = (am_fr h 15 r) ∨ q = (am_fr h 185 (am_fr h 15 r))) q → am_ty h q ≠ 115 ∧ am_ty h q ≠ 8 ∧ am_ty h q ≠ 30 ∧ am_ty h q ≠ 90 := fun q e => by
    rcases e with e | e
    · rw [e, tb]
      omega
    · rw [e, ta]
      omega
  have hvB : ∀ k, 0 ≤ k → k < v 1 → ¬ (fun q => q = (am_fr h 15 r) ∨ q = (am_fr h 185 (am_fr h 15 r))) (am_fr h 189 (am_fr h 108 (am_ar h pa k))) := fun k k1 k2 e => by
    rcases e with e | e
    · have t := (hp.2.2.1 k k1 k2).2.2.1.1.2.1
      rw [e, tb] at t
      omega
    · exact hpv k k1 k2 e
  have nr : ¬ (fun q => q = (am_fr h 15 r) ∨ q = (am_fr h 185 (am_fr h 15 r))) r := fun e => by
    rcases e with e | e
    · rw [← e, h1] at tb
      omega
    · rw [← e, h1] at ta
      omega
  -- what stands in a later heap
  have st : ∀ h', fx (fun q => q = (am_fr h 15 r) ∨ q = (am_fr h 185 (am_fr h 15 r))) h h' → am_ty h' r = 2 ∧ am_fr h' 15 r = (am_fr h 15 r) ∧ xPc h' pa v ∧ am_ar h' pa = am_ar h pa ∧ (∀ k, 0 ≤ k → k < v 1 → am_fr h' 108 (am_ar h pa k) = am_fr h 108 (am_ar h pa k) ∧ am_fr h' 189 (am_fr h 108 (am_ar h pa k)) = am_fr h 189 (am_fr h 108 (am_ar h pa k))) := by
    intro h' f
    obtain ⟨a1, a2, a3⟩ := f.2.2.2 r h2
    have p := xPc_fx2 f hX hp hvB
    exact ⟨a1.trans h1, (a3 nr).2.1 15, p.1, p.2.1, p.2.2⟩
  obtain ⟨d, rfl⟩ : ∃ d, D = d + 13 := ⟨D - 13, by omega⟩
  refine am_en p_X2_saying rfl rfl ?_
  refine v_X2_saying_0 ⟨h1, tb, c_set0 hb hb1 (fun h0 f0 b0 z0 u0 a0 => am_an (v_X2_saying_4 ?_))⟩
  have main : ∀ k, a ≤ k → k ≤ z + 1 → ∀ h' C, sayI h h' (am_fr h 15 r) (am_fr h 185 (am_fr h 15 r)) (am_ln h (am_fr h 185 (am_fr h 15 r))) C → (k ≤ z → C = sayN v a (k - a).toNat ++ sep v a k) → (z < k → C = say v a z) → am_W m_X2_saying (am_ev am_prog (d + 12)) K 6 [some (.inr (.inl (r))), some (.inr (.inl (pa))), some (.inl (a)), some (.inl (z)), some (.inl (k))] [] h' := by
    refine lp_z ?_ ?_
    · intro k g1 g2 hL h' C i e1 e2
      have f := i.1
      have b := i.2.1
      obtain ⟨s1, s2, s3, s4, s5⟩ := st h' f
      have eC := e1 (by omega)
      obtain ⟨y1, y2, ⟨y3, y4, y5⟩, y6⟩ := s3.2.2.1 k (by omega) (by omega)
      have pl := say_pre (v := v) haz k g1 (by omega)
      have q1 := ho.2.1 k (by omega) (by omega)
      rw [s4] at y1 y2 y3 y4 y5 y6
      have sk := s5 k (by omega) (by omega)
      rw [sk.1] at y3 y4 y5
      refine v_X2_saying_6 ⟨fun c => absurd c (by omega), fun _ => ⟨⟨s1, s3.1, by rw [s3.2.1]; omega⟩, ?_⟩⟩
      rw [s4, s2, sk.1]
      have bt := b.1
      refine ⟨y1, bt, ?_⟩
      have xm : xSl h' (am_fr h 108 (am_ar h pa k)) (pcp v k (v (125 + k)).toNat) := by
        refine ⟨y3, ?_, ?_⟩
        · rw [y4, pcp_len]
          omega
        · intro j hj
          rw [pcp_len] at hj
          rw [y5 j (by omega) (by omega), gt_pcp _ j hj]
      rw [← eC] at pl
      have ek : a + (((k - a).toNat : Nat) : Int) = k := by omega
      have eS : C ++ pcp v k (v (125 + k)).toNat = sayN v a (k + 1 - a).toNat := by
        have e3 : (k + 1 - a).toNat = (k - a).toNat + 1 := by omega
        rw [e3, eC]
        show _ = sayN v a (k - a).toNat ++ sep v a (a + (((k - a).toNat : Nat) : Int)) ++ pcp v (a + (((k - a).toNat : Nat) : Int)) (v (125 + (a + (((k - a).toNat : Nat) : Int)))).toNat
        rw [ek]
      have s0 : am_fr h 108 (am_ar h pa k) ≠ 0 := fun e => by
        have t := y3.1
        have t0 := (f.2.2.2 0 (Nat.zero_le _)).1.trans h00
        rw [e, t0] at t
        omega
      have nA : am_fr h' 189 (am_fr h 108 (am_ar h pa k)) ≠ am_fr h' 185 (am_fr h 15 r) := by
        rw [sk.2]
        rcases i.2.2.1 with ar | ar
        · rw [ar]
          exact hpv k (by omega) (by omega)
        · have := (hp.2.2.1 k (by omega) (by omega)).2.2.1.1.2.2.2.2.1.2
          omega
      refine sayI_s i xm (mem_pcp _ (fun i i1 i2 => ho.2.2 k i (by omega) (by omega) i1 (by omega))) s0 nA (by omega) (fun h3 i3 => am_av ?_)
      rw [eS] at i3
      obtain ⟨p1, p2, p3, p4, p5⟩ := st h3 i3.1
      obtain ⟨w1, w2, w3, w4⟩ := p3.2.2.1 k (by omega) (by omega)
      rw [p4] at w1 w2
      have ln3 : ((sayN v a (k + 1 - a).toNat).length : Int) ≤ 420 := by
        rw [← eS, List.length_append]
        omega
      by_cases c1 : k = z
      · have eE : say v a z = sayN v a (k + 1 - a).toNat ++ (if ew v k then [] else [45]) := by rw [c1]; rfl
        refine v_X2_saying_16 ⟨fun _ => ⟨fun c => absurd c1 c, fun _ => ⟨⟨p3.1, by rw [p3.2.1]; omega⟩, ?_⟩⟩, fun c => absurd c (by omega)⟩
        rw [p4, w2, p2]
        refine ⟨w1, am_bz _, fun c => ⟨by omega, ?_⟩, fun c => ⟨p1, i3.2.1.1, ?_⟩⟩
        · rw [if_pos (am_b1 c), List.append_nil] at eE
          exact hL h3 _ i3 (fun q => absurd q (by omega)) (fun _ => eE.symm)
        · rw [if_neg (am_b0 c)] at eE
          refine sayI_c i3 (by omega) (by omega) (fun h5 i5 => am_av (v_X2_saying_42 ⟨by omega, ?_⟩))
          exact hL h5 _ i5 (fun q => absurd q (by omega)) (fun _ => eE.symm)
      · have hk1 : k < v 1 - 1 := by omega
        refine v_X2_saying_16 ⟨fun c => absurd c (by omega), fun _ => ⟨⟨p3.1, by rw [p3.2.1]; omega⟩, ?_⟩⟩
        rw [p4, w2, p2]
        have es : 84 + (k + 1) = 85 + k := by omega
        have es2 : 85 + (k + 1) = 86 + k := by omega
        refine ⟨w1, am_bz _, fun c => ⟨fun _ => ⟨by omega, ?_⟩, fun q => absurd q c1⟩, fun c => ⟨p1, i3.2.1.1, ?_⟩⟩
        · have nw := am_b0 c
          have e5 : sep v a (k + 1) = [] := if_neg (fun q => nw (Or.inr (by have q2 := q.2; rw [es, es2] at q2; exact Ne.symm q2)))
          refine hL h3 _ i3 (fun _ => ?_) (fun q => absurd q (by omega))
          rw [e5, List.append_nil]
        · have nw := am_b1 c
          have e5 : sep v a (k + 1) = [32] := if_pos ⟨by omega, by rw [es, es2]; exact nw.elim (fun q => absurd q (by omega)) Ne.symm⟩
          refine sayI_c i3 (by omega) (by omega) (fun h5 i5 => am_av (v_X2_saying_29 ⟨fun _ => ⟨by omega, ?_⟩, fun q => absurd q c1⟩))
          refine hL h5 _ i5 (fun _ => ?_) (fun q => absurd q (by omega))
          rw [e5]
    · intro h' C i e1 e2
      obtain ⟨s1, s2, s3, s4, s5⟩ := st h' i.1
      have eC := e2 (by omega)
      subst eC
      refine v_X2_saying_6 ⟨fun _ => ⟨s1, by rw [s2]; exact i.2.1.1, ?_⟩, fun c => absurd c (by omega)⟩
      rw [s2]
      exact c_toS i.2.1 (by omega) (fun h4 f4 z4 u4 x4 t4 v4 => am_av (v_X2_saying_48 (H h' h4 _ i f4 z4 u4 rfl x4 t4 v4)))
  refine main a (by omega) (by omega) h0 [] ⟨fx_sub f0 (fun q _ e => Or.inl e), b0, Or.inl a0, ?_, ?_, ?_⟩ (fun _ => ?_) (fun q => absurd q (by omega))
  · have e := (f0.2.2.2 _ zb.2).2.1
    rw [a0, e]
    exact ⟨by omega, hN⟩
  · have e := (f0.2.2.2 _ zb.2).2.1
    rw [a0, e, z0]
    omega
  · have e := (f0.2.2.2 _ zb.2).2.1
    rw [a0, e, u0]
    omega
  · have e0 : (a - a).toNat = 0 := by omega
    have e5 : sep v a a = [] := if_neg (fun q => absurd q.1 (by omega))
    rw [e0, e5]
    rfl
end
