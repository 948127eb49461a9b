set_option maxRecDepth 100000
/-! a line is written, of a paper -/
theorem xB_f0 {h h' : am_H} {r : Nat} {l : List Int} (a : fx (fun _ => False) h h') (x : xB h r l) : xB h' r l ∧ am_fr h' 185 r = am_fr h 185 r ∧ am_ln h' (am_fr h 185 r) = am_ln h (am_fr h 185 r) := by
  obtain ⟨x1, x2, x3, x4, x5, x6, x7, x8⟩ := x
  obtain ⟨a1, a2, a3⟩ := a.2.2.2 r x6.1
  obtain ⟨b1, b2, b3⟩ := a.2.2.2 _ x6.2
  refine ⟨?_, (a3 id).2.1 185, b2⟩
  unfold xB
  rw [a1, (a3 id).2.1 185, b1, (a3 id).1 186, (a3 id).1 188, b2, (b3 id).2.2.1]
  exact ⟨x1, x2, x3, x4, x5, ⟨Nat.le_trans x6.1 a.1, Nat.le_trans x6.2 a.1⟩, x7, x8⟩
section
variable {K : am_K} {h : am_H}
/-- what a line says, on the paper of an owner; nothing but the builder is changed -/
theorem x_sayP {L : am_Lb} {x P pa : Nat} {v : Int → Int} {a z : Int} {D : Nat} (hD : 13 ≤ D) (ok : okLb h L) (hx0 : x ≠ 0) (y : rPap h L x P) (ho : okP v) (hp : iPc h L pa v) (ha : 0 ≤ a) (haz : a ≤ z) (hz : z < v 1) (hlen : ((say v a z).length : Int) ≤ 420)
    (H : ∀ h' L' s, fx (fun q => q = am_fr h 15 P ∨ q = am_fr h 185 (am_fr h 15 P)) h h' → leL h L L' → okLb h' L' → rPap h' L' x P → (∀ q, am_sz h < q → (L' q).1 = 0 ∨ (L' q).1 = x) → (∀ f, am_fr h' f P = am_fr h f P) → (am_fr h' 185 (am_fr h 15 P) = (am_fr h 185 (am_fr h 15 P)) ∨ am_sz h < am_fr h' 185 (am_fr h 15 P)) → (am_sz h < s ∧ s ≤ am_sz h') → am_ty h' s = 30 → iSl h' L' s (say v a z) → (am_sz h' : Int) + am_ln h (am_fr h 185 (am_fr h 15 P)) ≤ am_sz h + am_ln h' (am_fr h' 185 (am_fr h 15 P)) + 2 → (am_us h' : Int) + 2 * am_ln h (am_fr h 185 (am_fr h 15 P)) ≤ am_us h + 2 * am_ln h' (am_fr h' 185 (am_fr h 15 P)) + 4 + (say v a z).length → K (.inl (some (.inr (.inl (s))))) h') : am_ev am_prog D 371 [.inr (.inl P), .inr (.inl pa), .inl a, .inl z] h K := by
  have yy := y
  obtain ⟨y1, y2, y3, y4, y5, y6, y7, l0, y8, y9⟩ := y
  refine x_saying hD ok.1 ho y1.1 y1.2.1 y8 y9 y7 hp.1 (fun k k1 k2 e => ?_) ha haz hz hlen (fun h1 h4 s i f z4 u4 es xs ty fr => ?_)
  · have e1 := hp.2.2 k k1 k2
    rw [e, y6.2.2.2] at e1
    exact hx0 e1
  obtain ⟨i1, i2, i3, i4, i5, i6⟩ := i
  obtain ⟨w1, w2, w3⟩ := xB_f0 f i2
  have a04 : fx (fun q => q = am_fr h 15 P ∨ q = am_fr h 185 (am_fr h 15 P)) h h4 := fx_trans2 i1 f (fun q _ z => z.elim)
  have nP : ¬ (P = (am_fr h 15 P) ∨ P = (am_fr h 185 (am_fr h 15 P))) := fun z => z.elim (nd_kne y1 y5 (by decide)) (nd_kne y1 y6 (by decide))
  have bP := a04.2.2.2 P y1.2.1
  have frP : ∀ f, am_fr h4 f P = am_fr h f P := (bP.2.2 nP).2.1
  have eA : am_fr h4 185 (am_fr h 15 P) = am_fr h1 185 (am_fr h 15 P) := w2
  have le : leL h L (lbA L h (am_fr h1 185 (am_fr h 15 P)) (x, 1, 5, 0)) := fun q hq => if_neg (fun z => absurd z.2 (by omega))
  have rs := w1.2.2.2.2.2.1.2
  rw [w2] at rs
  have rty := w1.2.1
  rw [w2] at rty
  have ok2 : okLb h4 (lbA L h (am_fr h1 185 (am_fr h 15 P)) (x, 1, 5, 0)) := by
    refine ⟨(a04.2.2.2 0 (Nat.zero_le _)).1.trans ok.1, fun q hq y => ?_, fun q hq => ?_⟩
    · by_cases c : q = am_fr h1 185 (am_fr h 15 P) ∧ am_sz h < q
      · rw [c.1, rty] at y
        unfold imT at y
        omega
      · have e : lbA L h (am_fr h1 185 (am_fr h 15 P)) (x, 1, 5, 0) q = L q := if_neg c
        rw [e]
        by_cases c2 : q ≤ am_sz h
        · rw [(a04.2.2.2 q c2).1] at y
          exact ok.2.1 q c2 y
        · exact ok.2.2 q (by omega)
    · have e : lbA L h (am_fr h1 185 (am_fr h 15 P)) (x, 1, 5, 0) q = L q := if_neg (fun z => absurd z.1 (by omega))
      rw [e]
      exact ok.2.2 q (Nat.lt_of_le_of_lt a04.1 hq)
  have lA : lbA L h (am_fr h1 185 (am_fr h 15 P)) (x, 1, 5, 0) (am_fr h1 185 (am_fr h 15 P)) = (x, 1, 5, 0) := by
    rcases i3 with e | e
    · rw [e]
      exact (if_neg (fun z => absurd z.2 (by have := y6.2.1; omega))).trans y6.2.2.2
    · exact if_pos ⟨rfl, e⟩
  have nz : am_fr h1 185 (am_fr h 15 P) ≠ 0 := fun z => by
    have e0 := (a04.2.2.2 0 (Nat.zero_le _)).1.trans ok.1
    rw [z, e0] at rty
    exact absurd rty (by decide)
  have rp : rPap h4 (lbA L h (am_fr h1 185 (am_fr h 15 P)) (x, 1, 5, 0)) x P := by
    have k1 := nd_fy a04 le y1
    have k2 := nd_fy a04 le y2.1
    have k3 := nd_fy a04 le y3.1
    have k4 := nd_fy a04 le y4.1
    have k5 := nd_fy a04 le y5
    unfold rPap
    rw [frP 12, frP 13, frP 14, frP 15, w2, k2.2, k3.2, k4.2, w3]
    exact ⟨k1.1, ⟨k2.1, y2.2⟩, ⟨k3.1, y3.2⟩, ⟨k4.1, y4.2⟩, k5.1, ⟨rty, rs, nz, lA⟩, i4.2, say v a z, w1, by omega⟩
  have ln4 : am_ln h4 (am_fr h4 185 (am_fr h 15 P)) = am_ln h1 (am_fr h1 185 (am_fr h 15 P)) := by rw [w2]; exact w3
  rw [es] at *
  have z1 := i1.1
  refine H h4 _ (am_sz h1 + 1) a04 le ok2 rp (fun q hq => (lbA_n (h' := h4) ok q hq)) frP ?_ ⟨by omega, by omega⟩ ty ⟨xs, ?_⟩ (by rw [ln4]; omega) (by rw [ln4]; omega)
  · rw [w2]
    exact i3
  · rw [fr]
    have r1 := i2.2.2.2.2.2.1.2
    have e : lbA L h (am_fr h1 185 (am_fr h 15 P)) (x, 1, 5, 0) (am_sz h1 + 2) = L (am_sz h1 + 2) := if_neg (fun z => absurd z.1 (by omega))
    rw [e]
    exact ok.2.2 _ (by omega)
/-- where line l begins, by the ends -/
def bgE (e : Int → Int) (l : Int) : Int := if l = 0 then 0 else e (l - 1) + 1
def slN (v e : Int → Int) (l : Int) : Int := sg (fun j => ((say v (bgE e j) (e j)).length : Int)) 0 l.toNat
/-- what has become of a part and the paper when l lines are written -/
def stI1 (h : am_H) (L : am_Lb) (x P T r1 : Nat) (v e : Int → Int) (n1 l : Int) (hk : am_H) (Lk : am_Lb) : Prop := fx (fun q => q = T ∨ q = (am_fr h 15 P) ∨ q = (am_fr h 185 (am_fr h 15 P))) h hk ∧ leL h L Lk ∧ okLb hk Lk ∧ rPap hk Lk x P ∧ (∀ q, am_sz h < q → (Lk q).1 = 0 ∨ (Lk q).1 = x) ∧ (∀ f, am_fr hk f P = am_fr h f P) ∧ (am_fr hk 185 (am_fr h 15 P) = (am_fr h 185 (am_fr h 15 P)) ∨ am_sz h < am_fr hk 185 (am_fr h 15 P)) ∧ (am_fr hk 116 T = r1 ∧ am_fr hk 117 T = am_sz h + 1) ∧ ((∀ f, f ≠ 116 → f ≠ 117 → am_fr hk f T = am_fr h f T) ∧ ∀ f, am_fi hk f T = am_fi h f T) ∧ (am_ty hk (am_sz h + 1) = 116 ∧ am_sz h + 1 ≤ am_sz hk ∧ am_ln hk (am_sz h + 1) = n1 ∧ (Lk (am_sz h + 1)).1 = 0) ∧ (∀ j, 0 ≤ j → j < l → iSl hk Lk (am_ar hk (am_sz h + 1) j) (say v (bgE e j) (e j))) ∧ ((am_sz hk : Int) + am_ln h (am_fr h 185 (am_fr h 15 P)) ≤ am_sz h + am_ln hk (am_fr hk 185 (am_fr h 15 P)) + 1 + 2 * l) ∧ ((am_us hk : Int) + 2 * am_ln h (am_fr h 185 (am_fr h 15 P)) ≤ am_us h + 2 * am_ln hk (am_fr hk 185 (am_fr h 15 P)) + n1 + 4 * l + slN v e l)
theorem x_sets {L : am_Lb} {x P N T r1 : Nat} {v e : Int → Int} {n1 : Int} {tp : Int} {D : Nat} (hD : 14 ≤ D) (ok : okLb h L) (hx0 : x ≠ 0) (hN0 : N ≠ 0) (hxN : x ≠ N) (y : rPap h L x P) (ho : okP v) (nT : nd h L T 9 N 3 1 tp) (hp : iPc h L (am_fr h 113 T) v) (hr : iA h L r1 n1 e) (hn1 : 0 ≤ n1 ∧ n1 ≤ 40) (hE : ∀ l, 0 ≤ l → l < n1 → (0 ≤ bgE e l ∧ bgE e l ≤ e l ∧ e l < v 1) ∧ ((say v (bgE e l) (e l)).length : Int) ≤ 420) (H : ∀ hk Lk, stI1 h L x P T r1 v e n1 n1 hk Lk → K (.inl none) hk) : am_ev am_prog D 333 [.inr (.inl T), .inr (.inl r1), .inr (.inl P)] h K := by
  have v1 := ho.1
  have yy := y
  obtain ⟨y1, y2, y3, y4, y5, y6, y7, l0, y8, y9⟩ := y
  have TP : T ≠ P := nd_one_ne nT y1 (fun z => hxN z.symm)
  have TB : T ≠ (am_fr h 15 P) := nd_one_ne nT y5 (fun z => hxN z.symm)
  have TR : T ≠ (am_fr h 185 (am_fr h 15 P)) := nd_one_ne nT y6 (fun z => hxN z.symm)
  have lb0 : ∀ q, (q = T ∨ q = (am_fr h 15 P) ∨ q = (am_fr h 185 (am_fr h 15 P))) → (L q).1 ≠ 0 := fun q z => by
    rcases z with z | z | z
    · rw [z, nT.2.2.2]
      exact hN0
    · rw [z, y5.2.2.2]
      exact hx0
    · rw [z, y6.2.2.2]
      exact hx0
  obtain ⟨d, rfl⟩ : ∃ d, D = d + 13 := ⟨D - 13, by omega⟩
  refine am_en p_X10_sets rfl rfl ?_
  refine v_X10_sets_0 ?_
  rw [hr.2.2.2.2.1]
  refine ⟨nT.1, ⟨Or.inl hr.1, by omega⟩, nT.2.1, ?_⟩
  have main : ∀ l, 0 ≤ l → l ≤ n1 → ∀ hk Lk, stI1 h L x P T r1 v e n1 l hk Lk → am_W m_X10_sets (am_ev am_prog (d + 12)) K 10 [some (.inr (.inl (T))), some (.inr (.inl (r1))), some (.inr (.inl (P))), some (.inl (l))] [] hk := by
    refine lp_z ?_ ?_
    · intro l l1 l2 hL hk Lk i
      obtain ⟨i1, i2, i3, i4, i5, i6, i7, i8, i9, i10, i11, i12, i13⟩ := i
      have im : ∀ q, q ≤ am_sz h → (q = T ∨ q = (am_fr h 15 P) ∨ q = (am_fr h 185 (am_fr h 15 P))) → (L q).1 ≠ 0 ∧ ¬ imT (am_ty h q) := fun q hq z => ⟨lb0 q z, fun w => lb0 q z (ok.2.1 q hq w)⟩
      have rk := iA_fx i1 i2 (fun q hq z => lb0 q z) hr
      have tT := (i1.2.2.2 T nT.2.1).1.trans nT.1
      have tP := (i1.2.2.2 P y1.2.1).1.trans y1.1
      have pk := iPc_fx i1 i2 im hp
      obtain ⟨⟨e1, e2, e3⟩, e4⟩ := hE l l1 l2
      have el0 := v1
      -- behind the call
      have tail : am_ev am_prog (d + 12) 371 [.inr (.inl P), .inr (.inl (am_fr h 113 T)), .inl (bgE e l), .inl (e l)] hk (am_aft (am_hand m_X10_sets K (am_W m_X10_sets (am_ev am_prog (d + 12)) K) 26) (am_W m_X10_sets (am_ev am_prog (d + 12)) K) 26 [some (.inr (.inl (T))), some (.inr (.inl (r1))), some (.inr (.inl (P))), some (.inl (l))] [.inl l, .inr (.inl (am_sz h + 1))]) := by
        refine x_sayP (by omega) i3 hx0 i4 ho pk e1 e2 e3 e4 (fun h2 L2 s a le ok2 rp nl frP hrw hs ty sl cz cu => am_av (v_X10_sets_27 ?_))
        rw [i6 15] at a hrw cz cu
        have z4 := i4
        obtain ⟨q1, q2, q3, q4, q5, q6, q7⟩ := z4
        rw [i6 15] at q5 q6
        -- the array of the lines is left
        have nA : ¬ (am_sz h + 1 = (am_fr h 15 P) ∨ am_sz h + 1 = am_fr hk 185 (am_fr h 15 P)) := fun z => by
          rcases z with z | z
          · have w := q5.1
            rw [← z, i10.1] at w
            exact absurd w (by decide)
          · have w := q6.1
            rw [← z, i10.1] at w
            exact absurd w (by decide)
        have bA := a.2.2.2 _ i10.2.1
        have nT2 : ¬ (T = (am_fr h 15 P) ∨ T = am_fr hk 185 (am_fr h 15 P)) := fun z => by
          rcases z with z | z
          · exact TB z
          · have w := q6.1
            rw [← z, tT] at w
            exact absurd w (by decide)
        have bT := a.2.2.2 T (Nat.le_trans nT.2.1 i1.1)
        have frT := (bT.2.2 nT2).2.1
        have fiT := (bT.2.2 nT2).1
        refine ⟨⟨bA.1.trans i10.1, Or.inr (by rw [ty]; simp [am_tin]), by rw [bA.2.1, i10.2.2.1]; omega⟩, by omega, ?_⟩
        refine hL _ L2 ?_
        have f2 : fx (fun q => q = T ∨ q = (am_fr h 15 P) ∨ q = (am_fr h 185 (am_fr h 15 P))) h h2 := fx_trans2 i1 a (fun q hq z => by
          rcases z with z | z
          · exact Or.inr (Or.inl z)
          · rcases i7 with w | w
            · exact Or.inr (Or.inr (z.trans w))
            · rw [← z] at w
              omega)
        have fs : fx (fun q => q = am_sz h + 1) h2 (am_sar h2 (am_sz h + 1) l s) := fx_sar fx_refl (Or.inr rfl)
        have A2 : am_sz h + 1 ≤ am_sz h2 := Nat.le_trans i10.2.1 a.1
        have lA2 : (L2 (am_sz h + 1)).1 = 0 := by
          rw [le _ i10.2.1]
          exact i10.2.2.2
        have tA2 : am_ty h2 (am_sz h + 1) = 116 := bA.1.trans i10.1
        have rp2 : rPap (am_sar h2 (am_sz h + 1) l s) L2 x P := rPap_fx fs leL_refl (fun q hq z w => by
          rw [z, lA2] at w
          exact hx0 w.1.symm) rp
        have im2 : ∀ q, q ≤ am_sz hk → (q = (am_fr h 15 P) ∨ q = am_fr hk 185 (am_fr h 15 P)) → (Lk q).1 ≠ 0 ∧ ¬ imT (am_ty hk q) := fun q hq z => by
          have w : (Lk q).1 ≠ 0 := by
            rcases z with z | z
            · rw [z, q5.2.2.2]
              exact hx0
            · rw [z, q6.2.2.2]
              exact hx0
          exact ⟨w, fun u => w (i3.2.1 q hq u)⟩
        have up : ∀ s' m', iSl h2 L2 s' m' → iSl (am_sar h2 (am_sz h + 1) l s) L2 s' m' := fun s' m' w => by
          refine ⟨xSl_fx fs w.1 (fun z => ?_) (fun z => ?_), w.2⟩
          · have u := w.1.1.1
            rw [z, tA2] at u
            omega
          · have u := w.1.1.2.1
            rw [z, tA2] at u
            omega
        refine ⟨fx_sar f2 (Or.inl (by omega)), fun q hq => (le q (Nat.le_trans hq i1.1)).trans (i2 q hq), ok2, rp2, fun q hq => ?_, fun f => (frP f).trans (i6 f), ?_, ⟨(frT 116).trans i8.1, (frT 117).trans i8.2⟩, ⟨fun f f1 f2 => (frT f).trans (i9.1 f f1 f2), fun f => (fiT f).trans (i9.2 f)⟩, ⟨tA2, A2, bA.2.1.trans i10.2.2.1, lA2⟩, fun j j1 j2 => ?_, ?_, ?_⟩
        · by_cases c : q ≤ am_sz hk
          · rw [le q c]
            exact i5 q hq
          · exact nl q (by omega)
        · show am_fr h2 185 (am_fr h 15 P) = (am_fr h 185 (am_fr h 15 P)) ∨ am_sz h < am_fr h2 185 (am_fr h 15 P)
          rcases hrw with w | w
          · rw [w]
            exact i7
          · right
            have := i1.1
            omega
        · have ea : am_ar (am_sar h2 (am_sz h + 1) l s) (am_sz h + 1) = am_uz (am_ar h2 (am_sz h + 1)) l s := x_arse
          rw [ea]
          by_cases ej : j = l
          · rw [ej, am_uz_eq]
            exact up _ _ sl
          · rw [am_uz_ne ej, (bA.2.2 nA).2.2.2]
            exact up _ _ (iSl_fx a le im2 (i11 j j1 (by omega)))
        · show (am_sz h2 : Int) + am_ln h (am_fr h 185 (am_fr h 15 P)) ≤ am_sz h + am_ln h2 (am_fr h2 185 (am_fr h 15 P)) + 1 + 2 * (l + 1)
          omega
        · show (am_us h2 : Int) + 2 * am_ln h (am_fr h 185 (am_fr h 15 P)) ≤ am_us h + 2 * am_ln h2 (am_fr h2 185 (am_fr h 15 P)) + n1 + 4 * (l + 1) + slN v e (l + 1)
          have es : slN v e (l + 1) = slN v e l + ((say v (bgE e l) (e l)).length : Int) := sg_s l1
          rw [es]
          omega
      refine v_X10_sets_10 ?_
      rw [rk.2.2.2.2.1, i8.1, i8.2, i9.1 113 (by decide) (by decide), rk.2.2.2.2.1, rk.2.2.2.2.2 l l1 l2]
      refine ⟨Or.inl rk.1, fun z => absurd z (by omega), fun _ => ⟨tT, fun z => ?_, fun z => ?_⟩⟩
      · have eb : bgE e l = e (l - 1) + 1 := if_neg z
        have ep := hE (l - 1) (by omega) (by omega)
        rw [eb] at tail
        rw [rk.2.2.2.2.2 (l - 1) (by omega) (by omega)]
        exact ⟨⟨by omega, Or.inl rk.1, by omega, by omega⟩, by omega, tP, tail⟩
      · have eb : bgE e l = 0 := if_pos z
        rw [eb] at tail
        exact ⟨by omega, tP, tail⟩
    · intro hk Lk i
      have rk := iA_fx i.1 i.2.1 (fun q hq z => lb0 q z) hr
      refine v_X10_sets_10 ?_
      rw [rk.2.2.2.2.1]
      exact ⟨Or.inl rk.1, fun _ => H hk Lk i, fun z => absurd z (by omega)⟩
  have f0 : fx (fun q => q = T) h (am_sfr (am_new (am_sfr h 116 T r1) 116 (Int.toNat n1)) 117 T (am_sz h + 1)) := fx_sfr (fx_new (fx_sfr fx_refl (Or.inr rfl))) (Or.inr rfl)
  have bB := (f0.2.2.2 (am_fr h 15 P) y5.2.1).2.2 (fun z => TB z.symm)
  have bP := (f0.2.2.2 P y1.2.1).2.2 (fun z => TP z.symm)
  have sT := nT.2.1
  refine main 0 (by omega) hn1.1 _ L ⟨fx_sub f0 (fun q _ z => Or.inl z), leL_refl, okLb_fx f0 ok, rPap_fx f0 leL_refl (fun q hq z w => ?_) yy, fun q hq => Or.inl (ok.2.2 q hq), bP.2.1, Or.inl (bB.2.1 185), ⟨?_, x_fre⟩, ⟨fun f f1 f2 => ?_, fun f => ?_⟩, ⟨?_, Nat.le_refl _, ?_, ok.2.2 _ (Nat.lt_succ_self _)⟩, fun j j1 j2 => absurd j2 (by omega), ?_, ?_⟩
  · rw [z, nT.2.2.2] at w
    exact hxN w.1.symm
  · rw [x_frf (by decide)]
    exact (x_frn (h := am_sfr h 116 T r1) (t := 116) (n := Int.toNat n1) sT).trans x_fre
  · rw [x_frf f2]
    exact (x_frn (h := am_sfr h 116 T r1) (t := 116) (n := Int.toNat n1) sT).trans (x_frf f1)
  · exact x_fin (h := am_sfr h 116 T r1) (t := 116) (n := Int.toNat n1) sT
  · exact x_tyn0 (h := am_sfr h 116 T r1) (t := 116) (n := Int.toNat n1) rfl
  · have e1 : am_ln (am_sfr (am_new (am_sfr h 116 T r1) 116 (Int.toNat n1)) 117 T (am_sz h + 1)) (am_sz h + 1) = ((Int.toNat n1 : Nat) : Int) := x_lnn0 (h := am_sfr h 116 T r1) (t := 116) (n := Int.toNat n1) rfl
    rw [e1]
    omega
  · rw [bB.2.1 185, (f0.2.2.2 _ y6.2.1).2.1]
    show ((am_sz h + 1 : Nat) : Int) + am_ln h (am_fr h 185 (am_fr h 15 P)) ≤ am_sz h + am_ln h (am_fr h 185 (am_fr h 15 P)) + 1 + 2 * 0
    omega
  · rw [bB.2.1 185, (f0.2.2.2 _ y6.2.1).2.1]
    show ((am_us h + Int.toNat n1 : Nat) : Int) + 2 * am_ln h (am_fr h 185 (am_fr h 15 P)) ≤ am_us h + 2 * am_ln h (am_fr h 185 (am_fr h 15 P)) + n1 + 4 * 0 + 0
    omega
end
