set_option maxRecDepth 100000
section
variable {K : am_K} {h : am_H}
/-- the lines of a part from one on are others -/
theorem x_opens {L : am_Lb} {x P N : Nat} {S : am_G} {B : Int} {p k l0 n0 : Int} {u : Int → Int} {hb : am_H} {T rw tl mc : Nat} {D dz du : Nat} (hD : 40 ≤ D) (t : Nt hb L x P N S B) (hC : okC S) (hF : okF S) (hA : okA S) (hG : okG S) (hX : okX S) (ip : isP S p) (s3 : (S 3 p) 3 = 1) (hT : T = am_ar hb (am_fr hb 20 N) p) (hM : okM S) (hB : B ≤ 1000000) (hk : 0 ≤ k ∧ k < S 0 0 3) (nj : ∀ k i, 0 ≤ k → k < S 0 0 3 → 0 ≤ i → i < S 5 k 29 → S 5 k (33 + 5 * i) ≠ p) (j30 : S 5 k 29 < 30) (hmc : mc = am_ar hb (am_fr hb 23 N) k) (hu4 : u 4 = n0) (hu5 : ∀ j, 0 ≤ j → j < l0 → u (5 + j) = (S 3 p) (5 + j)) (hu45 : ∀ j, 0 ≤ j → j < l0 → u (45 + j) = (S 3 p) (45 + j)) (hu0 : ∀ j, l0 ≤ j → j < n0 → u (45 + j) = 0) (hur : u 0 = (S 3 p) 0 ∧ u 2 = (S 3 p) 2 ∧ u 3 = (S 3 p) 3) (hl0 : 0 ≤ l0 ∧ l0 < (S 3 p 4) ∧ l0 < n0 ∧ n0 ≤ 40) (ho : okP u) (hln : lnOK u) (hx : am_ty hb x = 1 ∧ x ≤ am_sz hb) (lx : L x = (x, 0, 0, 0)) (hN : am_fr hb 1 x = N) (hP : am_fr hb 0 x = P) (a : fx (fun q => q = T ∨ ((L q).1 = x ∧ (L q).2.1 = 1)) hb h) (pp : rPap h L x P) (f113 : am_fr h 113 T = rw) (i113 : iPc h L rw u) (frT : ∀ f, f ≠ 113 → am_fr h f T = am_fr hb f T) (fiT : ∀ f, f ≠ 114 → am_fi h f T = am_fi hb f T) (f114 : am_fi h 114 T = u 0) (tz : am_ty h tl = 101 ∧ tl ≤ am_sz h ∧ am_ln h tl = n0 - l0 ∧ ∀ i, 0 ≤ i → i < n0 - l0 → am_ai h tl i = u (5 + (l0 + i))) (hz : am_sz h + 2300 ≤ am_sz hb + dz) (hu : am_us h + 27000 ≤ am_us hb + du) (H0 : (n0 - l0 - smN (S 3 p) u (S 3 p 4) n0 l0 41 0) ≤ 0 → ∀ h' L', Nt h' L' x P N (pkS (setR S p u) (S 3 p) p l0 (S 3 p 4) n0 (smN (S 3 p) u (S 3 p 4) n0 l0 41 0) ((S 3 p 4) - l0).toNat) B → Out hb L x N h' L' dz du → K (.inl (some (.inl ((n0 - l0 - smN (S 3 p) u (S 3 p 4) n0 l0 41 0))))) h') (H1 : 0 < (n0 - l0 - smN (S 3 p) u (S 3 p 4) n0 l0 41 0) → ∀ h' L', Nt h' L' x P N (jbS (pkS (setR S p u) (S 3 p) p l0 (S 3 p 4) n0 (smN (S 3 p) u (S 3 p 4) n0 l0 41 0) ((S 3 p 4) - l0).toNat) k p l0 (l0 + (n0 - l0 - smN (S 3 p) u (S 3 p 4) n0 l0 41 0)) 1 0) (B + 1) → Out hb L x N h' L' dz du → K (.inl (some (.inl ((n0 - l0 - smN (S 3 p) u (S 3 p 4) n0 l0 41 0))))) h') : am_ev am_prog D 276 [.inr (.inl x), .inr (.inl T), .inl l0, .inr (.inl tl), .inr (.inl mc)] h K := by
  obtain ⟨x1, x2, x3, x4, x5, x6, x7, x8, x9, x10⟩ := id t.2.2.2.1
  have xN := t.2.2.2.2
  have pb := isP_bd hC hF ip
  have ap := hA p ip
  have p1 := ap.1.1
  have oL := ap.2.2.2.2.2.2.1 s3
  have p4 := ap.2.2.2.2.2.2.2
  have g4 := hG.1
  have c3 := hC.2.2.1
  have pt := (x3.2.2 p pb.1.1 pb.1.2).2 ip
  rw [← hT] at pt
  have zz := pt.2.2.2.2.2.2.2.2 (by omega)
  obtain ⟨z1, z2, z3, z4, z5⟩ := zz
  have sb : 0 ≤ (smN (S 3 p) u (S 3 p 4) n0 l0 41 0) ∧ (smN (S 3 p) u (S 3 p 4) n0 l0 41 0) ≤ (S 3 p 4) - l0 ∧ (smN (S 3 p) u (S 3 p 4) n0 l0 41 0) ≤ n0 - l0 := smN_b 41 0 (by omega) (by omega) (by omega)
  have lT : L T = (N, 3, 1, p) := pt.1.2.2.2
  have X0l : ∀ q, (fun q => q = T ∨ ((L q).1 = x ∧ (L q).2.1 = 1)) q → (L q).1 ≠ 0 := fun q z => by
    rcases z with z | z
    · rw [z, lT]
      exact xN.2.2
    · rw [z.1]
      exact xN.2.1
  have X0i : ∀ q, q ≤ am_sz hb → (fun q => q = T ∨ ((L q).1 = x ∧ (L q).2.1 = 1)) q → (L q).1 ≠ 0 ∧ ¬ imT (am_ty hb q) := fun q hq z => ⟨X0l q z, fun w => X0l q z (t.1.2.1 q hq w)⟩
  have nx0 : ¬ (fun q => q = T ∨ ((L q).1 = x ∧ (L q).2.1 = 1)) x := fun z => by
    rcases z with z | z
    · have q := pt.1.1
      rw [← z, hx.1] at q
      exact absurd q (by decide)
    · rw [lx] at z
      exact absurd z.2 (by show (0 : Nat) ≠ 1; decide)
  have zA := iA_fx a (leL_refl (L := L)) (fun q hq z => X0l q z) z1
  have wx := a.2.2.2 x hx.2
  have wT := a.2.2.2 T pt.1.2.1
  have e0x : am_fr h 0 x = P := ((wx.2.2 nx0).2.1 0).trans hP
  have hzb := a.1
  obtain ⟨d, rfl⟩ : ∃ d, D = d + 13 := ⟨D - 13, by omega⟩
  refine am_en p_X1_opens rfl rfl ?_
  refine v_X1_opens_0 ?_
  rw [frT 116 (by decide), frT 117 (by decide), frT 118 (by decide), tz.2.2.1, zA.2.2.2.2.1, e0x]
  have en : l0 + (n0 - l0) = n0 := by omega
  rw [en]
  refine ⟨⟨wT.1.trans pt.1.1, Or.inl tz.1, by omega, by omega⟩, ⟨Nat.le_trans pt.1.2.1 hzb, zA.2.1, Or.inl zA.1, by omega⟩, ⟨tz.2.1, by omega⟩, ⟨by omega, wx.1.trans hx.1⟩, ?_⟩
  -- the ends
  have f4 : fx (fun _ => False) h (am_wai (am_wai (am_new h 101 n0.toNat) (am_sz h + 1) (am_cpy (am_ai h (am_fr hb 116 T)) (fun _ => 0) 0 0 l0)) (am_sz h + 1) (am_cpy (am_ai h tl) (am_cpy (am_ai h (am_fr hb 116 T)) (fun _ => 0) 0 0 l0) 0 l0 (n0 - l0))) := fx_wai (fx_wai fx0_new (Or.inl (by omega))) (Or.inl (by omega))
  have ai4 : ∀ j, 0 ≤ j → j < n0 → am_ai (am_wai (am_wai (am_new h 101 n0.toNat) (am_sz h + 1) (am_cpy (am_ai h (am_fr hb 116 T)) (fun _ => 0) 0 0 l0)) (am_sz h + 1) (am_cpy (am_ai h tl) (am_cpy (am_ai h (am_fr hb 116 T)) (fun _ => 0) 0 0 l0) 0 l0 (n0 - l0))) (am_sz h + 1) j = u (5 + j) := fun j j0 j1 => by
    rw [x_aiwe]
    unfold am_cpy
    by_cases c : l0 ≤ j
    · rw [if_pos (by omega)]
      have q := tz.2.2.2 (j - l0) (by omega) (by omega)
      have e1 : 0 + (j - l0) = j - l0 := by omega
      have e2 : l0 + (j - l0) = j := by omega
      rw [e1, q, e2]
    · rw [if_neg (by omega), if_pos (by omega)]
      have e1 : 0 + (j - 0) = j := by omega
      rw [e1, zA.2.2.2.2.2 j j0 (by omega), hu5 j j0 (by omega)]
  have ty4 : am_ty (am_wai (am_wai (am_new h 101 n0.toNat) (am_sz h + 1) (am_cpy (am_ai h (am_fr hb 116 T)) (fun _ => 0) 0 0 l0)) (am_sz h + 1) (am_cpy (am_ai h tl) (am_cpy (am_ai h (am_fr hb 116 T)) (fun _ => 0) 0 0 l0) 0 l0 (n0 - l0))) (am_sz h + 1) = 101 := x_tyn0 (h := h) (t := 101) (n := n0.toNat) rfl
  have ln4 : am_ln (am_wai (am_wai (am_new h 101 n0.toNat) (am_sz h + 1) (am_cpy (am_ai h (am_fr hb 116 T)) (fun _ => 0) 0 0 l0)) (am_sz h + 1) (am_cpy (am_ai h tl) (am_cpy (am_ai h (am_fr hb 116 T)) (fun _ => 0) 0 0 l0) 0 l0 (n0 - l0))) (am_sz h + 1) = n0 := (x_lnn0 (h := h) (t := 101) (n := n0.toNat) rfl).trans (by omega)
  have sz4 : am_sz (am_wai (am_wai (am_new h 101 n0.toNat) (am_sz h + 1) (am_cpy (am_ai h (am_fr hb 116 T)) (fun _ => 0) 0 0 l0)) (am_sz h + 1) (am_cpy (am_ai h tl) (am_cpy (am_ai h (am_fr hb 116 T)) (fun _ => 0) 0 0 l0) 0 l0 (n0 - l0))) = am_sz h + 1 := rfl
  have us4 : am_us (am_wai (am_wai (am_new h 101 n0.toNat) (am_sz h + 1) (am_cpy (am_ai h (am_fr hb 116 T)) (fun _ => 0) 0 0 l0)) (am_sz h + 1) (am_cpy (am_ai h tl) (am_cpy (am_ai h (am_fr hb 116 T)) (fun _ => 0) 0 0 l0) 0 l0 (n0 - l0))) = am_us h + n0.toNat := rfl
  generalize am_wai (am_wai (am_new h 101 n0.toNat) (am_sz h + 1) (am_cpy (am_ai h (am_fr hb 116 T)) (fun _ => 0) 0 0 l0)) (am_sz h + 1) (am_cpy (am_ai h tl) (am_cpy (am_ai h (am_fr hb 116 T)) (fun _ => 0) 0 0 l0) 0 l0 (n0 - l0)) = h4 at *
  have okh : okLb h L := okLb_fx a t.1
  have ok4 : okLb h4 L := okLb_fx f4 okh
  have pp4 : rPap h4 L x P := rPap_fx f4 leL_refl (fun _ _ z => z.elim) pp
  have Tz : T ≤ am_sz h := Nat.le_trans pt.1.2.1 hzb
  have w4 := f4.2.2.2 T Tz
  have nT4 : nd h4 L T 9 N 3 1 p := ⟨w4.1.trans (wT.1.trans pt.1.1), Nat.le_trans Tz f4.1, pt.1.2.2.1, lT⟩
  have w4' := w4.2.2 (fun z => z)
  have ip4 : iPc h4 L (am_fr h4 113 T) u := by
    rw [w4'.2.1, f113]
    exact iPc_fx f4 leL_refl (fun _ _ z => z.elim) i113
  have ia4 : iA h4 L (am_sz h + 1) n0 (fun l => u (5 + l)) := ⟨ty4, by omega, by omega, t.1.2.2 _ (by omega), ln4, ai4⟩
  have lnb := hln.2.2
  rw [hu4] at lnb
  have hE : ∀ l, 0 ≤ l → l < n0 → (0 ≤ bgE (fun l => u (5 + l)) l ∧ bgE (fun l => u (5 + l)) l ≤ (fun l => u (5 + l)) l ∧ (fun l => u (5 + l)) l < u 1) ∧ ((say u (bgE (fun l => u (5 + l)) l) ((fun l => u (5 + l)) l)).length : Int) ≤ 420 := fun l a b => by
    rw [bgE_e a]
    exact lnb l a b
  refine x_sets (by omega) ok4 xN.2.1 xN.2.2 xN.1 pp4 ho nT4 ip4 ia4 (by omega) hE (fun hk' Lk ii => am_an (v_X1_opens_31 ?_))
  obtain ⟨i1, i2, i3, i4, i5, i6, i7, i8, i9, i10, i11, i12, i13⟩ := ii
  obtain ⟨y1, y2, y3, y4, y5, y6, y7⟩ := id pp4
  have k7 := i4.2.2.2.2.2.2.1
  rw [i6 15] at k7
  obtain ⟨l9, y8, y9⟩ := y7.2
  have y8l := y8.2.2.2.2.1
  -- the frame so far
  have aK0 : fx (fun q => q = T ∨ ((L q).1 = x ∧ (L q).2.1 = 1)) hb hk' := by
    refine fx_trans2 (fx_trans2 a f4 (fun _ _ z => z.elim)) i1 (fun q hq z => ?_)
    rcases z with z | z | z
    · exact Or.inl z
    · rw [z, y5.2.2.2]
      exact Or.inr ⟨rfl, rfl⟩
    · rw [z, y6.2.2.2]
      exact Or.inr ⟨rfl, rfl⟩
  have leK : leL hb L Lk := fun q hq => i2 q (by omega)
  have slb : slN u (fun l => u (5 + l)) n0 ≤ 420 * n0 := by
    have q := sg_bd (f := fun j => ((say u (bgE (fun l => u (5 + l)) j) ((fun l => u (5 + l)) j)).length : Int)) (c := 420) n0.toNat 0 (fun j a b => ⟨by omega, (hE j a (by omega)).2⟩)
    have e1 : (420 : Int) * (n0.toNat : Int) = 420 * n0 := by omega
    unfold slN
    rw [e1] at q
    exact q.2
  have szK : am_sz hk' ≤ am_sz h + 1082 := by omega
  have usK : am_us hk' ≤ am_us h + 19100 := by omega
  have Xl : ∀ q, (fun q => q = T ∨ ((L q).1 = N ∧ (L q).2.1 = 4) ∨ ((L q).1 = x ∧ (L q).2.1 = 1)) q → (L q).1 ≠ 0 := fun q z => by
    rcases z with z | z | z
    · rw [z, lT]
      exact xN.2.2
    · rw [z.1]
      exact xN.2.2
    · rw [z.1]
      exact xN.2.1
  have Xi : ∀ q, q ≤ am_sz hb → (fun q => q = T ∨ ((L q).1 = N ∧ (L q).2.1 = 4) ∨ ((L q).1 = x ∧ (L q).2.1 = 1)) q → (L q).1 ≠ 0 ∧ ¬ imT (am_ty hb q) := fun q hq z => ⟨Xl q z, fun w => Xl q z (t.1.2.1 q hq w)⟩
  have s0X : ∀ q, (fun q => q = T ∨ ((L q).1 = x ∧ (L q).2.1 = 1)) q → (fun q => q = T ∨ ((L q).1 = N ∧ (L q).2.1 = 4) ∨ ((L q).1 = x ∧ (L q).2.1 = 1)) q := fun q z => z.elim Or.inl (fun w => Or.inr (Or.inr w))
  have aK : fx (fun q => q = T ∨ ((L q).1 = N ∧ (L q).2.1 = 4) ∨ ((L q).1 = x ∧ (L q).2.1 = 1)) hb hk' := fx_sub aK0 (fun q _ z => s0X q z)
  have nlK : ∀ q, am_sz hb < q → (Lk q).1 = 0 ∨ (Lk q).1 = N ∨ (Lk q).1 = x := fun q hq => by
    by_cases c : q ≤ am_sz h4
    · rw [i2 q c]
      exact Or.inl (t.1.2.2 q hq)
    · rcases i5 q (by omega) with w | w
      · exact Or.inl w
      · exact Or.inr (Or.inr w)
  have im4 : ∀ q, q ≤ am_sz h4 → (q = T ∨ q = am_fr h4 15 P ∨ q = am_fr h4 185 (am_fr h4 15 P)) → (L q).1 ≠ 0 ∧ ¬ imT (am_ty h4 q) := fun q hq z => by
    have l0 : (L q).1 ≠ 0 := by
      rcases z with z | z | z
      · rw [z, lT]
        exact xN.2.2
      · rw [z, y5.2.2.2]
        exact xN.2.1
      · rw [z, y6.2.2.2]
        exact xN.2.1
    exact ⟨l0, fun w => l0 (ok4.2.1 q hq w)⟩
  have iaK := iA_fx i1 i2 (fun q hq z => (im4 q hq z).1) ia4
  have liK : iLi hk' Lk (am_sz h4 + 1) u := by
    refine ⟨i10.1, i10.2.1, by omega, i10.2.2.1.trans hu4.symm, fun l a b => ?_⟩
    rw [hu4] at b
    have q := i11 l a b
    rw [bgE_e a] at q
    exact q
  have tfK : (am_fr hk' 113 T = rw ∧ iPc hk' Lk rw u) ∧ (am_fr hk' 116 T = am_sz h + 1 ∧ iA hk' Lk (am_sz h + 1) n0 (fun l => u (5 + l))) ∧ (am_fr hk' 117 T = am_sz h4 + 1 ∧ iLi hk' Lk (am_sz h4 + 1) u) ∧ (∀ f, f ≠ 114 → am_fi hk' f T = am_fi hb f T) ∧ am_fi hk' 114 T = u 0 := by
    refine ⟨⟨(i9.1 113 (by decide) (by decide)).trans ((w4'.2.1 113).trans f113), ?_⟩, ⟨i8.1, iaK⟩, ⟨i8.2, liK⟩, fun f hf => (i9.2 f).trans ((w4'.1 f).trans (fiT f hf)), (i9.2 114).trans ((w4'.1 114).trans f114)⟩
    have q := iPc_fx i1 i2 im4 ip4
    rw [w4'.2.1, f113] at q
    exact q
  have laK : am_fr hk' 118 T = (am_fr hb 118 T) := (i9.1 118 (by decide) (by decide)).trans ((w4'.2.1 118).trans (frT 118 (by decide)))
  have saK : iLi hk' Lk (am_fr hb 117 T) (S 3 p) := iLi_fx aK leK Xi z2
  clear i1 i2 i5 i6 i7 i9 i11 i12 i13 ia4 ip4 nT4 hE im4 pp4 ok4 w4' w4 y1 y2 y3 y4 y5 y6 y7 y8 y9 y8l ai4 ty4 ln4 f4 slb
  generalize hr7 : am_sz h + 1 = r7 at *
  generalize hl7 : am_sz h4 + 1 = l7 at *
  have fin := fun h6 L9 rp => op_fin (K := K) (h := h) (tl := tl) (r7 := r7) (l7 := l7) (rw := rw) (d := d) t hC hF hA hG hX ip s3 hT hM hB hk nj j30 hmc hu4 hu5 hu45 hu0 hur hl0 sb hln hx lx hN hz hu H0 H1 h6 L9 rp
  have lTk : Lk T = (N, 3, 1, p) := (leK T pt.1.2.1).trans lT
  have TzK : T ≤ am_sz hk' := Nat.le_trans pt.1.2.1 aK.1
  have nT4 : ¬ (fun q => (Lk q).1 = N ∧ (Lk q).2.1 = 4) T := fun z => by
    have z2 : (Lk T).2.1 = 4 := z.2
    rw [lTk] at z2
    exact absurd z2 (by show (3 : Nat) ≠ 4; decide)
  have cmp : ∀ h', fx (fun q => (Lk q).1 = N ∧ (Lk q).2.1 = 4) hk' h' → fx (fun q => q = T ∨ ((L q).1 = N ∧ (L q).2.1 = 4) ∨ ((L q).1 = x ∧ (L q).2.1 = 1)) hb h' := fun h' b => fx_trans2 aK b (fun q hq z => by
    rw [leK q hq] at z
    exact Or.inr (Or.inl z))
  have nXn : ∀ q, (L q).1 = N → (L q).2.1 ≠ 4 → q ≠ T → ¬ (fun q => q = T ∨ ((L q).1 = N ∧ (L q).2.1 = 4) ∨ ((L q).1 = x ∧ (L q).2.1 = 1)) q := fun q e1 e2 e3 w => by
    rcases w with w | w | w
    · exact e3 w
    · exact e2 w.2
    · exact xN.1 (w.1.symm.trans e1)
  have nXx : ¬ (fun q => q = T ∨ ((L q).1 = N ∧ (L q).2.1 = 4) ∨ ((L q).1 = x ∧ (L q).2.1 = 1)) x := fun w => by
    rcases w with w | w | w
    · exact nx0 (Or.inl w)
    · rw [lx] at w
      exact xN.1 w.1
    · exact nx0 (Or.inr w)
  have fc : ∀ h', fx (fun q => (Lk q).1 = N ∧ (Lk q).2.1 = 4) hk' h' → (am_ty h' x = 1 ∧ am_fr h' 1 x = N) ∧ (am_ty h' N = 3 ∧ am_fr h' 25 N = (am_fr hb 25 N)) ∧ am_ty h' T = 9 ∧ (am_ty h' (am_fr hb 118 T) = 101 ∧ am_ln h' (am_fr hb 118 T) = (S 3 p 4) ∧ ∀ j, 0 ≤ j → j < (S 3 p 4) → am_ai h' (am_fr hb 118 T) j = (S 3 p) (45 + j) - 1) ∧ (am_ty h' (am_fr hb 117 T) = 116 ∧ am_ln h' (am_fr hb 117 T) = (S 3 p 4)) ∧ (am_ty h' r7 = 101 ∧ am_ln h' r7 = n0) := fun h' b => by
    have a6 := cmp h' b
    have wx := a6.2.2.2 x hx.2
    have wN := a6.2.2.2 N x1.1.2.1
    have wT := a6.2.2.2 T pt.1.2.1
    have wl := nd_fx a6 (leL_refl (L := L)) z3 (nXn _ (by rw [z3.2.2.2]) (by rw [z3.2.2.2]; show (3 : Nat) ≠ 4; decide) (fun w => by
      have q := z3.1
      rw [w, pt.1.1] at q
      exact absurd q (by decide)))
    have ws := a6.2.2.2 (am_fr hb 117 T) z2.2.1
    have w7 := b.2.2.2 r7 tfK.2.1.2.2.1
    refine ⟨⟨wx.1.trans hx.1, ((wx.2.2 nXx).2.1 1).trans hN⟩, ⟨wN.1.trans x1.1.1, (wN.2.2 (nXn N (by rw [x1.1.2.2.2]) (by rw [x1.1.2.2.2]; show (0 : Nat) ≠ 4; decide) (fun w => by
      have q := x1.1.1
      rw [w, pt.1.1] at q
      exact absurd q (by decide)))).2.1 25⟩, wT.1.trans pt.1.1, ⟨wl.1.1, wl.2.1.trans z4, fun j j0 j1 => ?_⟩, ⟨ws.1.trans z2.1, ws.2.1.trans z2.2.2.2.1⟩, ⟨w7.1.trans tfK.2.1.2.1, w7.2.1.trans tfK.2.1.2.2.2.2.2.1⟩⟩
    rw [wl.2.2.2.2.1]
    exact z5 j j0 j1
  have plb : ∀ j, 0 ≤ j → j < (S 3 p 4) → 0 ≤ (S 3 p) (45 + j) ∧ (S 3 p) (45 + j) ≤ S 0 0 4 := fun j a b => (oL.2.2 j a b).2.2
  have e04 : ∀ j, (pkS (setR S p u) (S 3 p) p l0 (S 3 p 4) n0 (smN (S 3 p) u (S 3 p 4) n0 l0 41 0) j) 0 0 4 = S 0 0 4 := fun j => by rw [pkS_c (by decide) (by decide), setR_c (by decide)]
  have lv := x_op68 (K := K) (h := h) (tl := tl) (mc := mc) (d := d) t hC hF hA hG hX ip s3 hT hu4 hu5 hu45 hu0 hur hl0 sb hx lx hN aK leK i3 i4 nlK tfK szK usK fin
  -- the lines that are the same
  have yG0 : rG hk' Lk N (am_fr hb 25 N) (pkS (setR S p u) (S 3 p) p l0 (S 3 p 4) n0 (smN (S 3 p) u (S 3 p 4) n0 l0 41 0) 0) B := by
    refine rG_fx aK0 leK t.1 t.2.1.1 (fun q hq z => ⟨X0l q z, fun w => ?_⟩) (Int.le_refl B) ?_ (fun _ _ _ => ?_) ?_ x6
    · rcases z with z | z
      · rw [z, lT] at w
        exact absurd w.2 (by show (3 : Nat) ≠ 4; decide)
      · exact xN.1 (z.1.symm.trans w.1)
    · show setR S p u 0 0 4 = _
      rw [setR_c (by decide)]
    · show setR S p u 2 0 _ = _
      rw [setR_c (by decide)]
    · show setR S p u 4 = _
      rw [setR_c (by decide)]
  have sam : ∀ (q : Nat) (s : Int), 0 ≤ s → s ≤ (S 3 p 4) - l0 → s ≤ n0 - l0 → 41 ≤ s + q → smN (S 3 p) u (S 3 p 4) n0 l0 q s = (smN (S 3 p) u (S 3 p 4) n0 l0 41 0) → ∀ o9 o10, am_W m_X1_opens (am_ev am_prog (d + 12)) K 33 [some (.inr (.inl (x))), some (.inr (.inl (T))), some (.inl (l0)), some (.inr (.inl (tl))), some (.inr (.inl (mc))), some (.inr (.inl (am_fr hb 117 T))), some (.inr (.inl (am_fr hb 118 T))), some (.inr (.inl (r7))), some (.inl (s)), o9, o10] [] hk' := by
    obtain ⟨⟨tx, f1⟩, ⟨tN, f25⟩, tT, ⟨ta, la, aa⟩, ⟨ts, ls⟩, ⟨t7, l7'⟩⟩ := fc hk' fx_refl
    intro q
    induction q with
    | zero =>
      intro s a1 a2 a3 a4
      exact absurd a4 (by omega)
    | succ q ih =>
      intro s a1 a2 a3 a4 eS o9 o10
      have eS' : (if (s < (S 3 p 4) - l0 ∧ s < n0 - l0) ∧ lnS (S 3 p) ((S 3 p 4) - 1 - s) = lnS u (n0 - 1 - s) then smN (S 3 p) u (S 3 p 4) n0 l0 q (s + 1) else s) = (smN (S 3 p) u (S 3 p 4) n0 l0 41 0) := eS
      have stop : ¬ ((s < (S 3 p 4) - l0 ∧ s < n0 - l0) ∧ lnS (S 3 p) ((S 3 p 4) - 1 - s) = lnS u (n0 - 1 - s)) → ∀ o10, am_W m_X1_opens (am_ev am_prog (d + 12)) K 68 [some (.inr (.inl (x))), some (.inr (.inl (T))), some (.inl (l0)), some (.inr (.inl (tl))), some (.inr (.inl (mc))), some (.inr (.inl (am_fr hb 117 T))), some (.inr (.inl (am_fr hb 118 T))), some (.inr (.inl (r7))), some (.inl (s)), some (.inl (l0)), o10] [] hk' := fun no o10 => by
        rw [if_neg no] at eS'
        rw [eS']
        refine lv l0 (by omega) (by omega) hk' fx_refl rfl rfl rfl ?_ o10
        have e0 : (l0 - l0).toNat = 0 := by omega
        rw [e0]
        exact yG0
      refine v_X1_opens_33 ?_
      rw [ls, l7', tfK.2.2.1.1]
      have lls := tfK.2.2.1.2
      refine ⟨⟨by omega, ts⟩, fun z => stop (fun y => by omega) _, fun z => ⟨Or.inl t7, fun z2 => stop (fun y => by omega) _, fun z2 => ?_⟩⟩
      have st := saK.2.2.2.2 ((S 3 p 4) - 1 - s) (by omega) (by omega)
      have su := lls.2.2.2.2 (n0 - 1 - s) (by omega) (by rw [hu4]; omega)
      have tS := st.1.1.1
      refine ⟨⟨by omega, by omega, by omega, tT, by omega, by omega, lls.1, by rw [lls.2.2.2.1, hu4]; omega⟩, ?_, ?_⟩
      · exact tS
      · refine c_equals st.1.1 su.1.1 (fun e => am_av (v_X1_opens_63 ⟨fun z => absurd z (by decide), fun _ => ⟨by omega, ?_⟩⟩)) (fun e => am_av (v_X1_opens_63 ⟨fun _ => stop (fun y => e ((xEq_l st.1 su.1).mpr y.2)) _, fun z => absurd rfl z⟩))
        have ee := (xEq_l st.1 su.1).mp e
        rw [if_pos ⟨⟨by omega, by omega⟩, ee⟩] at eS'
        exact ih (s + 1) (by omega) (by omega) (by omega) (by omega) eS' _ _
  exact sam 41 0 (by omega) (by omega) (by omega) (by omega) rfl _ _
end
