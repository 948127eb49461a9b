set_option maxRecDepth 100000
section
variable {K : am_K} {h : am_H}
/-- the slugs that go -/
theorem x_op68 {L : am_Lb} {x P N : Nat} {S : am_G} {B : Int} {p l0 n0 : Int} {u : Int → Int} {hb hk' : am_H} {Lk : am_Lb} {T rw tl mc r7 l7 d : Nat} (t : Nt hb L x P N S B) (hC : okC S) (hF : okF S) (hA : okA S) (hG : okG S) (hX : okX S) (ip : isP S p) (s3 : (S 3 p) 3 = 1) (hT : T = am_ar hb (am_fr hb 20 N) p) (hu4 : u 4 = n0) (hu5 : ∀ j, 0 ≤ j → j < l0 → u (5 + j) = (S 3 p) (5 + j)) (hu45 : ∀ j, 0 ≤ j → j < l0 → u (45 + j) = (S 3 p) (45 + j)) (hu0 : ∀ j, l0 ≤ j → j < n0 → u (45 + j) = 0) (hur : u 0 = (S 3 p) 0 ∧ u 2 = (S 3 p) 2 ∧ u 3 = (S 3 p) 3) (hl0 : 0 ≤ l0 ∧ l0 < (S 3 p 4) ∧ l0 < n0 ∧ n0 ≤ 40) (sb : 0 ≤ (smN (S 3 p) u (S 3 p 4) n0 l0 41 0) ∧ (smN (S 3 p) u (S 3 p 4) n0 l0 41 0) ≤ (S 3 p 4) - l0 ∧ (smN (S 3 p) u (S 3 p 4) n0 l0 41 0) ≤ n0 - l0) (hx : am_ty hb x = 1 ∧ x ≤ am_sz hb) (lx : L x = (x, 0, 0, 0)) (hN : am_fr hb 1 x = N) (aK : fx (fun q => q = T ∨ ((L q).1 = N ∧ (L q).2.1 = 4) ∨ ((L q).1 = x ∧ (L q).2.1 = 1)) hb hk') (leK : leL hb L Lk) (i3 : okLb hk' Lk) (i4 : rPap hk' Lk x P) (nlK : ∀ q, am_sz hb < q → (Lk q).1 = 0 ∨ (Lk q).1 = N ∨ (Lk q).1 = x) (tfK : (am_fr hk' 113 T = rw ∧ iPc hk' Lk rw u) ∧ (am_fr hk' 116 T = r7 ∧ iA hk' Lk r7 n0 (fun l => u (5 + l))) ∧ (am_fr hk' 117 T = l7 ∧ iLi hk' Lk l7 u) ∧ (∀ f, f ≠ 114 → am_fi hk' f T = am_fi hb f T) ∧ am_fi hk' 114 T = u 0) (szK : am_sz hk' ≤ am_sz h + 1082) (usK : am_us hk' ≤ am_us h + 19100) (fin : ∀ (h6 : am_H) (L9 : am_Lb) (rp : Nat), fx (fun q => q = T ∨ ((L q).1 = N ∧ (L q).2.1 = 4) ∨ ((L q).1 = x ∧ (L q).2.1 = 1)) hb h6 → leL hb L L9 → okLb h6 L9 → rPap h6 L9 x P → (∀ q, am_sz hb < q → (L9 q).1 = 0 ∨ (L9 q).1 = N ∨ (L9 q).1 = x) → ((am_fr h6 113 T = rw ∧ iPc h6 L9 rw u) ∧ (am_fr h6 116 T = r7 ∧ iA h6 L9 r7 n0 (fun l => u (5 + l))) ∧ (am_fr h6 117 T = l7 ∧ iLi h6 L9 l7 u) ∧ (∀ f, f ≠ 114 → am_fi h6 f T = am_fi hb f T) ∧ am_fi h6 114 T = u 0) → am_fr h6 118 T = rp → nd h6 L9 rp 101 N 3 2 p → am_ln h6 rp = n0 → (∀ j, 0 ≤ j → j < n0 → am_ai h6 rp j = (pl97 (S 3 p) l0 (S 3 p 4) n0 (smN (S 3 p) u (S 3 p 4) n0 l0 41 0) (j))) → rG h6 L9 N (am_fr hb 25 N) (pkS (setR S p u) (S 3 p) p l0 (S 3 p 4) n0 (smN (S 3 p) u (S 3 p 4) n0 l0 41 0) ((S 3 p 4) - l0).toNat) B → am_sz h6 ≤ am_sz h + 1083 → am_us h6 ≤ am_us h + 19140 → ∀ o10, am_W m_X1_opens (am_ev am_prog (d + 12)) K 97 [some (.inr (.inl (x))), some (.inr (.inl (T))), some (.inl (l0)), some (.inr (.inl (tl))), some (.inr (.inl (mc))), some (.inr (.inl (am_fr hb 117 T))), some (.inr (.inl (am_fr hb 118 T))), some (.inr (.inl (r7))), some (.inl ((smN (S 3 p) u (S 3 p 4) n0 l0 41 0))), some (.inl (n0)), o10] [] h6) : ∀ k, l0 ≤ k → k ≤ (S 3 p 4) - (smN (S 3 p) u (S 3 p 4) n0 l0 41 0) → ∀ h', fx (fun q => (Lk q).1 = N ∧ (Lk q).2.1 = 4) hk' h' → am_sz h' = am_sz hk' → am_us h' = am_us hk' → am_fr h' = am_fr hk' → rG h' Lk N (am_fr hb 25 N) (pkS (setR S p u) (S 3 p) p l0 (S 3 p 4) n0 (smN (S 3 p) u (S 3 p 4) n0 l0 41 0) (k - l0).toNat) B → ∀ o10, am_W m_X1_opens (am_ev am_prog (d + 12)) K 68 [some (.inr (.inl (x))), some (.inr (.inl (T))), some (.inl (l0)), some (.inr (.inl (tl))), some (.inr (.inl (mc))), some (.inr (.inl (am_fr hb 117 T))), some (.inr (.inl (am_fr hb 118 T))), some (.inr (.inl (r7))), some (.inl ((smN (S 3 p) u (S 3 p 4) n0 l0 41 0))), some (.inl (k)), o10] [] h' := by
  obtain ⟨x1, x2, x3, x4, x5, x6, x7, x8, x9, x10⟩ := id t.2.2.2.1
  have xN := t.2.2.2.2
  have pb := isP_bd hC hF ip
  have ap := hA p ip
  have oL := ap.2.2.2.2.2.2.1 s3
  have p4 := ap.2.2.2.2.2.2.2
  have g4 := hG.1
  have pt := (x3.2.2 p pb.1.1 pb.1.2).2 ip
  rw [← hT] at pt
  have zz := pt.2.2.2.2.2.2.2.2 (by omega)
  obtain ⟨z1, z2, z3, z4, z5⟩ := zz
  have lT : L T = (N, 3, 1, p) := pt.1.2.2.2
  have lTk : Lk T = (N, 3, 1, p) := (leK T pt.1.2.1).trans lT
  have TzK : T ≤ am_sz hk' := Nat.le_trans pt.1.2.1 aK.1
  have nT4 : ¬ (fun q => (Lk q).1 = N ∧ (Lk q).2.1 = 4) T := fun z => by
    have z2 : (Lk T).2.1 = 4 := z.2
    rw [lTk] at z2
    exact absurd z2 (by show (3 : Nat) ≠ 4; decide)
  have cmp : ∀ h', fx (fun q => (Lk q).1 = N ∧ (Lk q).2.1 = 4) hk' h' → fx (fun q => q = T ∨ ((L q).1 = N ∧ (L q).2.1 = 4) ∨ ((L q).1 = x ∧ (L q).2.1 = 1)) hb h' := fun h' b => fx_trans2 aK b (fun q hq z => by
    rw [leK q hq] at z
    exact Or.inr (Or.inl z))
  have nXn : ∀ q, (L q).1 = N → (L q).2.1 ≠ 4 → q ≠ T → ¬ (fun q => q = T ∨ ((L q).1 = N ∧ (L q).2.1 = 4) ∨ ((L q).1 = x ∧ (L q).2.1 = 1)) q := fun q e1 e2 e3 w => by
    rcases w with w | w | w
    · exact e3 w
    · exact e2 w.2
    · exact xN.1 (w.1.symm.trans e1)
  have nXx : ¬ (fun q => q = T ∨ ((L q).1 = N ∧ (L q).2.1 = 4) ∨ ((L q).1 = x ∧ (L q).2.1 = 1)) x := fun w => by
    rcases w with w | w | w
    · have q := pt.1.1
      rw [← w, hx.1] at q
      exact absurd q (by decide)
    · rw [lx] at w
      exact xN.1 w.1
    · rw [lx] at w
      exact absurd w.2 (by show (0 : Nat) ≠ 1; decide)
  have fc : ∀ h', fx (fun q => (Lk q).1 = N ∧ (Lk q).2.1 = 4) hk' h' → (am_ty h' x = 1 ∧ am_fr h' 1 x = N) ∧ (am_ty h' N = 3 ∧ am_fr h' 25 N = (am_fr hb 25 N)) ∧ am_ty h' T = 9 ∧ (am_ty h' (am_fr hb 118 T) = 101 ∧ am_ln h' (am_fr hb 118 T) = (S 3 p 4) ∧ ∀ j, 0 ≤ j → j < (S 3 p 4) → am_ai h' (am_fr hb 118 T) j = (S 3 p) (45 + j) - 1) ∧ (am_ty h' (am_fr hb 117 T) = 116 ∧ am_ln h' (am_fr hb 117 T) = (S 3 p 4)) ∧ (am_ty h' r7 = 101 ∧ am_ln h' r7 = n0) := fun h' b => by
    have a6 := cmp h' b
    have wx := a6.2.2.2 x hx.2
    have wN := a6.2.2.2 N x1.1.2.1
    have wT := a6.2.2.2 T pt.1.2.1
    have wl := nd_fx a6 (leL_refl (L := L)) z3 (nXn _ (by rw [z3.2.2.2]) (by rw [z3.2.2.2]; show (3 : Nat) ≠ 4; decide) (fun w => by
      have q := z3.1
      rw [w, pt.1.1] at q
      exact absurd q (by decide)))
    have ws := a6.2.2.2 (am_fr hb 117 T) z2.2.1
    have w7 := b.2.2.2 r7 tfK.2.1.2.2.1
    refine ⟨⟨wx.1.trans hx.1, ((wx.2.2 nXx).2.1 1).trans hN⟩, ⟨wN.1.trans x1.1.1, (wN.2.2 (nXn N (by rw [x1.1.2.2.2]) (by rw [x1.1.2.2.2]; show (0 : Nat) ≠ 4; decide) (fun w => by
      have q := x1.1.1
      rw [w, pt.1.1] at q
      exact absurd q (by decide)))).2.1 25⟩, wT.1.trans pt.1.1, ⟨wl.1.1, wl.2.1.trans z4, fun j j0 j1 => ?_⟩, ⟨ws.1.trans z2.1, ws.2.1.trans z2.2.2.2.1⟩, ⟨w7.1.trans tfK.2.1.2.1, w7.2.1.trans tfK.2.1.2.2.2.2.2.1⟩⟩
    rw [wl.2.2.2.2.1]
    exact z5 j j0 j1
  have plb : ∀ j, 0 ≤ j → j < (S 3 p 4) → 0 ≤ (S 3 p) (45 + j) ∧ (S 3 p) (45 + j) ≤ S 0 0 4 := fun j a b => (oL.2.2 j a b).2.2
  have e04 : ∀ j, (pkS (setR S p u) (S 3 p) p l0 (S 3 p 4) n0 (smN (S 3 p) u (S 3 p 4) n0 l0 41 0) j) 0 0 4 = S 0 0 4 := fun j => by rw [pkS_c (by decide) (by decide), setR_c (by decide)]
  refine lp_z ?_ ?_
  · intro k k0 k1 hL h' b zs us fr yG o10
    obtain ⟨⟨tx, f1⟩, ⟨tN, f25⟩, tT, ⟨ta, la, aa⟩, ⟨ts, ls⟩, ⟨t7, l7'⟩⟩ := fc h' b
    have ej : (k + 1 - l0).toNat = (k - l0).toNat + 1 := by omega
    have est : l0 + (((k - l0).toNat : Nat) : Int) = k := by omega
    have es := pkS_s (S2 := setR S p u) (v := (S 3 p)) (p := p) (l0 := l0) (n := (S 3 p 4)) (m := n0) (s := (smN (S 3 p) u (S 3 p 4) n0 l0 41 0)) (j := (k - l0).toNat)
    rw [est] at es
    rw [ej, es] at hL
    have av := aa k (by omega) (by omega)
    have pv := plb k (by omega) (by omega)
    have gx : xL h' (am_fr hb 25 N) ∧ am_fi h' 195 (am_fr hb 25 N) = S 0 0 4 := ⟨yG.1.1.1, yG.1.2.2.2.2.1.trans (e04 _)⟩
    refine v_X1_opens_68 ?_
    rw [ls, la, av, f1, f25]
    refine ⟨⟨ts, by omega⟩, fun z => absurd z (by omega), fun _ => ⟨⟨Or.inl ta, by omega⟩, fun z => ⟨by omega, ?_⟩, fun z => ?_⟩⟩
    · rw [if_pos (by omega)] at hL
      exact hL h' b zs us fr yG _
    · have sr : 0 ≤ (S 3 p) (45 + k) - 1 ∧ (S 3 p) (45 + k) - 1 < S 0 0 4 := by omega
      have e4' : (pkS (setR S p u) (S 3 p) p l0 (S 3 p 4) n0 (smN (S 3 p) u (S 3 p 4) n0 l0 41 0) (k - l0).toNat) 0 0 4 = S 0 0 4 := e04 _
      have ys := yG.2 ((S 3 p) (45 + k) - 1) sr.1 (by rw [e4']; exact sr.2)
      have tg := G_ty ys
      rw [if_neg (by omega), if_neg (by omega)] at hL
      refine ⟨⟨tx, tN⟩, gx.1.1, ⟨gx.1, by rw [gx.2]; exact sr⟩, Or.inr tg, tg, by omega, ?_⟩
      have lg : (fun q => (Lk q).1 = N ∧ (Lk q).2.1 = 4) (am_ar h' (am_fr h' 194 (am_fr hb 25 N)) ((S 3 p) (45 + k) - 1)) := by
        show (Lk (am_ar h' (am_fr h' 194 (am_fr hb 25 N)) ((S 3 p) (45 + k) - 1))).1 = N ∧ (Lk (am_ar h' (am_fr h' 194 (am_fr hb 25 N)) ((S 3 p) (45 + k) - 1))).2.1 = 4
        rw [ys.1.2.2.2]
        exact ⟨rfl, rfl⟩
      have hgg : am_ar h' (am_fr h' 194 (am_fr hb 25 N)) ((S 3 p) (45 + k) - 1) = am_ar h' (am_fr h' 194 (am_fr hb 25 N)) ((S 3 p) (45 + k) - 1) := rfl
      generalize hg : am_ar h' (am_fr h' 194 (am_fr hb 25 N)) ((S 3 p) (45 + k) - 1) = g at ys tg lg ⊢
      have ag : fx (fun q => q = g) h' (am_sfi (am_sfi (am_sfi h' 163 g 2) 161 g (-1)) 162 g (-1)) := fx_sfi (fx_sfi (fx_sfi fx_refl (Or.inr rfl)) (Or.inr rfl)) (Or.inr rfl)
      refine hL _ (fx_sfi (fx_sfi (fx_sfi b (Or.inr lg)) (Or.inr lg)) (Or.inr lg)) zs us fr ?_ _
      refine (rG_u (okLb_fx b i3) xN.2.2 yG (s := (S 3 p) (45 + k) - 1) (by rw [e4']; exact sr) hg.symm ag ?_ ?_ (fun q hq => ?_) (rSg_3 (okLb_fx b i3) xN.2.2 ys ag (fun _ => rfl) (fun f f1 f2 f3 => (x_fif f2).trans ((x_fif f1).trans (x_fif f3))) ?_ (fun o o4 o5 o6 => ?_) ?_ ?_ ?_)).1
      · rw [u3_nc (by decide), u3_nc (by decide), u3_nc (by decide)]
      · rw [u3_r (by decide), u3_r (by decide), u3_r (by decide)]
      · rw [u3_rp hq, u3_rp hq, u3_rp hq]
      · rw [u3_r (by decide), u3_r (by decide), u3_r (by decide)]
      · rw [u3_no o6, u3_no o5, u3_no o4]
      · rw [x_fif (by decide), x_fie, u3_eq]
      · rw [x_fie, u3_no (by decide), u3_eq]
      · rw [x_fif (by decide), x_fif (by decide), x_fie, u3_no (by decide), u3_no (by decide), u3_eq]
  · intro h' b zs us fr yG o10
    obtain ⟨⟨tx, f1⟩, ⟨tN, f25⟩, tT, ⟨ta, la, aa⟩, ⟨ts, ls⟩, ⟨t7, l7'⟩⟩ := fc h' b
    refine v_X1_opens_68 ?_
    rw [ls, l7']
    refine ⟨⟨ts, by omega⟩, fun _ => ⟨⟨Or.inl t7, by omega⟩, ⟨by omega, tT⟩, ?_⟩, fun z => absurd z (by omega)⟩
    have okh' : okLb h' Lk := okLb_fx b i3
    have b5 : fx (fun q => q = T) h' (am_sfr (am_new h' 101 n0.toNat) 118 T (am_sz h' + 1)) := fx_sfr (fx_new fx_refl) (Or.inr rfl)
    have le1 : leL h' Lk (lbA Lk h' (am_sz h' + 1) (N, 3, 2, p)) := fun q hq => if_neg (fun z => absurd z.1 (by omega))
    have lp : lbA Lk h' (am_sz h' + 1) (N, 3, 2, p) (am_sz h' + 1) = (N, 3, 2, p) := if_pos ⟨rfl, by omega⟩
    have lq : ∀ q, q ≠ am_sz h' + 1 → lbA Lk h' (am_sz h' + 1) (N, 3, 2, p) q = Lk q := fun q hq => if_neg (fun z => hq z.1)
    have ty5 : am_ty (am_sfr (am_new h' 101 n0.toNat) 118 T (am_sz h' + 1)) (am_sz h' + 1) = 101 := x_tyn0 (h := h') (t := 101) (n := n0.toNat) rfl
    have ln5 : am_ln (am_sfr (am_new h' 101 n0.toNat) 118 T (am_sz h' + 1)) (am_sz h' + 1) = n0 := (x_lnn0 (h := h') (t := 101) (n := n0.toNat) rfl).trans (by omega)
    have f118 : am_fr (am_sfr (am_new h' 101 n0.toNat) 118 T (am_sz h' + 1)) 118 T = am_sz h' + 1 := x_fre
    have frT5 : ∀ f, f ≠ 118 → am_fr (am_sfr (am_new h' 101 n0.toNat) 118 T (am_sz h' + 1)) f T = am_fr hk' f T := fun f hf => (x_frf hf).trans ((x_frn (by omega)).trans (by rw [fr]))
    have fiT5 : ∀ f, am_fi (am_sfr (am_new h' 101 n0.toNat) 118 T (am_sz h' + 1)) f T = am_fi hk' f T := fun f => (x_fin (h := h') (t := 101) (n := n0.toNat) (by omega)).trans (((b.2.2.2 T TzK).2.2 nT4).1 f)
    have sz5 : am_sz (am_sfr (am_new h' 101 n0.toNat) 118 T (am_sz h' + 1)) = am_sz h' + 1 := rfl
    have us5 : am_us (am_sfr (am_new h' 101 n0.toNat) 118 T (am_sz h' + 1)) = am_us h' + n0.toNat := rfl
    generalize am_sfr (am_new h' 101 n0.toNat) 118 T (am_sz h' + 1) = h5 at *
    generalize hL9 : lbA Lk h' (am_sz h' + 1) (N, 3, 2, p) = L9 at *
    generalize hrp : am_sz h' + 1 = rp at *
    have ok5 : okLb h5 L9 := by
      refine ⟨(b5.2.2.2 0 (Nat.zero_le _)).1.trans okh'.1, fun q hq y => ?_, fun q hq => ?_⟩
      · by_cases c : q = rp
        · rw [c, ty5] at y
          unfold imT at y
          omega
        · rw [lq q c]
          rw [(b5.2.2.2 q (by omega)).1] at y
          exact okh'.2.1 q (by omega) y
      · rw [lq q (by omega)]
        exact okh'.2.2 q (by omega)
    have a' := cmp h' b
    have a5 : fx (fun q => q = T ∨ ((L q).1 = N ∧ (L q).2.1 = 4) ∨ ((L q).1 = x ∧ (L q).2.1 = 1)) hb h5 := fx_trans2 a' b5 (fun q _ z => Or.inl z)
    have azz := aK.1
    have le5 : leL hb L L9 := fun q hq => (le1 q (by omega)).trans (leK q hq)
    have lT9 : L9 T = (N, 3, 1, p) := (le5 T pt.1.2.1).trans lT
    have r7b := tfK.2.1.2
    have r7z : am_ty h5 r7 = 101 ∧ r7 ≤ am_sz h5 ∧ am_ln h5 r7 = n0 ∧ (L9 r7).1 = 0 := by
      have w1 := b5.2.2.2 r7 (by have := r7b.2.1; omega)
      refine ⟨w1.1.trans t7, by have := r7b.2.1; omega, w1.2.1.trans l7', ?_⟩
      rw [lq r7 (by have := r7b.2.1; omega)]
      exact r7b.2.2.2.1
    have yG5 : rG h5 L9 N (am_fr hb 25 N) (pkS (setR S p u) (S 3 p) p l0 (S 3 p 4) n0 (smN (S 3 p) u (S 3 p 4) n0 l0 41 0) ((S 3 p 4) - (smN (S 3 p) u (S 3 p 4) n0 l0 41 0) - l0).toNat) B := by
      refine rG_fx b5 le1 okh' (cs_fx a' t.2.1).1 (fun q hq z => ?_) (Int.le_refl B) rfl (fun _ _ _ => rfl) rfl yG
      rw [z]
      unfold zf
      rw [lTk]
      exact ⟨xN.2.2, fun w => absurd w.2 (by show (3 : Nat) ≠ 4; decide)⟩
    have npT : T ≠ rp := by
      have := pt.1.2.1
      omega
    refine x_op97 (k := 0) (rp := rp) (L9 := L9) (h5 := h5) t hC hF hA hG hX ip s3 hT hu4 hu5 hu45 hu0 hur hl0 sb hx lx hN a5 le5 ok5 r7z ⟨⟨ty5, by omega, by omega, lp⟩, ln5, by omega⟩ f118 ((fiT5 110).trans ((tfK.2.2.2.1 110 (by decide)).trans pt.2.1)) yG5 (fun h6 b6 zs6 us6 fr6 yG6 arp => ?_) _
    -- the last heap
    have lex : leL hk' Lk L9 := fun q hq => le1 q (by omega)
    have cK : fx (fun q => q = T ∨ ((Lk q).1 = N ∧ (Lk q).2.1 = 4)) hk' h6 := by
      refine fx_trans2 (fx_trans2 (fx_sub b (fun q _ z => Or.inr z)) b5 (fun q _ z => Or.inl z)) b6 (fun q hq z => ?_)
      rcases z with z | z
      · rw [lex q hq] at z
        exact Or.inr z
      · omega
    have imK : ∀ q, q ≤ am_sz hk' → (q = T ∨ ((Lk q).1 = N ∧ (Lk q).2.1 = 4)) → (Lk q).1 ≠ 0 ∧ ¬ imT (am_ty hk' q) := fun q hq z => by
      have l0 : (Lk q).1 ≠ 0 := by
        rcases z with z | z
        · rw [z, lTk]
          exact xN.2.2
        · rw [z.1]
          exact xN.2.2
      exact ⟨l0, fun w => l0 (i3.2.1 q hq w)⟩
    have nT9 : ¬ (((L9 T).1 = N ∧ (L9 T).2.1 = 4) ∨ T = rp) := fun z => by
      rcases z with z | z
      · rw [lT9] at z
        exact absurd z.2 (by show (3 : Nat) ≠ 4; decide)
      · exact npT z
    have frT6 : ∀ f, f ≠ 118 → am_fr h6 f T = am_fr hk' f T := fun f hf => (fr6 f T npT (by rw [lT9]; show (3 : Nat) ≠ 4; decide)).trans (frT5 f hf)
    have fiT6 : ∀ f, am_fi h6 f T = am_fi hk' f T := fun f => (((b6.2.2.2 T (by omega)).2.2 nT9).1 f).trans (fiT5 f)
    have w6p := b6.2.2.2 rp (by omega)
    have a6 : fx (fun q => q = T ∨ ((L q).1 = N ∧ (L q).2.1 = 4) ∨ ((L q).1 = x ∧ (L q).2.1 = 1)) hb h6 := fx_trans2 a5 b6 (fun q hq z => by
      rcases z with z | z
      · rw [le5 q hq] at z
        exact Or.inr (Or.inl z)
      · omega)
    refine fin h6 L9 rp a6 le5 (okLb_fx b6 ok5) ?_ (fun q hq => ?_) ⟨⟨(frT6 113 (by decide)).trans tfK.1.1, iPc_fx cK lex imK tfK.1.2⟩, ⟨(frT6 116 (by decide)).trans tfK.2.1.1, iA_fx cK lex (fun q hq z => (imK q hq z).1) tfK.2.1.2⟩, ⟨(frT6 117 (by decide)).trans tfK.2.2.1.1, iLi_fx cK lex imK tfK.2.2.1.2⟩, fun f hf => (fiT6 f).trans (tfK.2.2.2.1 f hf), (fiT6 114).trans tfK.2.2.2.2⟩ ((fr6 118 T npT (by rw [lT9]; show (3 : Nat) ≠ 4; decide)).trans f118) ⟨w6p.1.trans ty5, by omega, by omega, lp⟩ (w6p.2.1.trans ln5) arp yG6 (by omega) (by omega)
    · refine rPap_fx cK lex (fun q hq z w => ?_) i4
      rcases z with z | z
      · rw [z, lTk] at w
        exact xN.1 w.1.symm
      · exact xN.1 (w.1.symm.trans z.1)
    · by_cases c : q = rp
      · rw [c, lp]
        exact Or.inr (Or.inl rfl)
      · rw [lq q c]
        exact nlK q hq
end
