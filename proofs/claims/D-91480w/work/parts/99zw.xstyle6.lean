set_option maxRecDepth 100000
theorem csX_x {h h' : am_H} {x j : Nat} {w : List Int} (f : fx (fun q => q = x) h h') (tx : am_ty h x = 1) (c : csX h j w) : csX h' j w := by
  unfold csX at *
  rw [f.2.2.1]
  have c1 := c.1.1
  have c2 := c.1.2.1
  exact xSl_fx f c (fun z => by rw [z] at c1; omega) (fun z => by rw [z] at c2; omega)
theorem CsS_x {h h' : am_H} {x : Nat} (f : fx (fun q => q = x) h h') (tx : am_ty h x = 1) (c : CsS h) : CsS h' := by
  obtain ⟨⟨b1, b2, b3, b4, b5, b6, b7, b8, b9, b10, b11, b12⟩, a1, a2, a3, a4, a5, a6, a7, a8, a9⟩ := c
  have k : ∀ {j w}, csX h j w → csX h' j w := fun c => csX_x f tx c
  exact ⟨⟨k b1, k b2, k b3, k b4, k b5, k b6, k b7, k b8, k b9, k b10, k b11, k b12⟩, k a1, k a2, k a3, k a4, k a5, k a6, k a7, k a8, k a9⟩
/-- what a rule's cell says is what its code says -/
theorem iRu_y {h : am_H} {z : Nat} {ru : am_Ru} {y : Int → Int} {j w0 : Int} (i : iRu h z ru) (w0b : 62 ≤ w0) (v : ruV y j w0 ru) (ok : okRu ru) : am_fi h 121 z = y (2 + 5 * j) ∧ am_fi h 122 z = y (3 + 5 * j) ∧ am_fi h 123 z = y (4 + 5 * j) ∧ ∃ n val, n ≤ 60 ∧ xRl h z n val ∧ ∀ tg fc : Int → Int, (∀ i, 0 ≤ i → i < 3 → tg i = 0 ∨ tg i = 1) → val tg fc = hv y tg fc j := by
  obtain ⟨i1, i2, ⟨i3, i4, i5⟩, i6⟩ := i
  obtain ⟨k, f, g, oc⟩ := ru
  obtain ⟨v1, v2, v3, v4⟩ := v
  have e1 : 2 + 5 * j + 1 = 3 + 5 * j := by omega
  have e2 : 2 + 5 * j + 2 = 4 + 5 * j := by omega
  have e3 : 2 + 5 * j + 3 = 5 + 5 * j := by omega
  have e4 : 2 + 5 * j + 4 = 6 + 5 * j := by omega
  rw [e1] at v2
  rw [e2] at v3
  refine ⟨i3.trans v1.symm, i4.trans v2.symm, i5.trans v3.symm, ?_⟩
  cases oc with
  | none =>
    have v4' : y (2 + 5 * j + 3) = 0 ∧ y (2 + 5 * j + 4) = 0 := v4
    rw [e3, e4] at v4'
    refine ⟨0, fun _ _ => 1, by omega, ⟨i1, i2.1, i2.2, Or.inl ⟨i6, rfl⟩⟩, fun tg fc _ => ?_⟩
    unfold hv
    rw [if_pos v4'.2]
  | some c =>
    have v4' : y (2 + 5 * j + 3) = w0 ∧ y (2 + 5 * j + 4) = c.cd.length ∧ cdA y w0 c.cd := v4
    rw [e3, e4] at v4'
    obtain ⟨o1, o2, o3, o4⟩ : c.ok ∧ c.hg ≤ 13 ∧ c.cd.length ≤ 400 ∧ c.dp ≤ 59 := ok.2.2.2.2.2.2
    have i6' : am_fr h 124 z ≠ 0 ∧ xCd h c.dp (am_fr h 124 z) c.ev := i6
    refine ⟨c.dp, c.ev, by omega, ⟨i1, i2.1, i2.2, Or.inr i6'⟩, fun tg fc _ => ?_⟩
    have l1 := o1.2.2.2.2
    unfold hv
    rw [if_neg (by rw [v4'.2.1]; omega), v4'.1, v4'.2.1, rn_all o1 v4'.2.2 (by omega) (by omega)]
section
variable {K : am_K} {h : am_H}
/-- the cell of a new style -/
theorem new_st {h0 : am_H} {L : am_Lb} {r z : Nat} {l : List am_Ru} {y : Int → Int} (ok : okLb h L) (c0 : am_ty h (am_cs h 0) = 134) (lo : ∀ q, am_sz h0 < q → (L q).1 = 0) (ls : RLs h0 h r l) (tz : am_ty h z = 19) (hz : z ≤ am_sz h ∧ z ≠ 0) (e133 : am_fi h 133 z = y 0) (e134 : am_fr h 134 z = r) (y1 : y 1 = (l.length : Int)) (rs : ruS y 562 l) : iSt h L z y := by
  obtain ⟨x1, x2, x3, x4, x5, x6, x7⟩ := ls
  unfold iSt xSt
  rw [e134, y1]
  refine ⟨⟨tz, hz.1, hz.2, e133, x1.1, x3, x1.1.2.1, fun q q1 q2 => ?_⟩, lo _ x2, ?_, fun i j i1 i2 i3 => x7 i j i1 i2 i3⟩
  · have eq' : ((q.toNat : Nat) : Int) = q := by omega
    have a := x6 q.toNat (by omega)
    obtain ⟨⟨w0, b1, b2, b3⟩, b4, b5⟩ := rs q.toNat (by omega)
    rw [eq'] at a b3
    exact iRu_y a b1 b3 b4
  · rcases x4 with e | e
    · refine ok.2.1 _ x1.1.2.2.2.2.2 ?_
      have e0 := x1.2.2.1 e
      rw [e0, c0]
      unfold imT
      omega
    · exact lo _ e
theorem X_style {L : am_Lb} {x P N : Nat} {S : am_G} {B : Int} {t : Int → Int} {n m : Int} {D : Nat} (hD : 90 ≤ D) (tt : Nt h L x P N S B) (hx : am_ty h x = 1) (hN : am_fr h 1 x = N) (hC : okC S) (hz : x ≤ am_sz h) (hl : L x = (x, 0, 0, 0)) (hB : B ≤ 1000000) (h02 : 0 ≤ (S 0 0 2) ∧ (S 0 0 2) ≤ 10) (tp : TpX h L x t n) (cs : CsS h) (H0 : ¬ (S 0 0 0 ≤ m ∧ m ≤ 600) → XTF h L x P N S B K 35 (am_fi h 5 x) 8400 43000) (H3 : S 0 0 0 ≤ m ∧ m ≤ 600 → ∀ p, styR t n = .inl p → XTF h L x P N S B K 35 (p) 8400 43000) (H4 : S 0 0 0 ≤ m ∧ m ≤ 600 → ∀ l, styR t n = .inr l → (S 0 0 2) = 10 → XTF h L x P N S B K 37 (-1) 8400 43000) (H1 : S 0 0 0 ≤ m ∧ m ≤ 600 → ∀ l, styR t n = .inr l → (S 0 0 2) ≠ 10 → XAG h L x P N (fun S' => syT S m l S') (B + 1) K (l.length : Int) (-1) 8400 43000) : am_ev am_prog D 121 [.inr (.inl x), .inl m] h K := by
  have ok := tt.1
  have hxN := tt.2.2.2.2.1
  have c0 := hC.1
  obtain ⟨u1, u2, u3', u4, u5, u6, u7, u8, u9⟩ := used_ok tt hx hz hl tp
  obtain ⟨p1, p2, p3, p4, p5⟩ := tp
  obtain ⟨d, rfl⟩ : ∃ d, D = d + 13 := ⟨D - 13, by omega⟩
  refine am_en p_X1_style rfl rfl ?_
  refine v_X1_style_0 ⟨hx, by omega, ⟨hz, p2.2.1, Or.inl p2.1, by omega⟩, ?_⟩
  have x1 := tt.2.2.2.1.1
  have zN : N ≤ am_sz h := x1.1.2.1
  have cs1 := CsS_x u1 hx cs
  generalize hh1 : (am_sfi (am_wai (am_new h 102 (am_fi h 4 x).toNat) (am_sz h + 1) (am_cpy (am_ai h (am_fr h 3 x)) (fun _ => 0) 0 0 (am_fi h 4 x))) 4 x 0) = h1 at *
  rw [← u4, hN, x1.2.2.1]
  refine ⟨⟨zN, x1.1.1⟩, fun c => ?_, fun c => XTF_go u3' ok hz u1 u8 (fun g g4 _ => u7 g g4) u6 (u7 5 (by decide)) (by omega) (by omega) (H0 c)⟩
  have HH3 := H3 c
  have HH4 := H4 c
  have HH1 := H1 c
  have u2' : TxT h1 (am_sz h1) t n := by
    rw [u4]
    exact u2
  have Rz : am_sz (am_new h1 10 4) = am_sz h1 + 1 := rfl
  -- the reader
  have fR : fx (fun _ => False) h1 (am_sfr (am_new h1 10 4) 96 (am_sz h1 + 1) (am_sz h1)) := fx_sfr (fx_new fx_refl) (Or.inl (by omega))
  have sR : RyS h1 (am_sfr (am_new h1 10 4) 96 (am_sz h1 + 1) (am_sz h1)) (am_sz h1 + 1) (am_sz h1) 0 0 0 := by
    refine ⟨fR, ⟨by omega, by show am_sz h1 + 1 ≤ am_sz h1 + 1; omega⟩, x_tyn0 (h := h1) (t := 10) (n := 4) rfl, x_fre, x_fin0 (h := h1) (t := 10) (n := 4) rfl, x_fin0 (h := h1) (t := 10) (n := 4) rfl, x_fin0 (h := h1) (t := 10) (n := 4) rfl⟩
  have zR : am_sz (am_sfr (am_new h1 10 4) 96 (am_sz h1 + 1) (am_sz h1)) = am_sz h1 + 1 := rfl
  have uR : am_us (am_sfr (am_new h1 10 4) 96 (am_sz h1 + 1) (am_sz h1)) = am_us h1 + 4 := rfl
  obtain ⟨d, rfl⟩ : ∃ d2, d = d2 + 1 := ⟨d - 1, by omega⟩
  refine am_en (d := d + 12) p_X11_init rfl rfl (v_X11_init_0 ⟨Or.inr (x_tyn0 rfl), ?_⟩)
  refine am_an (v_X1_style_14 ⟨sR.2.2.1, ?_⟩)
  generalize am_sfr (am_new h1 10 4) 96 (am_sz h1 + 1) (am_sz h1) = h2 at *
  refine xy_rules (by omega) u2' u3'.1.1 u3'.2.1 cs1 sR (fun p hp h3 E g1 g2 g3 g4 g5 g6 => ?_) (fun l hp h3 r g1 rls g5 g6 => am_av (v_X1_style_15 ?_))
  · -- a fault
    have xk := g1.2.2.2 x (by have := u1.1; omega)
    have xs := xk.2.2 (fun z => z)
    have tx : am_ty h3 x = 1 := xk.1.trans u9
    refine am_ah (j := 20) (by rw [g2]; rfl) (v_X1_style_20 ⟨⟨g2, tx⟩, ?_⟩)
    rw [g4]
    have f5 : fx (fun q => q = x) h (am_sfi h3 5 x p) := fx_sfi (fx_trans2 u1 g1 (fun q _ z => z.elim)) (Or.inr rfl)
    have t3 := Nt_fx0 g1 u3'
    have t5 : Nt (am_sfi h3 5 x p) L x P N S B := Nt_x t3 (fx_sfi fx_refl (Or.inr rfl) : fx (fun q => q = x) h3 (am_sfi h3 5 x p)) (fun q _ z => by rw [z, hl]; exact ⟨rfl, by show (0 : Nat) ≠ 1; decide⟩)
    have z5 : am_sz (am_sfi h3 5 x p) = am_sz h3 := rfl
    have us5 : am_us (am_sfi h3 5 x p) = am_us h3 := rfl
    exact XTF_go t5 ok hz f5 (fun g => (xs.2.1 g).trans (u8 g)) (fun g g4' g5' => (x_fif g5').trans ((xs.1 g).trans (u7 g g4'))) ((x_fif (by decide)).trans ((xs.1 4).trans u6)) x_fie (by omega) (by omega) (HH3 p hp)
  · -- rules
    have xk := g1.2.2.2 x (by have := u1.1; omega)
    have xs := xk.2.2 (fun z => z)
    have tx : am_ty h3 x = 1 := xk.1.trans u9
    have t3 := Nt_fx0 g1 u3'
    have nN : am_fr h3 1 x = N := (xs.2.1 1).trans ((u8 1).trans hN)
    have f5 : fx (fun q => q = x) h (am_sfi h3 5 x (-1)) := fx_sfi (fx_trans2 u1 g1 (fun q _ z => z.elim)) (Or.inr rfl)
    have f35 : fx (fun q => q = x) h3 (am_sfi h3 5 x (-1)) := fx_sfi fx_refl (Or.inr rfl)
    have tB : Nt (am_sfi h3 5 x (-1)) L x P N S B := Nt_x t3 f35 (fun q _ z => by rw [z, hl]; exact ⟨rfl, by show (0 : Nat) ≠ 1; decide⟩)
    have zB : am_sz (am_sfi h3 5 x (-1)) = am_sz h3 := rfl
    have usB : am_us (am_sfi h3 5 x (-1)) = am_us h3 := rfl
    have hrB : ∀ g, am_fr (am_sfi h3 5 x (-1)) g x = am_fr h g x := fun g => (xs.2.1 g).trans (u8 g)
    have hiB : ∀ g, g ≠ 4 → g ≠ 5 → am_fi (am_sfi h3 5 x (-1)) g x = am_fi h g x := fun g g4' g5' => (x_fif g5').trans ((xs.1 g).trans (u7 g g4'))
    have i4B : am_fi (am_sfi h3 5 x (-1)) 4 x = 0 := (x_fif (by decide)).trans ((xs.1 4).trans u6)
    have i5B : am_fi (am_sfi h3 5 x (-1)) 5 x = -1 := x_fie
    have tyB : am_ty (am_sfi h3 5 x (-1)) x = 1 := tx
    have frB : am_fr (am_sfi h3 5 x (-1)) 1 x = N := nN
    have rlB := (RLs_fg f35 (fun q z => by rw [z, tx]; omega) rls).1
    have y6 := t3.2.2.2.1.2.2.2.1
    have f195 : am_fi h3 195 (am_fr h3 22 N) = (S 0 0 2) := y6.1.2.2.2.2.1
    have x3 := t3.2.2.2.1.1.1
    have loB : ∀ q, am_sz h1 < q → (L q).1 = 0 := fun q hq => ok.2.2 q (by have := u1.1; omega)
    rw [nN, f195]
    refine ⟨tx, x3.1, y6.1.1.1.1, fun z => XTF_go tB ok hz f5 hrB hiB i4B i5B (by omega) (by omega) (HH4 l hp (by omega)), fun z => ⟨y6.1.1.1.2.2.2.2.1, ?_⟩⟩
    have HK := HH1 l hp (by omega)
    have e22 : am_fr (am_sfi h3 5 x (-1)) 22 N = am_fr h3 22 N := rfl
    rw [← e22, ← zB]
    generalize hhB : am_sfi h3 5 x (-1) = hB at *
    -- the style's cell
    have fC : fx (fun _ => False) hB (am_sfr (am_sfi (am_new hB 19 2) 133 (am_sz hB + 1) m) 134 (am_sz hB + 1) r) := fx_sfr (fx_sfi (fx_new fx_refl) (Or.inl (by omega))) (Or.inl (by omega))
    have zC : am_sz (am_sfr (am_sfi (am_new hB 19 2) 133 (am_sz hB + 1) m) 134 (am_sz hB + 1) r) = am_sz hB + 1 := rfl
    have uC : am_us (am_sfr (am_sfi (am_new hB 19 2) 133 (am_sz hB + 1) m) 134 (am_sz hB + 1) r) = am_us hB + 2 := rfl
    have tC := Nt_fx0 fC tB
    have stC : ∀ S', syT S m l S' → iSt (am_sfr (am_sfi (am_new hB 19 2) 133 (am_sz hB + 1) m) 134 (am_sz hB + 1) r) L (am_sz hB + 1) (S' 6 (S 0 0 2)) := fun S' sT => by
      obtain ⟨q1, ⟨q2, q3⟩, q4, q5, q6, q7, q8⟩ := sT
      refine new_st (h0 := h1) (l := l) tC.1 tC.2.1.1 loB (RLs_fg fC (fun q z => z.elim) rlB).1 (x_tyn0 (h := hB) (t := 19) (n := 2) rfl) ⟨by omega, by omega⟩ ?_ x_fre q6 q8
      rw [q5]
      show am_fi (am_sfi (am_new hB 19 2) 133 (am_sz hB + 1) m) 133 (am_sz hB + 1) = m
      exact x_fie
    have tyC : am_ty (am_sfr (am_sfi (am_new hB 19 2) 133 (am_sz hB + 1) m) 134 (am_sz hB + 1) r) (am_sz hB + 1) = 19 := x_tyn0 (h := hB) (t := 19) (n := 2) rfl
    have kx := fC.2.2.2 x (by have := f5.1; omega)
    have kN := fC.2.2.2 N tB.2.2.2.1.1.1.2.1
    have hxC : am_ty (am_sfr (am_sfi (am_new hB 19 2) 133 (am_sz hB + 1) m) 134 (am_sz hB + 1) r) x = 1 := kx.1.trans tyB
    have xsC := kx.2.2 (fun z => z)
    have hNC : am_fr (am_sfr (am_sfi (am_new hB 19 2) 133 (am_sz hB + 1) m) 134 (am_sz hB + 1) r) 1 x = N := (xsC.2.1 1).trans frB
    have eNC : am_fr (am_sfr (am_sfi (am_new hB 19 2) 133 (am_sz hB + 1) m) 134 (am_sz hB + 1) r) 22 N = am_fr hB 22 N := (kN.2.2 (fun z => z)).2.1 22
    rw [← eNC]
    generalize am_sfr (am_sfi (am_new hB 19 2) 133 (am_sz hB + 1) m) 134 (am_sz hB + 1) r = hC' at *
    have yC := tC.2.2.2.1.2.2.2.1
    have rl := yC.1
    have rl5 := rl.2.2.2.2.1
    have rl6 := rl.2.2.2.2.2
    refine c_add rl.1 (fun e => by rw [← e, rl5]; omega) ⟨by omega, by rw [tyC]; simp [am_tin]⟩ (by omega) (by omega) (fun h' fr xm e5 e3 el en hA hs hu hg => am_av (v_X1_style_48 ?_))
    obtain ⟨le, ok2, rl2⟩ := rL_add tC.1 rl fr xm e5 e3 hA hg
    have lN : ∀ q, am_sz hC' < q → (lbA L hC' (am_fr h' 194 (am_fr hC' 22 N)) (N, 6, 0 + 1, 0) q).1 = 0 ∨ (lbA L hC' (am_fr h' 194 (am_fr hC' 22 N)) (N, 6, 0 + 1, 0) q).1 = N := lbA_n (h' := h') tC.1
    generalize lbA L hC' (am_fr h' 194 (am_fr hC' 22 N)) (N, 6, 0 + 1, 0) = L2 at le ok2 rl2 lN
    have f26 := rL_X rl
    obtain ⟨r1, r2, nim⟩ := rL_go tC hxC hNC (by have := f5.1; omega) hl rl (by decide) fr
    rw [rl5] at e5 el en
    have nX : ∀ q, q ≤ am_sz hC' → (q = am_fr hC' 22 N ∨ (q = am_fr hC' 194 (am_fr hC' 22 N) ∧ am_fi hC' 195 (am_fr hC' 22 N) < am_ln hC' (am_fr hC' 194 (am_fr hC' 22 N)))) → (L q).1 ≠ 0 ∧ ¬ imT (am_ty hC' q) := fun q hq z => ⟨by rw [(f26 q hq z).1]; exact tC.2.2.2.2.2.2, nim q hq z⟩
    have t' : ∀ S', syT S m l S' → Nt h' L2 x P N S' (B + 1) := fun S' sT => by
      have stC' := stC S' sT
      obtain ⟨q1, ⟨q2, q3⟩, q4, q5, q6, q7, q8⟩ := sT
      refine Nt_6 tC (by omega) fr le ok2 f26 (fun c c1 c2 => q1 c c2 c1) q2 ?_
      unfold rY
      rw [q3]
      refine ⟨rl2, fun k k1 k2 => ?_⟩
      by_cases ek : k = (S 0 0 2)
      · rw [ek, en]
        exact iSt_fx fr le nX stC'
      · rw [el k k1 (by omega), q4 k ek]
        exact iSt_fx fr le nX (yC.2 k k1 (by omega))
    have rlC := (RLs_fg fC (fun q z => z.elim) rlB).1
    have nr : ¬ (r = am_fr hC' 22 N ∨ (r = am_fr hC' 194 (am_fr hC' 22 N) ∧ am_fi hC' 195 (am_fr hC' 22 N) < am_ln hC' (am_fr hC' 194 (am_fr hC' 22 N)))) := fun z => (nX r rlC.1.1.2.2.2.2.1 z).1 (loB _ rlC.2.1)
    have kr := fr.2.2.2 r rlC.1.1.2.2.2.2.1
    have er : am_fi h' 195 r = (l.length : Int) := ((kr.2.2 nr).1 195).trans rlC.2.2.1
    refine ⟨kr.1.trans rlC.1.1.1, ?_⟩
    rw [er]
    have nx' : ¬ (x = am_fr hC' 22 N ∨ (x = am_fr hC' 194 (am_fr hC' 22 N) ∧ am_fi hC' 195 (am_fr hC' 22 N) < am_ln hC' (am_fr hC' 194 (am_fr hC' 22 N)))) := fun z => by
      have e := (f26 x (by have := f5.1; omega) z).1
      rw [hl] at e
      exact hxN e
    have kx' := (fr.2.2.2 x (by have := f5.1; omega)).2.2 nx'
    have fall : fx (fun q => q = x) h hC' := fx_trans2 f5 fC (fun q _ z => z.elim)
    refine HK h' L2 t' ⟨?_, ?_, ⟨by have := xm.2.1; have := rl.1.1.2.2.1; omega, by have := xm.2.1; have := rl.1.1.2.2.1; omega⟩, fun q hq => ?_, fun g => (kx'.2.1 g).trans ((xsC.2.1 g).trans (hrB g)), fun g g4' g5' => (kx'.1 g).trans ((xsC.1 g).trans (hiB g g4' g5'))⟩ ((kx'.1 4).trans ((xsC.1 4).trans i4B)) ((kx'.1 5).trans ((xsC.1 5).trans i5B))
    · exact fx_trans2 (fx_sub fall (fun q _ e => Or.inr (Or.inr e))) fr (fun q hq z => Or.inl (f26 q (Nat.le_trans hq fall.1) z).1)
    · exact fun q hq => le q (Nat.le_trans hq fall.1)
    · by_cases cq : q ≤ am_sz hC'
      · rw [le q cq]
        exact Or.inl (ok.2.2 q hq)
      · exact (lN q (by omega)).elim Or.inl (fun e => Or.inr (Or.inl e))
end
