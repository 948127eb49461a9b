set_option maxRecDepth 100000
/-! the component locks a page: the end -/
theorem wai_id {h : am_H} {r : Nat} : am_wai h r (am_ai h r) = h := by
  unfold am_wai
  have e2 : am_up h.2.2.2.2.2.2.1 r (am_ai h r) = h.2.2.2.2.2.2.1 := by
    funext j
    unfold am_up
    by_cases c : j = r
    · rw [if_pos c, c]
      rfl
    · rw [if_neg c]
  rw [e2]
def lk0 (S : am_G) (pg : Int) (l : List Int) (v : Int) : am_G := u3 (u3 (u3 (wrL S pg l) 8 pg 2 l.length) 8 pg 3 (S 0 0 0)) 8 pg 4 v
theorem lk0_c {S : am_G} {pg : Int} {l : List Int} {v : Int} {c : Nat} (h : c ≠ 8) : lk0 S pg l v c = S c := (u3_r h).trans ((u3_r h).trans ((u3_r h).trans (wrL_c h)))
theorem lk0_p {S : am_G} {pg q : Int} {l : List Int} {v : Int} (h : q ≠ pg) : lk0 S pg l v 8 q = S 8 q := by
  refine (u3_rp h).trans ((u3_rp h).trans ((u3_rp h).trans ?_))
  funext o
  exact if_neg (fun z => h z.2.1)
theorem lk0_o {S : am_G} {pg : Int} {l : List Int} {v o : Int} (h : o = 0 ∨ o = 1) : lk0 S pg l v 8 pg o = S 8 pg o := (u3_no (by omega)).trans ((u3_no (by omega)).trans ((u3_no (by omega)).trans (if_neg (fun z => by have := z.2.2.1; omega))))
theorem lk0_5 {S : am_G} {pg : Int} {l : List Int} {v i : Int} (h : 0 ≤ i ∧ i < (l.length : Int)) : lk0 S pg l v 8 pg (5 + i) = gt l i.toNat := by
  have e : (5 + i - 5).toNat = i.toNat := by omega
  refine (u3_no (by omega)).trans ((u3_no (by omega)).trans ((u3_no (by omega)).trans ((if_pos ⟨rfl, rfl, by omega, by omega⟩).trans ?_)))
  rw [e]
theorem lk0_2 {S : am_G} {pg : Int} {l : List Int} {v : Int} : lk0 S pg l v 8 pg 2 = l.length := (u3_no (by decide)).trans ((u3_no (by decide)).trans u3_eq)
theorem lk0_3 {S : am_G} {pg : Int} {l : List Int} {v : Int} : lk0 S pg l v 8 pg 3 = S 0 0 0 := (u3_no (by decide)).trans u3_eq
theorem lk0_4 {S : am_G} {pg : Int} {l : List Int} {v : Int} : lk0 S pg l v 8 pg 4 = v := u3_eq
theorem Nt_lk {L : am_Lb} {x P N : Nat} {S : am_G} {B : Int} {hk h3 : am_H} {pg v : Int} {A : List Int} {g r5 : Nat} (t : Nt hk L x P N S B) (hp : 0 ≤ pg ∧ pg < 6) (hg : g = am_ar hk (am_fr hk 27 N) pg) (a : fx (fun q => q = g) hk h3) (f33 : am_fi h3 33 g = am_fi hk 33 g) (f34 : am_fi h3 34 g = am_fi hk 34 g) (f35 : am_fi h3 35 g = S 0 0 0) (f36 : am_fi h3 36 g = v) (f37 : am_fr h3 37 g = r5) (i5 : iA hk L r5 A.length (fun i => gt A i.toNat)) : Nt h3 L x P N (lk0 S pg A v) B := by
  have m := t.2.2.2.1.2.2.2.2.2.2.2.1.2.2 pg hp.1 hp.2
  rw [← hg] at m
  obtain ⟨m1, m2, m3, m4, m5, m6⟩ := m
  have w := a.2.2.2 g m1.2.1
  have n0 : ∀ q, q ≤ am_sz hk → q = g → (L q).1 ≠ 0 := fun q _ e => by
    rw [e, m1.2.2.2]
    exact t.2.2.2.2.2.2
  have i6 := iA_fx a leL_refl n0 i5
  refine Nt_pg t hp hg a (fun c c1 => lk0_c c1) (fun q e => lk0_p e) ⟨⟨w.1.trans m1.1, Nat.le_trans m1.2.1 a.1, m1.2.2⟩, ?_, ?_, ?_, ?_, ?_⟩
  · rw [f33, lk0_o (Or.inl rfl)]
    exact m2
  · rw [f34, lk0_o (Or.inr rfl)]
    exact m3
  · rw [f35, lk0_3]
  · rw [f36, lk0_4]
  · rw [f37, lk0_2]
    obtain ⟨y1, y2, y3, y4, y5, y6⟩ := i6
    exact ⟨y1, y2, y3, y4, y5, fun i i0 i1 => (y6 i i0 i1).trans (lk0_5 ⟨i0, i1⟩).symm⟩
section
variable {K : am_K} {h : am_H}
theorem X_lock {L : am_Lb} {x P N : Nat} {S : am_G} {B : Int} {pg m : Int} {D : Nat} (hD : 90 ≤ D) (t : Nt h L x P N S B) (hx : am_ty h x = 1 ∧ x ≤ am_sz h) (hN : am_fr h 1 x = N) (hC : okC S) (hF : okF S) (hA : okA S) (hH : okH S) (hY : okY S) (hm : -2147483648 ≤ m ∧ m ≤ 2147483647) (H1 : ¬ ((0 ≤ pg ∧ pg < 6) ∧ (0 ≤ m ∧ m < am_shlz 1 (S 0 0 1))) → XT h L x P N S B K 33) (H2 : (0 ≤ pg ∧ pg < 6) ∧ (0 ≤ m ∧ m < am_shlz 1 (S 0 0 1)) → ¬ (1 ≤ ((bcn m.toNat (S 0 0 1).toNat) : Int) ∧ ((bcn m.toNat (S 0 0 1).toNat) : Int) ≤ 4) → XT h L x P N S B K 35) (H3 : (0 ≤ pg ∧ pg < 6) ∧ (0 ≤ m ∧ m < am_shlz 1 (S 0 0 1)) → 1 ≤ ((bcn m.toNat (S 0 0 1).toNat) : Int) ∧ ((bcn m.toNat (S 0 0 1).toNat) : Int) ≤ 4 → ¬ stS S m → XTd h L x P N S B K 40 2 10) (H4 : (0 ≤ pg ∧ pg < 6) ∧ (0 ≤ m ∧ m < am_shlz 1 (S 0 0 1)) → 1 ≤ ((bcn m.toNat (S 0 0 1).toNat) : Int) ∧ ((bcn m.toNat (S 0 0 1).toNat) : Int) ≤ 4 → stS S m → ¬ (((fiR S pg (skL m.toNat (S 0 0 1).toNat) (bcn m.toNat (S 0 0 1).toNat))).1 ≠ -1 ∧ AR S (skL m.toNat (S 0 0 1).toNat) ((fiR S pg (skL m.toNat (S 0 0 1).toNat) (bcn m.toNat (S 0 0 1).toNat))).2.2 (bcn m.toNat (S 0 0 1).toNat)) → XA h L x P N S B K (-1) 89 455) (H0 : (0 ≤ pg ∧ pg < 6) ∧ (0 ≤ m ∧ m < am_shlz 1 (S 0 0 1)) → 1 ≤ ((bcn m.toNat (S 0 0 1).toNat) : Int) ∧ ((bcn m.toNat (S 0 0 1).toNat) : Int) ≤ 4 → stS S m → ((fiR S pg (skL m.toNat (S 0 0 1).toNat) (bcn m.toNat (S 0 0 1).toNat))).1 ≠ -1 → AR S (skL m.toNat (S 0 0 1).toNat) ((fiR S pg (skL m.toNat (S 0 0 1).toNat) (bcn m.toNat (S 0 0 1).toNat))).2.2 (bcn m.toNat (S 0 0 1).toNat) → XA h L x P N (lkS S pg (lkV S (skL m.toNat (S 0 0 1).toNat) ((fiR S pg (skL m.toNat (S 0 0 1).toNat) (bcn m.toNat (S 0 0 1).toNat))).2.1 ((fiR S pg (skL m.toNat (S 0 0 1).toNat) (bcn m.toNat (S 0 0 1).toNat))).2.2 (bcn m.toNat (S 0 0 1).toNat) 3)) B K (((fiR S pg (skL m.toNat (S 0 0 1).toNat) (bcn m.toNat (S 0 0 1).toNat))).1) 89 455) : am_ev am_prog D 140 [.inr (.inl x), .inl pg, .inl m] h K := by
  have c0 := hC.1
  have c1 := hC.2.1
  obtain ⟨d, rfl⟩ : ∃ d, D = d + 13 := ⟨D - 13, by omega⟩
  refine am_en p_X1_lock rfl rfl ?_
  refine v_X1_lock_0 ⟨hx.1, x_fitOf (by omega) t hx hN hC hF hA hH hm (fun c h' q n o e => am_ax rfl (H1 c h' q n o e)) (fun c c2 h' q n o e => am_ax rfl (H2 c c2 h' q n o e)) (fun c c2 c3 h' q n o e => am_ax rfl (H3 c c2 c3 h' q n o e)) (fun c c2 c3 hs h' X Y z u => am_av (v_X1_lock_4 ⟨X.2.1.1, ?_⟩))⟩
  have H4' := H4 c c2 c3
  have H0' := H0 c c2 c3
  have gd := fiR_gd hC hF hA hH c.1 c.2.1
  have t' : Nt h' L x P N S B := Nt_fx0 X.1 t
  obtain ⟨x1, x2, x3, x4, x5, x6, x7, x8, x9, x10⟩ := t'.2.2.2.1
  have xx := X.1.2.2.2 x hx.2
  have tx : am_ty h' x = 1 := xx.1.trans hx.1
  have fN : am_fr h' 1 x = N := ((xx.2.2 (fun z => z)).2.1 1).trans hN
  rw [Y.1, fN, x8.2.1]
  have yb := Y.2.1
  generalize (fiR S pg (skL m.toNat (S 0 0 1).toNat) (bcn m.toNat (S 0 0 1).toNat)) = σ at *
  generalize hst : (skL m.toNat (S 0 0 1).toNat) = st at *
  generalize hn : (bcn m.toNat (S 0 0 1).toNat) = n at *
  have h8 := hH pg c.1.1 c.1.2
  refine ⟨fun e => ?_, fun e => H4' (fun w => w.1 (by omega)) h' L t' (Out_fx0 t.1 X.1 (by omega) (by omega))⟩
  have hb : σ.1 ≠ -1 := by omega
  have fj : ∀ j, 0 ≤ j → j < (n : Int) → 1 ≤ S 2 2 (st j) ∧ S 2 2 (st j) ≤ 5 := fun j a b => (hF (st j) (hs j a b).1.1 (hs j a b).1.2).2.2
  obtain ⟨ll, l180⟩ := lkV_bd h8.2.1.2 (fun j a b => ⟨by have := fj j a b; omega, fun k k0 k1 => (hA _ (isP_5 (S := S) (hs j a b).1 ⟨k0, k1⟩ (fj j a b).2)).2.2.2.2.2.2.2.1⟩) gd hb
  refine ⟨⟨tx, x1.1.1, x8.1.1, by omega, by omega⟩, ?_⟩
  obtain ⟨y1, y2, y3, y4, y5, y6, y7⟩ := X
  have b2 := y5 2 (by omega) (by omega)
  have b3 := y5 3 (by omega) (by omega)
  have b4 := y5 4 (by omega) (by omega)
  have yk := Y.2.2 hb
  have r5h : am_sz h < am_sz h' + 1 := by
    have := y1.1
    omega
  have f1 : fx (fun _ => False) h' (am_new h' 101 σ.1.toNat) := fx0_new
  have F1 : ∀ gg, fx (fun _ => False) h (am_wai (am_new h' 101 σ.1.toNat) (am_sz h' + 1) gg) := fun gg => fx_wai (fx_new y1) (Or.inl r5h)
  have xle : x ≤ am_sz h' := Nat.le_trans hx.2 y1.1
  have Nle := x1.1.2.1
  obtain ⟨m1, m2, m3, m4, m5, m6⟩ := x8.2.2 pg c.1.1 c.1.2
  have e27 : am_fr (am_new h' 101 σ.1.toNat) 27 N = am_fr h' 27 N := x_frn Nle
  have eg : ∀ gg, am_ar h' (am_fr h' 27 N) pg = am_ar (am_wai (am_new h' 101 σ.1.toNat) (am_sz h' + 1) gg) (am_fr (am_wai (am_new h' 101 σ.1.toNat) (am_sz h' + 1) gg) 27 N) pg := fun gg => by
    show _ = am_ar (am_new h' 101 σ.1.toNat) (am_fr (am_new h' 101 σ.1.toNat) 27 N) pg
    rw [e27, x_arn x8.1.2.1]
  generalize hgg : am_ar h' (am_fr h' 27 N) pg = g at *
  have sz1 : am_sz (am_new h' 101 σ.1.toNat) = am_sz h' + 1 := rfl
  have us1 : am_us (am_new h' 101 σ.1.toNat) = am_us h' + σ.1.toNat := rfl
  have l5 : am_ln (am_new h' 101 σ.1.toNat) (am_sz h' + 1) = σ.1 := (x_lnn0 rfl).trans (by omega)
  have g18 : am_fi (am_new h' 101 σ.1.toNat) 18 N = S 0 0 0 := (x_fin Nle).trans x1.2.2.1
  have gr5 : g ≠ am_sz h' + 1 := by
    have := m1.2.1
    omega
  have main := x_lock2 (K := K) (L := L) (x := x) (P := P) (N := N) (S := S) (B := B) (pg := pg) (m := m) (f := am_sz h + 2) (r5 := am_sz h' + 1) (g := g) (a2 := fA h 2) (a3 := fA h 3) (a4 := fA h 4) (n := n) (st := st) (σ := σ) (h1 := am_new h' 101 σ.1.toNat) (d := d) (by omega) hC hF hA hH c.1 (by omega) hs gd hb (fun gg => Nt_fx0 (F1 gg) t) ((x_tyn xle).trans tx) ((x_frn xle).trans fN) ((x_tyn y2.2.2).trans y2.1) ((x_tyn m1.2.1).trans m1.1) ((x_fin m1.2.1).trans m2) ((x_frn y2.2.2).trans b2.1) ((x_frn y2.2.2).trans b3.1) ((x_frn y2.2.2).trans b4.1) ((x_tyn b2.2.2.2.1.2).trans b2.2.1) ((x_tyn b3.2.2.2.1.2).trans b3.2.1) ((x_tyn b4.2.2.2.1.2).trans b4.2.1) ((x_lnn b2.2.2.2.1.2).trans b2.2.2.1) ((x_lnn b3.2.2.2.1.2).trans b3.2.2.1) ((x_lnn b4.2.2.2.1.2).trans b4.2.2.1) (by have := b2.2.2.2.1.2; omega) (by have := b3.2.2.2.1.2; omega) (by have := b4.2.2.2.1.2; omega) (fun j j0 j1 => by rw [x_ain b2.2.2.2.1.2]; exact y7 j j0 j1) (fun j j0 j1 => by rw [x_ain b3.2.2.2.1.2]; exact (yk j j0 j1).1) (fun j j0 j1 => by rw [x_ain b4.2.2.2.1.2]; exact (yk j j0 j1).2) (x_tyn0 rfl) l5 (fun na gg => H4' (fun w => na w.2) _ L (Nt_fx0 (F1 gg) t) (Out_fx0 t.1 (F1 gg) (by show am_sz h' + 1 ≤ _; omega) (by show am_us h' + σ.1.toNat ≤ _; omega))) ?_ (am_ai (am_new h' 101 σ.1.toNat) (am_sz h' + 1))
  · rw [wai_id] at main
    exact main _ _ _ _
  · intro ar gg vg o8 o9 o10 o11
    have H0'' := H0' hb ar
    have T := Nt_fx0 (F1 gg) t
    have FF := F1 gg
    have egg := eg gg
    have fi33 : am_fi (am_wai (am_new h' 101 σ.1.toNat) (am_sz h' + 1) gg) 33 g = S 8 pg 0 := (x_fin (t := 101) (n := σ.1.toNat) m1.2.1).trans m2
    have tgk : am_ty (am_wai (am_new h' 101 σ.1.toNat) (am_sz h' + 1) gg) g = 4 := (x_tyn (t := 101) (n := σ.1.toNat) m1.2.1).trans m1.1
    have frx : am_fr (am_wai (am_new h' 101 σ.1.toNat) (am_sz h' + 1) gg) 1 x = N := (x_frn (t := 101) (n := σ.1.toNat) xle).trans fN
    have txk : am_ty (am_wai (am_new h' 101 σ.1.toNat) (am_sz h' + 1) gg) x = 1 := (x_tyn (t := 101) (n := σ.1.toNat) xle).trans tx
    have k18 : am_fi (am_wai (am_new h' 101 σ.1.toNat) (am_sz h' + 1) gg) 18 N = S 0 0 0 := g18
    have i5 : iA (am_wai (am_new h' 101 σ.1.toNat) (am_sz h' + 1) gg) L (am_sz h' + 1) (lkV S st σ.2.1 σ.2.2 n 3).length (fun i => gt (lkV S st σ.2.1 σ.2.2 n 3) i.toNat) := by
      refine ⟨x_tyn0 (t := 101) (n := σ.1.toNat) rfl, Nat.le_refl _, by omega, t.1.2.2 _ r5h, l5.trans ll.symm, fun i i0 i1 => ?_⟩
      rw [x_aiwe]
      have q := vg i.toNat (by omega)
      have ei : ((i.toNat : Nat) : Int) = i := by omega
      rw [ei] at q
      exact q
    have sk : am_sz (am_wai (am_new h' 101 σ.1.toNat) (am_sz h' + 1) gg) = am_sz h' + 1 := rfl
    have uk : am_us (am_wai (am_new h' 101 σ.1.toNat) (am_sz h' + 1) gg) = am_us h' + σ.1.toNat := rfl
    generalize am_wai (am_new h' 101 σ.1.toNat) (am_sz h' + 1) gg = hk at *
    refine v_X1_lock_24 ?_
    rw [fi33, frx, k18]
    refine ⟨tgk, fun _ => ⟨⟨txk, T.2.2.2.1.1.1.1⟩, ?_⟩, fun z => absurd z (by omega)⟩
    have gN : g ≠ N := fun e => by
      have := T.2.2.2.1.1.1.1
      rw [← e, tgk] at this
      exact absurd this (by decide)
    have gx : g ≠ x := fun e => by
      rw [← e, tgk] at txk
      exact absurd txk (by decide)
    have am : fx (fun q => q = g) hk (am_sfi (am_sfi (am_sfr hk 37 g (am_sz h' + 1)) 35 g (S 0 0 0)) 36 g 0) := fx_sfi (fx_sfi (fx_sfr fx_refl (Or.inr rfl)) (Or.inr rfl)) (Or.inr rfl)
    have z33 : am_fi (am_sfi (am_sfi (am_sfr hk 37 g (am_sz h' + 1)) 35 g (S 0 0 0)) 36 g 0) 33 g = am_fi hk 33 g := (x_fif (by decide)).trans (x_fif (by decide))
    have z34 : am_fi (am_sfi (am_sfi (am_sfr hk 37 g (am_sz h' + 1)) 35 g (S 0 0 0)) 36 g 0) 34 g = am_fi hk 34 g := (x_fif (by decide)).trans (x_fif (by decide))
    have z35 : am_fi (am_sfi (am_sfi (am_sfr hk 37 g (am_sz h' + 1)) 35 g (S 0 0 0)) 36 g 0) 35 g = S 0 0 0 := (x_fif (by decide)).trans x_fie
    have z36 : am_fi (am_sfi (am_sfi (am_sfr hk 37 g (am_sz h' + 1)) 35 g (S 0 0 0)) 36 g 0) 36 g = 0 := x_fie
    have z37 : am_fr (am_sfi (am_sfi (am_sfr hk 37 g (am_sz h' + 1)) 35 g (S 0 0 0)) 36 g 0) 37 g = am_sz h' + 1 := x_fre (h := hk)
    have zs : am_sz (am_sfi (am_sfi (am_sfr hk 37 g (am_sz h' + 1)) 35 g (S 0 0 0)) 36 g 0) = am_sz hk := rfl
    have zu : am_us (am_sfi (am_sfi (am_sfr hk 37 g (am_sz h' + 1)) 35 g (S 0 0 0)) 36 g 0) = am_us hk := rfl
    have Tm := Nt_lk (v := 0) T c.1 egg am z33 z34 z35 z36 z37 i5
    generalize am_sfi (am_sfi (am_sfr hk 37 g (am_sz h' + 1)) 35 g (S 0 0 0)) 36 g 0 = hm2 at *
    have Ym : okY (lk0 S pg (lkV S st σ.2.1 σ.2.2 n 3) 0) := okY_c (lk0_c (by decide)) (lk0_c (by decide)) hY
    have sE : sty (lk0 S pg (lkV S st σ.2.1 σ.2.2 n 3) 0) (S 0 0 0) = sty S (S 0 0 0) := sty_c (lk0_c (by decide)) (lk0_c (by decide))
    have lb : (L g).1 = N ∧ (L g).2.1 = 8 := by
      rw [m1.2.2.2]
      exact ⟨rfl, rfl⟩
    refine x_styleM (by omega) Tm Ym (fun h2 q a2 s2 u2 q0 q1 => am_av (v_X1_lock_111 ?_))
    rw [sE] at q0 q1
    have e6 : lk0 S pg (lkV S st σ.2.1 σ.2.2 n 3) 0 6 = S 6 := lk0_c (by decide)
    rw [e6] at q1
    have a02 : fx (fun q => q = g) hk h2 := fx_trans2 am a2 (fun _ _ z => z.elim)
    have gle : g ≤ am_sz hm2 := by
      have := m1.2.1
      omega
    have wg := (a2.2.2.2 g gle).2.2 (fun z => z)
    have fin : ∀ v, v = lkD S pg → K (.inl (some (.inl (σ.1)))) (am_sfi h2 36 g v) := by
      intro v ev
      have a3 : fx (fun q => q = g) hk (am_sfi h2 36 g v) := fx_sfi a02 (Or.inr rfl)
      have T3 := Nt_lk (v := v) T c.1 egg a3 ((x_fif (by decide)).trans ((wg.1 33).trans z33)) ((x_fif (by decide)).trans ((wg.1 34).trans z34)) ((x_fif (by decide)).trans ((wg.1 35).trans z35)) x_fie ((wg.2.1 37).trans z37) i5
      rw [ev] at T3 ⊢
      refine H0'' _ L T3 (Out_le (Out_tr (Out_fx0 (dz := 88) (du := 451) t.1 FF (by omega) (by omega)) (Out_G (G := 8) (dz := 1) (du := 4) T.1 (by rw [ev] at a3; exact a3) (fun q _ e => by rw [e]; exact lb) (by show am_sz h2 ≤ _; omega) (by show am_us h2 ≤ _; omega))) (by omega) (by omega))
    have sb := sty_bd (S := S) (mi := S 0 0 0) hY
    by_cases cs : sty S (S 0 0 0) = -1
    · have eq := q0 cs
      refine v_X1_lock_114 ⟨fun _ => ?_, fun w => absurd eq w⟩
      have lt : lkT S pg = 600 := if_pos cs
      have ld : (0 : Int) = lkD S pg := by
        unfold lkD
        rw [lt, if_pos (by omega)]
      have f := fin 0 ld
      rw [sfi_id ((wg.1 36).trans z36)] at f
      exact f
    · have xs := q1 cs
      have y := hY.2 (sty S (S 0 0 0)) (by omega) sb.2
      have et : lkT S pg = ltR (S 6 (sty S (S 0 0 0))) pg (S 6 (sty S (S 0 0 0)) 1).toNat := if_neg cs
      have w2 := a02.2.2.2 x (by have := hx.2; omega)
      have wN := a02.2.2.2 N T.2.2.2.1.1.1.2.1
      have q := x_late (K := K) (d := d) (x := x) (N := N) (pg := pg) (m := m) (mi := S 0 0 0) (f := am_sz h + 2) (r5 := am_sz h' + 1) (q := q) (g := g) (h2 := h2) (y := S 6 (sty S (S 0 0 0))) (x6 := σ.1) (w2.1.trans txk) (((w2.2.2 (fun e => gx e.symm)).2.1 1).trans frx) (wN.1.trans T.2.2.2.1.1.1.1) (((wN.2.2 (fun e => gN e.symm)).1 18).trans k18) ((a02.2.2.2 g (by omega)).1.trans tgk) c0 xs y.2.1 (fun q a b => (y.2.2 q a b).2.2.1) (fin _ (by unfold ltD lkD; rw [et])) 0 (by omega) y.2.1.1 o9 o10 o11
      have z0 : ltD (S 6 (sty S (S 0 0 0))) pg (S 0 0 0) 0 = 0 := if_pos c0.2
      rw [z0, sfi_id ((wg.1 36).trans z36)] at q
      exact q
end
