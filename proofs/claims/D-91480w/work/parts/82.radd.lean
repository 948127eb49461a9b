set_option maxRecDepth 100000
/-! lists that grow, within the relation -/
def lbA (L : am_Lb) (h : am_H) (a : Nat) (b : Nat × Nat × Nat × Int) : am_Lb := fun q => if q = a ∧ am_sz h < q then b else L q
theorem rL_add {h h' : am_H} {L : am_Lb} {l o g k : Nat} {i n B : Int} (ok : okLb h L) (x : rL h L l o g k i n B) (f : fx (fun q => q = l ∨ (q = (am_fr h 194 l) ∧ am_fi h 195 l < am_ln h (am_fr h 194 l))) h h') (xm : xLm h' l) (e5 : am_fi h' 195 l = am_fi h 195 l + 1) (e3 : am_fi h' 193 l = am_fi h 193 l + 1) (hA : am_fr h' 194 l = (am_fr h 194 l) ∨ am_sz h < am_fr h' 194 l) (hg : am_ln h' (am_fr h' 194 l) = am_ln h (am_fr h 194 l) ∨ (am_fi h 195 l = am_ln h (am_fr h 194 l) ∧ am_ln h (am_fr h 194 l) < am_ln h' (am_fr h' 194 l))) : leL h L (lbA L h (am_fr h' 194 l) (o, g, k + 1, i)) ∧ okLb h' (lbA L h (am_fr h' 194 l) (o, g, k + 1, i)) ∧ rL h' (lbA L h (am_fr h' 194 l) (o, g, k + 1, i)) l o g k i (n + 1) (B + 1) := by
  obtain ⟨x1, x2, x3, x4, x5, x6⟩ := x
  have ls := x1.1.2.2.2.2.1
  have as := x1.1.2.2.2.2.2
  have sz0 := x1.1.2.2.1
  have le : leL h L (lbA L h (am_fr h' 194 l) (o, g, k + 1, i)) := fun q hq => if_neg (fun z => absurd z.2 (by omega))
  have pos : 0 < am_ln h' (am_fr h' 194 l) := by
    have := xm.1.2.2.1
    omega
  refine ⟨le, ⟨(f.2.2.2 0 (Nat.zero_le _)).1.trans ok.1, fun q hq t => ?_, fun q hq => ?_⟩, xm, x2, (le l ls).trans x3, fun _ => ?_, by rw [e5, x5], by rw [e3]; omega⟩
  · by_cases c : q = am_fr h' 194 l ∧ am_sz h < q
    · exfalso
      have t1 := xm.2.2.2 pos
      rw [c.1, t1] at t
      unfold imT at t
      omega
    · have e : lbA L h (am_fr h' 194 l) (o, g, k + 1, i) q = L q := if_neg c
      rw [e]
      by_cases c2 : q ≤ am_sz h
      · rw [(f.2.2.2 q c2).1] at t
        exact ok.2.1 q c2 t
      · exact ok.2.2 q (by omega)
  · have as' := xm.1.2.2.2.2.2
    have e : lbA L h (am_fr h' 194 l) (o, g, k + 1, i) q = L q := if_neg (fun z => absurd z.1 (by omega))
    rw [e]
    exact ok.2.2 q (Nat.lt_of_le_of_lt f.1 hq)
  · rcases hA with e | e
    · have l0 := (f.2.2.2 _ as).2.1
      rw [e] at hg pos ⊢
      rw [l0] at hg pos
      have e2 : lbA L h (am_fr h 194 l) (o, g, k + 1, i) (am_fr h 194 l) = L (am_fr h 194 l) := if_neg (fun z => absurd z.2 (by omega))
      rw [e2]
      exact x4 (by omega)
    · exact if_pos ⟨rfl, e⟩
theorem rL_X {h : am_H} {L : am_Lb} {l o g k : Nat} {i n B : Int} (x : rL h L l o g k i n B) : ∀ q, q ≤ am_sz h → (fun q => q = l ∨ (q = (am_fr h 194 l) ∧ am_fi h 195 l < am_ln h (am_fr h 194 l))) q → (L q).1 = o ∧ (L q).2.1 = g := fun q hq z => by
  rcases z with e | e
  · rw [e, x.2.2.1]
    exact ⟨rfl, rfl⟩
  · rw [e.1, x.2.2.2.1 (by have := x.1.1.2.2.1; omega)]
    exact ⟨rfl, rfl⟩
theorem lbA_n {L : am_Lb} {h h' : am_H} {a o g k : Nat} {i : Int} (ok : okLb h L) : ∀ q, am_sz h < q → (lbA L h a (o, g, k, i) q).1 = 0 ∨ (lbA L h a (o, g, k, i) q).1 = o := fun q hq => by
  unfold lbA
  by_cases c : q = a ∧ am_sz h < q
  · rw [if_pos c]
    exact Or.inr rfl
  · rw [if_neg c]
    exact Or.inl (ok.2.2 q hq)
/-- the list of the night has changed, not the room, not the night -/
theorem rL_go {h h' : am_H} {L : am_Lb} {x P N : Nat} {S : am_G} {B : Int} {l g k : Nat} {i n B' : Int} (t : Nt h L x P N S B) (hx : am_ty h x = 1) (hN : am_fr h 1 x = N) (hz : x ≤ am_sz h) (hl : L x = (x, 0, 0, 0)) (rl : rL h L l N g k i n B') (hg : g ≠ 0) (f : fx (fun q => q = l ∨ (q = (am_fr h 194 l) ∧ am_fi h 195 l < am_ln h (am_fr h 194 l))) h h') : (am_ty h' x = 1 ∧ am_fr h' 1 x = N ∧ am_ty h' N = 3) ∧ (∀ f, am_fr h' f N = am_fr h f N) ∧ (∀ q, q ≤ am_sz h → (fun q => q = l ∨ (q = (am_fr h 194 l) ∧ am_fi h 195 l < am_ln h (am_fr h 194 l))) q → ¬ imT (am_ty h q)) := by
  have lb := rL_X rl
  have x1 := t.2.2.2.1.1.1
  have nx : ¬ (fun q => q = l ∨ (q = (am_fr h 194 l) ∧ am_fi h 195 l < am_ln h (am_fr h 194 l))) x := fun z => by
    have e := (lb x hz z).1
    rw [hl] at e
    exact t.2.2.2.2.1 e
  have nN : ¬ (fun q => q = l ∨ (q = (am_fr h 194 l) ∧ am_fi h 195 l < am_ln h (am_fr h 194 l))) N := fun z => by
    have e := (lb N x1.2.1 z).2
    rw [x1.2.2.2] at e
    exact hg e.symm
  have b := f.2.2.2 x hz
  have c := f.2.2.2 N x1.2.1
  refine ⟨⟨b.1.trans hx, ((b.2.2 nx).2.1 1).trans hN, c.1.trans x1.1⟩, (c.2.2 nN).2.1, fun q hq z y => ?_⟩
  have y1 := t.1.2.1 q hq y
  rw [(lb q hq z).1] at y1
  exact t.2.2.2.2.2.2 y1
/-- new cells are labelled -/
theorem Nt_fxL {h h' : am_H} {L L' : am_Lb} {x P N : Nat} {S : am_G} {B : Int} (a : fx (fun _ => False) h h') (le : leL h L L') (ok : okLb h' L') (t : Nt h L x P N S B) : Nt h' L' x P N S B := by
  obtain ⟨t1, t2, t3, t4, t5⟩ := t
  exact ⟨ok, cs_fx a t2, rPap_fx a le (fun _ _ z => z.elim) t3, Rep_fx (Int.le_refl _) a le t1 t2.1 (fun _ _ z => z.elim) t4, t5⟩
/-- the night's own numbers are others -/
theorem Nt_0 {h h' : am_H} {L : am_Lb} {x P N : Nat} {S S' : am_G} {B : Int} (t : Nt h L x P N S B) (a : fx (fun q => q = N) h h') (hr : ∀ f, am_fr h' f N = am_fr h f N) (eS : ∀ c, c ≠ 0 → S' c = S c) (e2 : S' 0 0 2 = S 0 0 2) (e4 : S' 0 0 4 = S 0 0 4) (e5 : S' 0 0 5 = S 0 0 5) (e6 : S' 0 0 6 = S 0 0 6) (y : rN h' L N P S') (y3 : rP h' L N (am_fr h 20 N) S') (y5 : rM h' L N (am_fr h 23 N) S' B) (y10 : rR h' L N (am_fr h 30 N) (am_fr h 31 N) S') : Nt h' L x P N S' B := by
  obtain ⟨t1, t2, t3, ⟨x1, x2, x3, x4, x5, x6, x7, x8, x9, x10⟩, t5⟩ := t
  have z := zfg (h := h) (G := 0) t5.2.2 (nd_one x1.1)
  exact ⟨okLb_fx a t1, cs_fx a t2, rPap_fx a leL_refl (fun q hq w u => t5.1 (u.1.symm.trans (nd_one x1.1 q hq w).1)) t3, Rep_mk (h := h) hr ⟨y, rW_fx a leL_refl t1 t2.1 (z 1 (by decide)) (eS 1 (by decide)) x2, y3, rY_fx a leL_refl t1 t2.1 (z 6 (by decide)) (Int.le_refl _) e2 (eS 6 (by decide)) x4, y5, rG_fx a leL_refl t1 t2.1 (z 4 (by decide)) (Int.le_refl _) e4 (fun _ _ _ => by rw [eS 2 (by decide)]) (eS 4 (by decide)) x6, rT_fx a leL_refl t1 t2.1 (z 7 (by decide)) (Int.le_refl _) e5 (eS 7 (by decide)) x7, rH_fx a leL_refl t1 t2.1 (z 8 (by decide)) (eS 8 (by decide)) x8, rE_fx a leL_refl t1 t2.1 (z 9 (by decide)) (Int.le_refl _) e6 (eS 9 (by decide)) x9, y10⟩, t5⟩
section
variable {K : am_K} {h : am_H}
/-- it is told where a slug is -/
theorem X_carry {L : am_Lb} {x P N : Nat} {S : am_G} {B : Int} {s w m : Int} {D : Nat} (hD : 90 ≤ D) (t : Nt h L x P N S B) (hx : am_ty h x = 1) (hN : am_fr h 1 x = N) (hC : okC S) (hz : x ≤ am_sz h) (hl : L x = (x, 0, 0, 0)) (hB : B ≤ 1000000) (hG : okG S) (H0 : ¬ (0 ≤ s ∧ s < S 0 0 4) → XT h L x P N S B K 33) (H2 : 0 ≤ s ∧ s < S 0 0 4 → ¬ ((0 ≤ w ∧ w ≤ 9) ∧ (S 4 s 2 ≤ m ∧ m ≤ S 0 0 0)) → XT h L x P N S B K 35) (H3 : 0 ≤ s ∧ s < S 0 0 4 → (0 ≤ w ∧ w ≤ 9) ∧ (S 4 s 2 ≤ m ∧ m ≤ S 0 0 0) → S 0 0 5 = 200 → XA h L x P N S B K (-1) 0 0) (H1 : 0 ≤ s ∧ s < S 0 0 4 → (0 ≤ w ∧ w ≤ 9) ∧ (S 4 s 2 ≤ m ∧ m ≤ S 0 0 0) → S 0 0 5 ≠ 200 → XA h L x P N (u3 (u3 (u3 (u3 (u3 S 7 (S 0 0 5) 0 s) 7 (S 0 0 5) 1 w) 7 (S 0 0 5) 2 m) 7 (S 0 0 5) 3 (S 0 0 0)) 0 0 5 (S 0 0 5 + 1)) (B + 1) K (S 0 0 5 + 1) 1001 5004) : am_ev am_prog D 165 [.inr (.inl x), .inl s, .inl w, .inl m] h K := by
  obtain ⟨g1, g2, g3, g4⟩ := G_fc t
  obtain ⟨u1, u2, u4⟩ := T_fc t
  have c4 := hG.1
  have c5 := hC.2.2.2.1
  have x1 := t.2.2.2.1.1
  obtain ⟨d, rfl⟩ : ∃ d, D = d + 13 := ⟨D - 13, by omega⟩
  refine am_en p_X1_carry rfl rfl ?_
  refine v_X1_carry_0 ?_
  rw [hN, g2, u2, x1.2.2.1]
  refine ⟨hx, g3, g1.1, by omega, fun c => ?_, fun c => XT_go t (H0 (by omega))⟩
  have q := g4 s c.1 (by omega)
  rw [q.2.2.2.1]
  refine ⟨⟨g1, by omega⟩, Or.inr (G_ty q), fun d => XT_go t (H2 (by omega) (by omega)), fun d => ⟨G_ty q, fun e => XT_go t (H2 (by omega) (by omega)), fun e => ⟨u1.1, fun f => ⟨⟨hz, x1.1.2.1⟩, u1.2.2.2.2.1, ?_⟩, fun f => XA_id t (H3 (by omega) (by omega) f)⟩⟩⟩
  have HH := H1 (by omega) (by omega) f
  -- the telling
  generalize hh1 : am_sfi (am_sfi (am_sfi (am_sfi (am_new h 25 4) 166 (am_sz h + 1) s) 167 (am_sz h + 1) w) 168 (am_sz h + 1) m) 169 (am_sz h + 1) (S 0 0 0) = h1
  have a : fx (fun _ => False) h h1 := by
    rw [← hh1]
    exact fx_sfi (fx_sfi (fx_sfi (fx_sfi (fx_new fx_refl) (Or.inl (by omega))) (Or.inl (by omega))) (Or.inl (by omega))) (Or.inl (by omega))
  have z1 : am_sz h1 = am_sz h + 1 := by rw [← hh1]; rfl
  have uu1 : am_us h1 = am_us h + 4 := by rw [← hh1]; rfl
  have te : iTe h1 (am_sz h + 1) (fun o => if o = 0 then s else if o = 1 then w else if o = 2 then m else S 0 0 0) := by
    refine ⟨?_, by omega, by omega, ?_, ?_, ?_, ?_⟩
    · rw [← hh1]
      exact x_tyn0 (h := h) (t := 25) (n := 4) rfl
    · rw [← hh1, x_fif (by decide), x_fif (by decide), x_fif (by decide), x_fie]
      rfl
    · rw [← hh1, x_fif (by decide), x_fif (by decide), x_fie]
      rfl
    · rw [← hh1, x_fif (by decide), x_fie]
      rfl
    · rw [← hh1, x_fie]
      rfl
  have t1 := Nt_fx0 a t
  have eN : am_fr h1 26 N = am_fr h 26 N := ((a.2.2.2 N x1.1.2.1).2.2 id).2.1 26
  have x7 := t1.2.2.2.1.2.2.2.2.2.2.1
  have hN1 : am_fr h1 1 x = N := (((a.2.2.2 x hz).2.2 id).2.1 1).trans hN
  have hx1 : am_ty h1 x = 1 := (a.2.2.2 x hz).1.trans hx
  rw [← eN]
  have rl := x7.1
  have rl5 := rl.2.2.2.2.1
  have rl6 := rl.2.2.2.2.2
  refine c_add rl.1 (fun e => by rw [← e, rl5]; omega) ⟨by omega, by rw [te.1]; simp [am_tin]⟩ (by omega) (by omega) (fun h' fr xm e5 e3 el en hA hs hu hg => am_av (v_X1_carry_42 ?_))
  obtain ⟨le, ok2, rl2⟩ := rL_add t1.1 rl fr xm e5 e3 hA hg
  have lN : ∀ q, am_sz h1 < q → (lbA L h1 (am_fr h' 194 (am_fr h1 26 N)) (N, 7, 0 + 1, 0) q).1 = 0 ∨ (lbA L h1 (am_fr h' 194 (am_fr h1 26 N)) (N, 7, 0 + 1, 0) q).1 = N := lbA_n (h' := h') t1.1
  generalize lbA L h1 (am_fr h' 194 (am_fr h1 26 N)) (N, 7, 0 + 1, 0) = L2 at le ok2 rl2 lN
  have f26 := rL_X rl
  obtain ⟨r1, r2, nim⟩ := rL_go t1 hx1 hN1 (by omega) hl rl (by decide) fr
  rw [rl5] at e5 el en
  have t' : Nt h' L2 x P N (u3 (u3 (u3 (u3 (u3 S 7 (S 0 0 5) 0 s) 7 (S 0 0 5) 1 w) 7 (S 0 0 5) 2 m) 7 (S 0 0 5) 3 (S 0 0 0)) 0 0 5 (S 0 0 5 + 1)) (B + 1) := by
    refine Nt_7 t1 (by omega) fr le ok2 f26 (fun c c1 c2 => by rw [u3_r c2, u3_r c1, u3_r c1, u3_r c1, u3_r c1]) (fun j hj => by rw [u3_no hj, u3_nc (by decide), u3_nc (by decide), u3_nc (by decide), u3_nc (by decide)]) ?_
    unfold rT
    rw [u3_eq]
    refine ⟨rl2, fun k k1 k2 => ?_⟩
    by_cases ek : k = S 0 0 5
    · rw [ek, en]
      have te' := iTe_fx fr nim te
      obtain ⟨v1, v2, v3, v4, v5, v6, v7⟩ := te'
      refine ⟨v1, v2, v3, ?_, ?_, ?_, ?_⟩
      · rw [u3_nc (by decide), u3_no (by decide), u3_no (by decide), u3_no (by decide), u3_eq]
        exact v4
      · rw [u3_nc (by decide), u3_no (by decide), u3_no (by decide), u3_eq]
        exact v5
      · rw [u3_nc (by decide), u3_no (by decide), u3_eq]
        exact v6
      · rw [u3_nc (by decide), u3_eq]
        exact v7
    · rw [el k k1 (by omega), u3_r (by decide), u3_rp ek, u3_rp ek, u3_rp ek, u3_rp ek]
      exact iTe_fx fr nim (x7.2 k k1 (by omega))
  have o1 : Out h L x N h1 L 1 4 := Out_fx0 t.1 a (by omega) (by omega)
  have ob : Out h L x N h' L2 1001 5004 := Out_tr (d2 := 1000) (u2 := 5000) o1 ⟨fx_sub fr (fun q hq z => Or.inl (f26 q hq z).1), le, ⟨by have := xm.2.1; have := rl.1.1.2.2.1; omega, by have := xm.2.1; have := rl.1.1.2.2.1; omega⟩, fun q hq => (lN q hq).elim Or.inl (fun e => Or.inr (Or.inl e))⟩
  rw [r1.2.1, r2 26]
  refine ⟨⟨r1.1, r1.2.2⟩, xm.1.1, ?_⟩
  rw [e5]
  exact HH h' L2 t' ob
/-- an edition -/
theorem X_edition {L : am_Lb} {x P N : Nat} {S : am_G} {B : Int} {S' : am_G} {D : Nat} (hD : 90 ≤ D) (t : Nt h L x P N S B) (hx : am_ty h x = 1) (hN : am_fr h 1 x = N) (hC : okC S) (hz : x ≤ am_sz h) (hl : L x = (x, 0, 0, 0)) (hB : B ≤ 1000000) (eS : ∀ c, c ≠ 9 → c ≠ 0 → S' c = S c) (e0 : ∀ j, j ≠ 6 → S' 0 0 j = S 0 0 j) (e6 : S' 0 0 6 = S 0 0 6 + 1) (e9 : ∀ e p, 0 ≤ e → e < S 0 0 6 → 0 ≤ p → p < 6 → S' 9 (6 * e + p) = S 9 (6 * e + p)) (en : ∀ p, 0 ≤ p → p < 6 → S' 9 (6 * S 0 0 6 + p) 0 = S 8 p 2 ∧ ∀ i, 0 ≤ i → i < S 8 p 2 → S' 9 (6 * S 0 0 6 + p) (1 + i) = S 8 p (5 + i)) (H0 : S 0 0 6 = 8 → XT h L x P N S B K 37) (H1 : S 0 0 6 ≠ 8 → XA h L x P N S' (B + 1) K (S 0 0 6) 1002 5007) : am_ev am_prog D 107 [.inr (.inl x)] h K := by
  obtain ⟨x1, x2, x3, x4, x5, x6, x7, x8, x9, x10⟩ := t.2.2.2.1
  have c6 := hC.2.2.2.2.1
  obtain ⟨d, rfl⟩ : ∃ d, D = d + 13 := ⟨D - 13, by omega⟩
  refine am_en p_X1_edition rfl rfl ?_
  refine v_X1_edition_0 ?_
  rw [hN, x9.1.2.2.2.2.1]
  refine ⟨⟨hx, x1.1.1⟩, x9.1.1.1.1, fun c => XT_go t (H0 (by omega)), fun c => ?_⟩
  have HH := H1 (by omega)
  have main : ∀ k, 0 ≤ k → k ≤ 6 → ∀ hk, fx (fun _ => False) h hk → am_sz hk = am_sz h + 1 → am_us hk = am_us h + 6 → am_ty hk (am_sz h + 1) = 110 → am_ln hk (am_sz h + 1) = 6 → (∀ p, 0 ≤ p → p < k → am_ar hk (am_sz h + 1) p = am_fr h 37 (am_ar h (am_fr h 27 N) p)) → am_W m_X1_edition (am_ev am_prog (d + 12)) K 15 [some (.inr (.inl (x))), some (.inr (.inl (am_sz h + 1))), some (.inl (k))] [] hk := by
    refine lp_z ?_ ?_
    · intro k k1 k2 hL hk a z u ty ln ar
      have tk := Nt_fx0 a t
      have y1 := tk.2.2.2.1.1
      have y8 := tk.2.2.2.1.2.2.2.2.2.2.2.1
      have hNk : am_fr hk 1 x = N := (((a.2.2.2 x hz).2.2 id).2.1 1).trans hN
      have e27 : am_fr hk 27 N = am_fr h 27 N := ((a.2.2.2 N x1.1.2.1).2.2 id).2.1 27
      have ear : am_ar hk (am_fr h 27 N) = am_ar h (am_fr h 27 N) := ((a.2.2.2 _ x8.1.2.1).2.2 id).2.2.2
      have pk := x8.2.2 k k1 (by omega)
      have e37 : am_fr hk 37 (am_ar h (am_fr h 27 N) k) = am_fr h 37 (am_ar h (am_fr h 27 N) k) := ((a.2.2.2 _ pk.1.2.1).2.2 id).2.1 37
      have t4 : am_ty hk (am_ar h (am_fr h 27 N) k) = 4 := (a.2.2.2 _ pk.1.2.1).1.trans pk.1.1
      have t101 : am_ty hk (am_fr h 37 (am_ar h (am_fr h 27 N) k)) = 101 := (a.2.2.2 _ pk.2.2.2.2.2.2.1).1.trans pk.2.2.2.2.2.1
      refine v_X1_edition_15 ?_
      rw [hNk, e27, ear, e37, ln]
      refine ⟨fun f => absurd f (by omega), fun _ => ⟨⟨(a.2.2.2 x hz).1.trans hx, y1.1.1, ?_, by rw [(a.2.2.2 _ x8.1.2.1).2.1, x8.2.1]; omega, t4, ty, Or.inr (by rw [t101]; simp [am_tin]), by omega⟩, by omega, ?_⟩⟩
      · have := y8.1.1
        rw [e27] at this
        exact this
      · refine hL _ (fx_sar a (Or.inl (by omega))) z u ty ln (fun p p1 p2 => ?_)
        rw [x_arse]
        by_cases ep : p = k
        · rw [ep, am_uz_eq]
        · rw [am_uz_ne ep]
          exact ar p p1 (by omega)
    · intro hk a z u ty ln ar
      have hNk : am_fr hk 1 x = N := (((a.2.2.2 x hz).2.2 id).2.1 1).trans hN
      have e28 : am_fr hk 28 N = am_fr h 28 N := ((a.2.2.2 N x1.1.2.1).2.2 id).2.1 28
      have el28 := x9.1.1.1.2.2.2.2.1
      refine v_X1_edition_15 ?_
      rw [hNk, e28]
      refine ⟨fun _ => ⟨⟨(a.2.2.2 x hz).1.trans hx, (a.2.2.2 N x1.1.2.1).1.trans x1.1.1⟩, ⟨by omega, (a.2.2.2 _ el28).1.trans x9.1.1.1.1⟩, ?_⟩, fun f => absurd f (by omega)⟩
      -- the edition's cell
      generalize hh1 : am_sfr (am_new hk 27 1) 178 (am_sz hk + 1) (am_sz h + 1) = h1
      have a1 : fx (fun _ => False) hk h1 := by
        rw [← hh1]
        exact fx_sfr (fx_new fx_refl) (Or.inl (by omega))
      have a01 := fx_trans a a1
      have z1 : am_sz h1 = am_sz h + 2 := by
        rw [← hh1]
        show am_sz hk + 1 = _
        omega
      have uu1 : am_us h1 = am_us h + 7 := by
        rw [← hh1]
        show am_us hk + 1 = _
        omega
      have eE : am_sz hk + 1 = am_sz h + 2 := by omega
      have ty1 : am_ty h1 (am_sz h + 2) = 27 := by
        rw [← hh1, ← eE]
        exact x_tyn0 (h := hk) (t := 27) (n := 1) rfl
      have f178 : am_fr h1 178 (am_sz h + 2) = am_sz h + 1 := by
        rw [← hh1, ← eE]
        exact x_fre
      have r1 := a1.2.2.2 (am_sz h + 1) (by omega)
      have t1 := Nt_fx0 a01 t
      have L0 : ∀ q, am_sz h < q → (L q).1 = 0 := t.1.2.2
      have ied : iEd h1 L (am_sz h + 2) S' (S 0 0 6) := by
        refine ⟨ty1, by omega, by omega, ?_⟩
        rw [f178]
        refine ⟨r1.1.trans ty, by omega, L0 _ (by omega), r1.2.1.trans ln, fun p p1 p2 => ?_⟩
        rw [(r1.2.2 id).2.2.2, ar p p1 p2, (en p p1 p2).1]
        have pa := iA_fx a01 (leL_refl (L := L)) (fun _ _ z => z.elim) (x8.2.2 p p1 p2).2.2.2.2.2
        refine ⟨pa.1, pa.2.1, pa.2.2.1, pa.2.2.2.1, pa.2.2.2.2.1, fun i i1 i2 => ?_⟩
        rw [pa.2.2.2.2.2 i i1 i2]
        exact ((en p p1 p2).2 i i1 i2).symm
      have eN : am_fr h1 28 N = am_fr h 28 N := ((a01.2.2.2 N x1.1.2.1).2.2 id).2.1 28
      have x7 := t1.2.2.2.1.2.2.2.2.2.2.2.2.1
      have hN1 : am_fr h1 1 x = N := (((a01.2.2.2 x hz).2.2 id).2.1 1).trans hN
      have hx1 : am_ty h1 x = 1 := (a01.2.2.2 x hz).1.trans hx
      rw [← eN, eE]
      have rl := x7.1
      have rl5 := rl.2.2.2.2.1
      have rl6 := rl.2.2.2.2.2
      refine c_add rl.1 (fun e => by rw [← e, rl5]; omega) ⟨by omega, by rw [ty1]; simp [am_tin]⟩ (by omega) (by omega) (fun h' fr xm e5 e3 el en' hA hs hu hg => am_av (v_X1_edition_37 ?_))
      obtain ⟨le, ok2, rl2⟩ := rL_add t1.1 rl fr xm e5 e3 hA hg
      have lN : ∀ q, am_sz h1 < q → (lbA L h1 (am_fr h' 194 (am_fr h1 28 N)) (N, 9, 0 + 1, 0) q).1 = 0 ∨ (lbA L h1 (am_fr h' 194 (am_fr h1 28 N)) (N, 9, 0 + 1, 0) q).1 = N := lbA_n (h' := h') t1.1
      generalize lbA L h1 (am_fr h' 194 (am_fr h1 28 N)) (N, 9, 0 + 1, 0) = L2 at le ok2 rl2 lN
      have f26 := rL_X rl
      obtain ⟨r1, r2, nim⟩ := rL_go t1 hx1 hN1 (by omega) hl rl (by decide) fr
      rw [rl5] at e5 el en'
      have fi : ∀ q, q ≤ am_sz h1 → _ → (L q).1 ≠ 0 ∧ ¬ imT (am_ty h1 q) := fun q hq z => ⟨by rw [(f26 q hq z).1]; exact t.2.2.2.2.2.2, nim q hq z⟩
      have t' : Nt h' L2 x P N S' (B + 1) := by
        refine Nt_9 t1 (by omega) fr le ok2 f26 eS e0 ?_
        unfold rE
        rw [e6]
        refine ⟨rl2, fun k k1 k2 => ?_⟩
        by_cases ek : k = S 0 0 6
        · rw [ek, en']
          exact iEd_fx fr le fi rfl ied
        · rw [el k k1 (by omega)]
          have ik := iEd_fx (S' := S) fr le fi rfl (x7.2 k k1 (by omega))
          obtain ⟨v1, v2, v3, v4, v5, v6, v7, v8⟩ := ik
          refine ⟨v1, v2, v3, v4, v5, v6, v7, fun p p1 p2 => ?_⟩
          rw [e9 k p k1 (by omega) p1 p2]
          exact v8 p p1 p2
      have o1 : Out h L x N h1 L 2 7 := Out_fx0 t.1 a01 (by omega) (by omega)
      have ob : Out h L x N h' L2 1002 5007 := Out_tr (d2 := 1000) (u2 := 5000) o1 ⟨fx_sub fr (fun q hq z => Or.inl (f26 q hq z).1), le, ⟨by have := xm.2.1; have := rl.1.1.2.2.1; omega, by have := xm.2.1; have := rl.1.1.2.2.1; omega⟩, fun q hq => (lN q hq).elim Or.inl (fun e => Or.inr (Or.inl e))⟩
      rw [r1.2.1, r2 28]
      refine ⟨⟨r1.1, r1.2.2⟩, xm.1.1, ?_⟩
      rw [e5]
      refine ⟨by omega, ?_⟩
      have e1 : S 0 0 6 + 1 - 1 = S 0 0 6 := by omega
      rw [e1]
      exact HH h' L2 t' ob
  exact main 0 (by omega) (by omega) _ fx0_new rfl rfl (x_tyn0 rfl) (x_lnn0 rfl) (fun p p1 p2 => absurd p2 (by omega))
end
