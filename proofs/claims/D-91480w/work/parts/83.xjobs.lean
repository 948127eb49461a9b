set_option maxRecDepth 100000
/-! jobs, machines -/
theorem iPc_d {h : am_H} {L : am_Lb} {a : Nat} {v v' : Int → Int} (e1 : v' 1 = v 1) (e : ∀ o, 85 ≤ o → v' o = v o) (x : iPc h L a v) : iPc h L a v' := by
  obtain ⟨⟨x1, x2, x3, x4⟩, x5, x6⟩ := x
  unfold iPc xPc
  refine ⟨⟨x1, x2.trans e1.symm, fun k k1 k2 => ?_, x4⟩, x5, fun k k1 k2 => x6 k k1 (by omega)⟩
  rw [e1] at k2
  obtain ⟨y1, y2, ⟨y3, y4, y5⟩, y6⟩ := x3 k k1 k2
  rw [e (125 + k) (by omega)]
  refine ⟨y1, y2.trans (am_bc (ew_c e e1 k1).symm), ⟨y3, y4, fun i i1 i2 => ?_⟩, y6⟩
  rw [y5 i i1 i2]
  show 97 + v (165 + 12 * k + i) = 97 + v' (165 + 12 * k + i)
  rw [e (165 + 12 * k + i) (by omega)]
/-- a part is given -/
theorem Nt_gv {h : am_H} {L : am_Lb} {x P N : Nat} {S : am_G} {B : Int} {p : Int} {g : Nat} (t : Nt h L x P N S B) (hp : isP S p) (hp2 : 0 ≤ p ∧ p < 100) (c3 : S 3 p 3 = 0) (hg : g = am_ar h (am_fr h 20 N) p) : Nt (am_sfi h 115 g 1) L x P N (u3 S 3 p 2 1) B := by
  have x3 := t.2.2.2.1.2.2.1
  have xp := (x3.2.2 p hp2.1 hp2.2).2 hp
  rw [← hg] at xp
  have a : fx (fun q => q = g) h (am_sfi h 115 g 1) := fx_sfi fx_refl (Or.inr rfl)
  have r5 : u3 S 3 p 2 1 5 = S 5 := u3_r (by decide)
  refine Nt_3 t (Int.le_refl _) a leL_refl (okLb_fx a t.1) (nd_one xp.1) (fun c c1 _ => u3_r c1) (fun j => u3_nc (by decide)) (u3_r (by decide)) (fun k i _ _ _ _ => ?_) ?_
  · unfold bhd
    rw [r5, u3_no (by decide), u3_no (by decide)]
  refine rP_one a leL_refl t.1 t.2.2.2.2.2.2 t.2.1.1 (p := p) (fun q hq e => ?_) (u3_nc (by decide)) (u3_r (by decide)) (fun q e => u3_rp e) x3 (fun _ => ?_)
  · rw [e, xp.1.2.2.2]
    exact ⟨rfl, rfl, by show (1 : Nat) ≠ 0; decide, rfl⟩
  · rw [← hg]
    obtain ⟨q1, q2, q3, q4, q5, q6, q7, q8, q9⟩ := xp
    have q7' := iPc_fx a (leL_refl (L := L)) (fun q hq e => by rw [e, q1.1, q1.2.2.2]; exact ⟨t.2.2.2.2.2.2, by unfold imT; omega⟩) q7
    refine ⟨⟨q1.1, q1.2.1, q1.2.2⟩, ?_, ?_, ?_, ?_, ?_, iPc_d (u3_no (by decide)) (fun o ho => u3_no (by omega)) q7', fun _ => q8 c3, fun c => absurd (by rw [u3_no (by decide)]; exact c3) c⟩
    · rw [x_fif (by decide)]
      exact q2
    · rw [x_fif (by decide), u3_nc (by decide)]
      exact q3
    · rw [x_fif (by decide), u3_nc (by decide)]
      exact q4
    · rw [x_fif (by decide), u3_no (by decide)]
      exact q5
    · rw [x_fie, u3_eq]
section
variable {K : am_K} {h : am_H}
/-- a job is put behind a machine's queue -/
theorem x_addJ {L : am_Lb} {x P N : Nat} {S : am_G} {B : Int} {S' : am_G} {k : Int} {h1 : am_H} {d : Nat} {du : Nat} (t : Nt h L x P N S B) (hx : am_ty h x = 1) (hN : am_fr h 1 x = N) (hz : x ≤ am_sz h) (hl : L x = (x, 0, 0, 0)) (hB : B ≤ 1000000) (hk : 0 ≤ k ∧ k < S 0 0 3) (hn : (S 5 k 29) < 30) (a : fx (fun _ => False) h h1) (z1 : am_sz h1 = am_sz h + 1) (u1 : am_us h1 ≤ am_us h + du) (ty : am_ty h1 (am_sz h + 1) = 22) (v1 : am_fi h1 151 (am_sz h + 1) = S' 5 k (33 + 5 * (S 5 k 29))) (v2 : am_fi h1 152 (am_sz h + 1) = S' 5 k (36 + 5 * (S 5 k 29))) (v3 : am_fi h1 153 (am_sz h + 1) = S' 5 k (34 + 5 * (S 5 k 29))) (v4 : am_fi h1 154 (am_sz h + 1) = bhd S' k (S 5 k 29)) (eS : ∀ c, c ≠ 5 → S' c = S c) (e5 : ∀ q, q ≠ k → S' 5 q = S 5 q) (e5k : ∀ o, o ≠ 29 → o < 33 + 5 * (S 5 k 29) → S' 5 k o = S 5 k o) (e29 : S' 5 k 29 = (S 5 k 29) + 1) (H : ∀ h' L', Nt h' L' x P N S' (B + 1) → Out h L x N h' L' 1001 (5000 + du) → am_ty h' (am_ar h (am_fr h 23 N) k) = 21 → am_fr h' 147 (am_ar h (am_fr h 23 N) k) = (am_fr h 147 (am_ar h (am_fr h 23 N) k)) → am_ty h' (am_fr h 147 (am_ar h (am_fr h 23 N) k)) = 31 → am_fi h' 195 (am_fr h 147 (am_ar h (am_fr h 23 N) k)) = (S 5 k 29) + 1 → K (.inl (some (.inl (1)))) h') : am_ev am_prog (d + 9) 205 [.inr (.inl (am_fr h 147 (am_ar h (am_fr h 23 N) k))), .inr (.inl (am_sz h + 1))] h1 K := by
  have x1 := t.2.2.2.1.1
  have x5 := t.2.2.2.1.2.2.2.2.1
  have mk := x5.2.2 k hk.1 hk.2
  -- labels: the job
  have le1 : leL h L (lbA L h (am_sz h + 1) (N, 5, 5, k)) := fun q hq => if_neg (fun z => absurd z.2 (by omega))
  have lj : lbA L h (am_sz h + 1) (N, 5, 5, k) (am_sz h + 1) = (N, 5, 5, k) := if_pos ⟨rfl, by omega⟩
  have ok1 : okLb h1 (lbA L h (am_sz h + 1) (N, 5, 5, k)) := by
    refine ⟨(a.2.2.2 0 (Nat.zero_le _)).1.trans t.1.1, fun q hq y => ?_, fun q hq => ?_⟩
    · by_cases c : q = am_sz h + 1
      · rw [c, ty] at y
        unfold imT at y
        omega
      · rw [le1 q (by omega)]
        rw [(a.2.2.2 q (by omega)).1] at y
        exact t.1.2.1 q (by omega) y
    · have e : lbA L h (am_sz h + 1) (N, 5, 5, k) q = L q := if_neg (fun z => absurd z.1 (by omega))
      rw [e]
      exact t.1.2.2 q (by omega)
  generalize lbA L h (am_sz h + 1) (N, 5, 5, k) = L1 at le1 lj ok1
  have t1 := Nt_fxL a le1 ok1 t
  have eM : am_fr h1 23 N = am_fr h 23 N := ((a.2.2.2 N x1.1.2.1).2.2 id).2.1 23
  have eA : am_ar h1 (am_fr h 23 N) = am_ar h (am_fr h 23 N) := ((a.2.2.2 _ x5.1.2.1).2.2 id).2.2.2
  have eQ : am_fr h1 147 (am_ar h (am_fr h 23 N) k) = (am_fr h 147 (am_ar h (am_fr h 23 N) k)) := ((a.2.2.2 _ mk.1.2.1).2.2 id).2.1 147
  have y5 := t1.2.2.2.1.2.2.2.2.1
  rw [eM] at y5
  have ym := y5.2.2 k hk.1 hk.2
  rw [eA] at ym
  obtain ⟨m1, m2, m3, m4, m5, m6, m7, m8, m9, m10⟩ := ym
  rw [eQ] at m10
  obtain ⟨rl, m11, m12⟩ := m10
  have rl5 := rl.2.2.2.2.1
  have rl6 := rl.2.2.2.2.2
  have hN1 : am_fr h1 1 x = N := (((a.2.2.2 x hz).2.2 id).2.1 1).trans hN
  have hx1 : am_ty h1 x = 1 := (a.2.2.2 x hz).1.trans hx
  have hl1 : L1 x = (x, 0, 0, 0) := (le1 x hz).trans hl
  have n0 : 0 ≤ (S 5 k 29) := by
    have := rl.1.1.2.2.1.1
    rw [rl5] at this
    exact this
  refine c_add rl.1 (fun e => by rw [← e, rl5]; omega) ⟨by omega, by rw [ty]; simp [am_tin]⟩ (by omega) (by omega) (fun h' fr xm e5' e3 el en hA hs hu hg => ?_)
  obtain ⟨le, ok2, rl2⟩ := rL_add t1.1 rl fr xm e5' e3 hA hg
  have f26 := rL_X rl
  have f27 : ∀ q, q ≤ am_sz h1 → (q = (am_fr h 147 (am_ar h (am_fr h 23 N) k)) ∨ (q = am_fr h1 194 (am_fr h 147 (am_ar h (am_fr h 23 N) k)) ∧ am_fi h1 195 (am_fr h 147 (am_ar h (am_fr h 23 N) k)) < am_ln h1 (am_fr h1 194 (am_fr h 147 (am_ar h (am_fr h 23 N) k))))) → (L1 q).1 = N ∧ (L1 q).2.1 = 5 ∧ ((L1 q).2.2.1 = 3 ∨ (L1 q).2.2.1 = 4) ∧ (L1 q).2.2.2 = k := fun q hq z => by
    rcases z with e | e
    · rw [e, rl.2.2.1]
      exact ⟨rfl, rfl, Or.inl rfl, rfl⟩
    · rw [e.1, rl.2.2.2.1 (by have := rl.1.1.2.2.1; omega)]
      exact ⟨rfl, rfl, Or.inr rfl, rfl⟩
  rw [rl5] at e5' el en
  generalize hL2 : lbA L1 h1 (am_fr h' 194 (am_fr h 147 (am_ar h (am_fr h 23 N) k))) (N, 5, 3 + 1, k) = L2 at le ok2 rl2
  have kn : ∀ q t kd, nd h1 L1 q t N 5 kd k → kd ≠ 3 → kd ≠ 4 → ¬ (q = (am_fr h 147 (am_ar h (am_fr h 23 N) k)) ∨ (q = am_fr h1 194 (am_fr h 147 (am_ar h (am_fr h 23 N) k)) ∧ am_fi h1 195 (am_fr h 147 (am_ar h (am_fr h 23 N) k)) < am_ln h1 (am_fr h1 194 (am_fr h 147 (am_ar h (am_fr h 23 N) k))))) := fun q t kd nn k3 k4 z => by
    have := (f27 q nn.2.1 z).2.2.1
    rw [nn.2.2.2] at this
    exact this.elim k3 k4
  have w1 := nd_fx fr le m1 (kn _ _ _ m1 (by decide) (by decide))
  have w2 := nd_fx fr le m2 (kn _ _ _ m2 (by decide) (by decide))
  have eb : ∀ i, 0 ≤ i → i < (S 5 k 29) → bhd S' k i = bhd S k i := fun i i1 i2 => by
    unfold bhd
    rw [e5k _ (by omega) (by omega), e5k _ (by omega) (by omega), e5k _ (by omega) (by omega), eS 3 (by decide)]
  have t' : Nt h' L2 x P N S' (B + 1) := by
    refine Nt_5 t1 (by omega) fr le ok2 f26 (fun c c1 _ => eS c c1) (fun j => by rw [eS 0 (by decide)]) ?_
    rw [eM]
    refine rM_one fr le t1.1 t.2.2.2.2.2.2 t1.2.1.1 (k := k) (by omega) (fun q hq z => ?_) (by rw [eS 0 (by decide)]) e5 (fun q i nq _ _ _ _ => ?_) y5 ?_
    · have := f27 q hq z
      exact ⟨this.1, this.2.1, by have := this.2.2.1; omega, this.2.2.2⟩
    · unfold bhd
      rw [e5 q nq, eS 3 (by decide)]
    · rw [eA]
      unfold rMc rQ
      rw [w1.2.2.1, w1.2.2.1, w1.2.2.1, w1.2.2.1, w1.2.2.1, w1.2.2.2.1, w1.2.2.2.1, eQ, w2.2.1, w2.2.2.2.2.1, e29]
      refine ⟨w1.1, w2.1, m3, fun c c1 c2 => ?_, ?_, ?_, ?_, ?_, ?_, rl2, fun i i1 i2 => ?_, fun i j i1 i2 i3 => ?_⟩
      · rw [e5k c (by omega) (by omega)]
        exact m4 c c1 c2
      · rw [e5k 27 (by omega) (by omega)]
        exact m5
      · rw [e5k 28 (by omega) (by omega)]
        exact m6
      · rw [e5k 30 (by omega) (by omega)]
        exact m7
      · rw [e5k 31 (by omega) (by omega)]
        exact m8
      · rw [e5k 32 (by omega) (by omega)]
        exact m9
      · by_cases ei : i = (S 5 k 29)
        · rw [ei, en]
          have nj : nd h1 L1 (am_sz h + 1) 22 N 5 5 k := ⟨ty, by omega, by omega, lj⟩
          have wj := nd_fx fr le nj (kn _ _ _ nj (by decide) (by decide))
          unfold rJ
          rw [wj.2.2.1, wj.2.2.1, wj.2.2.1, wj.2.2.1]
          exact ⟨wj.1, v1, v2, v3, v4⟩
        · rw [el i i1 (by omega)]
          have xj := m11 i i1 (by omega)
          exact rJ_fx fr le (fun o o1 o2 => e5k o (by omega) (by omega)) (eb i i1 (by omega)) xj (kn _ _ _ xj.1 (by decide) (by decide))
      · rw [el i i1 (by omega)]
        by_cases ej : j = (S 5 k 29)
        · rw [ej, en]
          intro z
          -- the old job is an old cell
          have xo := x5.2.2 k hk.1 hk.2
          have oj := xo.2.2.2.2.2.2.2.2.2.2.1 i i1 (by omega)
          have er : am_fr h1 194 (am_fr h 147 (am_ar h (am_fr h 23 N) k)) = am_fr h 194 (am_fr h 147 (am_ar h (am_fr h 23 N) k)) := ((a.2.2.2 _ xo.2.2.2.2.2.2.2.2.2.1.1.1.2.2.2.2.1).2.2 id).2.1 194
          have ea : am_ar h1 (am_fr h 194 (am_fr h 147 (am_ar h (am_fr h 23 N) k))) = am_ar h (am_fr h 194 (am_fr h 147 (am_ar h (am_fr h 23 N) k))) := ((a.2.2.2 _ xo.2.2.2.2.2.2.2.2.2.1.1.1.2.2.2.2.2).2.2 id).2.2.2
          rw [er, ea] at z
          have := oj.1.2.1
          omega
        · rw [el j (by omega) (by omega)]
          exact m12 i j i1 i2 (by omega)
  have o1 : Out h L x N h1 L1 1 du := ⟨fx_sub a (fun _ _ z => z.elim), le1, ⟨by omega, u1⟩, fun q hq => by
    by_cases c : q = am_sz h + 1
    · rw [c, lj]
      exact Or.inr (Or.inl rfl)
    · exact Or.inl (ok1.2.2 q (by omega))⟩
  have o2 : Out h1 L1 x N h' L2 1000 5000 := ⟨fx_sub fr (fun q hq z => Or.inl (f26 q hq z).1), le, ⟨by have := xm.2.1; have := rl.1.1.2.2.1; omega, by have := xm.2.1; have := rl.1.1.2.2.1; omega⟩, fun q hq => by
    rw [← hL2]
    exact (lbA_n (h' := h') t1.1 q hq).elim Or.inl (fun e => Or.inr (Or.inl e))⟩
  refine H h' L2 t' (Out_le (Out_tr o1 o2) (by omega) (by omega)) w1.1.1 ?_ xm.1.1 e5'
  rw [w1.2.2.2.1]
  exact eQ
/-- the state when a job is put behind a queue -/
def jbS (S : am_G) (k p nx bh co wh : Int) : am_G := u3 (u3 (u3 (u3 (u3 (u3 S 5 k (33 + 5 * (S 5 k 29)) p) 5 k (34 + 5 * (S 5 k 29)) nx) 5 k (35 + 5 * (S 5 k 29)) bh) 5 k (36 + 5 * (S 5 k 29)) co) 5 k (37 + 5 * (S 5 k 29)) wh) 5 k 29 ((S 5 k 29) + 1)
theorem jbS_v {S : am_G} {k p nx bh co wh : Int} (h0 : 0 ≤ (S 5 k 29)) : (∀ c, c ≠ 5 → jbS S k p nx bh co wh c = S c) ∧ (∀ q, q ≠ k → jbS S k p nx bh co wh 5 q = S 5 q) ∧ (∀ o, o ≠ 29 → o < 33 + 5 * (S 5 k 29) → jbS S k p nx bh co wh 5 k o = S 5 k o) ∧ jbS S k p nx bh co wh 5 k 29 = (S 5 k 29) + 1 ∧ jbS S k p nx bh co wh 5 k (33 + 5 * (S 5 k 29)) = p ∧ jbS S k p nx bh co wh 5 k (34 + 5 * (S 5 k 29)) = nx ∧ jbS S k p nx bh co wh 5 k (35 + 5 * (S 5 k 29)) = bh ∧ jbS S k p nx bh co wh 5 k (36 + 5 * (S 5 k 29)) = co ∧ jbS S k p nx bh co wh 5 k (37 + 5 * (S 5 k 29)) = wh := by
  unfold jbS
  refine ⟨fun c c1 => by rw [u3_r c1, u3_r c1, u3_r c1, u3_r c1, u3_r c1, u3_r c1], fun q e => by rw [u3_rp e, u3_rp e, u3_rp e, u3_rp e, u3_rp e, u3_rp e], fun o o1 o2 => by rw [u3_no o1, u3_no (by omega), u3_no (by omega), u3_no (by omega), u3_no (by omega), u3_no (by omega)], u3_eq, ?_, ?_, ?_, ?_, ?_⟩
  · rw [u3_no (by omega), u3_no (by omega), u3_no (by omega), u3_no (by omega), u3_no (by omega), u3_eq]
  · rw [u3_no (by omega), u3_no (by omega), u3_no (by omega), u3_no (by omega), u3_eq]
  · rw [u3_no (by omega), u3_no (by omega), u3_no (by omega), u3_eq]
  · rw [u3_no (by omega), u3_no (by omega), u3_eq]
  · rw [u3_no (by omega), u3_eq]
/-- a part is given to a machine -/
theorem X_give {L : am_Lb} {x P N : Nat} {S : am_G} {B : Int} {p k : Int} {D : Nat} (hD : 90 ≤ D) (t : Nt h L x P N S B) (hx : am_ty h x = 1) (hN : am_fr h 1 x = N) (hC : okC S) (hz : x ≤ am_sz h) (hl : L x = (x, 0, 0, 0)) (hB : B ≤ 1000000) (hF : okF S) (hA : okA S) (hM : okM S) (H0 : ¬ (isP S p ∧ (0 ≤ k ∧ k < S 0 0 3)) → XT h L x P N S B K 33) (H2 : isP S p → 0 ≤ k ∧ k < S 0 0 3 → ¬ (S 5 k 29) < 30 → XT h L x P N S B K 37) (H3 : isP S p → 0 ≤ k ∧ k < S 0 0 3 → (S 5 k 29) < 30 → S 3 p 2 = 1 → XA h L x P N S B K (-1) 0 0) (H1 : isP S p → 0 ≤ k ∧ k < S 0 0 3 → (S 5 k 29) < 30 → S 3 p 2 ≠ 1 → XA h L x P N (jbS (u3 S 3 p 2 1) k p 0 0 0 1) (B + 1) K ((S 5 k 29) + 1) 1001 5004) : am_ev am_prog D 138 [.inr (.inl x), .inl p, .inl k] h K := by
  obtain ⟨x1, x2, x3, x4, x5, x6, x7, x8, x9, x10⟩ := t.2.2.2.1
  obtain ⟨g1, g2, g3, g4⟩ := P_fc t
  have c3 := hC.2.2.1
  obtain ⟨d, rfl⟩ : ∃ d, D = d + 13 := ⟨D - 13, by omega⟩
  refine am_en p_X1_give rfl rfl ?_
  refine v_X1_give_0 ?_
  rw [hN, g3, x1.2.2.2.2.1, x5.2.1]
  refine ⟨hx, fun c => XT_go t (H0 (fun z => c (by have := isP_bd hC hF z.1; omega))), fun c => ⟨⟨g1, g2, by omega⟩, fun dd => XT_go t (H0 (fun z => ((g4 p c.1 (by omega)).2 z.1).1.2.2.1 dd)), fun dd => ⟨by omega, fun e => ⟨⟨x5.1.1, by omega⟩, ?_⟩, fun e => XT_go t (H0 (by omega))⟩⟩⟩
  have ip : isP S p := Classical.byContradiction fun z => dd ((g4 p c.1 (by omega)).1 z)
  have q := (g4 p c.1 (by omega)).2 ip
  have ap := hA p ip
  have m := x5.2.2 k e.1 (by omega)
  have mn := hM k e.1 (by omega)
  have m10 := m.2.2.2.2.2.2.2.2.2.1
  rw [m10.2.2.2.2.1, q.2.2.2.2.2.1]
  refine ⟨m.1.1, m10.1.1.1, fun f => XT_go t (H2 ip (by omega) (by omega)), fun f => ⟨q.1.1, fun g => ⟨m10.1.1.2.2.2.2.1, ?_⟩, fun g => XA_id t (H3 ip (by omega) f (by have := ap.2.2.2.1; omega))⟩⟩
  have HH := H1 ip (by omega) f (by omega)
  have s3 : S 3 p 3 = 0 := by
    have a1 := ap.2.2.2.2.1
    have a2 := ap.2.2.2.2.2.1
    omega
  have t0 := Nt_gv t ip (isP_bd hC hF ip).1 s3 (g := am_ar h (am_fr h 20 N) p) rfl
  have e29 : u3 S 3 p 2 1 5 = S 5 := u3_r (by decide)
  have r3 : u3 S 3 p 2 1 0 0 3 = S 0 0 3 := u3_nc (by decide)
  have v := jbS_v (S := u3 S 3 p 2 1) (k := k) (p := p) (nx := 0) (bh := 0) (co := 0) (wh := 1) (by rw [e29]; exact mn.2.2.2.1.1)
  have hz0 : x ≠ am_ar h (am_fr h 20 N) p := fun z => by
    have e1 := q.1.1
    rw [← z, hx] at e1
    exact absurd e1 (by decide)
  have KK := x_addJ (K := am_aft (am_hand m_X1_give K (am_W m_X1_give (am_ev am_prog (d + 12)) K) 34) (am_W m_X1_give (am_ev am_prog (d + 12)) K) 34 [some (.inr (.inl (x))), some (.inl (p)), some (.inl (k)), some (.inr (.inl (am_ar h (am_fr h 20 N) p))), some (.inr (.inl (am_ar h (am_fr h 23 N) k)))] []) (du := 4) (d := d + 3) (S' := jbS (u3 S 3 p 2 1) k p 0 0 0 1) (k := k) (h := am_sfi h 115 (am_ar h (am_fr h 20 N) p) 1) (h1 := am_sfi (am_sfi (am_sfi (am_sfi (am_new (am_sfi h 115 (am_ar h (am_fr h 20 N) p) 1) 22 4) 151 (am_sz h + 1) p) 153 (am_sz h + 1) 0) 154 (am_sz h + 1) (-1)) 152 (am_sz h + 1) 0) t0 hx hN hz hl hB (by rw [r3]; omega) (by rw [e29]; exact f) (fx_sfi (fx_sfi (fx_sfi (fx_sfi (fx_new fx_refl) (Or.inl (Nat.lt_succ_self _))) (Or.inl (Nat.lt_succ_self _))) (Or.inl (Nat.lt_succ_self _))) (Or.inl (Nat.lt_succ_self _))) rfl (Nat.le_refl _) (x_tyn0 (h := am_sfi h 115 (am_ar h (am_fr h 20 N) p) 1) (t := 22) (n := 4) rfl) ?_ ?_ ?_ ?_ v.1 v.2.1 v.2.2.1 v.2.2.2.1 ?_
  · exact KK
  · rw [v.2.2.2.2.1]
    show am_fi (am_sfi (am_sfi (am_sfi (am_sfi (am_new (am_sfi h 115 (am_ar h (am_fr h 20 N) p) 1) 22 4) 151 (am_sz h + 1) p) 153 (am_sz h + 1) 0) 154 (am_sz h + 1) (-1)) 152 (am_sz h + 1) 0) 151 (am_sz h + 1) = p
    rw [x_fif (by decide), x_fif (by decide), x_fif (by decide), x_fie]
  · rw [v.2.2.2.2.2.2.2.1]
    exact x_fie
  · rw [v.2.2.2.2.2.1]
    show am_fi (am_sfi (am_sfi (am_sfi (am_sfi (am_new (am_sfi h 115 (am_ar h (am_fr h 20 N) p) 1) 22 4) 151 (am_sz h + 1) p) 153 (am_sz h + 1) 0) 154 (am_sz h + 1) (-1)) 152 (am_sz h + 1) 0) 153 (am_sz h + 1) = 0
    rw [x_fif (by decide), x_fif (by decide), x_fie]
  · unfold bhd
    rw [v.2.2.2.2.2.2.2.2, v.2.2.2.2.1, v.1 3 (by decide), if_neg (by decide), u3_no (by decide), if_pos s3]
    show am_fi (am_sfi (am_sfi (am_sfi (am_sfi (am_new (am_sfi h 115 (am_ar h (am_fr h 20 N) p) 1) 22 4) 151 (am_sz h + 1) p) 153 (am_sz h + 1) 0) 154 (am_sz h + 1) (-1)) 152 (am_sz h + 1) 0) 154 (am_sz h + 1) = -1
    rw [x_fif (by decide), x_fie]
  · intro h' L' t' o y1 y2 y3 y4
    refine am_av (v_X1_give_35 ?_)
    have y2' : am_fr h' 147 (am_ar h (am_fr h 23 N) k) = am_fr h 147 (am_ar h (am_fr h 23 N) k) := y2
    have y4' : am_fi h' 195 (am_fr h 147 (am_ar h (am_fr h 23 N) k)) = (S 5 k 29) + 1 := by
      rw [e29] at y4
      exact y4
    rw [y2', y4']
    have o0 : Out h L x N (am_sfi h 115 (am_ar h (am_fr h 20 N) p) 1) L 0 0 := Out_G (X := fun c => c = am_ar h (am_fr h 20 N) p) t.1 (fx_sfi fx_refl (Or.inr rfl)) (nd_one q.1) (Nat.le_refl _) (Nat.le_refl _)
    exact ⟨y1, y3, HH h' L' t' (Out_le (Out_tr o0 o) (by omega) (by omega))⟩
/-- a line is given to a machine once more -/
theorem X_again {L : am_Lb} {x P N : Nat} {S : am_G} {B : Int} {p l k : Int} {D : Nat} (hD : 90 ≤ D) (t : Nt h L x P N S B) (hx : am_ty h x = 1) (hN : am_fr h 1 x = N) (hC : okC S) (hz : x ≤ am_sz h) (hl : L x = (x, 0, 0, 0)) (hB : B ≤ 1000000) (hF : okF S) (hA : okA S) (hM : okM S) (H0 : ¬ (isP S p ∧ (0 ≤ k ∧ k < S 0 0 3)) → XT h L x P N S B K 33) (H4 : isP S p → 0 ≤ k ∧ k < S 0 0 3 → S 3 p 3 = 0 → XT h L x P N S B K 40) (H5 : isP S p → 0 ≤ k ∧ k < S 0 0 3 → S 3 p 3 ≠ 0 → ¬ (0 ≤ l ∧ l < S 3 p 4) → XT h L x P N S B K 33) (H2 : isP S p → 0 ≤ k ∧ k < S 0 0 3 → S 3 p 3 ≠ 0 → 0 ≤ l ∧ l < S 3 p 4 → ¬ (S 5 k 29) < 30 → XT h L x P N S B K 37) (H3 : isP S p → 0 ≤ k ∧ k < S 0 0 3 → S 3 p 3 ≠ 0 → 0 ≤ l ∧ l < S 3 p 4 → (S 5 k 29) < 30 → 0 < S 3 p (45 + l) → XA h L x P N S B K (-1) 0 0) (H1 : isP S p → 0 ≤ k ∧ k < S 0 0 3 → S 3 p 3 ≠ 0 → 0 ≤ l ∧ l < S 3 p 4 → (S 5 k 29) < 30 → S 3 p (45 + l) ≤ 0 → XA h L x P N (jbS S k p l (l + 1) 0 0) (B + 1) K ((S 5 k 29) + 1) 1001 5004) : am_ev am_prog D 166 [.inr (.inl x), .inl p, .inl l, .inl k] h K := by
  obtain ⟨x1, x2, x3, x4, x5, x6, x7, x8, x9, x10⟩ := t.2.2.2.1
  obtain ⟨g1, g2, g3, g4⟩ := P_fc t
  have c3 := hC.2.2.1
  obtain ⟨d, rfl⟩ : ∃ d, D = d + 13 := ⟨D - 13, by omega⟩
  refine am_en p_X1_again rfl rfl ?_
  refine v_X1_again_0 ?_
  rw [hN, g3, x1.2.2.2.2.1, x5.2.1]
  refine ⟨hx, fun c => XT_go t (H0 (fun z => c (by have := isP_bd hC hF z.1; omega))), fun c => ⟨⟨g1, g2, by omega⟩, fun d => XT_go t (H0 (fun z => ((g4 p c.1 (by omega)).2 z.1).1.2.2.1 d)), fun d => ⟨by omega, fun e => ⟨⟨x5.1.1, by omega⟩, fun z => absurd c z, fun _ => ⟨fun z => absurd z d, fun _ => ?_⟩⟩, fun e => XT_go t (H0 (by omega))⟩⟩⟩
  have ip : isP S p := Classical.byContradiction fun z => d ((g4 p c.1 (by omega)).1 z)
  have q := (g4 p c.1 (by omega)).2 ip
  have ap := hA p ip
  have st := P_st q
  have m := x5.2.2 k e.1 (by omega)
  have mn := hM k e.1 (by omega)
  have m10 := m.2.2.2.2.2.2.2.2.2.1
  have a4 := ap.2.2.2.2.2.2.2
  rw [m10.2.2.2.2.1]
  refine ⟨q.1.1, fun f => XT_go t (H4 ip (by omega) (st.mp f)), fun f => ?_⟩
  have e3 : S 3 p 3 ≠ 0 := fun z => f (st.mpr z)
  obtain ⟨z1, z2, z3, z4, z5⟩ := q.2.2.2.2.2.2.2.2 e3
  rw [z4]
  refine ⟨⟨Or.inl z3.1, by omega⟩, fun g => ?_, fun g => XT_go t (H5 ip (by omega) e3 (by omega))⟩
  rw [z5 l (by omega) (by omega)]
  refine ⟨m.1.1, m10.1.1.1, fun u => XT_go t (H2 ip (by omega) e3 (by omega) (by omega)), fun u => ⟨by omega, fun w => ⟨by omega, m10.1.1.2.2.2.2.1, ?_⟩, fun w => XA_id t (H3 ip (by omega) e3 (by omega) u (by omega))⟩⟩
  have HH := H1 ip (by omega) e3 (by omega) u (by omega)
  have v := jbS_v (S := S) (k := k) (p := p) (nx := l) (bh := l + 1) (co := 0) (wh := 0) mn.2.2.2.1.1
  refine x_addJ (du := 4) (S' := jbS S k p l (l + 1) 0 0) (k := k) t hx hN hz hl hB (by omega) u (fx_sfi (fx_sfi (fx_sfi (fx_sfi (fx_new fx_refl) (Or.inl (Nat.lt_succ_self _))) (Or.inl (Nat.lt_succ_self _))) (Or.inl (Nat.lt_succ_self _))) (Or.inl (Nat.lt_succ_self _))) rfl (Nat.le_refl _) (x_tyn0 (h := h) (t := 22) (n := 4) rfl) ?_ ?_ ?_ ?_ v.1 v.2.1 v.2.2.1 v.2.2.2.1 ?_
  · rw [v.2.2.2.2.1, x_fif (by decide), x_fif (by decide), x_fif (by decide), x_fie]
  · rw [v.2.2.2.2.2.2.2.1]
    exact x_fie
  · rw [v.2.2.2.2.2.1, x_fif (by decide), x_fif (by decide), x_fie]
  · unfold bhd
    rw [v.2.2.2.2.2.2.2.2, if_pos rfl, v.2.2.2.2.2.2.1, x_fif (by decide), x_fie]
  · intro h' L' t' o y1 y2 y3 y4
    refine am_av (v_X1_again_49 ?_)
    rw [y2, y4]
    exact ⟨y1, y3, HH h' L' t' o⟩
end
