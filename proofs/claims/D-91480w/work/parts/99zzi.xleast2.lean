set_option maxRecDepth 100000
/-! the component's least lateness, whole -/
theorem plS_pre {S : am_G} {p : Nat} {i : Nat} (hi : i < (plS S p).length) : ∀ k, i < (plS S (p + k)).length ∧ gt (plS S (p + k)) i = gt (plS S p) i
  | 0 => ⟨hi, rfl⟩
  | k + 1 => by
    have ih := plS_pre hi k
    have e : plS S (p + (k + 1)) = if (plS S (p + k)).length < 5 ∧ (0 ≤ ((p + k : Nat) : Int) ∧ ((p + k : Nat) : Int) / 5 < S 0 0 1 ∧ ((p + k : Nat) : Int) % 5 < S 2 2 (((p + k : Nat) : Int) / 5)) ∧ S 3 ((p + k : Nat) : Int) 2 = 0 ∧ bsL S ((p + k : Nat) : Int) ≠ 0 then plS S (p + k) ++ [((p + k : Nat) : Int)] else plS S (p + k) := rfl
    rw [e]
    split
    · rw [List.length_append, gt_app _ _ ih.1]
      exact ⟨by omega, ih.2⟩
    · exact ih
def LsX (h0 : am_H) (L : am_Lb) (x P : Nat) (S : am_G) (h : am_H) (n : Nat) (fl : Int → Int) : Prop := fx (fun q => (L q).1 = x ∧ (L q).2.1 = 1) h0 h ∧ rPap h L x P ∧ PlX h (am_sz h0 + 1) n (fun i => bsL S (gt (plS S 100) i.toNat)) (fun i => S 2 1 (gt (plS S 100) i.toNat / 5)) fl ∧ am_fi h 184 (am_sz h0 + 1) = -1
theorem wr_new {L : am_Lb} {x P N : Nat} {S : am_G} {B : Int} {h0 h h' : am_H} {X : Nat → Prop} (t : Nt h0 L x P N S B) (a : fx (fun q => (L q).1 = x ∧ (L q).2.1 = 1) h0 h) (p : rPap h L x P) (b : fx X h h') (hX : ∀ q, q ≤ am_sz h → X q → am_sz h0 < q) : fx (fun q => (L q).1 = x ∧ (L q).2.1 = 1) h0 h' ∧ rPap h' L x P := by
  refine ⟨fx_trans2 a b (fun q hq z => ?_), rPap_fx b leL_refl (fun q hq z w => ?_) p⟩
  · have := hX q (Nat.le_trans hq a.1) z
    omega
  · have := t.1.2.2 q (hX q hq z)
    exact t.2.2.2.2.2.1 (w.1.symm.trans this)
/-- nothing of the plan is changed -/
theorem PlX_o {h h' : am_H} {r1 P : Nat} {ln du fl : Int → Int} {X : Nat → Prop} (y : PlX h r1 P ln du fl) (a : fx X h h') (hX : ∀ i, i ≤ 4 → ¬ X (r1 + i)) : PlX h' r1 P ln du fl ∧ am_fi h' 184 r1 = am_fi h 184 r1 ∧ am_ai h' (r1 + 3) = am_ai h (r1 + 3) := by
  obtain ⟨y1, y2, y3, y4, y5, y6, y7, y8⟩ := y
  have w0 := a.2.2.2 r1 (by omega)
  have w1 := a.2.2.2 (r1 + 1) (by omega)
  have w2 := a.2.2.2 (r1 + 2) (by omega)
  have w3 := a.2.2.2 (r1 + 3) (by omega)
  have w4 := a.2.2.2 (r1 + 4) (by omega)
  have c0 := w0.2.2 (hX 0 (by omega))
  have c1 := w1.2.2 (hX 1 (by omega))
  have c2 := w2.2.2 (hX 2 (by omega))
  have c3 := w3.2.2 (hX 3 (by omega))
  have c4 := w4.2.2 (hX 4 (by omega))
  refine ⟨?_, c0.1 184, c3.2.2.1⟩
  unfold PlX
  rw [w0.1, c0.2.1, c0.2.1, c0.2.1, c0.2.1, w1.1, w2.1, w3.1, w4.1, w1.2.1, w2.2.1, w3.2.1, w4.2.1, c0.1, c1.2.2.1, c2.2.2.1, c4.2.2.1]
  exact ⟨y1, y2, y3, y4, Nat.le_trans y5 a.1, y6, y7, y8⟩
theorem LsX_fp {L : am_Lb} {x P N : Nat} {S : am_G} {B : Int} {h0 h h' : am_H} {n : Nat} {fl : Int → Int} (t : Nt h0 L x P N S B) (y : LsX h0 L x P S h n fl) (a : fx (fun q => (L q).1 = x ∧ (L q).2.1 = 1) h h') (p : rPap h' L x P) : LsX h0 L x P S h' n fl ∧ am_ai h' (am_sz h0 + 1 + 3) = am_ai h (am_sz h0 + 1 + 3) := by
  have q := PlX_o y.2.2.1 a (fun i hi z => by
    have := t.1.2.2 (am_sz h0 + 1 + i) (by omega)
    exact t.2.2.2.2.2.1 (z.1.symm.trans this))
  exact ⟨⟨fx_trans y.1 a, p, q.1, q.2.1.trans y.2.2.2⟩, q.2.2⟩
theorem arT {h : am_H} {tg r0 n fld k : Nat} (hr : r0 ≤ am_sz h) (hk : k = am_sz h + 1) : ∃ h', h' = am_sfr (am_new h tg n) fld r0 k ∧ fx (fun q => q = r0) h h' ∧ am_sz h' = k ∧ am_us h' = am_us h + n ∧ am_fr h' fld r0 = k ∧ (∀ f, f ≠ fld → am_fr h' f r0 = am_fr h f r0) ∧ (∀ f, am_fi h' f r0 = am_fi h f r0) ∧ am_ty h' k = tg ∧ am_ln h' k = n ∧ am_ai h' k = fun _ => 0 := by
  exact ⟨_, rfl, fx_sfr (fx_new fx_refl) (Or.inr rfl), hk.symm, rfl, x_fre, fun f e => (x_frf e).trans (x_frn hr), fun f => x_fin (t := tg) (n := n) hr, x_tyn0 (t := tg) (n := n) hk, x_lnn0 (t := tg) (n := n) hk, x_ain0 (t := tg) (n := n) hk⟩
section
variable {K : am_K} {h : am_H}
theorem X_least {L : am_Lb} {x P N : Nat} {S : am_G} {B : Int} {D : Nat} (hD : 90 ≤ D) (t : Nt h L x P N S B) (hx : am_ty h x = 1 ∧ x ≤ am_sz h) (hN : am_fr h 1 x = N) (lx : L x = (x, 0, 0, 0)) (hC : okC S) (hF : okF S) (hA : okA S) (hY : okY S) (hW : okWs S) (hM : okM S) (hJ : okJ S) (H : XA h L x P N S B K (leR S) 1560 16200) : am_ev am_prog D 6 [.inr (.inl x)] h K := by
  have c0 := hC.1
  have c1 := hC.2.1
  have c3 := hC.2.2.1
  obtain ⟨x1, x2, x3, x4, x5, x6, x7, x8, x9, x10⟩ := t.2.2.2.1
  have nb : ∀ c, 0 ≤ c → c < S 0 0 3 → leF S c ≠ 0 → 0 ≤ S 0 0 0 + quL S c ∧ S 0 0 0 + quL S c ≤ 1800 := fun c a d _ => by
    have bq : 0 ≤ quL S c ∧ quL S c ≤ 1200 := quL_b (n := (S 5 c 29).toNat) hC hF hA hY hW hM hJ ⟨a, d⟩ (by have := (hM c a (by omega)).2.2.2.1; omega)
    omega
  -- what all heaps here have
  have base : ∀ h', fx (fun q => (L q).1 = x ∧ (L q).2.1 = 1) h h' → am_ty h' x = 1 ∧ am_fr h' 1 x = N := fun h' a => by
    have w := a.2.2.2 x hx.2
    have n : ¬ (fun q => (L q).1 = x ∧ (L q).2.1 = 1) x := fun z => by
      have z2 : (L x).2.1 = 1 := z.2
      rw [lx] at z2
      have z3 : (0 : Nat) = 1 := z2
      omega
    exact ⟨w.1.trans hx.1, ((w.2.2 n).2.1 1).trans hN⟩
  have lab : ∀ q, am_sz h < q → ¬ (fun q => (L q).1 = x ∧ (L q).2.1 = 1) q := fun q hq z => t.2.2.2.2.2.1 (z.1.symm.trans (t.1.2.2 q hq))
  have nF : ∀ q, (L q).1 = N → ¬ (fun q => (L q).1 = x ∧ (L q).2.1 = 1) q := fun q e z => t.2.2.2.2.1 (z.1.symm.trans e)
  -- cells of the night are as they were
  have old : ∀ h' q k g kd i, fx (fun q => (L q).1 = x ∧ (L q).2.1 = 1) h h' → nd h L q k N g kd i → am_ty h' q = k ∧ am_ln h' q = am_ln h q ∧ (∀ f, am_fi h' f q = am_fi h f q) ∧ (∀ f, am_fr h' f q = am_fr h f q) ∧ am_ai h' q = am_ai h q ∧ am_ar h' q = am_ar h q := fun h' q k g kd i a n => by
    have w := nd_fx a (leL_refl (L := L)) n (nF q (by rw [n.2.2.2]))
    exact ⟨w.1.1, w.2⟩
  have oN := fun h' (a : fx (fun q => (L q).1 = x ∧ (L q).2.1 = 1) h h') => old h' N 3 0 0 0 a x1.1
  have oM := fun h' (a : fx (fun q => (L q).1 = x ∧ (L q).2.1 = 1) h h') => old h' (am_fr h 23 N) 112 5 0 0 a x5.1
  obtain ⟨d, rfl⟩ : ∃ d, D = d + 13 := ⟨D - 13, by omega⟩
  refine am_en p_X1_least rfl rfl ?_
  refine v_X1_least_0 ?_
  -- the end
  have fin : ∀ h', LsX h L x P S h' ((plS S 100).length) (fun c => if c < (S 0 0 3) then leF S c else 0) → am_sz h' ≤ am_sz h + 1549 → am_us h' ≤ am_us h + 16100 → (∀ c, 0 ≤ c → c < S 0 0 3 → am_ai h' ((am_sz h + 1) + 3) c = S 0 0 0 + quL S c) → ∀ o3 o4, am_W m_X1_least (am_ev am_prog (d + 12)) K 56 [some (.inr (.inl (x))), some (.inr (.inl ((am_sz h + 1)))), some (.inl (S 0 0 3)), o3, o4] [] h' := by
    intro h' y z u e35 o3 o4
    obtain ⟨l1, l2, l3, l4⟩ := y
    have bs := base h' l1
    have ts := oN h' l1
    refine v_X1_least_56 ?_
    rw [bs.2, ts.2.2.1, x1.2.2.2.2.1]
    refine ⟨⟨bs.1, ts.1⟩, fun _ => ⟨l3.1, ?_⟩, fun z => absurd z (by omega)⟩
    have ff : ∀ c, 0 ≤ c → c < 4 → (if c < S 0 0 3 then leF S c else 0) = leF S c := fun c _ _ => by
      by_cases e : c < S 0 0 3
      · rw [if_pos e]
      · rw [if_neg e]
        exact (if_neg (fun w => e w.2.1)).symm
    have l3' : PlX h' (am_sz h + 1) (plS S 100).length (fun i => bsL S (gt (plS S 100) i.toNat)) (fun i => S 2 1 (gt (plS S 100) i.toNat / 5)) (leF S) := by
      obtain ⟨y1, y2, y3, y4, y5, y6, y7, y8⟩ := l3
      exact ⟨y1, y2, y3, y4, y5, y6, y7, fun c a b => (y8 c a b).trans (ff c a b)⟩
    have z2 : bcn 0 (plS S 100).length = 0 := by
      have : ∀ n, bcn 0 n = 0 := fun n => by
        induction n with
        | zero => rfl
        | succ n ih =>
          show bcn 0 n + 0 / 2 ^ n % 2 = 0
          rw [ih, Nat.zero_div]
      exact this _
    have p5' := plS_5 (S := S) 100
    refine x_seek (P := (plS S 100).length) (ln := (fun i => bsL S (gt (plS S 100) i.toNat))) (du := (fun i => S 2 1 (gt (plS S 100) i.toNat / 5))) (fl := leF S) (m := 0) (fr := fun c => S 0 0 0 + quL S c) (n := 0) (best := -1) p5' (fun i i0 i1 => ?_) (plS S 100).length (by omega) (by omega) (by omega) (Nat.two_pow_pos _) (by omega) l3' l4 (by omega) (fun c a b fc => ?_) (by omega) (fun h2 a2 s2 u2 r2 f2 g2 gb => am_an (v_X1_least_128 ?_))
    · have m := plS_m 100 _ (gt_mem (plS S 100) i.toNat (by omega))
      have pb := isP_bd hC hF m.1
      exact ⟨(bsL_b hC hF hA hY hW m.1).1, pb.2.2.2⟩
    · have c3' : c < S 0 0 3 := Classical.byContradiction fun e => fc (if_neg (fun w => e w.2.1))
      have := nb c a c3' fc
      exact ⟨e35 c a c3', by show 0 ≤ S 0 0 0 + quL S c ∧ S 0 0 0 + quL S c ≤ 1800 + 40 * 0; omega⟩
    · have w := wr_new t l1 l2 a2 (fun q hq e => by omega)
      rw [gb]
      have t2 : Nt h2 L x P N S B := NtFP t w.1 w.2
      refine ⟨(PlX_f l3' a2 r2 f2).1, H h2 L t2 ⟨fx_sub w.1 (fun q hq e => Or.inr e), leL_refl, ⟨by omega, by omega⟩, fun q hq => Or.inl (t.1.2.2 q hq)⟩⟩
  -- the machines
  have mach : ∀ k, 0 ≤ k → k ≤ S 0 0 3 → ∀ h', LsX h L x P S h' ((plS S 100).length) (fun c => if c < k then leF S c else 0) → am_sz h' ≤ am_sz h + 705 + 211 * k.toNat → am_us h' ≤ am_us h + 7324 + 2194 * k.toNat → (∀ c, 0 ≤ c → c < k → am_ai h' ((am_sz h + 1) + 3) c = S 0 0 0 + quL S c) → ∀ o3 o4, am_W m_X1_least (am_ev am_prog (d + 12)) K 56 [some (.inr (.inl (x))), some (.inr (.inl ((am_sz h + 1)))), some (.inl (k)), o3, o4] [] h' := by
    refine lp_z ?_ ?_
    · intro k k0 k1 hL h' y z u e35 o3 o4
      obtain ⟨l1, l2, l3, l4⟩ := id y
      have bs := base h' l1
      have ts := oN h' l1
      have tm := oM h' l1
      have mk := hM k k0 (by omega)
      obtain ⟨m1, m2, m3, m4, m5, m6, m7, m8, m9, m10⟩ := x5.2.2 k k0 k1
      have om := fun h' (a : fx (fun q => (L q).1 = x ∧ (L q).2.1 = 1) h h') => old h' _ _ _ _ _ a m1
      have ol : ∀ h', fx (fun q => (L q).1 = x ∧ (L q).2.1 = 1) h h' → _ := fun h' (a : fx (fun q => (L q).1 = x ∧ (L q).2.1 = 1) h h') => rL_fx a (leL_refl (L := L)) (Int.le_refl B) m10.1 (nF _ (by rw [m10.1.2.2.1])) (fun z => by
        by_cases c : 0 < am_ln h (am_fr h 194 (am_fr h 147 (am_ar h (am_fr h 23 N) k)))
        · exact nF _ (by rw [m10.1.2.2.2.1 c]) z
        · have e := m10.1.1.2.2.1 (by have := m10.1.1.1.2.2.1; omega)
          have e2 := m10.1.1.1.2.2.2.2.2
          rw [e] at z e2
          have t0 := t.2.1.1
          exact t.2.2.2.2.2.1 (z.1.symm.trans (t.1.2.1 _ e2 (by unfold imT; omega))))
      have e24 : am_fi h' 24 N = S 0 0 3 := (ts.2.2.1 24).trans x1.2.2.2.2.1
      have e18 : am_fi h' 18 N = S 0 0 0 := (ts.2.2.1 18).trans x1.2.2.1
      have e23 : am_fr h' 23 N = am_fr h 23 N := ts.2.2.2.1 23
      have eA : am_ar h' (am_fr h 23 N) = am_ar h (am_fr h 23 N) := tm.2.2.2.2.2
      have lM : am_ln h' (am_fr h 23 N) = 4 := tm.2.1.trans x5.2.1
      have mm := om h' l1
      generalize hmc : am_ar h (am_fr h 23 N) k = mc at *
      have e146 : am_fi h' 146 mc = S 5 k 28 := (mm.2.2.1 146).trans m6
      have e147 : am_fr h' 147 mc = am_fr h 147 mc := mm.2.2.2.1 147
      generalize hl : am_fr h 147 mc = l at *
      have l0 := ol h' l1
      have r5 := l3.2.2.2.2.1
      refine v_X1_least_56 ?_
      rw [bs.2, e24, e18, e23, eA, hmc, e146, e147, lM, l3.2.1.2.2.1, l3.2.1.2.2.2, l3.2.2.2.1.2.2.1, l3.2.2.2.1.2.2.2]
      have go : ∀ v, v = leF S k → am_ev am_prog (d + 12) 104 [.inr (.inl l)] (am_sai (am_sai h' ((am_sz h + 1) + 4) k v) ((am_sz h + 1) + 3) k (S 0 0 0)) (am_aft (am_hand m_X1_least K (am_W m_X1_least (am_ev am_prog (d + 12)) K) 88) (am_W m_X1_least (am_ev am_prog (d + 12)) K) 88 [some (.inr (.inl (x))), some (.inr (.inl ((am_sz h + 1)))), some (.inl (k)), o3, o4] []) := by
        intro v ev
        have ak : fx (fun q => q = (am_sz h + 1) + 4 ∨ q = (am_sz h + 1) + 3) h' (am_sai (am_sai h' ((am_sz h + 1) + 4) k v) ((am_sz h + 1) + 3) k (S 0 0 0)) := fx_sai (fx_sai fx_refl (Or.inr (Or.inl rfl))) (Or.inr (Or.inr rfl))
        have wk := wr_new t l1 l2 ak (fun q hq e => by omega)
        have k3 : am_ai (am_sai (am_sai h' ((am_sz h + 1) + 4) k v) ((am_sz h + 1) + 3) k (S 0 0 0)) ((am_sz h + 1) + 3) = am_uz (am_ai h' ((am_sz h + 1) + 3)) k (S 0 0 0) := by
          rw [x_aise, x_ais (by omega)]
        have yk : LsX h L x P S (am_sai (am_sai h' ((am_sz h + 1) + 4) k v) ((am_sz h + 1) + 3) k (S 0 0 0)) ((plS S 100).length) (fun c => if c < (k + 1) then leF S c else 0) := by
          obtain ⟨y1, y2, y3, y4, y5, y6, y7, y8⟩ := l3
          refine ⟨wk.1, wk.2, ⟨y1, y2, y3, y4, y5, y6, ?_, fun c a b => ?_⟩, l4⟩
          · rw [x_ais (by omega), x_ais (by omega), x_ais (by omega), x_ais (by omega)]
            exact y7
          · rw [x_ais (by omega), x_aise]
            by_cases e : c = k
            · rw [e, am_uz_eq]
              show v = if k < k + 1 then leF S k else 0
              rw [if_pos (by omega)]
              exact ev
            · rw [am_uz_ne e, y8 c a b]
              show (if c < k then leF S c else 0) = if c < k + 1 then leF S c else 0
              by_cases e2 : c < k
              · rw [if_pos e2, if_pos (by omega)]
              · rw [if_neg e2, if_neg (by omega)]
        have zk : am_sz (am_sai (am_sai h' ((am_sz h + 1) + 4) k v) ((am_sz h + 1) + 3) k (S 0 0 0)) = am_sz h' := rfl
        have uk : am_us (am_sai (am_sai h' ((am_sz h + 1) + 4) k v) ((am_sz h + 1) + 3) k (S 0 0 0)) = am_us h' := rfl
        generalize am_sai (am_sai h' ((am_sz h + 1) + 4) k v) ((am_sz h + 1) + 3) k (S 0 0 0) = hk at *
        have lk := ol hk wk.1
        refine c_iterator lk.1.1.1.1 lk.1.1.1.2.2.2.2.1 (am_av (v_X1_least_89 ?_))
        have i1 : fx (fun _ => False) hk (itH hk l 0 (-1)) := it_fx
        have i2 : am_ty (itH hk l 0 (-1)) (am_sz hk + 1) = 38 := it_ty
        have i3 : am_fr (itH hk l 0 (-1)) 199 (am_sz hk + 1) = l := it_199
        have i4 : am_fi (itH hk l 0 (-1)) 196 (am_sz hk + 1) = 0 := it_196
        have i5 : am_fi (itH hk l 0 (-1)) 198 (am_sz hk + 1) = am_fi h 193 l := it_198.trans (by
          have w := wk.1.2.2.2 l m10.1.1.1.2.2.2.2.1
          exact (w.2.2 (nF _ (by rw [m10.1.2.2.1]))).1 193)
        have i6 : am_sz (itH hk l 0 (-1)) = am_sz hk + 1 := it_sz
        have i7 : am_us (itH hk l 0 (-1)) = am_us hk + 4 := it_us
        have iy := PlX_o yk.2.2.1 i1 (fun _ _ z => z)
        have iw := wr_new t wk.1 wk.2 i1 (fun _ _ z => z.elim)
        generalize itH hk l 0 (-1) = h3 at *
        have hit : (am_sz h + 1) + 4 < am_sz hk + 1 := by omega
        generalize hite : am_sz hk + 1 = it at *
        -- the jobs
        have jl : ∀ i, 0 ≤ i → i ≤ S 5 k 29 → ∀ h', LsX h L x P S h' ((plS S 100).length) (fun c => if c < (k + 1) then leF S c else 0) → am_ty h' it = 38 → am_fr h' 199 it = l → am_fi h' 196 it = i → am_fi h' 198 it = am_fi h 193 l → it ≤ am_sz h' → am_sz h' ≤ am_sz h + 705 + 211 * k.toNat + 1 + 7 * i.toNat → am_us h' ≤ am_us h + 7324 + 2194 * k.toNat + 4 + 73 * i.toNat → (∀ c, 0 ≤ c → c < k → am_ai h' ((am_sz h + 1) + 3) c = S 0 0 0 + quL S c) → am_ai h' ((am_sz h + 1) + 3) k = S 0 0 0 + sg (jbL S k) 0 i.toNat → ∀ o4, am_W m_X1_least (am_ev am_prog (d + 12)) K 90 [some (.inr (.inl (x))), some (.inr (.inl ((am_sz h + 1)))), some (.inl (k)), some (.inr (.inl (it))), o4] [] h' := by
          refine lp_z ?_ ?_
          · intro i i0 i1 hLi h' y ti fi1 fi2 fi3 tl z u e35 ek o4
            obtain ⟨l1, l2, l3, l4⟩ := id y
            have lo := ol h' l1
            have jb := m10.2.1 i i0 i1
            have oj := old h' _ _ _ _ _ l1 jb.1
            have mi := mk.2.2.2.2.2.2.2 i i0 i1
            have jJ := hJ.1 k i k0 k1 i0 i1
            have a3 := (hA _ mi.1).2.2.2.2.1
            have a4 := (hA _ mi.1).2.2.2.2.2.2.2
            have pb := isP_bd hC hF mi.1
            have bj := jbL_b hC hF hA hY hW hM hJ ⟨k0, k1⟩ ⟨i0, i1⟩
            have bq := quL_b (n := i.toNat) hC hF hA hY hW hM hJ ⟨k0, k1⟩ (by omega)
            have e195 : am_fi h' 195 l = S 5 k 29 := lo.1.2.2.2.2.1
            have e194 : am_fr h' 194 l = am_fr h 194 l := lo.2.1
            have eAr : am_ar h' (am_fr h 194 l) = am_ar h (am_fr h 194 l) := lo.2.2
            have e193 : am_fi h' 193 l = am_fi h 193 l := by
              have w := l1.2.2.2 l m10.1.1.1.2.2.2.2.1
              exact (w.2.2 (nF _ (by rw [m10.1.2.2.1]))).1 193
            have bs := base h' l1
            have ts := oN h' l1
            have ei : (i + 1).toNat = i.toNat + 1 := by omega
            rw [sg_s i0] at hLi
            generalize hjc : am_ar h (am_fr h 194 l) i = jc at *
            have e154 : am_fi h' 154 jc = bhd S k i := (oj.2.2.1 154).trans jb.2.2.2.2
            have e153 : am_fi h' 153 jc = S 5 k (34 + 5 * i) := (oj.2.2.1 153).trans jb.2.2.2.1
            have e151 : am_fi h' 151 jc = S 5 k (33 + 5 * i) := (oj.2.2.1 151).trans jb.2.1
            obtain ⟨g1, g2, g3, g4⟩ := P_fc (NtFP t l1 l2)
            have xi : xI h' it := by
              unfold xI
              rw [fi1, fi2, fi3, e193, e195]
              exact ⟨ti, lo.1.1.1, rfl, by omega⟩
            -- the sum goes on
            have nxt : ∀ h5, fx (fun q => (L q).1 = x ∧ (L q).2.1 = 1) (am_sfi (am_sfi h' 196 it (i + 1)) 197 it i) h5 → rPap h5 L x P → am_sz h5 ≤ am_sz h' + 7 → am_us h5 ≤ am_us h' + 73 → ∀ v, v = jbL S k i → am_W m_X1_least (am_ev am_prog (d + 12)) K 119 [some (.inr (.inl (x))), some (.inr (.inl ((am_sz h + 1)))), some (.inl (k)), some (.inr (.inl (it))), some (.inr (.inl (jc)))] [.inl v, .inl (S 0 0 0 + sg (jbL S k) 0 i.toNat), .inl k, .inr (.inl ((am_sz h + 1) + 3))] h5 := by
              intro h5 a5 p5 z5 u5 v ev
              have a4' : fx (fun q => q = it) h' (am_sfi (am_sfi h' 196 it (i + 1)) 197 it i) := fx_sfi (fx_sfi fx_refl (Or.inr rfl)) (Or.inr rfl)
              have w4 := wr_new t l1 l2 a4' (fun q hq e => by omega)
              have q4 := PlX_o l3 a4' (fun j hj e => by omega)
              have y4 : LsX h L x P S (am_sfi (am_sfi h' 196 it (i + 1)) 197 it i) ((plS S 100).length) (fun c => if c < (k + 1) then leF S c else 0) := ⟨w4.1, w4.2, q4.1, q4.2.1.trans l4⟩
              have f4 : am_fi (am_sfi (am_sfi h' 196 it (i + 1)) 197 it i) 196 it = i + 1 := (x_fif (by decide)).trans x_fie
              have f5 : am_fi (am_sfi (am_sfi h' 196 it (i + 1)) 197 it i) 198 it = am_fi h 193 l := (x_fif (by decide)).trans ((x_fif (by decide)).trans fi3)
              have f6 : am_fr (am_sfi (am_sfi h' 196 it (i + 1)) 197 it i) 199 it = l := fi1
              have f7 : am_ty (am_sfi (am_sfi h' 196 it (i + 1)) 197 it i) it = 38 := ti
              have f8 : am_sz (am_sfi (am_sfi h' 196 it (i + 1)) 197 it i) = am_sz h' := rfl
              have f9 := q4.2.2
              generalize am_sfi (am_sfi h' 196 it (i + 1)) 197 it i = h4 at *
              have y5 := LsX_fp t y4 a5 p5
              have wi := a5.2.2.2 it (by omega)
              have wi2 := wi.2.2 (lab it (by omega))
              have e3 : am_ai h5 ((am_sz h + 1) + 3) = am_ai h' ((am_sz h + 1) + 3) := y5.2.trans f9
              have a6 : fx (fun q => q = (am_sz h + 1) ∨ q = (am_sz h + 1) + 3) h5 (am_sai h5 ((am_sz h + 1) + 3) k (S 0 0 0 + sg (jbL S k) 0 i.toNat + v)) := fx_sai fx_refl (Or.inr (Or.inr rfl))
              have w6 := wr_new t y5.1.1 y5.1.2.1 a6 (fun q hq e => by omega)
              have y6 : LsX h L x P S (am_sai h5 ((am_sz h + 1) + 3) k (S 0 0 0 + sg (jbL S k) 0 i.toNat + v)) ((plS S 100).length) (fun c => if c < (k + 1) then leF S c else 0) := ⟨w6.1, w6.2, PlX_f y5.1.2.2.1 a6 (fun _ => rfl) rfl, y5.1.2.2.2⟩
              refine v_X1_least_119 ?_
              have p3 := y5.1.2.2.1
              refine ⟨⟨by omega, p3.2.2.1.2.2.1, by rw [p3.2.2.2.1.2.2.1]; omega⟩, hLi _ y6 (wi.1.trans f7) ((wi2.2.1 199).trans f6) ((wi2.1 196).trans f4) ((wi2.1 198).trans f5) (by show it ≤ am_sz h5; have := a5.1; omega) (by show am_sz h5 ≤ _; omega) (by show am_us h5 ≤ _; omega) (fun c a b => ?_) ?_ _⟩
              · rw [x_aise, am_uz_ne (by omega), e3]
                exact e35 c a b
              · rw [x_aise, am_uz_eq, ev]
                omega
            refine v_X1_least_90 ?_
            rw [fi1, fi2, e195, e194, eAr, hjc, e154, e153, e151, bs.2, l3.2.1.2.2.1, l3.2.2.2.1.2.2.1, ek, g3]
            refine ⟨ti, lo.1.1.1.1, fun e => absurd e (by omega), fun _ => ⟨xi, ⟨Or.inr oj.1, l3.1, Or.inl l3.2.2.1.2.2.1, by omega, oj.1⟩, fun bn => ⟨⟨bs.1, ts.1, g2, by omega⟩, ?_⟩, fun bp => ⟨?_, ?_⟩⟩⟩
            · -- not yet begun
              have c37 : S 5 k (37 + 5 * i) ≠ 0 := fun e => by
                have : bhd S k i = S 5 k (35 + 5 * i) := if_pos e
                omega
              have c33 : S 3 (S 5 k (33 + 5 * i)) 3 = 0 := Classical.byContradiction fun e => by
                have : bhd S k i = S 3 (S 5 k (33 + 5 * i)) 4 := (if_neg c37).trans (if_neg e)
                omega
              have ej : bsL S (S 5 k (33 + 5 * i)) = jbL S k i := ((if_neg c37).trans (if_pos c33)).symm
              have a4' : fx (fun q => q = it) h' (am_sfi (am_sfi h' 196 it (i + 1)) 197 it i) := fx_sfi (fx_sfi fx_refl (Or.inr rfl)) (Or.inr rfl)
              have w4 := wr_new t l1 l2 a4' (fun q hq e => by omega)
              have t4 := NtFP t w4.1 w4.2
              have b4 := base _ w4.1
              refine x_linesB (h := am_sfi (am_sfi h' 196 it (i + 1)) 197 it i) (by omega) t4 b4.1 b4.2 hC hF hA hY hW mi.1 c33 (fun h5 t5 a5 z5 u5 => am_av (nxt h5 a5 t5.2.2.1 z5 u5 _ ej))
            · have : bhd S k i ≤ 40 := by
                unfold bhd
                split
                · omega
                · split <;> omega
              omega
            · have ej : bhd S k i - S 5 k (34 + 5 * i) = jbL S k i := by
                unfold bhd jbL
                by_cases c37 : S 5 k (37 + 5 * i) = 0
                · rw [if_pos c37, if_pos c37]
                · rw [if_neg c37, if_neg c37]
                  by_cases c33 : S 3 (S 5 k (33 + 5 * i)) 3 = 0
                  · unfold bhd at bp
                    rw [if_neg c37, if_pos c33] at bp
                    exact absurd bp (by decide)
                  · rw [if_neg c33, if_neg c33]
              have a4' : fx (fun q => q = it) h' (am_sfi (am_sfi h' 196 it (i + 1)) 197 it i) := fx_sfi (fx_sfi fx_refl (Or.inr rfl)) (Or.inr rfl)
              exact nxt _ fx_refl (wr_new t l1 l2 a4' (fun q hq e => by omega)).2 (Nat.le_add_right _ _) (Nat.le_add_right _ _) _ ej
          · intro h' y ti fi1 fi2 fi3 tl z u e35 ek o4
            obtain ⟨l1, l2, l3, l4⟩ := id y
            have lo := ol h' l1
            have e195 : am_fi h' 195 l = S 5 k 29 := lo.1.2.2.2.2.1
            refine v_X1_least_90 ?_
            rw [fi1, fi2, e195]
            have k29 := mk.2.2.2.1
            refine ⟨ti, lo.1.1.1.1, fun _ => ⟨by omega, hL h' y (by omega) (by omega) (fun c a b => ?_) _ _⟩, fun e => absurd rfl e⟩
            by_cases e : c = k
            · rw [e]
              exact ek
            · exact e35 c a (by omega)
        refine jl 0 (by omega) mk.2.2.2.1.1 h3 ⟨iw.1, iw.2, iy.1, iy.2.1.trans yk.2.2.2⟩ i2 i3 i4 i5 (by omega) (by omega) (by omega) (fun c a b => ?_) ?_ _
        · rw [iy.2.2, k3, am_uz_ne (by omega)]
          exact e35 c a b
        · rw [iy.2.2, k3, am_uz_eq]
          show S 0 0 0 = S 0 0 0 + 0
          omega
      have m28 := mk.2.2.1
      refine ⟨⟨bs.1, ts.1⟩, fun e => absurd e (by omega), fun _ => ⟨⟨l3.1, tm.1, by omega, mm.1⟩, fun e => ⟨⟨l3.2.2.1.2.2.2, by omega⟩, ⟨l3.2.2.1.2.2.1, by omega⟩, l0.1.1.1.1, go 0 ?_⟩, fun e => ⟨⟨l3.2.2.1.2.2.2, by omega⟩, ⟨l3.2.2.1.2.2.1, by omega⟩, l0.1.1.1.1, go 1 ?_⟩⟩⟩
      · exact (if_neg (fun w => e w.2.2)).symm
      · exact (if_pos ⟨k0, k1, e⟩).symm
    · intro h' y z u e35 o3 o4
      exact fin h' y (by omega) (by omega) e35 o3 o4
  -- the parts
  have parts : ∀ p, 0 ≤ p → p ≤ 100 → ∀ h', LsX h L x P S h' ((plS S p.toNat).length) (fun c => if c < 0 then leF S c else 0) → am_sz h' ≤ am_sz h + 5 + 7 * p.toNat → am_us h' ≤ am_us h + 24 + 73 * p.toNat → ∀ o3 o4, am_W m_X1_least (am_ev am_prog (d + 12)) K 6 [some (.inr (.inl (x))), some (.inr (.inl ((am_sz h + 1)))), some (.inl (p)), o3, o4] [] h' := by
    refine lp_z ?_ ?_
    · intro p p0 p1 hL h' y z u o3 o4
      obtain ⟨l1, l2, l3, l4⟩ := id y
      have l5 := plS_5 (S := S) p.toNat
      have ep : (p + 1).toNat = p.toNat + 1 := by omega
      have epp : ((p.toNat : Nat) : Int) = p := by omega
      have e100 : p.toNat + (100 - p.toNat) = 100 := by omega
      have es : plS S (p + 1).toNat = if (plS S p.toNat).length < 5 ∧ (0 ≤ p ∧ p / 5 < S 0 0 1 ∧ p % 5 < S 2 2 (p / 5)) ∧ S 3 p 2 = 0 ∧ bsL S p ≠ 0 then plS S p.toNat ++ [p] else plS S p.toNat := by
        rw [ep]
        show (if (plS S p.toNat).length < 5 ∧ (0 ≤ ((p.toNat : Nat) : Int) ∧ ((p.toNat : Nat) : Int) / 5 < S 0 0 1 ∧ ((p.toNat : Nat) : Int) % 5 < S 2 2 (((p.toNat : Nat) : Int) / 5)) ∧ S 3 ((p.toNat : Nat) : Int) 2 = 0 ∧ bsL S ((p.toNat : Nat) : Int) ≠ 0 then plS S p.toNat ++ [((p.toNat : Nat) : Int)] else plS S p.toNat) = _
        rw [epp]
      have t' := NtFP t l1 l2
      obtain ⟨g1, g2, g3, g4⟩ := P_fc t'
      have bs := base h' l1
      refine v_X1_least_6 ⟨fun e => absurd e (by omega), fun _ => ?_⟩
      rw [l3.2.2.2.2.2.1, bs.2, g3]
      refine ⟨l3.1, fun e => ?_, fun e => ⟨⟨bs.1, g1, g2, by omega⟩, fun e0 => ?_, fun e0 => ?_⟩⟩
      · have et := plS_top (S := S) (p := p.toNat) (by omega) (100 - p.toNat)
        rw [e100] at et
        rw [← et] at y
        exact mach 0 (by omega) c3.1 h' y (by omega) (by omega) (fun c a b => absurd b (by omega)) _ _
      · have nip : ¬ isP S p := fun ip => ((g4 p p0 (by omega)).2 ip).1.2.2.1 e0
        rw [if_neg (fun w => nip w.2.1)] at es
        rw [← es] at y
        exact v_X1_least_29 ⟨fun w => absurd rfl w, fun _ => ⟨by omega, hL h' y (by omega) (by omega) _ _⟩⟩
      · have ip : isP S p := Classical.byContradiction fun w => e0 ((g4 p p0 (by omega)).1 w)
        have q := (g4 p p0 (by omega)).2 ip
        have ap := hA p ip
        rw [q.2.2.2.2.2.1]
        refine ⟨q.1.1, fun e2 => ?_, fun e2 => ?_⟩
        · have s3 : S 3 p 3 = 0 := by
            have a3 := ap.2.2.2.2.1
            have a6 := ap.2.2.2.2.2.1
            rcases a3 with w | w
            · exact w
            · have := a6 w
              omega
          refine x_linesB (by omega) t' bs.1 bs.2 hC hF hA hY hW ip s3 (fun h5 t5 a5 z5 u5 => am_av (v_X1_least_29 ⟨fun w => ?_, fun w => ⟨by omega, ?_⟩⟩))
          · rw [if_pos ⟨by omega, ip, e2, w⟩] at es
            have y5 := LsX_fp t y a5 t5.2.2.1
            obtain ⟨m1, m2, m3, m4⟩ := y5.1
            have pc : am_ty h5 (am_ar h' (am_fr h' 20 N) p) = 9 ∧ am_fi h5 112 (am_ar h' (am_fr h' 20 N) p) = S 2 1 (p / 5) := by
              have w2 := a5.2.2.2 _ q.1.2.1
              have w3 := w2.2.2 (nF _ (by rw [q.1.2.2.2]))
              exact ⟨w2.1.trans q.1.1, (w3.1 112).trans q.2.2.2.1⟩
            rw [m3.2.1.1, m3.2.1.2.1, m3.2.2.2.2.2.1, m3.2.2.2.1.1, m3.2.2.2.1.2.1, pc.2]
            refine ⟨⟨m3.1, m3.2.2.1.1, by omega⟩, ⟨pc.1, m3.2.2.1.2.1, by omega⟩, by omega, by omega, ?_⟩
            have en : (plS S (p + 1).toNat).length = (plS S p.toNat).length + 1 := by
              rw [es, List.length_append]
              rfl
            have gp : gt (plS S 100) (plS S p.toNat).length = p := by
              have q := plS_pre (S := S) (p := (p + 1).toNat) (i := (plS S p.toNat).length) (by omega) (100 - (p + 1).toNat)
              have e100' : (p + 1).toNat + (100 - (p + 1).toNat) = 100 := by omega
              rw [e100', es, gt_last] at q
              exact q.2
            have a6 : fx (fun q => q = (am_sz h + 1) + 1 ∨ q = (am_sz h + 1) + 2 ∨ q = (am_sz h + 1)) h5 (am_sfi (am_sai (am_sai h5 ((am_sz h + 1) + 1) ((plS S p.toNat).length : Int) (bsL S p)) ((am_sz h + 1) + 2) ((plS S p.toNat).length : Int) (S 2 1 (p / 5))) 183 (am_sz h + 1) (((plS S p.toNat).length : Int) + 1)) := fx_sfi (fx_sai (fx_sai fx_refl (Or.inr (Or.inl rfl))) (Or.inr (Or.inr (Or.inl rfl)))) (Or.inr (Or.inr (Or.inr rfl)))
            have w6 := wr_new t m1 m2 a6 (fun q hq e => by omega)
            refine hL _ ⟨w6.1, w6.2, ?_, ?_⟩ (by show am_sz h5 ≤ _; omega) (by show am_us h5 ≤ _; omega) _ _
            · obtain ⟨y1, y2, y3, y4, y5, y6, y7, y8⟩ := m3
              refine ⟨y1, y2, y3, y4, y5, ?_, fun i i0 i1 => ?_, fun c a b => ?_⟩
              · rw [x_fie, en]
                omega
              · rw [en] at i1
                show am_ai (am_sai (am_sai h5 ((am_sz h + 1) + 1) ((plS S p.toNat).length : Int) (bsL S p)) ((am_sz h + 1) + 2) ((plS S p.toNat).length : Int) (S 2 1 (p / 5))) ((am_sz h + 1) + 1) i = _ ∧ am_ai (am_sai (am_sai h5 ((am_sz h + 1) + 1) ((plS S p.toNat).length : Int) (bsL S p)) ((am_sz h + 1) + 2) ((plS S p.toNat).length : Int) (S 2 1 (p / 5))) ((am_sz h + 1) + 2) i = _
                rw [x_ais (by omega), x_aise, x_aise, x_ais (by omega)]
                by_cases ei : i = ((plS S p.toNat).length : Int)
                · have ein : i.toNat = (plS S p.toNat).length := by omega
                  rw [ei, am_uz_eq, am_uz_eq]
                  show _ = bsL S (gt (plS S 100) (((plS S p.toNat).length : Int)).toNat) ∧ _ = S 2 1 (gt (plS S 100) (((plS S p.toNat).length : Int)).toNat / 5)
                  have e2 : (((plS S p.toNat).length : Nat) : Int).toNat = (plS S p.toNat).length := by omega
                  rw [e2, gp]
                  exact ⟨rfl, rfl⟩
                · rw [am_uz_ne ei, am_uz_ne ei]
                  exact y7 i i0 (by omega)
              · show am_ai (am_sai (am_sai h5 ((am_sz h + 1) + 1) ((plS S p.toNat).length : Int) (bsL S p)) ((am_sz h + 1) + 2) ((plS S p.toNat).length : Int) (S 2 1 (p / 5))) ((am_sz h + 1) + 4) c = _
                rw [x_ais (by omega), x_ais (by omega)]
                exact y8 c a b
            · exact (x_fif (by decide)).trans m4
          · rw [if_neg (fun v => v.2.2.2 w)] at es
            have y5 := (LsX_fp t y a5 t5.2.2.1).1
            rw [← es] at y5
            exact hL h5 y5 (by omega) (by omega) _ _
        · rw [if_neg (fun w => e2 w.2.2.1)] at es
          rw [← es] at y
          exact v_X1_least_29 ⟨fun w => absurd rfl w, fun _ => ⟨by omega, hL h' y (by omega) (by omega) _ _⟩⟩
    · intro h' y z u o3 o4
      exact v_X1_least_6 ⟨fun _ => mach 0 (by omega) c3.1 h' y (by omega) (by omega) (fun c a b => absurd b (by omega)) _ _, fun e => absurd e (by omega)⟩
  -- the plan is made
  have f0 : fx (fun _ => False) h (am_new h 28 6) := fx0_new
  obtain ⟨h2, e2, a2, s2, u2, f2, g2, i2, t2, l2, n2⟩ := arT (h := am_new h 28 6) (tg := 101) (r0 := (am_sz h + 1)) (n := 5) (fld := 179) (k := (am_sz h + 1) + 1) (Nat.le_refl _) rfl
  rw [← e2]
  obtain ⟨h3, e3, a3, s3, u3, f3, g3, i3, t3, l3, n3⟩ := arT (h := h2) (tg := 101) (r0 := (am_sz h + 1)) (n := 5) (fld := 180) (k := (am_sz h + 1) + 1 + 1) (by omega) (by omega)
  rw [← e3]
  obtain ⟨h4, e4, a4, s4, u4, f4, g4, i4, t4, l4, n4⟩ := arT (h := h3) (tg := 101) (r0 := (am_sz h + 1)) (n := 4) (fld := 181) (k := (am_sz h + 1) + 1 + 1 + 1) (by omega) (by omega)
  rw [← e4]
  obtain ⟨h5, e5, a5, s5, u5, f5, g5, i5, t5, l5, n5⟩ := arT (h := h4) (tg := 103) (r0 := (am_sz h + 1)) (n := 4) (fld := 182) (k := (am_sz h + 1) + 1 + 1 + 1 + 1) (by omega) (by omega)
  rw [← e5]
  have un : am_us (am_new h 28 6) = am_us h + 6 := rfl
  have b45 := a5
  have b35 : fx (fun q => q = (am_sz h + 1)) h3 h5 := fx_trans a4 a5
  have b25 : fx (fun q => q = (am_sz h + 1)) h2 h5 := fx_trans a3 b35
  have b15 : fx (fun q => q = (am_sz h + 1)) (am_new h 28 6) h5 := fx_trans a2 b25
  have b15' : fx (fun q => q = (am_sz h + 1)) (am_new h 28 6) (am_sfi h5 184 (am_sz h + 1) (-1)) := fx_sfi b15 (Or.inr rfl)
  have w0 := b15.2.2.2 (am_sz h + 1) (Nat.le_refl _)
  have w2 := b25.2.2.2 ((am_sz h + 1) + 1) (by omega)
  have w3 := b35.2.2.2 ((am_sz h + 1) + 1 + 1) (by omega)
  have w4 := b45.2.2.2 ((am_sz h + 1) + 1 + 1 + 1) (by omega)
  have pp : rPap (am_new h 28 6) L x P := (Nt_fx0 f0 t).2.2.1
  have fpn : fx (fun q => (L q).1 = x ∧ (L q).2.1 = 1) h (am_new h 28 6) := fx_new fx_refl
  have wr := wr_new t fpn pp b15' (fun q hq e => by omega)
  have r179 : am_fr h5 179 (am_sz h + 1) = (am_sz h + 1) + 1 := (g5 179 (by decide)).trans ((g4 179 (by decide)).trans ((g3 179 (by decide)).trans f2))
  have r180 : am_fr h5 180 (am_sz h + 1) = (am_sz h + 1) + 2 := (g5 180 (by decide)).trans ((g4 180 (by decide)).trans f3)
  have r181 : am_fr h5 181 (am_sz h + 1) = (am_sz h + 1) + 3 := (g5 181 (by decide)).trans f4
  have r182 : am_fr h5 182 (am_sz h + 1) = (am_sz h + 1) + 4 := f5
  have i183 : am_fi h5 183 (am_sz h + 1) = 0 := (i5 183).trans ((i4 183).trans ((i3 183).trans ((i2 183).trans (x_fin0 rfl))))
  refine parts 0 (by omega) (by omega) _ ⟨wr.1, wr.2, ⟨w0.1.trans (x_tyn0 rfl), ⟨r179, r180, r181, r182⟩, ⟨w2.1.trans t2, w3.1.trans t3, w4.1.trans t4, t5⟩, ⟨w2.2.1.trans l2, w3.2.1.trans l3, w4.2.1.trans l4, l5⟩, by show (am_sz h + 1) + 4 ≤ am_sz h5; omega, (x_fif (by decide)).trans i183, fun i i0 i1 => absurd i1 ?_, fun c a b => ?_⟩, x_fie⟩ (by show am_sz h5 ≤ _; omega) (by show am_us h5 ≤ _; omega) _ _
  · show ¬ i < ((0 : Nat) : Int)
    omega
  · show am_ai h5 ((am_sz h + 1) + 4) c = if c < 0 then leF S c else 0
    rw [if_neg (by omega)]
    have e : am_ai h5 ((am_sz h + 1) + 1 + 1 + 1 + 1) = fun _ => 0 := n5
    exact congrFun e c
end
