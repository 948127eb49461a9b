set_option maxRecDepth 100000
/-- the place of a new line -/
def pl97 (v : Int → Int) (l0 n n0 s j : Int) : Int := if j < l0 then v (45 + j) - 1 else if j < n0 - s then -1 else v (45 + (j - n0 + n)) - 1
theorem pl_Q {S : am_G} {p l0 n0 : Int} {u : Int → Int} (hu4 : u 4 = n0) (hu5 : ∀ j, 0 ≤ j → j < l0 → u (5 + j) = (S 3 p) (5 + j)) (hu45 : ∀ j, 0 ≤ j → j < l0 → u (45 + j) = (S 3 p) (45 + j)) (hu0 : ∀ j, l0 ≤ j → j < n0 → u (45 + j) = 0) (hur : u 0 = (S 3 p) 0 ∧ u 2 = (S 3 p) 2 ∧ u 3 = (S 3 p) 3) (hl0 : 0 ≤ l0 ∧ l0 < (S 3 p 4) ∧ l0 < n0 ∧ n0 ≤ 40) (sb : 0 ≤ (smN (S 3 p) u (S 3 p 4) n0 l0 41 0) ∧ (smN (S 3 p) u (S 3 p 4) n0 l0 41 0) ≤ (S 3 p 4) - l0 ∧ (smN (S 3 p) u (S 3 p 4) n0 l0 41 0) ≤ n0 - l0) {j : Int} (hj : 0 ≤ j ∧ j < n0) : (pkS (setR S p u) (S 3 p) p l0 (S 3 p 4) n0 (smN (S 3 p) u (S 3 p 4) n0 l0 41 0) ((S 3 p 4) - l0).toNat) 3 p (45 + j) - 1 = (pl97 (S 3 p) l0 (S 3 p 4) n0 (smN (S 3 p) u (S 3 p 4) n0 l0 41 0) (j)) := by
  have e3 : setR S p u 3 p = u := setR_p
  unfold pl97
  by_cases c : j < l0
  · rw [if_pos c, pkS_o (by omega) _ (by omega), e3, hu45 j hj.1 c]
  · rw [if_neg c]
    by_cases c2 : j < n0 - (smN (S 3 p) u (S 3 p 4) n0 l0 41 0)
    · rw [if_pos c2, pkS_o (by omega) _ (by omega), e3, hu0 j (by omega) hj.2]
      omega
    · rw [if_neg c2, pkS_p (by rw [e3]; exact hu0 j (by omega) hj.2) (by omega) _ (by omega), if_pos (by omega)]
section
variable {K : am_K} {h : am_H}
/-- the places are filled -/
theorem x_op97 {L : am_Lb} {x P N : Nat} {S : am_G} {B : Int} {p l0 n0 k : Int} {u : Int → Int} {hb h5 : am_H} {L9 : am_Lb} {T tl mc r7 rp : Nat} {d : Nat} (t : Nt hb L x P N S B) (hC : okC S) (hF : okF S) (hA : okA S) (hG : okG S) (hX : okX S) (ip : isP S p) (s3 : (S 3 p) 3 = 1) (hT : T = am_ar hb (am_fr hb 20 N) p) (hu4 : u 4 = n0) (hu5 : ∀ j, 0 ≤ j → j < l0 → u (5 + j) = (S 3 p) (5 + j)) (hu45 : ∀ j, 0 ≤ j → j < l0 → u (45 + j) = (S 3 p) (45 + j)) (hu0 : ∀ j, l0 ≤ j → j < n0 → u (45 + j) = 0) (hur : u 0 = (S 3 p) 0 ∧ u 2 = (S 3 p) 2 ∧ u 3 = (S 3 p) 3) (hl0 : 0 ≤ l0 ∧ l0 < (S 3 p 4) ∧ l0 < n0 ∧ n0 ≤ 40) (sb : 0 ≤ (smN (S 3 p) u (S 3 p 4) n0 l0 41 0) ∧ (smN (S 3 p) u (S 3 p 4) n0 l0 41 0) ≤ (S 3 p 4) - l0 ∧ (smN (S 3 p) u (S 3 p 4) n0 l0 41 0) ≤ n0 - l0) (hx : am_ty hb x = 1 ∧ x ≤ am_sz hb) (lx : L x = (x, 0, 0, 0)) (hN : am_fr hb 1 x = N)
    (a5 : fx (fun q => q = T ∨ ((L q).1 = N ∧ (L q).2.1 = 4) ∨ ((L q).1 = x ∧ (L q).2.1 = 1)) hb h5) (le5 : leL hb L L9) (ok5 : okLb h5 L9) (r7z : am_ty h5 r7 = 101 ∧ r7 ≤ am_sz h5 ∧ am_ln h5 r7 = n0 ∧ (L9 r7).1 = 0) (rpz : nd h5 L9 rp 101 N 3 2 p ∧ am_ln h5 rp = n0 ∧ am_sz hb < rp) (f118 : am_fr h5 118 T = rp) (f110 : am_fi h5 110 T = p)
    (yG : rG h5 L9 N (am_fr hb 25 N) (pkS (setR S p u) (S 3 p) p l0 (S 3 p 4) n0 (smN (S 3 p) u (S 3 p 4) n0 l0 41 0) ((S 3 p 4) - (smN (S 3 p) u (S 3 p 4) n0 l0 41 0) - l0).toNat) B)
    (H : ∀ h6, fx (fun q => ((L9 q).1 = N ∧ (L9 q).2.1 = 4) ∨ q = rp) h5 h6 → am_sz h6 = am_sz h5 → am_us h6 = am_us h5 → (∀ f q, q ≠ rp → (L9 q).2.1 ≠ 4 → am_fr h6 f q = am_fr h5 f q) → rG h6 L9 N (am_fr hb 25 N) (pkS (setR S p u) (S 3 p) p l0 (S 3 p 4) n0 (smN (S 3 p) u (S 3 p 4) n0 l0 41 0) ((S 3 p 4) - l0).toNat) B → (∀ j, 0 ≤ j → j < n0 → am_ai h6 rp j = (pl97 (S 3 p) l0 (S 3 p 4) n0 (smN (S 3 p) u (S 3 p 4) n0 l0 41 0) (j))) → ∀ o10, am_W m_X1_opens (am_ev am_prog (d + 12)) K 97 [some (.inr (.inl (x))), some (.inr (.inl (T))), some (.inl (l0)), some (.inr (.inl (tl))), some (.inr (.inl (mc))), some (.inr (.inl (am_fr hb 117 T))), some (.inr (.inl (am_fr hb 118 T))), some (.inr (.inl (r7))), some (.inl ((smN (S 3 p) u (S 3 p 4) n0 l0 41 0))), some (.inl (n0)), o10] [] h6) : ∀ o10, am_W m_X1_opens (am_ev am_prog (d + 12)) K 97 [some (.inr (.inl (x))), some (.inr (.inl (T))), some (.inl (l0)), some (.inr (.inl (tl))), some (.inr (.inl (mc))), some (.inr (.inl (am_fr hb 117 T))), some (.inr (.inl (am_fr hb 118 T))), some (.inr (.inl (r7))), some (.inl ((smN (S 3 p) u (S 3 p 4) n0 l0 41 0))), some (.inl (0)), o10] [] h5 := by
  obtain ⟨x1, x2, x3, x4, x5, x6, x7, x8, x9, x10⟩ := t.2.2.2.1
  have xN := t.2.2.2.2
  have pb := isP_bd hC hF ip
  have ap := hA p ip
  have p1 := ap.1.1
  have oL := ap.2.2.2.2.2.2.1 s3
  have p4 := ap.2.2.2.2.2.2.2
  have g4 := hG.1
  have pt := (x3.2.2 p pb.1.1 pb.1.2).2 ip
  rw [← hT] at pt
  obtain ⟨z1, z2, z3, z4, z5⟩ := pt.2.2.2.2.2.2.2.2 (by omega)
  have plb : ∀ j, 0 ≤ j → j < (S 3 p 4) → 0 ≤ (S 3 p) (45 + j) ∧ (S 3 p) (45 + j) ≤ S 0 0 4 := fun j a b => (oL.2.2 j a b).2.2
  have plX : ∀ j, 0 ≤ j → j < (S 3 p 4) → (S 3 p) (45 + j) ≠ 0 → S 4 ((S 3 p) (45 + j) - 1) 4 = 0 ∧ S 4 ((S 3 p) (45 + j) - 1) 6 = p ∧ S 4 ((S 3 p) (45 + j) - 1) 5 = j := fun j a b c => hX p ip s3 j a b c
  have inj : ∀ i j, 0 ≤ i → i < (S 3 p 4) → 0 ≤ j → j < (S 3 p 4) → (S 3 p) (45 + i) ≠ 0 → (S 3 p) (45 + i) = (S 3 p) (45 + j) → i = j := fun i j a b c d e f => by
    have q1 := (plX i a b e).2.2
    have q2 := (plX j c d (by rw [← f]; exact e)).2.2
    rw [f] at q1
    omega
  -- old cells that are left
  have nX : ∀ q, (L q).1 = N → (L q).2.1 ≠ 4 → q ≠ T → ¬ (fun q => q = T ∨ ((L q).1 = N ∧ (L q).2.1 = 4) ∨ ((L q).1 = x ∧ (L q).2.1 = 1)) q := fun q e1 e2 e3 z => by
    rcases z with z | z | z
    · exact e3 z
    · exact e2 z.2
    · exact xN.1 (z.1.symm.trans e1)
  have nX0 : ∀ q, (L q).1 = 0 → ¬ (fun q => q = T ∨ ((L q).1 = N ∧ (L q).2.1 = 4) ∨ ((L q).1 = x ∧ (L q).2.1 = 1)) q := fun q e1 z => by
    rcases z with z | z | z
    · rw [z, pt.1.2.2.2] at e1
      exact xN.2.2 e1
    · exact xN.2.2 (z.1.symm.trans e1)
    · exact xN.2.1 (z.1.symm.trans e1)
  have nXx : ¬ (fun q => q = T ∨ ((L q).1 = N ∧ (L q).2.1 = 4) ∨ ((L q).1 = x ∧ (L q).2.1 = 1)) x := fun z => by
    rcases z with z | z | z
    · have q := pt.1.1
      rw [← z, hx.1] at q
      exact absurd q (by decide)
    · rw [lx] at z
      exact xN.1 z.1
    · rw [lx] at z
      exact absurd z.2 (by show (0 : Nat) ≠ 1; decide)
  -- facts of all heaps of the loop
  have cmp : ∀ h6, fx (fun q => ((L9 q).1 = N ∧ (L9 q).2.1 = 4) ∨ q = rp) h5 h6 → fx (fun q => q = T ∨ ((L q).1 = N ∧ (L q).2.1 = 4) ∨ ((L q).1 = x ∧ (L q).2.1 = 1)) hb h6 := fun h6 b => fx_trans2 a5 b (fun q hq z => by
    rcases z with z | z
    · rw [le5 q hq] at z
      exact Or.inr (Or.inl z)
    · have := rpz.2.2
      omega)
  have fc : ∀ h6, fx (fun q => ((L9 q).1 = N ∧ (L9 q).2.1 = 4) ∨ q = rp) h5 h6 → (am_ty h6 x = 1 ∧ am_fr h6 1 x = N) ∧ (am_ty h6 N = 3 ∧ am_fr h6 25 N = (am_fr hb 25 N)) ∧ am_ty h6 T = 9 ∧ (am_ty h6 (am_fr hb 118 T) = 101 ∧ am_ln h6 (am_fr hb 118 T) = (S 3 p 4) ∧ ∀ j, 0 ≤ j → j < (S 3 p 4) → am_ai h6 (am_fr hb 118 T) j = (S 3 p) (45 + j) - 1) ∧ (am_ty h6 (am_fr hb 117 T) = 116 ∧ am_ln h6 (am_fr hb 117 T) = (S 3 p 4)) ∧ (am_ty h6 r7 = 101 ∧ am_ln h6 r7 = n0) ∧ (am_ty h6 rp = 101 ∧ am_ln h6 rp = n0) := fun h6 b => by
    have a6 := cmp h6 b
    have wx := a6.2.2.2 x hx.2
    have wN := a6.2.2.2 N x1.1.2.1
    have wT := a6.2.2.2 T pt.1.2.1
    have wl := nd_fx a6 (leL_refl (L := L)) z3 (nX _ (by rw [z3.2.2.2]) (by rw [z3.2.2.2]; show (3 : Nat) ≠ 4; decide) (fun w => by
      have q := z3.1
      rw [w, pt.1.1] at q
      exact absurd q (by decide)))
    have ws := a6.2.2.2 (am_fr hb 117 T) z2.2.1
    have w7 := b.2.2.2 r7 r7z.2.1
    have wp := b.2.2.2 rp rpz.1.2.1
    refine ⟨⟨wx.1.trans hx.1, ((wx.2.2 nXx).2.1 1).trans hN⟩, ⟨wN.1.trans x1.1.1, (wN.2.2 (nX N (by rw [x1.1.2.2.2]) (by rw [x1.1.2.2.2]; show (0 : Nat) ≠ 4; decide) (fun w => by
      have q := x1.1.1
      rw [w, pt.1.1] at q
      exact absurd q (by decide)))).2.1 25⟩, wT.1.trans pt.1.1, ⟨wl.1.1, wl.2.1.trans z4, fun j j0 j1 => ?_⟩, ⟨ws.1.trans z2.1, ws.2.1.trans z2.2.2.2.1⟩, ⟨w7.1.trans r7z.1, w7.2.1.trans r7z.2.2.1⟩, ⟨wp.1.trans rpz.1.1, wp.2.1.trans rpz.2.1⟩⟩
    rw [wl.2.2.2.2.1]
    exact z5 j j0 j1
  have fp : ∀ h6, (∀ f q, q ≠ rp → (L9 q).2.1 ≠ 4 → am_fr h6 f q = am_fr h5 f q) → am_fr h6 118 T = rp := fun h6 hf => by
    rw [hf 118 T (fun w => by have := pt.1.2.1; have := rpz.2.2; omega) (by rw [le5 T pt.1.2.1, pt.1.2.2.2]; show (3 : Nat) ≠ 4; decide)]
    exact f118
  have glx : ∀ h6 Sj, rG h6 L9 N (am_fr hb 25 N) Sj B → Sj 0 0 4 = S 0 0 4 → xL h6 (am_fr hb 25 N) ∧ am_fi h6 195 (am_fr hb 25 N) = S 0 0 4 := fun h6 Sj y e => ⟨y.1.1.1, y.1.2.2.2.2.1.trans e⟩
  have nT9 : ¬ (fun q => ((L9 q).1 = N ∧ (L9 q).2.1 = 4) ∨ q = rp) T := fun z => by
    rcases z with z | z
    · rw [le5 T pt.1.2.1, pt.1.2.2.2] at z
      exact absurd z.2 (by show (3 : Nat) ≠ 4; decide)
    · have := pt.1.2.1
      have := rpz.2.2
      omega
  have f110' : ∀ h6, fx (fun q => ((L9 q).1 = N ∧ (L9 q).2.1 = 4) ∨ q = rp) h5 h6 → am_fi h6 110 T = p := fun h6 b => ((b.2.2.2 T (Nat.le_trans pt.1.2.1 a5.1)).2.2 nT9).1 110 |>.trans f110
  have cs6 : ∀ h6, fx (fun q => ((L9 q).1 = N ∧ (L9 q).2.1 = 4) ∨ q = rp) h5 h6 → am_ty h6 (am_cs h6 0) = 134 := fun h6 b => (cs_fx (cmp h6 b) t.2.1).1
  have ok6 : ∀ h6, fx (fun q => ((L9 q).1 = N ∧ (L9 q).2.1 = 4) ∨ q = rp) h5 h6 → okLb h6 L9 := fun h6 b => okLb_fx b ok5
  have lrp : L9 rp = (N, 3, 2, p) := rpz.1.2.2.2
  have e04 : ∀ j, (pkS (setR S p u) (S 3 p) p l0 (S 3 p 4) n0 (smN (S 3 p) u (S 3 p 4) n0 l0 41 0) j) 0 0 4 = S 0 0 4 := fun j => by rw [pkS_c (by decide) (by decide), setR_c (by decide)]
  have eP2 : ∀ j, (pkS (setR S p u) (S 3 p) p l0 (S 3 p 4) n0 (smN (S 3 p) u (S 3 p 4) n0 l0 41 0) j) 2 = S 2 := fun j => by rw [pkS_c (by decide) (by decide), setR_c (by decide)]
  -- a place is written
  have wrG : ∀ h6 k val j, fx (fun q => ((L9 q).1 = N ∧ (L9 q).2.1 = 4) ∨ q = rp) h5 h6 → rG h6 L9 N (am_fr hb 25 N) (pkS (setR S p u) (S 3 p) p l0 (S 3 p 4) n0 (smN (S 3 p) u (S 3 p 4) n0 l0 41 0) j) B → rG (am_sai h6 rp k val) L9 N (am_fr hb 25 N) (pkS (setR S p u) (S 3 p) p l0 (S 3 p 4) n0 (smN (S 3 p) u (S 3 p 4) n0 l0 41 0) j) B ∧ fx (fun q => ((L9 q).1 = N ∧ (L9 q).2.1 = 4) ∨ q = rp) h5 (am_sai h6 rp k val) := fun h6 k val j b y => by
    have aa : fx (fun q => q = rp) h6 (am_sai h6 rp k val) := fx_sai fx_refl (Or.inr rfl)
    refine ⟨rG_fx aa leL_refl (ok6 h6 b) (cs6 h6 b) (fun q hq z => ?_) (Int.le_refl B) rfl (fun _ _ _ => rfl) rfl y, fx_sai b (Or.inr (Or.inr rfl))⟩
    rw [z]
    unfold zf
    rw [lrp]
    exact ⟨xN.2.2, fun w => absurd w.2 (by show (3 : Nat) ≠ 4; decide)⟩
  have wrA : ∀ h6 k val, (∀ j, 0 ≤ j → j < k → am_ai h6 rp j = (pl97 (S 3 p) l0 (S 3 p 4) n0 (smN (S 3 p) u (S 3 p 4) n0 l0 41 0) (j))) → val = (pl97 (S 3 p) l0 (S 3 p 4) n0 (smN (S 3 p) u (S 3 p 4) n0 l0 41 0) (k)) → ∀ j, 0 ≤ j → j < k + 1 → am_ai (am_sai h6 rp k val) rp j = (pl97 (S 3 p) l0 (S 3 p 4) n0 (smN (S 3 p) u (S 3 p 4) n0 l0 41 0) (j)) := fun h6 k val hj ev j j0 j1 => by
    rw [x_aise]
    by_cases c : j = k
    · rw [c, am_uz_eq]
      exact ev
    · rw [am_uz_ne c]
      exact hj j j0 (by omega)
  -- the lines at the end: their slugs lie there now
  have seg3 : ∀ k, n0 - (smN (S 3 p) u (S 3 p 4) n0 l0 41 0) ≤ k → k ≤ n0 → ∀ h6, fx (fun q => ((L9 q).1 = N ∧ (L9 q).2.1 = 4) ∨ q = rp) h5 h6 → am_sz h6 = am_sz h5 → am_us h6 = am_us h5 → (∀ f q, q ≠ rp → (L9 q).2.1 ≠ 4 → am_fr h6 f q = am_fr h5 f q) → rG h6 L9 N (am_fr hb 25 N) (pkS (setR S p u) (S 3 p) p l0 (S 3 p 4) n0 (smN (S 3 p) u (S 3 p 4) n0 l0 41 0) (k - n0 + (S 3 p 4) - l0).toNat) B → (∀ j, 0 ≤ j → j < k → am_ai h6 rp j = (pl97 (S 3 p) l0 (S 3 p 4) n0 (smN (S 3 p) u (S 3 p 4) n0 l0 41 0) (j))) → ∀ o10, am_W m_X1_opens (am_ev am_prog (d + 12)) K 97 [some (.inr (.inl (x))), some (.inr (.inl (T))), some (.inl (l0)), some (.inr (.inl (tl))), some (.inr (.inl (mc))), some (.inr (.inl (am_fr hb 117 T))), some (.inr (.inl (am_fr hb 118 T))), some (.inr (.inl (r7))), some (.inl ((smN (S 3 p) u (S 3 p 4) n0 l0 41 0))), some (.inl (k)), o10] [] h6 := by
    refine lp_z ?_ ?_
    · intro k k0 k1 hL h6 b zs us fr yG hp o10
      obtain ⟨⟨tx, f1⟩, ⟨tN, f25⟩, tT, ⟨ta, la, aa⟩, ⟨ts, ls⟩, ⟨t7, l7⟩, ⟨tp, lp⟩⟩ := fc h6 b
      have ej : (k + 1 - n0 + (S 3 p 4) - l0).toNat = (k - n0 + (S 3 p 4) - l0).toNat + 1 := by omega
      have est : l0 + (((k - n0 + (S 3 p 4) - l0).toNat : Nat) : Int) = k - n0 + (S 3 p 4) := by omega
      have es := pkS_s (S2 := setR S p u) (v := (S 3 p)) (p := p) (l0 := l0) (n := (S 3 p 4)) (m := n0) (s := (smN (S 3 p) u (S 3 p 4) n0 l0 41 0)) (j := (k - n0 + (S 3 p 4) - l0).toNat)
      rw [est] at es
      rw [ej, es] at hL
      have av := aa (k - n0 + (S 3 p 4)) (by omega) (by omega)
      have pv := plb (k - n0 + (S 3 p 4)) (by omega) (by omega)
      have ePL : (S 3 p) (45 + (k - n0 + (S 3 p 4))) - 1 = (pl97 (S 3 p) l0 (S 3 p 4) n0 (smN (S 3 p) u (S 3 p 4) n0 l0 41 0) (k)) := ((if_neg (by omega)).trans (if_neg (by omega))).symm
      have gx := glx h6 _ yG (e04 _)
      refine v_X1_opens_97 ?_
      rw [l7, ls, fp h6 fr, la, lp, av, f1, f25, f110' h6 b]
      refine ⟨Or.inl t7, fun z => absurd z (by omega), fun _ => ⟨fun _ => ⟨by omega, fun _ => ⟨⟨by omega, ts, by omega⟩, tT, fun _ => ⟨⟨Or.inl ta, by omega⟩, ⟨tp, by omega⟩, Or.inl tp, fun z => ⟨by omega, ?_⟩, fun z => ?_⟩, fun z => absurd z (by omega)⟩, fun z => absurd z (by omega)⟩, fun z => absurd z (by omega)⟩⟩
      · rw [if_pos (by omega)] at hL
        have w := wrG h6 k ((S 3 p) (45 + (k - n0 + (S 3 p 4))) - 1) _ b yG
        exact hL _ w.2 zs us fr w.1 (wrA h6 k _ hp ePL) _
      · have sr : 0 ≤ (S 3 p) (45 + (k - n0 + (S 3 p 4))) - 1 ∧ (S 3 p) (45 + (k - n0 + (S 3 p 4))) - 1 < S 0 0 4 := by omega
        have e4' : (pkS (setR S p u) (S 3 p) p l0 (S 3 p 4) n0 (smN (S 3 p) u (S 3 p 4) n0 l0 41 0) (k - n0 + (S 3 p 4) - l0).toNat) 0 0 4 = S 0 0 4 := e04 _
        have ys := yG.2 ((S 3 p) (45 + (k - n0 + (S 3 p 4))) - 1) sr.1 (by rw [e4']; exact sr.2)
        have tg := G_ty ys
        have w := wrG h6 k ((S 3 p) (45 + (k - n0 + (S 3 p 4))) - 1) _ b yG
        rw [if_neg (by omega), if_pos (by omega)] at hL
        have ek : k - n0 + (S 3 p 4) - (S 3 p 4) + n0 = k := by omega
        rw [ek] at hL
        refine ⟨⟨tx, tN⟩, gx.1.1, ⟨gx.1, by show 0 ≤ (S 3 p) (45 + (k - n0 + (S 3 p 4))) - 1 ∧ (S 3 p) (45 + (k - n0 + (S 3 p 4))) - 1 < am_fi h6 195 (am_fr hb 25 N); rw [gx.2]; exact sr⟩, Or.inr tg, tg, by omega, ?_⟩
        have ng : am_ar h6 (am_fr h6 194 (am_fr hb 25 N)) ((S 3 p) (45 + (k - n0 + (S 3 p 4))) - 1) ≠ rp := fun e => by
          rw [e, tp] at tg
          omega
        show am_W m_X1_opens _ K 97 _ [] (am_sfi (am_sfi (am_sai h6 rp k ((S 3 p) (45 + (k - n0 + (S 3 p 4))) - 1)) 161 (am_ar h6 (am_fr h6 194 (am_fr hb 25 N)) ((S 3 p) (45 + (k - n0 + (S 3 p 4))) - 1)) p) 162 (am_ar h6 (am_fr h6 194 (am_fr hb 25 N)) ((S 3 p) (45 + (k - n0 + (S 3 p 4))) - 1)) k)
        have ys' := w.1.2 ((S 3 p) (45 + (k - n0 + (S 3 p 4))) - 1) sr.1 (by rw [e4']; exact sr.2)
        have ys2 : rSg (am_sai h6 rp k ((S 3 p) (45 + (k - n0 + (S 3 p 4))) - 1)) L9 N (pkS (setR S p u) (S 3 p) p l0 (S 3 p 4) n0 (smN (S 3 p) u (S 3 p 4) n0 l0 41 0) (k - n0 + (S 3 p 4) - l0).toNat) ((S 3 p) (45 + (k - n0 + (S 3 p 4))) - 1) (am_ar h6 (am_fr h6 194 (am_fr hb 25 N)) ((S 3 p) (45 + (k - n0 + (S 3 p 4))) - 1)) := ys'
        have lg : (L9 (am_ar h6 (am_fr h6 194 (am_fr hb 25 N)) ((S 3 p) (45 + (k - n0 + (S 3 p 4))) - 1))).1 = N ∧ (L9 (am_ar h6 (am_fr h6 194 (am_fr hb 25 N)) ((S 3 p) (45 + (k - n0 + (S 3 p 4))) - 1))).2.1 = 4 := by
          rw [ys.1.2.2.2]
          exact ⟨rfl, rfl⟩
        have hgg : am_ar h6 (am_fr h6 194 (am_fr hb 25 N)) ((S 3 p) (45 + (k - n0 + (S 3 p 4))) - 1) = am_ar (am_sai h6 rp k ((S 3 p) (45 + (k - n0 + (S 3 p 4))) - 1)) (am_fr (am_sai h6 rp k ((S 3 p) (45 + (k - n0 + (S 3 p 4))) - 1)) 194 (am_fr hb 25 N)) ((S 3 p) (45 + (k - n0 + (S 3 p 4))) - 1) := rfl
        generalize am_ar h6 (am_fr h6 194 (am_fr hb 25 N)) ((S 3 p) (45 + (k - n0 + (S 3 p 4))) - 1) = g at *
        have ai7 := wrA h6 k _ hp ePL
        have fr7 : ∀ f q, q ≠ rp → (L9 q).2.1 ≠ 4 → am_fr (am_sai h6 rp k ((S 3 p) (45 + (k - n0 + (S 3 p 4))) - 1)) f q = am_fr h5 f q := fr
        have sz7 : am_sz (am_sai h6 rp k ((S 3 p) (45 + (k - n0 + (S 3 p 4))) - 1)) = am_sz h5 := zs
        have us7 : am_us (am_sai h6 rp k ((S 3 p) (45 + (k - n0 + (S 3 p 4))) - 1)) = am_us h5 := us
        generalize am_sai h6 rp k ((S 3 p) (45 + (k - n0 + (S 3 p 4))) - 1) = h7 at *
        have ag : fx (fun q => q = g) h7 (am_sfi (am_sfi h7 161 g p) 162 g k) := fx_sfi (fx_sfi fx_refl (Or.inr rfl)) (Or.inr rfl)
        refine hL _ (fx_sfi (fx_sfi w.2 (Or.inr (Or.inl lg))) (Or.inr (Or.inl lg))) sz7 us7 fr7 ?_ ai7 _
        refine (rG_u (ok6 h7 w.2) xN.2.2 w.1 (s := (S 3 p) (45 + (k - n0 + (S 3 p 4))) - 1) (by rw [e4']; exact sr) hgg ag ?_ ?_ (fun q hq => ?_) (rSg_3 (ok6 h7 w.2) xN.2.2 ys2 ag (fun _ => rfl) (fun f f1 f2 f3 => (x_fif f2).trans (x_fif f1)) ?_ (fun o o4 o5 o6 => ?_) ?_ ?_ ?_)).1
        · rw [u3_nc (by decide), u3_nc (by decide), u3_nc (by decide)]
        · rw [u3_r (by decide), u3_r (by decide), u3_r (by decide)]
        · rw [u3_r (by decide), u3_rp hq, u3_rp hq]
        · rw [u3_r (by decide), u3_r (by decide), u3_r (by decide)]
        · rw [u3_nc (by decide), u3_no o6, u3_no o5]
        · rw [x_fif (by decide), x_fie, u3_nc (by decide), u3_eq]
        · rw [x_fie, u3_nc (by decide), u3_no (by decide), u3_eq]
        · rw [x_fif (by decide), x_fif (by decide), u3_nc (by decide), u3_no (by decide), u3_no (by decide)]
          exact ys2.2.2.2.2.2.2.2.2.2.1
    · intro h6 b zs us fr yG hp o10
      have ek : (n0 - n0 + (S 3 p 4) - l0).toNat = ((S 3 p 4) - l0).toNat := by omega
      rw [ek] at yG
      exact H h6 b zs us fr yG hp o10
  -- the lines between: nothing lies there
  have seg2 : ∀ k, l0 ≤ k → k ≤ n0 - (smN (S 3 p) u (S 3 p 4) n0 l0 41 0) → ∀ h6, fx (fun q => ((L9 q).1 = N ∧ (L9 q).2.1 = 4) ∨ q = rp) h5 h6 → am_sz h6 = am_sz h5 → am_us h6 = am_us h5 → (∀ f q, q ≠ rp → (L9 q).2.1 ≠ 4 → am_fr h6 f q = am_fr h5 f q) → rG h6 L9 N (am_fr hb 25 N) (pkS (setR S p u) (S 3 p) p l0 (S 3 p 4) n0 (smN (S 3 p) u (S 3 p 4) n0 l0 41 0) ((S 3 p 4) - (smN (S 3 p) u (S 3 p 4) n0 l0 41 0) - l0).toNat) B → (∀ j, 0 ≤ j → j < k → am_ai h6 rp j = (pl97 (S 3 p) l0 (S 3 p 4) n0 (smN (S 3 p) u (S 3 p 4) n0 l0 41 0) (j))) → ∀ o10, am_W m_X1_opens (am_ev am_prog (d + 12)) K 97 [some (.inr (.inl (x))), some (.inr (.inl (T))), some (.inl (l0)), some (.inr (.inl (tl))), some (.inr (.inl (mc))), some (.inr (.inl (am_fr hb 117 T))), some (.inr (.inl (am_fr hb 118 T))), some (.inr (.inl (r7))), some (.inl ((smN (S 3 p) u (S 3 p 4) n0 l0 41 0))), some (.inl (k)), o10] [] h6 := by
    refine lp_z ?_ ?_
    · intro k k0 k1 hL h6 b zs us fr yG hp o10
      obtain ⟨⟨tx, f1⟩, ⟨tN, f25⟩, tT, ⟨ta, la, aa⟩, ⟨ts, ls⟩, ⟨t7, l7⟩, ⟨tp, lp⟩⟩ := fc h6 b
      have ePL : (-1 : Int) = (pl97 (S 3 p) l0 (S 3 p 4) n0 (smN (S 3 p) u (S 3 p 4) n0 l0 41 0) (k)) := ((if_neg (by omega)).trans (if_pos (by omega))).symm
      have w := wrG h6 k (-1) _ b yG
      refine v_X1_opens_97 ?_
      rw [l7, ls, fp h6 fr, lp]
      exact ⟨Or.inl t7, fun z => absurd z (by omega), fun _ => ⟨fun _ => ⟨by omega, fun z => absurd z (by omega), fun _ => ⟨tT, ⟨tp, by omega⟩, Or.inl tp, fun _ => ⟨by omega, hL _ w.2 zs us fr w.1 (wrA h6 k _ hp ePL) _⟩, fun z => absurd z (by decide)⟩⟩, fun z => absurd z (by omega)⟩⟩
    · intro h6 b zs us fr yG hp o10
      refine seg3 (n0 - (smN (S 3 p) u (S 3 p 4) n0 l0 41 0)) (by omega) (by omega) h6 b zs us fr ?_ hp o10
      have ek : (n0 - (smN (S 3 p) u (S 3 p 4) n0 l0 41 0) - n0 + (S 3 p 4) - l0).toNat = ((S 3 p 4) - (smN (S 3 p) u (S 3 p 4) n0 l0 41 0) - l0).toNat := by omega
      rw [ek]
      exact yG
  -- the lines ahead: what lay there lies there
  have seg1 : ∀ k, 0 ≤ k → k ≤ l0 → ∀ h6, fx (fun q => ((L9 q).1 = N ∧ (L9 q).2.1 = 4) ∨ q = rp) h5 h6 → am_sz h6 = am_sz h5 → am_us h6 = am_us h5 → (∀ f q, q ≠ rp → (L9 q).2.1 ≠ 4 → am_fr h6 f q = am_fr h5 f q) → rG h6 L9 N (am_fr hb 25 N) (pkS (setR S p u) (S 3 p) p l0 (S 3 p 4) n0 (smN (S 3 p) u (S 3 p 4) n0 l0 41 0) ((S 3 p 4) - (smN (S 3 p) u (S 3 p 4) n0 l0 41 0) - l0).toNat) B → (∀ j, 0 ≤ j → j < k → am_ai h6 rp j = (pl97 (S 3 p) l0 (S 3 p 4) n0 (smN (S 3 p) u (S 3 p 4) n0 l0 41 0) (j))) → ∀ o10, am_W m_X1_opens (am_ev am_prog (d + 12)) K 97 [some (.inr (.inl (x))), some (.inr (.inl (T))), some (.inl (l0)), some (.inr (.inl (tl))), some (.inr (.inl (mc))), some (.inr (.inl (am_fr hb 117 T))), some (.inr (.inl (am_fr hb 118 T))), some (.inr (.inl (r7))), some (.inl ((smN (S 3 p) u (S 3 p 4) n0 l0 41 0))), some (.inl (k)), o10] [] h6 := by
    refine lp_z ?_ ?_
    · intro k k0 k1 hL h6 b zs us fr yG hp o10
      obtain ⟨⟨tx, f1⟩, ⟨tN, f25⟩, tT, ⟨ta, la, aa⟩, ⟨ts, ls⟩, ⟨t7, l7⟩, ⟨tp, lp⟩⟩ := fc h6 b
      have av := aa k k0 (by omega)
      have pv := plb k k0 (by omega)
      have ePL : (S 3 p) (45 + k) - 1 = (pl97 (S 3 p) l0 (S 3 p 4) n0 (smN (S 3 p) u (S 3 p 4) n0 l0 41 0) (k)) := (if_pos (by omega)).symm
      have gx := glx h6 _ yG (e04 _)
      have w := wrG h6 k ((S 3 p) (45 + k) - 1) _ b yG
      have go := hL _ w.2 zs us fr w.1 (wrA h6 k _ hp ePL)
      refine v_X1_opens_97 ?_
      rw [l7, fp h6 fr, la, lp, av, f1, f25, f110' h6 b]
      refine ⟨Or.inl t7, fun z => absurd z (by omega), fun _ => ⟨fun z => absurd z (by omega), fun _ => ⟨tT, fun _ => ⟨⟨Or.inl ta, by omega⟩, ⟨tp, by omega⟩, Or.inl tp, fun z => ⟨by omega, go _⟩, fun z => ?_⟩, fun z => absurd z (by omega)⟩⟩⟩
      have sr : 0 ≤ (S 3 p) (45 + k) - 1 ∧ (S 3 p) (45 + k) - 1 < S 0 0 4 := by omega
      have e4' : (pkS (setR S p u) (S 3 p) p l0 (S 3 p 4) n0 (smN (S 3 p) u (S 3 p 4) n0 l0 41 0) ((S 3 p 4) - (smN (S 3 p) u (S 3 p 4) n0 l0 41 0) - l0).toNat) 0 0 4 = S 0 0 4 := e04 _
      have ys := yG.2 ((S 3 p) (45 + k) - 1) sr.1 (by rw [e4']; exact sr.2)
      have tg := G_ty ys
      refine ⟨⟨tx, tN⟩, gx.1.1, ⟨gx.1, by show 0 ≤ (S 3 p) (45 + k) - 1 ∧ (S 3 p) (45 + k) - 1 < am_fi h6 195 (am_fr hb 25 N); rw [gx.2]; exact sr⟩, Or.inr tg, tg, by omega, ?_⟩
      show am_W m_X1_opens _ K 97 _ [] (am_sfi (am_sfi (am_sai h6 rp k ((S 3 p) (45 + k) - 1)) 161 (am_ar h6 (am_fr h6 194 (am_fr hb 25 N)) ((S 3 p) (45 + k) - 1)) p) 162 (am_ar h6 (am_fr h6 194 (am_fr hb 25 N)) ((S 3 p) (45 + k) - 1)) k)
      have px := plX k k0 (by omega) (by omega)
      have sg4 : (pkS (setR S p u) (S 3 p) p l0 (S 3 p 4) n0 (smN (S 3 p) u (S 3 p 4) n0 l0 41 0) ((S 3 p 4) - (smN (S 3 p) u (S 3 p 4) n0 l0 41 0) - l0).toNat) 4 ((S 3 p) (45 + k) - 1) = S 4 ((S 3 p) (45 + k) - 1) := by
        rw [pkS_g _ (fun i i0 i1 c e => ?_), setR_c (by decide)]
        have q := inj i k (by omega) (by omega) k0 (by omega) c (by omega)
        omega
      have q1 : am_fi h6 161 (am_ar h6 (am_fr h6 194 (am_fr hb 25 N)) ((S 3 p) (45 + k) - 1)) = p := by
        rw [ys.2.2.2.2.2.2.2.1, sg4]
        exact px.2.1
      have q2 : am_fi h6 162 (am_ar h6 (am_fr h6 194 (am_fr hb 25 N)) ((S 3 p) (45 + k) - 1)) = k := by
        rw [ys.2.2.2.2.2.2.2.2.1, sg4]
        exact px.2.2
      have i1 : am_sfi (am_sai h6 rp k ((S 3 p) (45 + k) - 1)) 161 (am_ar h6 (am_fr h6 194 (am_fr hb 25 N)) ((S 3 p) (45 + k) - 1)) p = am_sai h6 rp k ((S 3 p) (45 + k) - 1) := sfi_id q1
      rw [i1]
      have i2 : am_sfi (am_sai h6 rp k ((S 3 p) (45 + k) - 1)) 162 (am_ar h6 (am_fr h6 194 (am_fr hb 25 N)) ((S 3 p) (45 + k) - 1)) k = am_sai h6 rp k ((S 3 p) (45 + k) - 1) := sfi_id q2
      rw [i2]
      exact go _
    · intro h6 b zs us fr yG hp o10
      exact seg2 l0 (by omega) (by omega) h6 b zs us fr yG hp o10
  exact seg1 0 (by omega) (by omega) h5 fx_refl rfl rfl (fun _ _ _ _ => rfl) yG (fun j a c => absurd c (by omega))
end
