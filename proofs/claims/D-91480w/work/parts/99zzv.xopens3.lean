set_option maxRecDepth 100000
section
variable {K : am_K} {h : am_H}
/-- the part as it is then -/
theorem op_rPt {L : am_Lb} {x P N : Nat} {S : am_G} {B : Int} {p l0 n0 : Int} {u : Int → Int} {hb h6 : am_H} {L9 : am_Lb} {T rw r7 l7 rp : Nat} (t : Nt hb L x P N S B) (hC : okC S) (hF : okF S) (hA : okA S) (hG : okG S) (hX : okX S) (ip : isP S p) (s3 : (S 3 p) 3 = 1) (hT : T = am_ar hb (am_fr hb 20 N) p) (hu4 : u 4 = n0) (hu5 : ∀ j, 0 ≤ j → j < l0 → u (5 + j) = (S 3 p) (5 + j)) (hu45 : ∀ j, 0 ≤ j → j < l0 → u (45 + j) = (S 3 p) (45 + j)) (hu0 : ∀ j, l0 ≤ j → j < n0 → u (45 + j) = 0) (hur : u 0 = (S 3 p) 0 ∧ u 2 = (S 3 p) 2 ∧ u 3 = (S 3 p) 3) (hl0 : 0 ≤ l0 ∧ l0 < (S 3 p 4) ∧ l0 < n0 ∧ n0 ≤ 40) (sb : 0 ≤ (smN (S 3 p) u (S 3 p 4) n0 l0 41 0) ∧ (smN (S 3 p) u (S 3 p 4) n0 l0 41 0) ≤ (S 3 p 4) - l0 ∧ (smN (S 3 p) u (S 3 p 4) n0 l0 41 0) ≤ n0 - l0) (hln : lnOK u) (le9 : leL hb L L9) (a6 : fx (fun q => q = T ∨ ((L q).1 = N ∧ (L q).2.1 = 4) ∨ ((L q).1 = x ∧ (L q).2.1 = 1)) hb h6) (tf : (am_fr h6 113 T = rw ∧ iPc h6 L9 rw u) ∧ (am_fr h6 116 T = r7 ∧ iA h6 L9 r7 n0 (fun l => u (5 + l))) ∧ (am_fr h6 117 T = l7 ∧ iLi h6 L9 l7 u) ∧ (∀ f, f ≠ 114 → am_fi h6 f T = am_fi hb f T) ∧ am_fi h6 114 T = u 0) (f118 : am_fr h6 118 T = rp) (nrp : nd h6 L9 rp 101 N 3 2 p) (lrp : am_ln h6 rp = n0) (arp : ∀ j, 0 ≤ j → j < n0 → am_ai h6 rp j = (pl97 (S 3 p) l0 (S 3 p 4) n0 (smN (S 3 p) u (S 3 p 4) n0 l0 41 0) (j))) : rPt h6 L9 N (pkS (setR S p u) (S 3 p) p l0 (S 3 p 4) n0 (smN (S 3 p) u (S 3 p 4) n0 l0 41 0) ((S 3 p 4) - l0).toNat) p T := by
  obtain ⟨x1, x2, x3, x4, x5, x6, x7, x8, x9, x10⟩ := t.2.2.2.1
  have pb := isP_bd hC hF ip
  have pt := (x3.2.2 p pb.1.1 pb.1.2).2 ip
  rw [← hT] at pt
  obtain ⟨⟨t1, t2⟩, ⟨t3, t4⟩, ⟨t5, t6⟩, t7, t8⟩ := tf
  have wT := a6.2.2.2 T pt.1.2.1
  have e3 : setR S p u 3 p = u := setR_p
  have eo : ∀ o, o < 45 ∨ 85 ≤ o → (pkS (setR S p u) (S 3 p) p l0 (S 3 p 4) n0 (smN (S 3 p) u (S 3 p 4) n0 l0 41 0) ((S 3 p 4) - l0).toNat) 3 p o = u o := fun o ho => by rw [pkS_o (by omega) _ (by omega), e3]
  have eQ2 : (pkS (setR S p u) (S 3 p) p l0 (S 3 p 4) n0 (smN (S 3 p) u (S 3 p 4) n0 l0 41 0) ((S 3 p 4) - l0).toNat) 2 = S 2 := by rw [pkS_c (by decide) (by decide), setR_c (by decide)]
  have e4 : (pkS (setR S p u) (S 3 p) p l0 (S 3 p 4) n0 (smN (S 3 p) u (S 3 p 4) n0 l0 41 0) ((S 3 p 4) - l0).toNat) 3 p 4 = n0 := (eo 4 (by omega)).trans hu4
  have lb := hln.2.2
  unfold rPt
  rw [t1, t3, t5, f118, t7 110 (by decide), t7 111 (by decide), t7 112 (by decide), t7 115 (by decide), t8, eQ2, eo 0 (by omega), eo 2 (by omega), eo 3 (by omega), e4, hur.2.1, hur.2.2]
  refine ⟨⟨wT.1.trans pt.1.1, Nat.le_trans pt.1.2.1 a6.1, pt.1.2.2.1, (le9 T pt.1.2.1).trans pt.1.2.2.2⟩, pt.2.1, pt.2.2.1, pt.2.2.2.1, rfl, pt.2.2.2.2.2.1, iPc_c eo t2, fun z => absurd z (by omega), fun _ => ⟨?_, iLi_c eo (by omega) (fun l a b => by have := (lb l a b).1; omega) t6, nrp, lrp, fun l a b => ?_⟩⟩
  · obtain ⟨y1, y2, y3, y4, y5, y6⟩ := t4
    refine ⟨y1, y2, y3, y4, y5, fun l a b => ?_⟩
    exact (y6 l a b).trans (eo (5 + l) (by omega)).symm
  · rw [arp l a b]
    exact (pl_Q hu4 hu5 hu45 hu0 hur hl0 sb ⟨a, b⟩).symm
/-- the end -/
theorem op_fin {L : am_Lb} {x P N : Nat} {S : am_G} {B : Int} {p k l0 n0 : Int} {u : Int → Int} {hb : am_H} {T rw tl mc r7 l7 dz du d : Nat} (t : Nt hb L x P N S B) (hC : okC S) (hF : okF S) (hA : okA S) (hG : okG S) (hX : okX S) (ip : isP S p) (s3 : (S 3 p) 3 = 1) (hT : T = am_ar hb (am_fr hb 20 N) p) (hM : okM S) (hB : B ≤ 1000000) (hk : 0 ≤ k ∧ k < S 0 0 3) (nj : ∀ k i, 0 ≤ k → k < S 0 0 3 → 0 ≤ i → i < S 5 k 29 → S 5 k (33 + 5 * i) ≠ p) (j30 : S 5 k 29 < 30) (hmc : mc = am_ar hb (am_fr hb 23 N) k) (hu4 : u 4 = n0) (hu5 : ∀ j, 0 ≤ j → j < l0 → u (5 + j) = (S 3 p) (5 + j)) (hu45 : ∀ j, 0 ≤ j → j < l0 → u (45 + j) = (S 3 p) (45 + j)) (hu0 : ∀ j, l0 ≤ j → j < n0 → u (45 + j) = 0) (hur : u 0 = (S 3 p) 0 ∧ u 2 = (S 3 p) 2 ∧ u 3 = (S 3 p) 3) (hl0 : 0 ≤ l0 ∧ l0 < (S 3 p 4) ∧ l0 < n0 ∧ n0 ≤ 40) (sb : 0 ≤ (smN (S 3 p) u (S 3 p 4) n0 l0 41 0) ∧ (smN (S 3 p) u (S 3 p 4) n0 l0 41 0) ≤ (S 3 p 4) - l0 ∧ (smN (S 3 p) u (S 3 p 4) n0 l0 41 0) ≤ n0 - l0) (hln : lnOK u) (hx : am_ty hb x = 1 ∧ x ≤ am_sz hb) (lx : L x = (x, 0, 0, 0)) (hN : am_fr hb 1 x = N) (hz : am_sz h + 2300 ≤ am_sz hb + dz) (hu : am_us h + 27000 ≤ am_us hb + du) (H0 : (n0 - l0 - smN (S 3 p) u (S 3 p 4) n0 l0 41 0) ≤ 0 → ∀ h' L', Nt h' L' x P N (pkS (setR S p u) (S 3 p) p l0 (S 3 p 4) n0 (smN (S 3 p) u (S 3 p 4) n0 l0 41 0) ((S 3 p 4) - l0).toNat) B → Out hb L x N h' L' dz du → K (.inl (some (.inl ((n0 - l0 - smN (S 3 p) u (S 3 p 4) n0 l0 41 0))))) h') (H1 : 0 < (n0 - l0 - smN (S 3 p) u (S 3 p 4) n0 l0 41 0) → ∀ h' L', Nt h' L' x P N (jbS (pkS (setR S p u) (S 3 p) p l0 (S 3 p 4) n0 (smN (S 3 p) u (S 3 p 4) n0 l0 41 0) ((S 3 p 4) - l0).toNat) k p l0 (l0 + (n0 - l0 - smN (S 3 p) u (S 3 p 4) n0 l0 41 0)) 1 0) (B + 1) → Out hb L x N h' L' dz du → K (.inl (some (.inl ((n0 - l0 - smN (S 3 p) u (S 3 p 4) n0 l0 41 0))))) h') : ∀ (h6 : am_H) (L9 : am_Lb) (rp : Nat), fx (fun q => q = T ∨ ((L q).1 = N ∧ (L q).2.1 = 4) ∨ ((L q).1 = x ∧ (L q).2.1 = 1)) hb h6 → leL hb L L9 → okLb h6 L9 → rPap h6 L9 x P → (∀ q, am_sz hb < q → (L9 q).1 = 0 ∨ (L9 q).1 = N ∨ (L9 q).1 = x) → ((am_fr h6 113 T = rw ∧ iPc h6 L9 rw u) ∧ (am_fr h6 116 T = r7 ∧ iA h6 L9 r7 n0 (fun l => u (5 + l))) ∧ (am_fr h6 117 T = l7 ∧ iLi h6 L9 l7 u) ∧ (∀ f, f ≠ 114 → am_fi h6 f T = am_fi hb f T) ∧ am_fi h6 114 T = u 0) → am_fr h6 118 T = rp → nd h6 L9 rp 101 N 3 2 p → am_ln h6 rp = n0 → (∀ j, 0 ≤ j → j < n0 → am_ai h6 rp j = (pl97 (S 3 p) l0 (S 3 p 4) n0 (smN (S 3 p) u (S 3 p 4) n0 l0 41 0) (j))) → rG h6 L9 N (am_fr hb 25 N) (pkS (setR S p u) (S 3 p) p l0 (S 3 p 4) n0 (smN (S 3 p) u (S 3 p 4) n0 l0 41 0) ((S 3 p 4) - l0).toNat) B → am_sz h6 ≤ am_sz h + 1083 → am_us h6 ≤ am_us h + 19140 → ∀ o10, am_W m_X1_opens (am_ev am_prog (d + 12)) K 97 [some (.inr (.inl (x))), some (.inr (.inl (T))), some (.inl (l0)), some (.inr (.inl (tl))), some (.inr (.inl (mc))), some (.inr (.inl (am_fr hb 117 T))), some (.inr (.inl (am_fr hb 118 T))), some (.inr (.inl (r7))), some (.inl ((smN (S 3 p) u (S 3 p 4) n0 l0 41 0))), some (.inl (n0)), o10] [] h6 := by
  obtain ⟨x1, x2, x3, x4, x5, x6, x7, x8, x9, x10⟩ := id t.2.2.2.1
  have xN := t.2.2.2.2
  have pb := isP_bd hC hF ip
  have c3 := hC.2.2.1
  have pt := (x3.2.2 p pb.1.1 pb.1.2).2 ip
  rw [← hT] at pt
  have lT : L T = (N, 3, 1, p) := pt.1.2.2.2
  intro h6 L9 rp a6 le9 ok9 pp9 nl9 tf f118 nrp lrp arp yG zs us o10
  have rT := op_rPt t hC hF hA hG hX ip s3 hT hu4 hu5 hu45 hu0 hur hl0 sb hln le9 a6 tf f118 nrp lrp arp
  have ec : ∀ c, c ≠ 3 → c ≠ 4 → (pkS (setR S p u) (S 3 p) p l0 (S 3 p 4) n0 (smN (S 3 p) u (S 3 p 4) n0 l0 41 0) ((S 3 p 4) - l0).toNat) c = S c := fun c c3 c4 => by rw [pkS_c c3 c4, setR_c c3]
  have t6 : Nt h6 L9 x P N (pkS (setR S p u) (S 3 p) p l0 (S 3 p 4) n0 (smN (S 3 p) u (S 3 p 4) n0 l0 41 0) ((S 3 p 4) - l0).toNat) B := Nt_cor t hT ip pb.1 a6 le9 ok9 pp9 (ec 0 (by decide) (by decide)) (ec 2 (by decide) (by decide)) ⟨ec 1 (by decide) (by decide), ec 5 (by decide) (by decide), ec 6 (by decide) (by decide), ec 7 (by decide) (by decide), ec 8 (by decide) (by decide), ec 9 (by decide) (by decide), ec 10 (by decide) (by decide)⟩ (fun q hq => by rw [pkS_q hq, setR_q hq]) (fun s o o4 o5 o6 => by rw [pkS_4 o4 o5 o6, setR_c (by decide)]) nj yG rT
  have o6 : Out hb L x N h6 L9 (am_sz h6 - am_sz hb) (am_us h6 - am_us hb) := ⟨fx_sub a6 (fun q hq z => by
    rcases z with z | z | z
    · rw [z, lT]
      exact Or.inl rfl
    · exact Or.inl z.1
    · exact Or.inr z), le9, ⟨by omega, by omega⟩, nl9⟩
  have az := a6.1
  have au := a6.2.1
  have ty7 := tf.2.1.2.1
  have ln7 := tf.2.1.2.2.2.2.2.1
  have eC : n0 - (smN (S 3 p) u (S 3 p 4) n0 l0 41 0) - l0 = (n0 - l0 - smN (S 3 p) u (S 3 p 4) n0 l0 41 0) := by omega
  refine v_X1_opens_97 ?_
  rw [ln7, eC]
  refine ⟨Or.inl ty7, fun _ => ⟨by omega, fun z => H0 z h6 L9 t6 (Out_le o6 (by omega) (by omega)), fun z => ?_⟩, fun z => absurd z (by omega)⟩
  have HH := H1 z
  -- a job
  have e5 : (pkS (setR S p u) (S 3 p) p l0 (S 3 p 4) n0 (smN (S 3 p) u (S 3 p 4) n0 l0 41 0) ((S 3 p 4) - l0).toNat) 5 = S 5 := ec 5 (by decide) (by decide)
  have r3 : (pkS (setR S p u) (S 3 p) p l0 (S 3 p 4) n0 (smN (S 3 p) u (S 3 p 4) n0 l0 41 0) ((S 3 p 4) - l0).toNat) 0 0 3 = S 0 0 3 := by rw [ec 0 (by decide) (by decide)]
  have m29 := (hM k hk.1 (by omega)).2.2.2.1
  have vj := jbS_v (S := (pkS (setR S p u) (S 3 p) p l0 (S 3 p 4) n0 (smN (S 3 p) u (S 3 p 4) n0 l0 41 0) ((S 3 p 4) - l0).toNat)) (k := k) (p := p) (nx := l0) (bh := l0 + (n0 - l0 - smN (S 3 p) u (S 3 p 4) n0 l0 41 0)) (co := 1) (wh := 0) (by rw [e5]; exact m29.1)
  have wx6 := a6.2.2.2 x hx.2
  have nXx : ¬ (fun q => q = T ∨ ((L q).1 = N ∧ (L q).2.1 = 4) ∨ ((L q).1 = x ∧ (L q).2.1 = 1)) x := fun w => by
    rcases w with w | w | w
    · have q := pt.1.1
      rw [← w, hx.1] at q
      exact absurd q (by decide)
    · rw [lx] at w
      exact xN.1 w.1
    · rw [lx] at w
      exact absurd w.2 (by show (0 : Nat) ≠ 1; decide)
  have tx6 : am_ty h6 x = 1 := wx6.1.trans hx.1
  have fN6 : am_fr h6 1 x = N := ((wx6.2.2 nXx).2.1 1).trans hN
  have nXn : ∀ q, (L q).1 = N → (L q).2.1 ≠ 4 → q ≠ T → ¬ (fun q => q = T ∨ ((L q).1 = N ∧ (L q).2.1 = 4) ∨ ((L q).1 = x ∧ (L q).2.1 = 1)) q := fun q e1 e2 e3 w => by
    rcases w with w | w | w
    · exact e3 w
    · exact e2 w.2
    · exact xN.1 (w.1.symm.trans e1)
  have w6N := nd_fx a6 le9 x1.1 (nXn N (by rw [x1.1.2.2.2]) (by rw [x1.1.2.2.2]; show (0 : Nat) ≠ 4; decide) (fun w => by
    have q := x1.1.1
    rw [w, pt.1.1] at q
    exact absurd q (by decide)))
  have w6M := nd_fx a6 le9 x5.1 (nXn _ (by rw [x5.1.2.2.2]) (by rw [x5.1.2.2.2]; show (5 : Nat) ≠ 4; decide) (fun w => by
    have q := x5.1.1
    rw [w, pt.1.1] at q
    exact absurd q (by decide)))
  have eM : am_ar h6 (am_fr h6 23 N) k = mc := by
    rw [w6N.2.2.2.1, w6M.2.2.2.2.2, hmc]
  obtain ⟨m1, m2, m3, m4, m5, m6, m7, m8, m9, m10⟩ := t6.2.2.2.1.2.2.2.2.1.2.2 k hk.1 (by rw [r3]; exact hk.2)
  rw [eM] at m1 m10
  have f110 : am_fi h6 110 T = p := (tf.2.2.2.1 110 (by decide)).trans pt.2.1
  rw [f110]
  refine ⟨m1.1, ⟨rT.1.2.1, rT.1.1, by omega⟩, ⟨m10.1.1.1.2.2.2.2.1, m10.1.1.1.1⟩, ?_⟩
  have KK := x_addJ (K := am_aft (am_hand m_X1_opens K (am_W m_X1_opens (am_ev am_prog (d + 12)) K) 174) (am_W m_X1_opens (am_ev am_prog (d + 12)) K) 174 [some (.inr (.inl (x))), some (.inr (.inl (T))), some (.inl (l0)), some (.inr (.inl (tl))), some (.inr (.inl (mc))), some (.inr (.inl (am_fr hb 117 T))), some (.inr (.inl (am_fr hb 118 T))), some (.inr (.inl (r7))), some (.inl ((smN (S 3 p) u (S 3 p 4) n0 l0 41 0))), some (.inl ((n0 - l0 - smN (S 3 p) u (S 3 p 4) n0 l0 41 0))), o10] []) (du := 4) (d := d + 3) (S' := jbS (pkS (setR S p u) (S 3 p) p l0 (S 3 p 4) n0 (smN (S 3 p) u (S 3 p 4) n0 l0 41 0) ((S 3 p 4) - l0).toNat) k p l0 (l0 + (n0 - l0 - smN (S 3 p) u (S 3 p 4) n0 l0 41 0)) 1 0) (k := k) (h := h6) (h1 := am_sfi (am_sfi (am_sfi (am_sfi (am_new h6 22 4) 151 (am_sz h6 + 1) p) 153 (am_sz h6 + 1) l0) 154 (am_sz h6 + 1) (l0 + (n0 - l0 - smN (S 3 p) u (S 3 p 4) n0 l0 41 0))) 152 (am_sz h6 + 1) 1) t6 tx6 fN6 (by have := hx.2; omega) ((le9 x hx.2).trans lx) hB (by rw [r3]; exact hk) (by rw [e5]; exact j30) (fx_sfi (fx_sfi (fx_sfi (fx_sfi fx0_new (Or.inl (by omega))) (Or.inl (by omega))) (Or.inl (by omega))) (Or.inl (by omega))) rfl (Nat.le_refl _) (x_tyn0 (h := h6) (t := 22) (n := 4) rfl) ?_ ?_ ?_ ?_ vj.1 vj.2.1 vj.2.2.1 vj.2.2.2.1 ?_
  · rw [eM] at KK
    exact KK
  · rw [vj.2.2.2.2.1, x_fif (by decide), x_fif (by decide), x_fif (by decide), x_fie]
  · rw [vj.2.2.2.2.2.2.2.1, x_fie]
  · rw [vj.2.2.2.2.2.1, x_fif (by decide), x_fif (by decide), x_fie]
  · unfold bhd
    rw [vj.2.2.2.2.2.2.2.2, vj.2.2.2.2.2.2.1, if_pos rfl, x_fif (by decide), x_fie]
  · intro h' L' t' o' _ _ _ _
    exact am_av (v_X1_opens_175 (HH h' L' t' (Out_le (Out_tr o6 o') (by omega) (by omega))))
end
