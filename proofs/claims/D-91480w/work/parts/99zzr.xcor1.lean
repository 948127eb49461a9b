set_option maxRecDepth 100000
/-! the component corrects: helpers -/
theorem ew_sg {v : Int → Int} (hN : okN v) (h1 : 1 ≤ v 1) (h0 : v 0 = v (84 + v 1) + 1) : sg (fun k => am_b (ew v k)) 0 (v 1).toNat = v 0 := by
  have pre : ∀ m : Nat, (m : Int) < v 1 → sg (fun k => am_b (ew v k)) 0 m = v (85 + m) := fun m => by
    induction m with
    | zero =>
      intro _
      show (0 : Int) = v (85 + ((0 : Nat) : Int))
      have e : (85 : Int) + ((0 : Nat) : Int) = 85 := by omega
      rw [e, hN.1]
    | succ m ih =>
      intro hm
      have q := hN.2 m (by omega) (by omega)
      have e : (0 : Int) + (m : Int) = (m : Int) := by omega
      have e2 : (85 : Int) + ((m + 1 : Nat) : Int) = 86 + (m : Int) := by omega
      rw [sg_last, ih (by omega), e, e2]
      exact q.symm
  have en : (v 1).toNat = (v 1 - 1).toNat + 1 := by omega
  have em : (0 : Int) + ((v 1 - 1).toNat : Int) = v 1 - 1 := by omega
  have q := pre (v 1 - 1).toNat (by omega)
  have e3 : (85 : Int) + ((v 1 - 1).toNat : Int) = 84 + v 1 := by omega
  rw [en, sg_last, q, em, e3, h0]
  have : am_b (ew v (v 1 - 1)) = 1 := am_bt (Or.inl rfl)
  omega
theorem xSc_e {h : am_H} {s : Nat} {n n' : Int} {f f' : Int → Int} (x : xSc h s n f) (e : n = n') (ef : ∀ i, 0 ≤ i → i < n → f i = f' i) : xSc h s n' f' := by
  rw [← e]
  exact ⟨x.1, x.2.1, fun i a b => (x.2.2 i a b).trans (ef i a b)⟩
/-- the new row of pieces -/
theorem xP_new {h0 h : am_H} {L : am_Lb} {A a q r : Nat} {t v row x y : Int → Int} {w f o : Int} {l : List am_Pz} (ho : okP v) (hf : wfV v w f o) (hl : 1 ≤ l.length ∧ v 1 - o + l.length ≤ 40) (hc : chP t 0 l 1) (la : laP l) (cg : chg v row x y w f o l.length) (rd : ∀ k : Nat, k < l.length → x k = (gP l k).2.2.1 ∧ ∀ i, 0 ≤ i → i < (gP l k).2.2.1 → y (12 * k + i) = t ((gP l k).2.1 + i) - 97) (eW : (∀ k, 0 ≤ k → k < f → (ew row k ↔ ew v k)) ∧ (∀ k, 0 ≤ k → k < (l.length : Int) → (ew row (f + k) ↔ k = (l.length : Int) - 1)) ∧ (∀ k, f + o ≤ k → k < v 1 → (ew row (k + ((l.length : Int) - o)) ↔ ew v k))) (ia : iPc h L a v) (ac : arC h0 h A t q l) (hL : ∀ q, am_sz h0 < q → (am_ty h q = 102 ∨ am_ty h q = 122) → (L q).1 = 0) (tr : am_ty h r = 115) (r0 : r ≠ 0 ∧ r ≤ am_sz h) (lr : am_ln h r = row 1) (e1 : ∀ k, 0 ≤ k → k < f → am_ar h r k = am_ar h a k) (e2 : ∀ k, 0 ≤ k → k < (l.length : Int) → am_ar h r (f + k) = am_ar h q k) (e3 : ∀ k, f + o ≤ k → k < v 1 → am_ar h r (k + ((l.length : Int) - o)) = am_ar h a k) : iPc h L r row := by
  obtain ⟨⟨f1, f2, f3⟩, _, _, _⟩ := hf
  obtain ⟨c0, c1, c2, c3, c4, c5, c6, c7⟩ := cg
  obtain ⟨⟨i1, i2, i3, i4⟩, i5, i6⟩ := ia
  have o1 := ho.1
  obtain ⟨a1, a2, a3, a4⟩ := ac
  have pc : ∀ k, 0 ≤ k → k < row 1 → (am_ty h (am_ar h r k) = 8 ∧ am_fi h 109 (am_ar h r k) = am_b (ew row k) ∧ xSc h (am_fr h 108 (am_ar h r k)) (row (125 + k)) (fun i => 97 + row (165 + 12 * k + i)) ∧ am_ar h r k ≤ am_sz h) ∧ (L (am_fr h 189 (am_fr h 108 (am_ar h r k)))).1 = 0 := by
    intro k k0 k1
    by_cases g1 : k < f
    · obtain ⟨p1, p2, p3⟩ := c3 k k0 g1
      obtain ⟨u1, u2, u3, u4⟩ := i3 k k0 (by omega)
      have b := (ho.2.1 k k0 (by omega)).1
      rw [e1 k k0 g1, am_bc (eW.1 k k0 g1)]
      exact ⟨⟨u1, u2, xSc_e u3 p2.symm (fun i i0 i1 => by show 97 + v (165 + 12 * k + i) = 97 + row (165 + 12 * k + i); rw [p3 i i0 (by omega)]), u4⟩, i6 k k0 (by omega)⟩
    · by_cases g2 : k < f + l.length
      · have ek : f + (k - f) = k := by omega
        have kk : (((k - f).toNat : Nat) : Int) = k - f := by omega
        obtain ⟨p1, p2, p3⟩ := c4 (k - f) (by omega) (by omega)
        have ec : 125 + f + (k - f) = 125 + k := by omega
        rw [ec] at p2
        have rk := rd (k - f).toNat (by omega)
        rw [kk] at rk
        have er := e2 (k - f) (by omega) (by omega)
        rw [ek] at er
        have w1 := eW.2.1 (k - f) (by omega) (by omega)
        rw [ek] at w1
        obtain ⟨z1, z2, z3, z4, z5, z6⟩ := a4 (k - f).toNat (by omega)
        rw [kk] at z1 z2 z3 z4 z5 z6
        have gl := chP_g l 0 1 hc (k - f).toNat (by omega)
        have lg := laP_g l la
        rw [er]
        refine ⟨⟨z1, ?_, xSc_e z4 (by rw [p2]; exact rk.1.symm) (fun i i0 i1 => ?_), z2.2⟩, ?_⟩
        · rw [z3]
          by_cases le : k - f = (l.length : Int) - 1
          · have e4 : (k - f).toNat = l.length - 1 := by omega
            rw [e4, lg.1]
            exact (am_bt (w1.mpr le)).symm
          · rw [am_bf (fun z => le (w1.mp z))]
            have g5 := gl.2.2.2.2.1 (by omega)
            have m2 := gl.2.2.2.1
            have gl2 := chP_g l 0 1 hc ((k - f).toNat + 1) (by omega)
            have m3 := gl2.2.2.2.1
            have b01 := gl.2.1
            -- all pieces are of one word: no end but the last
            have last := chP_g l 0 1 hc (l.length - 1) (by omega)
            have ml : (gP l (l.length - 1)).1 + (gP l (l.length - 1)).2.2.2 ≤ 1 := last.2.2.2.1.2
            rw [lg.1] at ml
            have mono : ∀ m : Nat, (k - f).toNat + 1 + m < l.length → (gP l ((k - f).toNat + 1)).1 ≤ (gP l ((k - f).toNat + 1 + m)).1 := fun m => by
              induction m with
              | zero => exact fun _ => Int.le_refl _
              | succ m ih =>
                intro hm
                have i := ih (by omega)
                have g := chP_g l 0 1 hc ((k - f).toNat + 1 + m) (by omega)
                have s := g.2.2.2.2.1 (by omega)
                have b := g.2.1
                have e5 : (k - f).toNat + 1 + (m + 1) = (k - f).toNat + 1 + m + 1 := by omega
                rw [e5]
                omega
            have mm := mono (l.length - 1 - ((k - f).toNat + 1)) (by omega)
            have e6 : (k - f).toNat + 1 + (l.length - 1 - ((k - f).toNat + 1)) = l.length - 1 := by omega
            rw [e6] at mm
            omega
        · have q := p3 i i0 (by have := gl.1; omega)
          rw [ek] at q
          show t ((gP l (k - f).toNat).2.1 + i) = 97 + row (165 + 12 * k + i)
          rw [q, rk.2 i i0 i1]
          omega
        · have e30 := z4.1
          exact hL _ z5.1 e30.2.1
      · have ek : k - ((l.length : Int) - o) + ((l.length : Int) - o) = k := by omega
        obtain ⟨p1, p2, p3⟩ := c5 (k - ((l.length : Int) - o)) (by omega) (by omega)
        have ec : 125 + (k - ((l.length : Int) - o)) + ((l.length : Int) - o) = 125 + k := by omega
        rw [ec] at p2
        have er := e3 (k - ((l.length : Int) - o)) (by omega) (by omega)
        rw [ek] at er
        have w1 := eW.2.2 (k - ((l.length : Int) - o)) (by omega) (by omega)
        rw [ek] at w1
        obtain ⟨u1, u2, u3, u4⟩ := i3 (k - ((l.length : Int) - o)) (by omega) (by omega)
        have b := (ho.2.1 (k - ((l.length : Int) - o)) (by omega) (by omega)).1
        rw [er, am_bc w1]
        refine ⟨⟨u1, u2, xSc_e u3 p2.symm (fun i i0 i1 => ?_), u4⟩, i6 (k - ((l.length : Int) - o)) (by omega) (by omega)⟩
        have q := p3 i i0 (by omega)
        rw [ek] at q
        show 97 + v (165 + 12 * (k - ((l.length : Int) - o)) + i) = 97 + row (165 + 12 * k + i)
        rw [q]
  exact ⟨⟨tr, lr, fun k k0 k1 => (pc k k0 k1).1, r0.2⟩, r0.1, fun k k0 k1 => (pc k k0 k1).2⟩
theorem hj_a {a b c it : Nat} {k : Int} (k0 : 0 ≤ k) (z : b ≤ a + k.toNat) (e : b + 1 = it) (z2 : c = it) : c ≤ a + (k + 1).toNat := by omega
theorem hj_b {a b c : Nat} {k : Int} (k0 : 0 ≤ k) (z : b ≤ a + 4 * k.toNat) (z2 : c = b + 4) : c ≤ a + 4 * (k + 1).toNat := by omega
section
variable {K : am_K} {h : am_H}
theorem x_firstW {v : Int → Int} {w f o : Int} {T a : Nat} {D : Nat} (hD : 13 ≤ D) (ty : am_ty h T = 9) (ea : am_fr h 113 T = a) (xp : xPc h a v) (ho : okP v) (hN : okN v) (hf : wfV v w f o) (H : K (.inl (some (.inl (f)))) h) : am_ev am_prog D 269 [.inr (.inl T), .inl w] h K := by
  obtain ⟨⟨f1, f2, f3⟩, f4, f5, f6⟩ := hf
  obtain ⟨p1, p2, p3, p4⟩ := xp
  have o1 := ho.1
  obtain ⟨d, rfl⟩ : ∃ d, D = d + 13 := ⟨D - 13, by omega⟩
  refine am_en p_X10_first rfl rfl ?_
  refine v_X10_first_0 ?_
  have loop : ∀ j, 0 ≤ j → j ≤ f → am_W m_X10_first (am_ev am_prog (d + 12)) K 4 [some (.inr (.inl (T))), some (.inl (w)), some (.inl (v (85 + j))), some (.inl (j))] [] h := by
    refine lp_z ?_ ?_
    · intro j j0 j1 hL
      obtain ⟨q1, q2, q3, q4⟩ := p3 j j0 (by omega)
      have s := hN.2 j j0 (by omega)
      have lt := f4 j j0 j1
      have b := (ho.2.1 j j0 (by omega)).2
      have e : 85 + (j + 1) = 86 + j := by omega
      rw [e, s] at hL
      refine v_X10_first_4 ⟨fun z => absurd z (by omega), fun _ => ?_⟩
      rw [ea, p2, q2]
      refine ⟨⟨ty, p1, by omega⟩, q1, am_bz _, fun z => ⟨by omega, ?_⟩, fun z => ⟨by omega, ?_⟩⟩
      · rw [z] at hL
        exact hL
      · have z1 : am_b (ew v j) = 1 := by
          have := am_bz (ew v j)
          omega
        rw [z1] at hL
        exact hL
    · have e := f5 f (by omega) (by omega)
      rw [e]
      exact v_X10_first_4 ⟨fun _ => H, fun z => absurd z (by omega)⟩
  have q := loop 0 (by omega) f1
  have e : (85 : Int) + 0 = 85 := by omega
  rw [e, hN.1] at q
  exact q
theorem x_hasJob {L : am_Lb} {x P N : Nat} {S : am_G} {B : Int} {p : Int} {D : Nat} (hD : 13 ≤ D) (t : Nt h L x P N S B) (hC : okC S) (hF : okF S) (hM : okM S) (ip : isP S p) (H : ∀ h' v, fx (fun _ => False) h h' → am_sz h' ≤ am_sz h + 4 → am_us h' ≤ am_us h + 16 → (v ≠ 0 ↔ hsJ S p) → K (.inl (some (.inl (v)))) h') : am_ev am_prog D 273 [.inr (.inl N), .inr (.inl (am_ar h (am_fr h 20 N) p))] h K := by
  obtain ⟨x1, x2, x3, x4, x5, x6, x7, x8, x9, x10⟩ := t.2.2.2.1
  have c3 := hC.2.2.1
  have pb := isP_bd hC hF ip
  have pt := (x3.2.2 p pb.1.1 pb.1.2).2 ip
  obtain ⟨d, rfl⟩ : ∃ d, D = d + 13 := ⟨D - 13, by omega⟩
  refine am_en p_X3_hasJob rfl rfl ?_
  refine v_X3_hasJob_0 ?_
  have main : ∀ k, 0 ≤ k → k ≤ S 0 0 3 → ∀ h' v, fx (fun _ => False) h h' → am_sz h' ≤ am_sz h + k.toNat → am_us h' ≤ am_us h + 4 * k.toNat → (v = 0 ∨ v = 1) → (v ≠ 0 ↔ ∃ k' i, (0 ≤ k' ∧ k' < k) ∧ (0 ≤ i ∧ i < S 5 k' 29) ∧ S 5 k' (33 + 5 * i) = p) → ∀ o4 o5, am_W m_X3_hasJob (am_ev am_prog (d + 12)) K 4 [some (.inr (.inl (N))), some (.inr (.inl ((am_ar h (am_fr h 20 N) p)))), some (.inl (v)), some (.inl (k)), o4, o5] [] h' := by
    refine lp_z ?_ ?_
    · intro k k0 k1 hL h' v a z u v01 hv o4 o5
      have t' := Nt_fx0 a t
      have oN := nd_fx a (leL_refl (L := L)) x1.1 (fun z => z)
      have oM := nd_fx a (leL_refl (L := L)) x5.1 (fun z => z)
      obtain ⟨m1, m2, m3, m4, m5, m6, m7, m8, m9, m10⟩ := x5.2.2 k k0 k1
      have om := nd_fx a (leL_refl (L := L)) m1 (fun z => z)
      have k29 := (hM k k0 (by omega)).2.2.2.1
      have e24 : am_fi h' 24 N = S 0 0 3 := (oN.2.2.1 24).trans x1.2.2.2.2.1
      have e23 : am_fr h' 23 N = am_fr h 23 N := oN.2.2.2.1 23
      have eA : am_ar h' (am_fr h 23 N) = am_ar h (am_fr h 23 N) := oM.2.2.2.2.2
      have lM : am_ln h' (am_fr h 23 N) = 4 := oM.2.1.trans x5.2.1
      generalize hmc : am_ar h (am_fr h 23 N) k = mc at *
      have e147 : am_fr h' 147 mc = am_fr h 147 mc := om.2.2.2.1 147
      generalize hl : am_fr h 147 mc = l at *
      have ll := rL_fx a (leL_refl (L := L)) (Int.le_refl B) m10.1 (fun z => z) (fun z => z)
      refine v_X3_hasJob_4 ?_
      rw [e24, e23, eA, hmc, e147, lM]
      refine ⟨oN.1.1, fun e => absurd e (by omega), fun _ => ⟨⟨oM.1.1, by omega, om.1.1⟩, ll.1.1.1.1, ?_⟩⟩
      refine c_iterator ll.1.1.1.1 ll.1.1.1.2.2.2.2.1 (am_av (v_X3_hasJob_14 ?_))
      have i1 : fx (fun _ => False) h' (itH h' l 0 (-1)) := it_fx
      have i2 : am_ty (itH h' l 0 (-1)) (am_sz h' + 1) = 38 := it_ty
      have i3 : am_fr (itH h' l 0 (-1)) 199 (am_sz h' + 1) = l := it_199
      have i4 : am_fi (itH h' l 0 (-1)) 196 (am_sz h' + 1) = 0 := it_196
      have i5 : am_fi (itH h' l 0 (-1)) 198 (am_sz h' + 1) = am_fi h 193 l := it_198.trans (((a.2.2.2 l m10.1.1.1.2.2.2.2.1).2.2 (fun z => z)).1 193)
      have i6 : am_sz (itH h' l 0 (-1)) = am_sz h' + 1 := it_sz
      have i7 : am_us (itH h' l 0 (-1)) = am_us h' + 4 := it_us
      generalize itH h' l 0 (-1) = h3 at *
      have hz := a.1
      generalize hit : am_sz h' + 1 = it at *
      have jl : ∀ i, 0 ≤ i → i ≤ S 5 k 29 → ∀ h2 v, fx (fun _ => False) h h2 → am_ty h2 it = 38 → am_fr h2 199 it = l → am_fi h2 196 it = i → am_fi h2 198 it = am_fi h 193 l → am_sz h2 = it → am_us h2 = am_us h' + 4 → (v = 0 ∨ v = 1) → (v ≠ 0 ↔ (∃ k' i', (0 ≤ k' ∧ k' < k) ∧ (0 ≤ i' ∧ i' < S 5 k' 29) ∧ S 5 k' (33 + 5 * i') = p) ∨ ∃ i', (0 ≤ i' ∧ i' < i) ∧ S 5 k (33 + 5 * i') = p) → ∀ o5, am_W m_X3_hasJob (am_ev am_prog (d + 12)) K 15 [some (.inr (.inl (N))), some (.inr (.inl ((am_ar h (am_fr h 20 N) p)))), some (.inl (v)), some (.inl (k)), some (.inr (.inl (it))), o5] [] h2 := by
        refine lp_z ?_ ?_
        · intro i i0 i1 hLi h2 v a2 ti f1 f2 f3 z2 u2 v01 hv o5
          have l2 := rL_fx a2 (leL_refl (L := L)) (Int.le_refl B) m10.1 (fun z => z) (fun z => z)
          have jb := m10.2.1 i i0 i1
          have oj := nd_fx a2 (leL_refl (L := L)) jb.1 (fun z => z)
          have e195 : am_fi h2 195 l = S 5 k 29 := l2.1.2.2.2.2.1
          have e193 : am_fi h2 193 l = am_fi h 193 l := ((a2.2.2.2 l m10.1.1.1.2.2.2.2.1).2.2 (fun z => z)).1 193
          have eT := nd_fx a2 (leL_refl (L := L)) pt.1 (fun z => z)
          have e110 : am_fi h2 110 (am_ar h (am_fr h 20 N) p) = p := (eT.2.2.1 110).trans pt.2.1
          generalize hjc : am_ar h (am_fr h 194 l) i = jc at *
          have e151 : am_fi h2 151 jc = S 5 k (33 + 5 * i) := (oj.2.2.1 151).trans jb.2.1
          have xi : xI h2 it := by
            unfold xI
            rw [f1, f2, f3, e193, e195]
            exact ⟨ti, l2.1.1.1, rfl, by omega⟩
          have nxt : ∀ v', (v' = 0 ∨ v' = 1) → (v' ≠ 0 ↔ v ≠ 0 ∨ S 5 k (33 + 5 * i) = p) → ∀ o5, am_W m_X3_hasJob (am_ev am_prog (d + 12)) K 15 [some (.inr (.inl (N))), some (.inr (.inl ((am_ar h (am_fr h 20 N) p)))), some (.inl (v')), some (.inl (k)), some (.inr (.inl (it))), o5] [] (am_sfi (am_sfi h2 196 it (i + 1)) 197 it i) := by
            intro v' v01' hv' o5
            refine hLi _ v' (fx_sfi (fx_sfi a2 (Or.inl (by omega))) (Or.inl (by omega))) ti f1 ((x_fif (by decide)).trans x_fie) ((x_fif (by decide)).trans ((x_fif (by decide)).trans f3)) z2 u2 v01' ?_ _
            rw [hv', hv]
            constructor
            · intro w
              rcases w with (w | ⟨i', w1, w2⟩) | w
              · exact Or.inl w
              · exact Or.inr ⟨i', by omega, w2⟩
              · exact Or.inr ⟨i, by omega, w⟩
            · intro w
              rcases w with w | ⟨i', w1, w2⟩
              · exact Or.inl (Or.inl w)
              · by_cases e : i' = i
                · rw [e] at w2
                  exact Or.inr w2
                · exact Or.inl (Or.inr ⟨i', by omega, w2⟩)
          refine v_X3_hasJob_15 ?_
          rw [f1, f2, e195, l2.2.1, l2.2.2, hjc, e151, e110]
          refine ⟨ti, l2.1.1.1.1, fun e => absurd e (by omega), fun _ => ⟨xi, Or.inr oj.1.1, fun e => nxt 1 (Or.inr rfl) ⟨fun _ => Or.inl e, fun _ => by decide⟩ _, fun e => ⟨⟨oj.1.1, eT.1.1⟩, fun e2 => nxt 0 (Or.inl rfl) ⟨fun w => absurd rfl w, fun w => w.elim (fun w => absurd e w) (fun w => absurd w e2)⟩ _, fun e2 => nxt 1 (Or.inr rfl) ⟨fun _ => Or.inr e2, fun _ => by decide⟩ _⟩⟩⟩
        · intro h2 v a2 ti f1 f2 f3 z2 u2 v01 hv o5
          have l2 := rL_fx a2 (leL_refl (L := L)) (Int.le_refl B) m10.1 (fun z => z) (fun z => z)
          have e195 : am_fi h2 195 l = S 5 k 29 := l2.1.2.2.2.2.1
          have zz : am_sz h2 ≤ am_sz h + (k + 1).toNat := hj_a k0 z hit z2
          have uu : am_us h2 ≤ am_us h + 4 * (k + 1).toNat := hj_b k0 u u2
          refine v_X3_hasJob_15 ?_
          rw [f1, f2, e195]
          refine ⟨ti, l2.1.1.1.1, fun _ => ⟨by omega, hL h2 v a2 zz uu v01 ?_ _ _⟩, fun e => absurd rfl e⟩
          rw [hv]
          constructor
          · intro w
            rcases w with ⟨k', i', w1, w2⟩ | ⟨i', w1, w2⟩
            · exact ⟨k', i', by omega, w2⟩
            · exact ⟨k, i', by omega, w1, w2⟩
          · intro ⟨k', i', w1, w2, w3⟩
            by_cases e : k' = k
            · rw [e] at w2 w3
              exact Or.inr ⟨i', w2, w3⟩
            · exact Or.inl ⟨k', i', by omega, w2, w3⟩
      refine jl 0 (by omega) k29.1 h3 v (fx_trans2 a i1 (fun _ _ z => z)) i2 i3 i4 i5 i6 i7 v01 ?_ _
      rw [hv]
      exact ⟨Or.inl, fun w => w.elim (fun w => w) (fun ⟨i', w1, _⟩ => absurd w1.2 (by omega))⟩
    · intro h' v a z u v01 hv o4 o5
      have oN := nd_fx a (leL_refl (L := L)) x1.1 (fun z => z)
      have e24 : am_fi h' 24 N = S 0 0 3 := (oN.2.2.1 24).trans x1.2.2.2.2.1
      refine v_X3_hasJob_4 ?_
      rw [e24]
      exact ⟨oN.1.1, fun _ => ⟨v01, H h' v a (by omega) (by omega) hv⟩, fun e => absurd e (by omega)⟩
  refine main 0 (by omega) c3.1 h 0 fx_refl (by omega) (by omega) (Or.inl rfl) ⟨fun w => absurd rfl w, fun ⟨k', i, w, _⟩ => absurd w.2 (by omega)⟩ _ _
end
