set_option maxRecDepth 100000
/-! a night is copied: machines, parts, widths, the whole -/
theorem rMc_e {h : am_H} {L : am_Lb} {N m : Nat} {S T : am_G} {k B : Int} (e5 : T 5 = S 5) (e3 : T 3 = S 3) : rMc h L N T k m B ↔ rMc h L N S k m B := by
  unfold rMc rQ rJ bhd
  rw [e5, e3]
/-- lists that are empty stay so -/
theorem em_f {X : Nat → Prop} {h' h'' : am_H} {L' : am_Lb} {Z l g : Nat} {n B : Int} (f : fx X h' h'') (rl : rL h' L' l Z g 0 0 n B) (nx : ¬ X l) (em : am_fr h' 194 l = am_cs h' 0 ∧ am_fi h' 193 l = 0) : am_fr h'' 194 l = am_cs h'' 0 ∧ am_fi h'' 193 l = 0 := by
  have k := (f.2.2.2 l rl.1.1.2.2.2.2.1).2.2 nx
  rw [k.2.1 194, k.1 193, congrFun f.2.2.1 0]
  exact em
theorem capG_f {X : Nat → Prop} {h' h'' : am_H} {L' : am_Lb} {Z : Nat} {n B : Int} (f : fx X h' h'') (rl : rL h' L' (am_fr h' 25 Z) Z 4 0 0 n B) (nx : ¬ X (am_fr h' 25 Z)) (fr : am_fr h'' 25 Z = am_fr h' 25 Z) : capG h'' Z = capG h' Z := by
  have k := (f.2.2.2 _ rl.1.1.2.2.2.2.1).2.2 nx
  have kA := f.2.2.2 _ rl.1.1.2.2.2.2.2
  unfold capG
  rw [fr, k.2.1 194]
  exact kA.2.1
section
variable {K : am_K} {h : am_H}
/-- the machines are there: their number, and on to the slugs -/
theorem cp_88 {L : am_Lb} {Ns Z P : Nat} {S : am_G} {B : Int} {d : Nat} (hd : 30 ≤ d + 12) (ok : okLb h L) (cs : (am_ty h (am_cs h 0) = 134 ∧ am_cs h 0 ≤ am_sz h ∧ am_ln h (am_cs h 0) = 0)) (rep : Rep h L Ns P S B) (hZ : Z = am_sz h + 1) (ow : ∀ q, q ≤ am_sz h → (L q).1 ≠ Z) (hC : okC S) (H : ∀ h' L', fx (fun _ => False) h h' → leL h L L' → okLb h' L' → Rep h' L' Z P S 400 → (∀ q, am_sz h < q → (L' q).1 = 0 ∨ (L' q).1 = Z) → (am_sz h' : Int) ≤ am_sz h + 600 + S 0 0 4 + capG h' Z → (am_us h' : Int) ≤ am_us h + 9000 + 11 * S 0 0 4 + 5 * capG h' Z → K (.inl (some (.inr (.inl (Z))))) h') (hG : okG S) {T4 T7 T8 T9 T10 : am_G} {F : Nat → Int} (f18 : F 18 = S 0 0 0) (t4 : T4 0 0 4 = 0) (t7 : T7 0 0 5 = 0) (t9 : T9 0 0 6 = 0) (f21 : F 21 = S 0 0 1) : ∀ h' L', CpS h L Z P 560 7760 F S S S S T4 T7 T8 T9 T10 h' L' → (am_fr h' 194 (am_fr h' 25 Z) = am_cs h' 0 ∧ am_fi h' 193 (am_fr h' 25 Z) = 0) → (am_fr h' 194 (am_fr h' 26 Z) = am_cs h' 0 ∧ am_fi h' 193 (am_fr h' 26 Z) = 0) → (am_fr h' 194 (am_fr h' 28 Z) = am_cs h' 0 ∧ am_fi h' 193 (am_fr h' 28 Z) = 0) → ∀ o3, am_W m_X3_copy (am_ev am_prog (d + 12)) K 66 [some (.inr (.inl (Ns))), some (.inr (.inl (Z))), some (.inl (S 0 0 3)), o3] [] h' := by
  intro h' L' x em5 em6 em8 o3
  obtain ⟨x1, x2, x3, x4, x5, x6, x7⟩ := x
  have rp := Rep_fx (Int.le_refl B) x1 x2 ok cs.1 (fun _ _ z => z.elim) rep
  have cs' := cs_fx x1 cs
  have s1 := rp.1
  have rG0 := rep.2.2.2.2.2.1
  have rl0 := rG0.1
  have kq := x1.2.2.2 (am_fr h 25 Ns) rl0.1.1.2.2.2.2.1
  have kN := x1.2.2.2 Ns rep.1.1.2.1
  have e25 : am_fr h' 25 Ns = (am_fr h 25 Ns) := (kN.2.2 (fun z => z)).2.1 25
  refine v_X3_copy_66 ?_
  rw [s1.2.2.2.2.1, e25]
  refine ⟨s1.1.1, fun _ => ⟨x5.1.1, kq.1.trans rl0.1.1.1, ?_⟩, fun z => absurd z (by omega)⟩
  have c1 := CpI_num (f := 24) (v := S 0 0 3) x5 x3 cs'.1
  have fN : fx (fun q => q = Z) h' (am_sfi h' 24 Z (S 0 0 3)) := fx_sfi fx_refl (Or.inr rfl)
  have o1 := okLb_fx fN x3
  have zN : am_sz (am_sfi h' 24 Z (S 0 0 3)) = am_sz h' := rfl
  have uN : am_us (am_sfi h' 24 Z (S 0 0 3)) = am_us h' := rfl
  have gN : capG (am_sfi h' 24 Z (S 0 0 3)) Z = capG h' Z := rfl
  have m5 : (am_fr (am_sfi h' 24 Z (S 0 0 3)) 194 (am_fr (am_sfi h' 24 Z (S 0 0 3)) 25 Z) = am_cs (am_sfi h' 24 Z (S 0 0 3)) 0 ∧ am_fi (am_sfi h' 24 Z (S 0 0 3)) 193 (am_fr (am_sfi h' 24 Z (S 0 0 3)) 25 Z) = 0) := ⟨em5.1, (x_fif (by decide)).trans em5.2⟩
  have m6 : (am_fr (am_sfi h' 24 Z (S 0 0 3)) 194 (am_fr (am_sfi h' 24 Z (S 0 0 3)) 26 Z) = am_cs (am_sfi h' 24 Z (S 0 0 3)) 0 ∧ am_fi (am_sfi h' 24 Z (S 0 0 3)) 193 (am_fr (am_sfi h' 24 Z (S 0 0 3)) 26 Z) = 0) := ⟨em6.1, (x_fif (by decide)).trans em6.2⟩
  have m8 : (am_fr (am_sfi h' 24 Z (S 0 0 3)) 194 (am_fr (am_sfi h' 24 Z (S 0 0 3)) 28 Z) = am_cs (am_sfi h' 24 Z (S 0 0 3)) 0 ∧ am_fi (am_sfi h' 24 Z (S 0 0 3)) 193 (am_fr (am_sfi h' 24 Z (S 0 0 3)) 28 Z) = 0) := ⟨em8.1, (x_fif (by decide)).trans em8.2⟩
  have kQ : am_ty (am_sfi h' 24 Z (S 0 0 3)) (am_fr h 25 Ns) = 31 := kq.1.trans rl0.1.1.1
  have iQ : am_fi (am_sfi h' 24 Z (S 0 0 3)) 193 (am_fr h 25 Ns) = am_fi h 193 (am_fr h 25 Ns) := (x_fif (by decide)).trans ((kq.2.2 (fun z => z)).1 193)
  have csN := cs_fx fN cs'
  generalize am_sfi h' 24 Z (S 0 0 3) = hN at *
  refine c_iterator (d := d + 6) kQ (by rw [zN]; exact Nat.le_trans rl0.1.1.2.2.2.2.1 x1.1) (am_av (v_X3_copy_88 ?_))
  have fI : fx (fun _ => False) hN (itH hN (am_fr h 25 Ns) 0 (-1)) := it_fx
  have itI : itC (itH hN (am_fr h 25 Ns) 0 (-1)) (am_sz hN + 1) (am_fr h 25 Ns) 0 (am_fi hN 193 (am_fr h 25 Ns)) := ⟨it_ty, it_199, it_196, it_198⟩
  have sI : am_sz (itH hN (am_fr h 25 Ns) 0 (-1)) = am_sz hN + 1 := rfl
  have uI : am_us (itH hN (am_fr h 25 Ns) 0 (-1)) = am_us hN + 4 := rfl
  rw [iQ] at itI
  generalize itH hN (am_fr h 25 Ns) 0 (-1) = hI at *
  have le1 : leL hN L' (lbA L' hN (am_sz hN + 1) (Z, 20, 0, 0)) := fun q hq => if_neg (fun y => absurd y.2 (by omega))
  have ok1 : okLb hI (lbA L' hN (am_sz hN + 1) (Z, 20, 0, 0)) := okLb_lb o1 fI ⟨by omega, by omega⟩ (by rw [itI.1]; unfold imT; omega)
  have lq : lbA L' hN (am_sz hN + 1) (Z, 20, 0, 0) (am_sz hN + 1) = (Z, 20, 0, 0) := if_pos ⟨rfl, by omega⟩
  have ln1 : ∀ q, am_sz hN < q → (lbA L' hN (am_sz hN + 1) (Z, 20, 0, 0) q).1 = 0 ∨ (lbA L' hN (am_sz hN + 1) (Z, 20, 0, 0) q).1 = Z := lbA_n (h' := hN) o1
  generalize lbA L' hN (am_sz hN + 1) (Z, 20, 0, 0) = L1 at le1 ok1 lq ln1
  have c2 := CpI_f0 c1 fI le1 o1 csN.1
  have fA : fx (fun q => q = Z) h' hI := fx_trans2 fN fI (fun _ _ z => z.elim)
  obtain ⟨k1, k2, k3⟩ := CpS_fr x1 x2 x4 ow fA (fun q hq => le1 q (by omega)) (fun q hq e => by rw [e, x5.1.2.2.2]) (fun q hq => ln1 q (by omega))
  have kZ := (fI.2.2.2 Z c1.1.2.1).2.2 (fun z => z)
  have w := c1.2.2.2.2.2.2.2
  have n0 : ¬ (fun _ => False) (am_fr hN 25 Z) := fun z => z
  have e5' := em_f fI w.1.1 (fun z => z) m5
  have e6' := em_f fI w.2.1.1 (fun z => z) m6
  have e8' := em_f fI w.2.2.2.1.1 (fun z => z) m8
  rw [← kZ.2.1 25] at e5'
  rw [← kZ.2.1 26] at e6'
  rw [← kZ.2.1 28] at e8'
  have gI : capG hI Z = capG hN Z := capG_f fI w.1.1 (fun z => z) (kZ.2.1 25)
  refine cp_89 (T7 := T7) (T8 := T8) (T9 := T9) (T10 := T10) hd ok cs rep hZ ow hC H hG (F := am_up F 24 (S 0 0 3)) ((am_up_ne (by decide)).trans f18) ((am_up_ne (by decide)).trans f21) am_up_eq t7 t9 (r2 := am_sz hN + 1) (by have := x1.1; omega) 0 (by omega) hG.1.1 hI L1 ⟨k1, k2, ok1, k3, ?_, by omega, by omega⟩ e6' e8' e5'.2 itI lq (by omega) _
  obtain ⟨b0, bp, bf, b1, b3, b6, b5, b4, b7, b8, b9, b10⟩ := c2
  refine ⟨b0, bp, bf, b1, b3, b6, b5, ?_, b7, b8, b9, b10⟩
  have rl := b4.1
  rw [t4] at rl
  have e04 : u3 S 0 0 4 0 0 0 4 = 0 := u3_eq
  unfold rG
  rw [e04]
  exact ⟨rl, fun s s0 s1 => absurd s1 (by omega)⟩
/-- the machines -/
theorem cp_66 {L : am_Lb} {Ns Z P : Nat} {S : am_G} {B : Int} {d : Nat} (hd : 30 ≤ d + 12) (ok : okLb h L) (cs : (am_ty h (am_cs h 0) = 134 ∧ am_cs h 0 ≤ am_sz h ∧ am_ln h (am_cs h 0) = 0)) (rep : Rep h L Ns P S B) (hZ : Z = am_sz h + 1) (ow : ∀ q, q ≤ am_sz h → (L q).1 ≠ Z) (hC : okC S) (H : ∀ h' L', fx (fun _ => False) h h' → leL h L L' → okLb h' L' → Rep h' L' Z P S 400 → (∀ q, am_sz h < q → (L' q).1 = 0 ∨ (L' q).1 = Z) → (am_sz h' : Int) ≤ am_sz h + 600 + S 0 0 4 + capG h' Z → (am_us h' : Int) ≤ am_us h + 9000 + 11 * S 0 0 4 + 5 * capG h' Z → K (.inl (some (.inr (.inl (Z))))) h') (hG : okG S) (hM : okM S) {T4 T7 T8 T9 T10 : am_G} {F : Nat → Int} (f18 : F 18 = S 0 0 0) (t4 : T4 0 0 4 = 0) (t7 : T7 0 0 5 = 0) (t9 : T9 0 0 6 = 0) (f21 : F 21 = S 0 0 1) : ∀ k, 0 ≤ k → k ≤ S 0 0 3 → ∀ h' L', CpS h L Z P (300 + 64 * k) (6160 + 400 * k) F S S S (u3 S 0 0 3 (k)) T4 T7 T8 T9 T10 h' L' → (am_fr h' 194 (am_fr h' 25 Z) = am_cs h' 0 ∧ am_fi h' 193 (am_fr h' 25 Z) = 0) → (am_fr h' 194 (am_fr h' 26 Z) = am_cs h' 0 ∧ am_fi h' 193 (am_fr h' 26 Z) = 0) → (am_fr h' 194 (am_fr h' 28 Z) = am_cs h' 0 ∧ am_fi h' 193 (am_fr h' 28 Z) = 0) → ∀ o3, am_W m_X3_copy (am_ev am_prog (d + 12)) K 66 [some (.inr (.inl (Ns))), some (.inr (.inl (Z))), some (.inl (k)), o3] [] h' := by
  have c3 := hC.2.2.1
  refine lp_z ?_ ?_
  · intro k k0 k1 hL h' L' x em5 em6 em8 o3
    obtain ⟨x1, x2, x3, x4, x5, x6, x7⟩ := x
    have rp := Rep_fx (Int.le_refl B) x1 x2 ok cs.1 (fun _ _ z => z.elim) rep
    have cs' := cs_fx x1 cs
    have s1 := rp.1
    have s5 := rp.2.2.2.2.1
    have Z0 := x5.1.2.2.1
    have mk := s5.2.2 k k0 k1
    have mm := hM k k0 (by omega)
    have q5 := x5.2.2.2.2.2.2.1
    refine v_X3_copy_66 ?_
    rw [s1.2.2.2.2.1, s5.2.1]
    refine ⟨s1.1.1, fun z => absurd z (by omega), fun _ => ⟨⟨x5.1.1, s5.1.1, by omega⟩, mk.1.1, ?_⟩⟩
    refine x_mcopy (N := Z) (by omega) Z0 x3 cs' mk mm.2.2.1 mm.2.2.2.1 (fun i i0 i1 => (mm.2.2.2.2.2.2.2 i i0 i1).2.2.2.1) (fun h2 L2 f2 le2 ok2 mc ln2 z2 u2 => am_av (v_X3_copy_78 ?_))
    have kZ := (f2.2.2.2 Z x5.1.2.1).2.2 (fun z => z)
    have c1 := CpI_f0 x5 f2 le2 x3 cs'.1
    have cs2 := cs_fx f2 cs'
    have p5 := c1.2.2.2.2.2.2.1
    rw [kZ.2.1 23] at p5
    rw [p5.1.1, p5.2.1, mc.1.1]
    refine ⟨⟨rfl, Or.inr rfl, by omega⟩, by omega, ?_⟩
    have f3 : fx (fun q => q = am_fr h' 23 Z) h2 (am_sar h2 (am_fr h' 23 Z) k (am_sz h' + 1)) := fx_sar fx_refl (Or.inr rfl)
    have a3 : am_ar (am_sar h2 (am_fr h' 23 Z) k (am_sz h' + 1)) (am_fr h' 23 Z) = am_uz (am_ar h2 (am_fr h' 23 Z)) k (am_sz h' + 1) := x_arse
    have hX : ∀ q, q ≤ am_sz h2 → q = am_fr h' 23 Z → (L2 q).1 = Z ∧ (L2 q).2.1 = 5 := nd_one p5.1
    obtain ⟨⟨w0, wr, wp, wf⟩, w1, w3, w6, _, w4, w7, w8, w9, w10⟩ := CpI_gr 5 (by decide) c1 f3 (leL_refl (L := L2)) ok2 cs2.1 hX
    have z3 : am_sz (am_sar h2 (am_fr h' 23 Z) k (am_sz h' + 1)) = am_sz h2 := rfl
    have u3' : am_us (am_sar h2 (am_fr h' 23 Z) k (am_sz h' + 1)) = am_us h2 := rfl
    have g3 : capG (am_sar h2 (am_fr h' 23 Z) k (am_sz h' + 1)) Z = capG h2 Z := rfl
    have w := x5.2.2.2.2.2.2.2
    have e5' := em_f f2 w.1.1 (fun z => z) em5
    have e6' := em_f f2 w.2.1.1 (fun z => z) em6
    have e8' := em_f f2 w.2.2.2.1.1 (fun z => z) em8
    rw [← kZ.2.1 25] at e5'
    rw [← kZ.2.1 26] at e6'
    rw [← kZ.2.1 28] at e8'
    have m5 : (am_fr (am_sar h2 (am_fr h' 23 Z) k (am_sz h' + 1)) 194 (am_fr (am_sar h2 (am_fr h' 23 Z) k (am_sz h' + 1)) 25 Z) = am_cs (am_sar h2 (am_fr h' 23 Z) k (am_sz h' + 1)) 0 ∧ am_fi (am_sar h2 (am_fr h' 23 Z) k (am_sz h' + 1)) 193 (am_fr (am_sar h2 (am_fr h' 23 Z) k (am_sz h' + 1)) 25 Z) = 0) := e5'
    have m6 : (am_fr (am_sar h2 (am_fr h' 23 Z) k (am_sz h' + 1)) 194 (am_fr (am_sar h2 (am_fr h' 23 Z) k (am_sz h' + 1)) 26 Z) = am_cs (am_sar h2 (am_fr h' 23 Z) k (am_sz h' + 1)) 0 ∧ am_fi (am_sar h2 (am_fr h' 23 Z) k (am_sz h' + 1)) 193 (am_fr (am_sar h2 (am_fr h' 23 Z) k (am_sz h' + 1)) 26 Z) = 0) := e6'
    have m8 : (am_fr (am_sar h2 (am_fr h' 23 Z) k (am_sz h' + 1)) 194 (am_fr (am_sar h2 (am_fr h' 23 Z) k (am_sz h' + 1)) 28 Z) = am_cs (am_sar h2 (am_fr h' 23 Z) k (am_sz h' + 1)) 0 ∧ am_fi (am_sar h2 (am_fr h' 23 Z) k (am_sz h' + 1)) 193 (am_fr (am_sar h2 (am_fr h' 23 Z) k (am_sz h' + 1)) 28 Z) = 0) := e8'
    have g2 : capG h2 Z = capG h' Z := capG_f f2 w.1.1 (fun z => z) (kZ.2.1 25)
    generalize am_sar h2 (am_fr h' 23 Z) k (am_sz h' + 1) = h3 at *
    have v1 := nd_fy f3 (leL_refl (L := L2)) p5.1
    have e03 : (u3 S 0 0 3 (k + 1)) 0 0 3 = k + 1 := u3_eq
    have e03' : (u3 S 0 0 3 (k)) 0 0 3 = k := u3_eq
    have nz : ∀ q, q ≤ am_sz h2 → q = am_fr h' 23 Z → ∀ j, (L2 q).1 ≠ 0 ∧ ¬ ((L2 q).1 = Z ∧ (L2 q).2.1 = 5 ∧ (L2 q).2.2.2 = j ∧ False) := fun q hq e j => ⟨by rw [(hX q hq e).1]; exact Z0, fun y => y.2.2.2⟩
    have y5 : rM h3 L2 Z (am_fr h' 23 Z) (u3 S 0 0 3 (k + 1)) 400 := by
      refine ⟨v1.1, v1.2.trans p5.2.1, fun j j0 j1 => ?_⟩
      rw [e03] at j1
      rw [rMc_e (u3_r (by decide)) (u3_r (by decide)), a3]
      -- the array's own cell is no machine's
      have keep : ∀ m, rMc h2 L2 Z S j m 400 → rMc h3 L2 Z S j m 400 := fun m y => by
        have nd0 : ∀ q t c i, nd h2 L2 q t Z 5 c i → c ≠ 0 → q ≠ am_fr h' 23 Z := fun q t c i n c0 => nd_kne n p5.1 c0
        obtain ⟨y1, y2, y3, y4, y5, y6, y7, y8, y9, y10, y11, y12⟩ := y
        have n1 := nd_fx f3 (leL_refl (L := L2)) y1 (nd0 _ _ _ _ y1 (by decide))
        have n2 := nd_fx f3 (leL_refl (L := L2)) y2 (nd0 _ _ _ _ y2 (by decide))
        have nl : am_fr h2 147 m ≠ am_fr h' 23 Z := fun e => by
          have a := y10.1.1.1
          rw [e, p5.1.1] at a
          exact absurd a (by decide)
        have nA : am_fr h2 194 (am_fr h2 147 m) ≠ am_fr h' 23 Z := fun e => by
          have a := y10.1.1.2.1
          rw [e, p5.1.1] at a
          omega
        have r := rL_fx f3 (leL_refl (L := L2)) (Int.le_refl 400) y10 nl nA
        unfold rMc rQ
        rw [n1.2.2.1, n1.2.2.1, n1.2.2.1, n1.2.2.1, n1.2.2.1, n1.2.2.2.1, n1.2.2.2.1, n2.2.1, n2.2.2.2.2.1, r.2.1, r.2.2]
        exact ⟨n1.1, n2.1, y3, y4, y5, y6, y7, y8, y9, r.1, fun i i0 i1 => rJ_fx f3 leL_refl (fun _ _ _ => rfl) rfl (y11 i i0 i1) (nd0 _ _ _ _ (y11 i i0 i1).1 (by decide)), y12⟩
      by_cases e : j = k
      · rw [e, am_uz_eq]
        rw [e] at keep
        exact keep _ (rMc_fx (X := (fun _ => False)) fx_refl leL_refl ok2 cs2.1 (by decide) rfl (fun _ _ _ => rfl) (fun _ _ z => z.elim) mc)
      · rw [am_uz_ne e]
        have y := p5.2.2 j j0 (by rw [e03']; omega)
        rw [rMc_e (u3_r (by decide)) (u3_r (by decide))] at y
        exact keep _ y
    have fA : fx (fun q => q = am_fr h' 23 Z) h' h3 := fx_trans2 (fx_sub f2 (fun _ _ z => z.elim)) f3 (fun _ _ e => e)
    obtain ⟨k1', k2, k3⟩ := CpS_fr x1 x2 x4 ow fA le2 (fun q hq e => by rw [e, q5.1.2.2.2]) ln2
    refine hL h3 L2 ⟨k1', k2, okLb_fx f3 ok2, k3, ?_, by omega, by omega⟩ m5 m6 m8 _
    refine CpI_mk (h := h2) w0 wr wp wf (w1 (by decide)) (w3 (by decide)) (w6 (by decide)) ?_ (w4 (by decide)) (w7 (by decide)) (w8 (by decide)) (w9 (by decide)) (w10 (by decide))
    rw [kZ.2.1 23]
    exact y5
  · intro h' L' x em5 em6 em8 o3
    have eU : (u3 S 0 0 3 (S 0 0 3)) = S := u3_id rfl
    rw [eU] at x
    obtain ⟨x1, x2, x3, x4, x5, x6, x7⟩ := x
    exact cp_88 (T4 := T4) (T7 := T7) (T8 := T8) (T9 := T9) (T10 := T10) hd ok cs rep hZ ow hC H hG f18 t4 t7 t9 f21 h' L' ⟨x1, x2, x3, x4, x5, by omega, by omega⟩ em5 em6 em8 _
end
