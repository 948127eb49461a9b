set_option maxRecDepth 100000
/-! a night is copied: lists that are taken as they are, pages -/
/-- a list of the new night has got what another one has -/
theorem cpA {h' h'' : am_H} {L' : am_Lb} {l Z g : Nat} {n : Int} (ok : okLb h' L') (cs : (am_ty h' (am_cs h' 0) = 134 ∧ am_cs h' 0 ≤ am_sz h' ∧ am_ln h' (am_cs h' 0) = 0)) (rl : rL h' L' l Z g 0 0 0 400) (em : am_fr h' 194 l = am_cs h' 0 ∧ am_fi h' 193 l = 0) (f : fx (fun q => q = l) h' h'') (xm : xLm h'' l) (e5 : am_fi h'' 195 l = n) (e3 : am_fi h'' 193 l = am_fi h' 193 l + 1) (hA : 0 < am_ln h'' (am_fr h'' 194 l) → am_sz h' < am_fr h'' 194 l) : ∃ L2, leL h' L' L2 ∧ okLb h'' L2 ∧ rL h'' L2 l Z g 0 0 n 400 ∧ ∀ q, am_sz h' < q → (L2 q).1 = 0 ∨ (L2 q).1 = Z := by
  have lz := rl.1.1.2.2.2.2.1
  have le : leL h' L' (lbA L' h' (am_fr h'' 194 l) (Z, g, 1, 0)) := fun q hq => if_neg (fun y => absurd y.2 (by omega))
  have ln : ∀ q, am_sz h' < q → (lbA L' h' (am_fr h'' 194 l) (Z, g, 1, 0) q).1 = 0 ∨ (lbA L' h' (am_fr h'' 194 l) (Z, g, 1, 0) q).1 = Z := lbA_n (h' := h'') ok
  by_cases c : 0 < am_ln h'' (am_fr h'' 194 l)
  · have c2 := hA c
    have ty := xm.2.2.2 c
    refine ⟨_, le, okLb_lb ok f ⟨c2, xm.1.2.2.2.2.2⟩ (by rw [ty]; unfold imT; omega), ⟨xm, rl.2.1, (le l lz).trans rl.2.2.1, fun _ => if_pos ⟨rfl, c2⟩, e5, by rw [e3, em.2]; omega⟩, ln⟩
  · exact ⟨L', leL_refl, okLb_fx f ok, ⟨xm, rl.2.1, rl.2.2.1, fun c2 => absurd c2 c, e5, by rw [e3, em.2]; omega⟩, fun q hq => Or.inl (ok.2.2 q hq)⟩
/-- the pages ahead of k are those of S -/
def tH (S T : am_G) (k : Int) : am_G := fun c p i => if p < k then S c p i else T c p i
theorem tH_lt {S T : am_G} {k p : Int} {c : Nat} (h : p < k) : tH S T k c p = S c p := by
  funext i
  exact if_pos h
theorem tH_ge {S T : am_G} {k p : Int} {c : Nat} (h : k ≤ p) : tH S T k c p = T c p := by
  funext i
  exact if_neg (by omega)
theorem tH_s {S T : am_G} {k p : Int} {c : Nat} (h : p ≠ k) : tH S T (k + 1) c p = tH S T k c p := by
  by_cases e : p < k
  · rw [tH_lt e, tH_lt (by omega)]
  · rw [tH_ge (by omega), tH_ge (by omega)]
/-- a page, its cell and its numbers told by a state that agrees -/
theorem rPg_e {h : am_H} {L : am_Lb} {N t : Nat} {S T : am_G} {p : Int} (e : T 8 p = S 8 p) (x : rPg h L N S p t) : rPg h L N T p t := by
  unfold rPg at x ⊢
  rw [e]
  exact x
section
variable {K : am_K} {h : am_H}
/-- the editions -/
theorem cp_129 {L : am_Lb} {Ns Z P : Nat} {S : am_G} {B : Int} {d : Nat} (hd : 30 ≤ d + 12) (ok : okLb h L) (cs : (am_ty h (am_cs h 0) = 134 ∧ am_cs h 0 ≤ am_sz h ∧ am_ln h (am_cs h 0) = 0)) (rep : Rep h L Ns P S B) (hZ : Z = am_sz h + 1) (ow : ∀ q, q ≤ am_sz h → (L q).1 ≠ Z) (hC : okC S) (H : ∀ h' L', fx (fun _ => False) h h' → leL h L L' → okLb h' L' → Rep h' L' Z P S 400 → (∀ q, am_sz h < q → (L' q).1 = 0 ∨ (L' q).1 = Z) → (am_sz h' : Int) ≤ am_sz h + 600 + S 0 0 4 + capG h' Z → (am_us h' : Int) ≤ am_us h + 9000 + 11 * S 0 0 4 + 5 * capG h' Z → K (.inl (some (.inr (.inl (Z))))) h') {T9 T10 : am_G} {F : Nat → Int} (f18 : F 18 = S 0 0 0) (f21 : F 21 = S 0 0 1) (f24 : F 24 = S 0 0 3) (t9 : T9 0 0 6 = 0) : ∀ h' L', CpS h L Z P (598 + S 0 0 4) (8400 + 11 * S 0 0 4) F S S S S S S S T9 T10 h' L' → (am_fr h' 194 (am_fr h' 28 Z) = am_cs h' 0 ∧ am_fi h' 193 (am_fr h' 28 Z) = 0) → ∀ o3, am_W m_X3_copy (am_ev am_prog (d + 12)) K 111 [some (.inr (.inl (Ns))), some (.inr (.inl (Z))), some (.inl (6)), o3] [] h' := by
  intro h' L' x em o3
  obtain ⟨x1, x2, x3, x4, x5, x6, x7⟩ := x
  have rp := Rep_fx (Int.le_refl B) x1 x2 ok cs.1 (fun _ _ z => z.elim) rep
  have cs' := cs_fx x1 cs
  have s1 := rp.1
  have s9 := rp.2.2.2.2.2.2.2.2.1
  have c6 := hC.2.2.2.2.1
  have q9 := x5.2.2.2.2.2.2.2.2.2.2.1
  have r9 := q9.1
  rw [t9] at r9
  have NZ : Ns ≠ Z := fun e => by
    have := rep.1.1.2.1
    omega
  refine v_X3_copy_111 ⟨fun _ => ⟨⟨x5.1.1, s1.1.1⟩, r9.1.1.1, ?_⟩, fun c => absurd c (by omega)⟩
  have ne : am_fr h' 28 Z ≠ am_fr h' 28 Ns := fun e => by
    have a := r9.2.2.1
    have b := s9.1.2.2.1
    rw [e, b] at a
    injection a with a _
    exact NZ a
  refine c_addAll (d := d + 3) r9.1 (by rw [em.1]; exact cs'.2.2) (by rw [em.2]; omega) s9.1.1 (by rw [s9.1.2.2.2.2.1]; omega) ne cs'.2.1 (fun h2 v f2 xm e5 e3 el hA hs hu => am_av ?_)
  obtain ⟨L2, le2, ok2, rl2, ln2⟩ := cpA x3 cs' r9 em f2 xm (e5.trans s9.1.2.2.2.2.1) e3 hA
  have hX : ∀ q, q ≤ am_sz h' → q = am_fr h' 28 Z → (L' q).1 = Z ∧ (L' q).2.1 = 9 := fun q _ e => by
    rw [e, r9.2.2.1]
    exact ⟨rfl, rfl⟩
  obtain ⟨⟨w0, wr, wp, wf⟩, w1, w3, w6, w5, w4, w7, w8, _, w10⟩ := CpI_gr 9 (by decide) x5 f2 le2 x3 cs'.1 hX
  obtain ⟨k1, k2, k3⟩ := CpS_fr x1 x2 x4 ow f2 le2 (fun q hq e => (hX q hq e).1) ln2
  have im : ∀ q, q ≤ am_sz h' → q = am_fr h' 28 Z → (L' q).1 ≠ 0 ∧ ¬ imT (am_ty h' q) := fun q hq e => by
    have e1 := (hX q hq e).1
    have z0 := x5.1.2.2.1
    exact ⟨by rw [e1]; exact z0, fun t => z0 (e1.symm.trans (x3.2.1 q hq t))⟩
  have y9 : rE h2 L2 Z (am_fr h' 28 Z) S 400 := by
    refine ⟨rl2, fun k a b => ?_⟩
    have s := s9.2 k a b
    rw [el k a (by rw [s9.1.2.2.2.2.1]; exact b)]
    exact iEd_fx f2 le2 im rfl s
  have e25 : capG h2 Z = capG h' Z := by
    have r4 := x5.2.2.2.2.2.2.2.1.1
    have k25 := (f2.2.2.2 _ r4.1.1.2.2.2.2.1).2.2 (fun e => by
      have a := r4.2.2.1
      rw [e, r9.2.2.1] at a
      injection a with _ a
      injection a with a _
      exact absurd a (by decide))
    have kA := f2.2.2.2 _ r4.1.1.2.2.2.2.2
    unfold capG
    rw [wr 25, k25.2.1 194]
    exact kA.2.1
  exact cp_130 (T10 := T10) hd ok cs rep hZ ow hC H f18 f21 f24 h2 L2 ⟨k1, k2, ok2, k3, CpI_mk w0 wr wp wf (w1 (by decide)) (w3 (by decide)) (w6 (by decide)) (w5 (by decide)) (w4 (by decide)) (w7 (by decide)) (w8 (by decide)) y9 (w10 (by decide)), by rw [e25]; omega, by rw [e25]; omega⟩ _ _ _
/-- the pages -/
theorem cp_111 {L : am_Lb} {Ns Z P : Nat} {S : am_G} {B : Int} {d : Nat} (hd : 30 ≤ d + 12) (ok : okLb h L) (cs : (am_ty h (am_cs h 0) = 134 ∧ am_cs h 0 ≤ am_sz h ∧ am_ln h (am_cs h 0) = 0)) (rep : Rep h L Ns P S B) (hZ : Z = am_sz h + 1) (ow : ∀ q, q ≤ am_sz h → (L q).1 ≠ Z) (hC : okC S) (H : ∀ h' L', fx (fun _ => False) h h' → leL h L L' → okLb h' L' → Rep h' L' Z P S 400 → (∀ q, am_sz h < q → (L' q).1 = 0 ∨ (L' q).1 = Z) → (am_sz h' : Int) ≤ am_sz h + 600 + S 0 0 4 + capG h' Z → (am_us h' : Int) ≤ am_us h + 9000 + 11 * S 0 0 4 + 5 * capG h' Z → K (.inl (some (.inr (.inl (Z))))) h') {T8 T9 T10 : am_G} {F : Nat → Int} (f18 : F 18 = S 0 0 0) (f21 : F 21 = S 0 0 1) (f24 : F 24 = S 0 0 3) (t9 : T9 0 0 6 = 0) : ∀ p, 0 ≤ p → p ≤ 6 → ∀ h' L', CpS h L Z P (586 + 2 * p + S 0 0 4) (8370 + 5 * p + 11 * S 0 0 4) F S S S S S S (tH S T8 p) T9 T10 h' L' → (am_fr h' 194 (am_fr h' 28 Z) = am_cs h' 0 ∧ am_fi h' 193 (am_fr h' 28 Z) = 0) → ∀ o3, am_W m_X3_copy (am_ev am_prog (d + 12)) K 111 [some (.inr (.inl (Ns))), some (.inr (.inl (Z))), some (.inl (p)), o3] [] h' := by
  refine lp_z ?_ ?_
  · intro p p0 p1 hL h' L' x em o3
    obtain ⟨x1, x2, x3, x4, x5, x6, x7⟩ := x
    have rp := Rep_fx (Int.le_refl B) x1 x2 ok cs.1 (fun _ _ z => z.elim) rep
    have cs' := cs_fx x1 cs
    have s1 := rp.1
    have s8 := rp.2.2.2.2.2.2.2.1
    have q8 := x5.2.2.2.2.2.2.2.2.2.1
    have q9 := x5.2.2.2.2.2.2.2.2.2.2.1
    have Z0 := x5.1.2.2.1
    have sp := s8.2.2 p p0 (by omega)
    refine v_X3_copy_111 ⟨fun c => absurd c (by omega), fun _ => ?_⟩
    rw [s8.2.1, q8.2.1, sp.1.1, sp.2.1, sp.2.2.1, sp.2.2.2.1, sp.2.2.2.2.1]
    refine ⟨⟨x5.1.1, s1.1.1, s8.1.1, by omega⟩, rfl, sp.1.2.1, ⟨q8.1.2.1, q8.1.1, by omega⟩, by omega, ?_⟩
    -- the new page
    generalize er : am_fr h' 37 (am_ar h' (am_fr h' 27 Ns) p) = r
    have ia := sp.2.2.2.2.2
    rw [er] at ia
    have fP : fx (fun _ => False) h' (am_sfr (am_sfi (am_sfi (am_sfi (am_sfi (am_sfr (am_new (am_sfi (am_sfi (am_sfi (am_new h' 4 5) 33 (am_sz h' + 1) 1) 34 (am_sz h' + 1) 20) 35 (am_sz h' + 1) (-1)) 101 0) 37 (am_sz h' + 1) (am_sz h' + 1 + 1)) 33 (am_sz h' + 1) (S 8 p 0)) 34 (am_sz h' + 1) (S 8 p 1)) 35 (am_sz h' + 1) (S 8 p 3)) 36 (am_sz h' + 1) (S 8 p 4)) 37 (am_sz h' + 1) r) := fx_sfr (fx_sfi (fx_sfi (fx_sfi (fx_sfi (fx_sfr (fx_new (fx_sfi (fx_sfi (fx_sfi (fx_new fx_refl) (Or.inl (by omega))) (Or.inl (by omega))) (Or.inl (by omega)))) (Or.inl (by omega))) (Or.inl (by omega))) (Or.inl (by omega))) (Or.inl (by omega))) (Or.inl (by omega))) (Or.inl (by omega))
    have ty : am_ty (am_sfr (am_sfi (am_sfi (am_sfi (am_sfi (am_sfr (am_new (am_sfi (am_sfi (am_sfi (am_new h' 4 5) 33 (am_sz h' + 1) 1) 34 (am_sz h' + 1) 20) 35 (am_sz h' + 1) (-1)) 101 0) 37 (am_sz h' + 1) (am_sz h' + 1 + 1)) 33 (am_sz h' + 1) (S 8 p 0)) 34 (am_sz h' + 1) (S 8 p 1)) 35 (am_sz h' + 1) (S 8 p 3)) 36 (am_sz h' + 1) (S 8 p 4)) 37 (am_sz h' + 1) r) (am_sz h' + 1) = 4 := (x_tyn (h := am_new h' 4 5) (t := 101) (n := 0) (Nat.le_refl _)).trans (x_tyn0 (h := h') (t := 4) (n := 5) rfl)
    have i33 : am_fi (am_sfr (am_sfi (am_sfi (am_sfi (am_sfi (am_sfr (am_new (am_sfi (am_sfi (am_sfi (am_new h' 4 5) 33 (am_sz h' + 1) 1) 34 (am_sz h' + 1) 20) 35 (am_sz h' + 1) (-1)) 101 0) 37 (am_sz h' + 1) (am_sz h' + 1 + 1)) 33 (am_sz h' + 1) (S 8 p 0)) 34 (am_sz h' + 1) (S 8 p 1)) 35 (am_sz h' + 1) (S 8 p 3)) 36 (am_sz h' + 1) (S 8 p 4)) 37 (am_sz h' + 1) r) 33 (am_sz h' + 1) = S 8 p 0 := show am_fi (am_sfi (am_sfi (am_sfi (am_sfi (am_sfr (am_new (am_sfi (am_sfi (am_sfi (am_new h' 4 5) 33 (am_sz h' + 1) 1) 34 (am_sz h' + 1) 20) 35 (am_sz h' + 1) (-1)) 101 0) 37 (am_sz h' + 1) (am_sz h' + 1 + 1)) 33 (am_sz h' + 1) (S 8 p 0)) 34 (am_sz h' + 1) (S 8 p 1)) 35 (am_sz h' + 1) (S 8 p 3)) 36 (am_sz h' + 1) (S 8 p 4)) 33 (am_sz h' + 1) = S 8 p 0 from (x_fif (by decide)).trans ((x_fif (by decide)).trans ((x_fif (by decide)).trans x_fie))
    have i34 : am_fi (am_sfr (am_sfi (am_sfi (am_sfi (am_sfi (am_sfr (am_new (am_sfi (am_sfi (am_sfi (am_new h' 4 5) 33 (am_sz h' + 1) 1) 34 (am_sz h' + 1) 20) 35 (am_sz h' + 1) (-1)) 101 0) 37 (am_sz h' + 1) (am_sz h' + 1 + 1)) 33 (am_sz h' + 1) (S 8 p 0)) 34 (am_sz h' + 1) (S 8 p 1)) 35 (am_sz h' + 1) (S 8 p 3)) 36 (am_sz h' + 1) (S 8 p 4)) 37 (am_sz h' + 1) r) 34 (am_sz h' + 1) = S 8 p 1 := show am_fi (am_sfi (am_sfi (am_sfi (am_sfi (am_sfr (am_new (am_sfi (am_sfi (am_sfi (am_new h' 4 5) 33 (am_sz h' + 1) 1) 34 (am_sz h' + 1) 20) 35 (am_sz h' + 1) (-1)) 101 0) 37 (am_sz h' + 1) (am_sz h' + 1 + 1)) 33 (am_sz h' + 1) (S 8 p 0)) 34 (am_sz h' + 1) (S 8 p 1)) 35 (am_sz h' + 1) (S 8 p 3)) 36 (am_sz h' + 1) (S 8 p 4)) 34 (am_sz h' + 1) = S 8 p 1 from (x_fif (by decide)).trans ((x_fif (by decide)).trans x_fie)
    have i35 : am_fi (am_sfr (am_sfi (am_sfi (am_sfi (am_sfi (am_sfr (am_new (am_sfi (am_sfi (am_sfi (am_new h' 4 5) 33 (am_sz h' + 1) 1) 34 (am_sz h' + 1) 20) 35 (am_sz h' + 1) (-1)) 101 0) 37 (am_sz h' + 1) (am_sz h' + 1 + 1)) 33 (am_sz h' + 1) (S 8 p 0)) 34 (am_sz h' + 1) (S 8 p 1)) 35 (am_sz h' + 1) (S 8 p 3)) 36 (am_sz h' + 1) (S 8 p 4)) 37 (am_sz h' + 1) r) 35 (am_sz h' + 1) = S 8 p 3 := show am_fi (am_sfi (am_sfi (am_sfi (am_sfi (am_sfr (am_new (am_sfi (am_sfi (am_sfi (am_new h' 4 5) 33 (am_sz h' + 1) 1) 34 (am_sz h' + 1) 20) 35 (am_sz h' + 1) (-1)) 101 0) 37 (am_sz h' + 1) (am_sz h' + 1 + 1)) 33 (am_sz h' + 1) (S 8 p 0)) 34 (am_sz h' + 1) (S 8 p 1)) 35 (am_sz h' + 1) (S 8 p 3)) 36 (am_sz h' + 1) (S 8 p 4)) 35 (am_sz h' + 1) = S 8 p 3 from (x_fif (by decide)).trans x_fie
    have i36 : am_fi (am_sfr (am_sfi (am_sfi (am_sfi (am_sfi (am_sfr (am_new (am_sfi (am_sfi (am_sfi (am_new h' 4 5) 33 (am_sz h' + 1) 1) 34 (am_sz h' + 1) 20) 35 (am_sz h' + 1) (-1)) 101 0) 37 (am_sz h' + 1) (am_sz h' + 1 + 1)) 33 (am_sz h' + 1) (S 8 p 0)) 34 (am_sz h' + 1) (S 8 p 1)) 35 (am_sz h' + 1) (S 8 p 3)) 36 (am_sz h' + 1) (S 8 p 4)) 37 (am_sz h' + 1) r) 36 (am_sz h' + 1) = S 8 p 4 := show am_fi (am_sfi (am_sfi (am_sfi (am_sfi (am_sfr (am_new (am_sfi (am_sfi (am_sfi (am_new h' 4 5) 33 (am_sz h' + 1) 1) 34 (am_sz h' + 1) 20) 35 (am_sz h' + 1) (-1)) 101 0) 37 (am_sz h' + 1) (am_sz h' + 1 + 1)) 33 (am_sz h' + 1) (S 8 p 0)) 34 (am_sz h' + 1) (S 8 p 1)) 35 (am_sz h' + 1) (S 8 p 3)) 36 (am_sz h' + 1) (S 8 p 4)) 36 (am_sz h' + 1) = S 8 p 4 from x_fie
    have r37 : am_fr (am_sfr (am_sfi (am_sfi (am_sfi (am_sfi (am_sfr (am_new (am_sfi (am_sfi (am_sfi (am_new h' 4 5) 33 (am_sz h' + 1) 1) 34 (am_sz h' + 1) 20) 35 (am_sz h' + 1) (-1)) 101 0) 37 (am_sz h' + 1) (am_sz h' + 1 + 1)) 33 (am_sz h' + 1) (S 8 p 0)) 34 (am_sz h' + 1) (S 8 p 1)) 35 (am_sz h' + 1) (S 8 p 3)) 36 (am_sz h' + 1) (S 8 p 4)) 37 (am_sz h' + 1) r) 37 (am_sz h' + 1) = r := x_fre
    have zP : am_sz (am_sfr (am_sfi (am_sfi (am_sfi (am_sfi (am_sfr (am_new (am_sfi (am_sfi (am_sfi (am_new h' 4 5) 33 (am_sz h' + 1) 1) 34 (am_sz h' + 1) 20) 35 (am_sz h' + 1) (-1)) 101 0) 37 (am_sz h' + 1) (am_sz h' + 1 + 1)) 33 (am_sz h' + 1) (S 8 p 0)) 34 (am_sz h' + 1) (S 8 p 1)) 35 (am_sz h' + 1) (S 8 p 3)) 36 (am_sz h' + 1) (S 8 p 4)) 37 (am_sz h' + 1) r) = am_sz h' + 2 := rfl
    have uP : am_us (am_sfr (am_sfi (am_sfi (am_sfi (am_sfi (am_sfr (am_new (am_sfi (am_sfi (am_sfi (am_new h' 4 5) 33 (am_sz h' + 1) 1) 34 (am_sz h' + 1) 20) 35 (am_sz h' + 1) (-1)) 101 0) 37 (am_sz h' + 1) (am_sz h' + 1 + 1)) 33 (am_sz h' + 1) (S 8 p 0)) 34 (am_sz h' + 1) (S 8 p 1)) 35 (am_sz h' + 1) (S 8 p 3)) 36 (am_sz h' + 1) (S 8 p 4)) 37 (am_sz h' + 1) r) = am_us h' + 5 := rfl
    generalize (am_sfr (am_sfi (am_sfi (am_sfi (am_sfi (am_sfr (am_new (am_sfi (am_sfi (am_sfi (am_new h' 4 5) 33 (am_sz h' + 1) 1) 34 (am_sz h' + 1) 20) 35 (am_sz h' + 1) (-1)) 101 0) 37 (am_sz h' + 1) (am_sz h' + 1 + 1)) 33 (am_sz h' + 1) (S 8 p 0)) 34 (am_sz h' + 1) (S 8 p 1)) 35 (am_sz h' + 1) (S 8 p 3)) 36 (am_sz h' + 1) (S 8 p 4)) 37 (am_sz h' + 1) r) = hP at *
    have le1 : leL h' L' (lbA L' h' (am_sz h' + 1) (Z, 8, 1, p)) := fun q hq => if_neg (fun y => absurd y.2 (by omega))
    have ok1 : okLb hP (lbA L' h' (am_sz h' + 1) (Z, 8, 1, p)) := okLb_lb x3 fP ⟨by omega, by omega⟩ (by rw [ty]; unfold imT; omega)
    have lq : lbA L' h' (am_sz h' + 1) (Z, 8, 1, p) (am_sz h' + 1) = (Z, 8, 1, p) := if_pos ⟨rfl, by omega⟩
    have ln1 : ∀ q, am_sz h' < q → (lbA L' h' (am_sz h' + 1) (Z, 8, 1, p) q).1 = 0 ∨ (lbA L' h' (am_sz h' + 1) (Z, 8, 1, p) q).1 = Z := lbA_n (h' := h') x3
    generalize lbA L' h' (am_sz h' + 1) (Z, 8, 1, p) = L1 at le1 ok1 lq ln1
    have c1 := CpI_f0 x5 fP le1 x3 cs'.1
    have csP := cs_fx fP cs'
    have kZ := (fP.2.2.2 Z x5.1.2.1).2.2 (fun z => z)
    have pgN : rPg hP L1 Z S p (am_sz h' + 1) := by
      refine ⟨⟨ty, by omega, by omega, lq⟩, i33, i34, i35, i36, ?_⟩
      rw [r37]
      exact iA_fx fP le1 (fun _ _ z => z.elim) ia
    have p8 := c1.2.2.2.2.2.2.2.2.2.1
    rw [kZ.2.1 27] at p8
    have k27 := (fP.2.2.2 _ q8.1.2.1).2.2 (fun z => z)
    have f2 : fx (fun q => q = am_fr h' 27 Z) hP (am_sar hP (am_fr h' 27 Z) p (am_sz h' + 1)) := fx_sar fx_refl (Or.inr rfl)
    have a27 : am_ar (am_sar hP (am_fr h' 27 Z) p (am_sz h' + 1)) (am_fr h' 27 Z) = am_uz (am_ar hP (am_fr h' 27 Z)) p (am_sz h' + 1) := x_arse
    have hX : ∀ q, q ≤ am_sz hP → q = am_fr h' 27 Z → (L1 q).1 = Z ∧ (L1 q).2.1 = 8 := nd_one p8.1
    obtain ⟨⟨w0, wr, wp, wf⟩, w1, w3, w6, w5, w4, w7, _, w9, w10⟩ := CpI_gr 8 (by decide) c1 f2 (leL_refl (L := L1)) ok1 csP.1 hX
    have z2 : am_sz (am_sar hP (am_fr h' 27 Z) p (am_sz h' + 1)) = am_sz hP := rfl
    have u2 : am_us (am_sar hP (am_fr h' 27 Z) p (am_sz h' + 1)) = am_us hP := rfl
    have e2 : capG (am_sar hP (am_fr h' 27 Z) p (am_sz h' + 1)) Z = capG hP Z := rfl
    have m2 : (am_fr (am_sar hP (am_fr h' 27 Z) p (am_sz h' + 1)) 194 (am_fr (am_sar hP (am_fr h' 27 Z) p (am_sz h' + 1)) 28 Z) = am_cs (am_sar hP (am_fr h' 27 Z) p (am_sz h' + 1)) 0 ∧ am_fi (am_sar hP (am_fr h' 27 Z) p (am_sz h' + 1)) 193 (am_fr (am_sar hP (am_fr h' 27 Z) p (am_sz h' + 1)) 28 Z) = 0) := by
      have k28 := (fP.2.2.2 _ q9.1.1.1.2.2.2.2.1).2.2 (fun z => z)
      show am_fr hP 194 (am_fr hP 28 Z) = am_cs hP 0 ∧ am_fi hP 193 (am_fr hP 28 Z) = 0
      rw [kZ.2.1 28, k28.2.1 194, k28.1 193, congrFun fP.2.2.1 0]
      exact em
    have eG : capG hP Z = capG h' Z := by
      have r4 := x5.2.2.2.2.2.2.2.1.1
      have k25 := (fP.2.2.2 _ r4.1.1.2.2.2.2.1).2.2 (fun z => z)
      have kA := fP.2.2.2 _ r4.1.1.2.2.2.2.2
      unfold capG
      rw [kZ.2.1 25, k25.2.1 194]
      exact kA.2.1
    generalize am_sar hP (am_fr h' 27 Z) p (am_sz h' + 1) = h2 at *
    have v1 := nd_fy f2 (leL_refl (L := L1)) p8.1
    have y8 : rH h2 L1 Z (am_fr h' 27 Z) (tH S T8 (p + 1)) := by
      refine ⟨v1.1, v1.2.trans p8.2.1, fun j j0 j1 => ?_⟩
      have nz : ∀ t, nd hP L1 t 4 Z 8 1 j → ¬ (t = am_fr h' 27 Z) := fun t n e => nd_kne n p8.1 (by decide) e
      rw [a27]
      by_cases e : j = p
      · rw [e, am_uz_eq]
        rw [e] at nz
        exact rPg_fx f2 leL_refl (fun q hq z => by rw [(hX q hq z).1]; exact Z0) (by rw [tH_lt (by omega)]) pgN (nz _ pgN.1)
      · rw [am_uz_ne e]
        have y := p8.2.2 j j0 j1
        exact rPg_fx f2 leL_refl (fun q hq z => by rw [(hX q hq z).1]; exact Z0) (tH_s e) y (nz _ y.1)
    have fA : fx (fun q => q = am_fr h' 27 Z) h' h2 := fx_trans2 (fx_sub fP (fun _ _ z => z.elim)) f2 (fun _ _ e => e)
    obtain ⟨k1, k2, k3⟩ := CpS_fr x1 x2 x4 ow fA le1 (fun q hq e => by rw [e, q8.1.2.2.2]) ln1
    refine hL h2 L1 ⟨k1, k2, okLb_fx f2 ok1, k3, ?_, by rw [z2, e2, eG]; omega, by rw [u2, e2, eG]; omega⟩ m2 _
    refine CpI_mk (h := hP) w0 wr wp wf (w1 (by decide)) (w3 (by decide)) (w6 (by decide)) (w5 (by decide)) (w4 (by decide)) (w7 (by decide)) ?_ (w9 (by decide)) (w10 (by decide))
    rw [kZ.2.1 27]
    exact y8
  · intro h' L' x em o3
    obtain ⟨x1, x2, x3, x4, x5, x6, x7⟩ := x
    refine cp_129 (T9 := T9) (T10 := T10) hd ok cs rep hZ ow hC H f18 f21 f24 t9 h' L' ⟨x1, x2, x3, x4, ?_, by omega, by omega⟩ em _
    obtain ⟨a0, ap, af, a1, a3, a6, a5, a4, a7, a8, a9, a10⟩ := x5
    exact ⟨a0, ap, af, a1, a3, a6, a5, a4, a7, ⟨a8.1, a8.2.1, fun p p0 p1 => rPg_e (tH_lt p1).symm (a8.2.2 p p0 p1)⟩, a9, a10⟩
/-- the tellings -/
theorem cp_107 {L : am_Lb} {Ns Z P : Nat} {S : am_G} {B : Int} {d : Nat} (hd : 30 ≤ d + 12) (ok : okLb h L) (cs : (am_ty h (am_cs h 0) = 134 ∧ am_cs h 0 ≤ am_sz h ∧ am_ln h (am_cs h 0) = 0)) (rep : Rep h L Ns P S B) (hZ : Z = am_sz h + 1) (ow : ∀ q, q ≤ am_sz h → (L q).1 ≠ Z) (hC : okC S) (H : ∀ h' L', fx (fun _ => False) h h' → leL h L L' → okLb h' L' → Rep h' L' Z P S 400 → (∀ q, am_sz h < q → (L' q).1 = 0 ∨ (L' q).1 = Z) → (am_sz h' : Int) ≤ am_sz h + 600 + S 0 0 4 + capG h' Z → (am_us h' : Int) ≤ am_us h + 9000 + 11 * S 0 0 4 + 5 * capG h' Z → K (.inl (some (.inr (.inl (Z))))) h') {T7 T8 T9 T10 : am_G} {F : Nat → Int} (f18 : F 18 = S 0 0 0) (f21 : F 21 = S 0 0 1) (f24 : F 24 = S 0 0 3) (t7 : T7 0 0 5 = 0) (t9 : T9 0 0 6 = 0) {r2 : Nat} : ∀ h' L', CpS h L Z P (584 + S 0 0 4) (7770 + 11 * S 0 0 4) F S S S S S T7 T8 T9 T10 h' L' → (am_fr h' 194 (am_fr h' 26 Z) = am_cs h' 0 ∧ am_fi h' 193 (am_fr h' 26 Z) = 0) → (am_fr h' 194 (am_fr h' 28 Z) = am_cs h' 0 ∧ am_fi h' 193 (am_fr h' 28 Z) = 0) → ∀ o3, am_ev am_prog (d + 12) 201 [.inr (.inl (am_fr h' 26 Z)), .inr (.inl (am_fr h' 26 Ns))] h' (am_aft (am_hand m_X3_copy K (am_W m_X3_copy (am_ev am_prog (d + 12)) K) 107) (am_W m_X3_copy (am_ev am_prog (d + 12)) K) 107 [some (.inr (.inl (Ns))), some (.inr (.inl (Z))), some (.inr (.inl (r2))), o3] []) := by
  intro h' L' x em6 em o3
  obtain ⟨x1, x2, x3, x4, x5, x6, x7⟩ := x
  have rp := Rep_fx (Int.le_refl B) x1 x2 ok cs.1 (fun _ _ z => z.elim) rep
  have cs' := cs_fx x1 cs
  have s9 := rp.2.2.2.2.2.2.1
  have c6 := hC.2.2.2.1
  have q9 := x5.2.2.2.2.2.2.2.2.1
  have q28 := x5.2.2.2.2.2.2.2.2.2.2.1
  have r9 := q9.1
  rw [t7] at r9
  have NZ : Ns ≠ Z := fun e => by
    have := rep.1.1.2.1
    omega
  have ne : am_fr h' 26 Z ≠ am_fr h' 26 Ns := fun e => by
    have a := r9.2.2.1
    have b := s9.1.2.2.1
    rw [e, b] at a
    injection a with a _
    exact NZ a
  refine c_addAll (d := d + 3) r9.1 (by rw [em6.1]; exact cs'.2.2) (by rw [em6.2]; omega) s9.1.1 (by rw [s9.1.2.2.2.2.1]; omega) ne cs'.2.1 (fun h2 v f2 xm e5 e3 el hA hs hu => am_av (v_X3_copy_108 ?_))
  obtain ⟨L2, le2, ok2, rl2, ln2⟩ := cpA x3 cs' r9 em6 f2 xm (e5.trans s9.1.2.2.2.2.1) e3 hA
  have hX : ∀ q, q ≤ am_sz h' → q = am_fr h' 26 Z → (L' q).1 = Z ∧ (L' q).2.1 = 7 := fun q _ e => by
    rw [e, r9.2.2.1]
    exact ⟨rfl, rfl⟩
  obtain ⟨⟨w0, wr, wp, wf⟩, w1, w3, w6, w5, w4, _, w8, w9, w10⟩ := CpI_gr 7 (by decide) x5 f2 le2 x3 cs'.1 hX
  obtain ⟨k1, k2, k3⟩ := CpS_fr x1 x2 x4 ow f2 le2 (fun q hq e => (hX q hq e).1) ln2
  have im : ∀ q, q ≤ am_sz h' → q = am_fr h' 26 Z → ¬ imT (am_ty h' q) := fun q hq e => by
    have e1 := (hX q hq e).1
    have z0 := x5.1.2.2.1
    exact fun t => z0 (e1.symm.trans (x3.2.1 q hq t))
  have y9 : rT h2 L2 Z (am_fr h' 26 Z) S 400 := by
    refine ⟨rl2, fun k a b => ?_⟩
    have s := s9.2 k a b
    rw [el k a (by rw [s9.1.2.2.2.2.1]; exact b)]
    exact iTe_fx f2 im s
  have gne : ∀ q g, (L' q) = (Z, g, 0, 0) → g ≠ 7 → ¬ (q = am_fr h' 26 Z) := fun q g a g7 e => by
    rw [e, r9.2.2.1] at a
    injection a with _ a
    injection a with a _
    exact g7 a.symm
  have e25 : capG h2 Z = capG h' Z := by
    have r4 := x5.2.2.2.2.2.2.2.1.1
    have k25 := (f2.2.2.2 _ r4.1.1.2.2.2.2.1).2.2 (gne _ _ r4.2.2.1 (by decide))
    have kA := f2.2.2.2 _ r4.1.1.2.2.2.2.2
    unfold capG
    rw [wr 25, k25.2.1 194]
    exact kA.2.1
  have k28 := (f2.2.2.2 _ q28.1.1.1.2.2.2.2.1).2.2 (gne _ _ q28.1.2.2.1 (by decide))
  have em2 : (am_fr h2 194 (am_fr h2 28 Z) = am_cs h2 0 ∧ am_fi h2 193 (am_fr h2 28 Z) = 0) := by
    rw [wr 28, k28.2.1 194, k28.1 193, congrFun f2.2.2.1 0]
    exact em
  refine cp_111 (T8 := T8) (T9 := T9) (T10 := T10) hd ok cs rep hZ ow hC H f18 f21 f24 t9 0 (by omega) (by omega) h2 L2 ⟨k1, k2, ok2, k3, ?_, by rw [e25]; omega, by rw [e25]; omega⟩ em2 _
  refine CpI_mk w0 wr wp wf (w1 (by decide)) (w3 (by decide)) (w6 (by decide)) (w5 (by decide)) (w4 (by decide)) y9 ?_ (w9 (by decide)) (w10 (by decide))
  have y8 := w8 (by decide)
  exact ⟨y8.1, y8.2.1, fun p p0 p1 => rPg_e (tH_ge p0) (y8.2.2 p p0 p1)⟩
end
