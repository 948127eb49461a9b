set_option maxRecDepth 100000
/-! a night is copied: parts -/
theorem F0i {h : am_H} {L : am_Lb} : ∀ q, q ≤ am_sz h → (fun _ => False) q → (L q).1 ≠ 0 ∧ ¬ imT (am_ty h q) := fun _ _ z => z.elim
theorem F0z {h : am_H} {L : am_Lb} : ∀ q, q ≤ am_sz h → (fun _ => False) q → (L q).1 ≠ 0 := fun _ _ z => z.elim
section
variable {K : am_K} {h : am_H}
theorem x_pcopy {L : am_Lb} {N Ns t : Nat} {S : am_G} {p : Int} {D : Nat} (hD : 16 ≤ D) (ok : okLb h L) (pt : rPt h L Ns S p t) (ho : okP (S 3 p)) (hn : okN (S 3 p)) (h0 : (S 3 p) 0 = (S 3 p) (84 + (S 3 p) 1) + 1) (g01 : (S 3 p) 2 = 0 ∨ (S 3 p) 2 = 1) (l40 : 0 ≤ (S 3 p) 4 ∧ (S 3 p) 4 ≤ 40) (H : ∀ h' L', fx (fun _ => False) h h' → leL h L L' → okLb h' L' → rPt h' L' N S p (am_sz h + 1) → (∀ q, am_sz h < q → (L' q).1 = 0 ∨ (L' q).1 = N) → am_sz h' ≤ am_sz h + 2 → am_us h' ≤ am_us h + 49 → K (.inl (some (.inr (.inl ((am_sz h + 1)))))) h') : am_ev am_prog D 202 [.inr (.inl t)] h K := by
  obtain ⟨g1, g2, g3, g4, g5, g6, g7, g8, g9⟩ := pt
  have o1 := ho.1
  obtain ⟨d, rfl⟩ : ∃ d, D = d + 13 := ⟨D - 13, by omega⟩
  refine am_en p_X10_copy rfl rfl ?_
  refine v_X10_copy_0 ⟨⟨g1.2.1, g1.1⟩, ?_⟩
  rw [g2, g3, g4]
  have f1 : fx (fun _ => False) h (am_new h 9 9) := fx0_new
  have i1 := iPc_fx f1 (leL_refl (L := L)) F0i g7
  refine x_pinit (m := ((S 3 p) 1).toNat) (g := fun k => am_b (ew (S 3 p) k)) (by omega) (x_tyn0 rfl) (Nat.le_refl _) i1.1.1 i1.1.2.2.2 (by rw [i1.1.2.1]; omega) (by omega) (fun k k0 k1 => ?_) (fun h2 f2 z2 u2 e113 e114 e110 e111 e112 hr2 e115 => am_an (v_X10_copy_11 ?_))
  · have q := i1.1.2.2.1 k k0 (by omega)
    exact ⟨q.1, q.2.2.2, q.2.1, am_bz _⟩
  · have z2' : am_sz h2 = (am_sz h + 1) := z2
    have u2' : am_us h2 = am_us h + 9 := u2
    have f02 : fx (fun _ => False) h h2 := fx_trans2 f1 f2 (fun q hq e => absurd hq (by omega))
    have kt := f02.2.2.2 t g1.2.1
    have kt' := kt.2.2 (fun z => z)
    have ty2 : am_ty h2 (am_sz h + 1) = 9 := (f2.2.2.2 (am_sz h + 1) (Nat.le_refl _)).1.trans (x_tyn0 rfl)
    have s114 : am_fi h2 114 (am_sz h + 1) = (S 3 p) 0 := by
      rw [e114]
      exact ew_sg hn o1.1 h0
    -- the copied references and the mark
    have fA : fx (fun q => q = (am_sz h + 1)) h2 (am_sfr (am_sfr (am_sfi h2 115 (am_sz h + 1) ((S 3 p) 2)) 116 (am_sz h + 1) (am_fr h 116 t)) 117 (am_sz h + 1) (am_fr h 117 t)) := fx_sfr (fx_sfr (fx_sfi fx_refl (Or.inr rfl)) (Or.inr rfl)) (Or.inr rfl)
    have A115 : am_fi (am_sfr (am_sfr (am_sfi h2 115 (am_sz h + 1) ((S 3 p) 2)) 116 (am_sz h + 1) (am_fr h 116 t)) 117 (am_sz h + 1) (am_fr h 117 t)) 115 (am_sz h + 1) = (S 3 p) 2 := show am_fi (am_sfi h2 115 (am_sz h + 1) ((S 3 p) 2)) 115 (am_sz h + 1) = (S 3 p) 2 from x_fie
    have Ai : ∀ f, f ≠ 115 → am_fi (am_sfr (am_sfr (am_sfi h2 115 (am_sz h + 1) ((S 3 p) 2)) 116 (am_sz h + 1) (am_fr h 116 t)) 117 (am_sz h + 1) (am_fr h 117 t)) f (am_sz h + 1) = am_fi h2 f (am_sz h + 1) := fun f hf => show am_fi (am_sfi h2 115 (am_sz h + 1) ((S 3 p) 2)) f (am_sz h + 1) = am_fi h2 f (am_sz h + 1) from x_fif hf
    have A116 : am_fr (am_sfr (am_sfr (am_sfi h2 115 (am_sz h + 1) ((S 3 p) 2)) 116 (am_sz h + 1) (am_fr h 116 t)) 117 (am_sz h + 1) (am_fr h 117 t)) 116 (am_sz h + 1) = am_fr h 116 t := (x_frf (by decide)).trans x_fre
    have A117 : am_fr (am_sfr (am_sfr (am_sfi h2 115 (am_sz h + 1) ((S 3 p) 2)) 116 (am_sz h + 1) (am_fr h 116 t)) 117 (am_sz h + 1) (am_fr h 117 t)) 117 (am_sz h + 1) = am_fr h 117 t := x_fre
    have A113 : am_fr (am_sfr (am_sfr (am_sfi h2 115 (am_sz h + 1) ((S 3 p) 2)) 116 (am_sz h + 1) (am_fr h 116 t)) 117 (am_sz h + 1) (am_fr h 117 t)) 113 (am_sz h + 1) = am_fr h 113 t := (x_frf (by decide)).trans ((x_frf (by decide)).trans e113)
    have zA : am_sz (am_sfr (am_sfr (am_sfi h2 115 (am_sz h + 1) ((S 3 p) 2)) 116 (am_sz h + 1) (am_fr h 116 t)) 117 (am_sz h + 1) (am_fr h 117 t)) = am_sz h2 := rfl
    have uA : am_us (am_sfr (am_sfr (am_sfi h2 115 (am_sz h + 1) ((S 3 p) 2)) 116 (am_sz h + 1) (am_fr h 116 t)) 117 (am_sz h + 1) (am_fr h 117 t)) = am_us h2 := rfl
    rw [kt'.1 115, g6, kt'.2.1 116, kt'.2.1 117, kt'.2.1 118]
    generalize am_sfr (am_sfr (am_sfi h2 115 (am_sz h + 1) ((S 3 p) 2)) 116 (am_sz h + 1) (am_fr h 116 t)) 117 (am_sz h + 1) (am_fr h 117 t) = hA at *
    have f0A : fx (fun _ => False) h hA := fx_trans2 f02 fA (fun q hq e => absurd hq (by omega))
    have tyA : am_ty hA (am_sz h + 1) = 9 := (fA.2.2.2 (am_sz h + 1) (by omega)).1.trans ty2
    have le1 : leL h L (lbA L h (am_sz h + 1) (N, 3, 1, p)) := fun q hq => if_neg (fun y => absurd y.2 (by omega))
    have ok1 : okLb hA (lbA L h (am_sz h + 1) (N, 3, 1, p)) := okLb_lb ok f0A ⟨by omega, by omega⟩ (by rw [tyA]; unfold imT; omega)
    have lq1 : lbA L h (am_sz h + 1) (N, 3, 1, p) (am_sz h + 1) = (N, 3, 1, p) := if_pos ⟨rfl, by omega⟩
    have ln1 : ∀ q, am_sz h < q → (lbA L h (am_sz h + 1) (N, 3, 1, p) q).1 = 0 ∨ (lbA L h (am_sz h + 1) (N, 3, 1, p) q).1 = N := lbA_n (h' := h) ok
    generalize lbA L h (am_sz h + 1) (N, 3, 1, p) = L1 at le1 ok1 lq1 ln1
    refine ⟨⟨kt.1.trans g1.1, ty2, g01⟩, fun c => ?_, fun c => ?_⟩
    · have s3 : (S 3 p) 3 ≠ 0 := fun e => c (g8 e).2.2
      obtain ⟨z1, zz2, z3, z4, z5⟩ := g9 s3
      have k8 := f02.2.2.2 _ z3.2.1
      have k8' := k8.2.2 (fun z => z)
      rw [k8.1, k8.2.1, k8'.2.2.1, z4]
      refine ⟨z3.1, by omega, ?_⟩
      have fF : fx (fun q => q = (am_sz h + 1)) hA (am_sfr (am_wai (am_new hA 101 ((S 3 p) 4).toNat) (am_sz h2 + 1) (am_ai h (am_fr h 118 t))) 118 (am_sz h + 1) (am_sz h2 + 1)) := fx_sfr (fx_wai (fx_new fx_refl) (Or.inl (by omega))) (Or.inr rfl)
      have qA : (am_sz h + 1) ≤ am_sz hA := by omega
      have zF : am_sz (am_sfr (am_wai (am_new hA 101 ((S 3 p) 4).toNat) (am_sz h2 + 1) (am_ai h (am_fr h 118 t))) 118 (am_sz h + 1) (am_sz h2 + 1)) = am_sz hA + 1 := rfl
      have uF : am_us (am_sfr (am_wai (am_new hA 101 ((S 3 p) 4).toNat) (am_sz h2 + 1) (am_ai h (am_fr h 118 t))) 118 (am_sz h + 1) (am_sz h2 + 1)) = am_us hA + ((S 3 p) 4).toNat := rfl
      have Fi : ∀ f, am_fi (am_sfr (am_wai (am_new hA 101 ((S 3 p) 4).toNat) (am_sz h2 + 1) (am_ai h (am_fr h 118 t))) 118 (am_sz h + 1) (am_sz h2 + 1)) f (am_sz h + 1) = am_fi hA f (am_sz h + 1) := fun f => x_fin (h := hA) (t := 101) (n := ((S 3 p) 4).toNat) qA
      have Fr : ∀ f, f ≠ 118 → am_fr (am_sfr (am_wai (am_new hA 101 ((S 3 p) 4).toNat) (am_sz h2 + 1) (am_ai h (am_fr h 118 t))) 118 (am_sz h + 1) (am_sz h2 + 1)) f (am_sz h + 1) = am_fr hA f (am_sz h + 1) := fun f hf => (x_frf hf).trans (x_frn (h := hA) (t := 101) (n := ((S 3 p) 4).toNat) qA)
      have F118 : am_fr (am_sfr (am_wai (am_new hA 101 ((S 3 p) 4).toNat) (am_sz h2 + 1) (am_ai h (am_fr h 118 t))) 118 (am_sz h + 1) (am_sz h2 + 1)) 118 (am_sz h + 1) = am_sz h2 + 1 := x_fre
      have Ft : am_ty (am_sfr (am_wai (am_new hA 101 ((S 3 p) 4).toNat) (am_sz h2 + 1) (am_ai h (am_fr h 118 t))) 118 (am_sz h + 1) (am_sz h2 + 1)) (am_sz h2 + 1) = 101 := x_tyn0 (h := hA) (t := 101) (n := ((S 3 p) 4).toNat) (by omega)
      have Fl : am_ln (am_sfr (am_wai (am_new hA 101 ((S 3 p) 4).toNat) (am_sz h2 + 1) (am_ai h (am_fr h 118 t))) 118 (am_sz h + 1) (am_sz h2 + 1)) (am_sz h2 + 1) = (((S 3 p) 4).toNat : Int) := x_lnn0 (h := hA) (t := 101) (n := ((S 3 p) 4).toNat) (by omega)
      have Fa : am_ai (am_sfr (am_wai (am_new hA 101 ((S 3 p) 4).toNat) (am_sz h2 + 1) (am_ai h (am_fr h 118 t))) 118 (am_sz h + 1) (am_sz h2 + 1)) (am_sz h2 + 1) = am_ai h (am_fr h 118 t) := x_aiwe (h := am_new hA 101 ((S 3 p) 4).toNat)
      generalize am_sfr (am_wai (am_new hA 101 ((S 3 p) 4).toNat) (am_sz h2 + 1) (am_ai h (am_fr h 118 t))) 118 (am_sz h + 1) (am_sz h2 + 1) = hF at *
      have f0F : fx (fun _ => False) h hF := fx_trans2 f0A fF (fun q hq e => absurd hq (by omega))
      have le2 : leL hA L1 (lbA L1 hA (am_sz h2 + 1) (N, 3, 2, p)) := fun q hq => if_neg (fun y => absurd y.2 (by omega))
      have ok2 : okLb hF (lbA L1 hA (am_sz h2 + 1) (N, 3, 2, p)) := okLb_lb ok1 fF ⟨by omega, by omega⟩ (by rw [Ft]; unfold imT; omega)
      have lq2 : lbA L1 hA (am_sz h2 + 1) (N, 3, 2, p) (am_sz h2 + 1) = (N, 3, 2, p) := if_pos ⟨rfl, by omega⟩
      have ln2 : ∀ q, am_sz h < q → (lbA L1 hA (am_sz h2 + 1) (N, 3, 2, p) q).1 = 0 ∨ (lbA L1 hA (am_sz h2 + 1) (N, 3, 2, p) q).1 = N := fun q hq => by
        by_cases e : q ≤ am_sz hA
        · rw [le2 q e]
          exact ln1 q hq
        · exact lbA_n (h' := hA) ok1 q (by omega)
      generalize lbA L1 hA (am_sz h2 + 1) (N, 3, 2, p) = L2 at le2 ok2 lq2 ln2
      have le : leL h L L2 := fun q hq => (le2 q (by omega)).trans (le1 q hq)
      refine H hF L2 f0F le ok2 ⟨⟨(fF.2.2.2 _ qA).1.trans tyA, by omega, by omega, (le2 _ qA).trans lq1⟩, ?_, ?_, ?_, ?_, ?_, ?_, fun e => absurd e s3, fun _ => ⟨?_, ?_, ?_, ?_, ?_⟩⟩ ln2 (by omega) (by omega)
      · rw [Fi, Ai _ (by decide)]
        exact e110
      · rw [Fi, Ai _ (by decide)]
        exact e111
      · rw [Fi, Ai _ (by decide)]
        exact e112
      · rw [Fi, Ai _ (by decide)]
        exact s114
      · rw [Fi]
        exact A115
      · rw [Fr _ (by decide), A113]
        exact iPc_fx f0F le F0i g7
      · rw [Fr _ (by decide), A116]
        exact iA_fx f0F le F0z z1
      · rw [Fr _ (by decide), A117]
        exact iLi_fx f0F le F0i zz2
      · rw [F118]
        exact ⟨Ft, by omega, by omega, lq2⟩
      · rw [F118, Fl]
        omega
      · rw [F118, Fa]
        exact z5
    · have s3 : (S 3 p) 3 = 0 := Classical.byContradiction fun e => (g9 e).2.2.1.2.2.1 c
      have e8 := g8 s3
      have fF : fx (fun q => q = (am_sz h + 1)) hA (am_sfr hA 118 (am_sz h + 1) 0) := fx_sfr fx_refl (Or.inr rfl)
      have qA : (am_sz h + 1) ≤ am_sz hA := by omega
      have zF : am_sz (am_sfr hA 118 (am_sz h + 1) 0) = am_sz hA := rfl
      have uF : am_us (am_sfr hA 118 (am_sz h + 1) 0) = am_us hA := rfl
      have f0F : fx (fun _ => False) h (am_sfr hA 118 (am_sz h + 1) 0) := fx_trans2 f0A fF (fun q hq e => absurd hq (by omega))
      have F118 : am_fr (am_sfr hA 118 (am_sz h + 1) 0) 118 (am_sz h + 1) = 0 := x_fre
      have Fi : ∀ f, am_fi (am_sfr hA 118 (am_sz h + 1) 0) f (am_sz h + 1) = am_fi hA f (am_sz h + 1) := fun f => rfl
      have Fr : ∀ f, f ≠ 118 → am_fr (am_sfr hA 118 (am_sz h + 1) 0) f (am_sz h + 1) = am_fr hA f (am_sz h + 1) := fun f hf => x_frf hf
      generalize am_sfr hA 118 (am_sz h + 1) 0 = hF at *
      refine H hF L1 f0F le1 (okLb_fx fF ok1) ⟨⟨(fF.2.2.2 _ qA).1.trans tyA, by omega, by omega, lq1⟩, ?_, ?_, ?_, ?_, ?_, ?_, fun _ => ⟨?_, ?_, F118⟩, fun e => absurd s3 e⟩ ln1 (by omega) (by omega)
      · rw [Fi, Ai _ (by decide)]
        exact e110
      · rw [Fi, Ai _ (by decide)]
        exact e111
      · rw [Fi, Ai _ (by decide)]
        exact e112
      · rw [Fi, Ai _ (by decide)]
        exact s114
      · rw [Fi]
        exact A115
      · rw [Fr _ (by decide), A113]
        exact iPc_fx f0F le1 F0i g7
      · rw [Fr _ (by decide), A116]
        exact e8.1
      · rw [Fr _ (by decide), A117]
        exact e8.2.1
end
