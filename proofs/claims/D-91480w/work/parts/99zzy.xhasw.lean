set_option maxRecDepth 100000
/-! the component corrects: the part has other pieces -/
theorem war_ar {h : am_H} {r : Nat} {g : Int → Nat} : am_ar (am_war h r g) r = g := x_arwe
section
variable {K : am_K} {h : am_H}
theorem x_hasW {L : am_Lb} {x P N : Nat} {S : am_G} {B : Int} {p w : Int} {t row : Int → Int} {l : List am_Pz} {h0 hV : am_H} {A T q : Nat} {D : Nat} (hD : 13 ≤ D) (tt : Nt hV L x P N S B) (pt : rPt hV L N S p T) (ho : okP (S 3 p)) (hN : okN (S 3 p)) (hv0 : (S 3 p) 0 = (S 3 p) (84 + (S 3 p) 1) + 1) (hw : 0 ≤ w ∧ w < (S 3 p) 0) (hc : chP t 0 l 1) (la : laP l) (dl : 1 ≤ l.length ∧ (S 3 p) 1 - (wfR (S 3 p) w (S 3 p 1).toNat).2 + l.length ≤ 40) (cw : chW t (S 3 p) w l row) (ac : arC h0 hV A t q l) (hL : ∀ c, am_sz h0 < c → (am_ty hV c = 102 ∨ am_ty hV c = 122) → (L c).1 = 0) (H : ∀ h4, fx (fun c => c = T) hV h4 → am_sz h4 = (am_sz hV + 1) → am_us h4 ≤ am_us hV + 40 → am_fr h4 113 T = (am_sz hV + 1) → iPc h4 L (am_sz hV + 1) row → am_fi h4 114 T = row 0 → (∀ f, f ≠ 113 → am_fr h4 f T = am_fr hV f T) → (∀ f, f ≠ 114 → am_fi h4 f T = am_fi hV f T) → K (.inl none) h4) : am_ev am_prog D 274 [.inr (.inl T), .inr (.inl (am_sz hV + 1))] (am_war (am_war (am_war (am_new hV 115 (S 3 p 1 - (wfR (S 3 p) w (S 3 p 1).toNat).2 + (l.length : Int)).toNat) (am_sz hV + 1) (am_cpy (am_ar hV (am_fr hV 113 T)) (fun _ => 0) 0 0 (wfR (S 3 p) w (S 3 p 1).toNat).1)) (am_sz hV + 1) (am_cpy (am_ar hV q) (am_cpy (am_ar hV (am_fr hV 113 T)) (fun _ => 0) 0 0 (wfR (S 3 p) w (S 3 p 1).toNat).1) 0 (wfR (S 3 p) w (S 3 p 1).toNat).1 (l.length : Int))) (am_sz hV + 1) (am_cpy (am_ar hV (am_fr hV 113 T)) (am_cpy (am_ar hV q) (am_cpy (am_ar hV (am_fr hV 113 T)) (fun _ => 0) 0 0 (wfR (S 3 p) w (S 3 p 1).toNat).1) 0 (wfR (S 3 p) w (S 3 p 1).toNat).1 (l.length : Int)) ((wfR (S 3 p) w (S 3 p 1).toNat).1 + (wfR (S 3 p) w (S 3 p 1).toNat).2) ((wfR (S 3 p) w (S 3 p 1).toNat).1 + (l.length : Int)) ((S 3 p) 1 - ((wfR (S 3 p) w (S 3 p 1).toNat).1 + (wfR (S 3 p) w (S 3 p 1).toNat).2)))) K := by
  have wf := wf_v hN ho.1.1 hv0 hw
  have wf1 := wf.1
  have o1 := ho.1
  obtain ⟨xx, yy, cg, rd, hx, hy⟩ := cw
  obtain ⟨k1, k2, k3, k4, k5, k6, k7, k8, k9⟩ := chg_ok ho hN hv0 hw wf (by omega) hx hy cg
  have row1 : row 1 = (S 3 p) 1 + ((l.length : Int) - (wfR (S 3 p) w (S 3 p 1).toNat).2) := cg.2.2.1
  have fA : fx (fun _ => False) hV (am_war (am_war (am_war (am_new hV 115 (S 3 p 1 - (wfR (S 3 p) w (S 3 p 1).toNat).2 + (l.length : Int)).toNat) (am_sz hV + 1) (am_cpy (am_ar hV (am_fr hV 113 T)) (fun _ => 0) 0 0 (wfR (S 3 p) w (S 3 p 1).toNat).1)) (am_sz hV + 1) (am_cpy (am_ar hV q) (am_cpy (am_ar hV (am_fr hV 113 T)) (fun _ => 0) 0 0 (wfR (S 3 p) w (S 3 p 1).toNat).1) 0 (wfR (S 3 p) w (S 3 p 1).toNat).1 (l.length : Int))) (am_sz hV + 1) (am_cpy (am_ar hV (am_fr hV 113 T)) (am_cpy (am_ar hV q) (am_cpy (am_ar hV (am_fr hV 113 T)) (fun _ => 0) 0 0 (wfR (S 3 p) w (S 3 p 1).toNat).1) 0 (wfR (S 3 p) w (S 3 p 1).toNat).1 (l.length : Int)) ((wfR (S 3 p) w (S 3 p 1).toNat).1 + (wfR (S 3 p) w (S 3 p 1).toNat).2) ((wfR (S 3 p) w (S 3 p 1).toNat).1 + (l.length : Int)) ((S 3 p) 1 - ((wfR (S 3 p) w (S 3 p 1).toNat).1 + (wfR (S 3 p) w (S 3 p 1).toNat).2)))) := fx_war (fx_war (fx_war fx0_new (Or.inl (by omega))) (Or.inl (by omega))) (Or.inl (by omega))
  have arA : am_ar (am_war (am_war (am_war (am_new hV 115 (S 3 p 1 - (wfR (S 3 p) w (S 3 p 1).toNat).2 + (l.length : Int)).toNat) (am_sz hV + 1) (am_cpy (am_ar hV (am_fr hV 113 T)) (fun _ => 0) 0 0 (wfR (S 3 p) w (S 3 p 1).toNat).1)) (am_sz hV + 1) (am_cpy (am_ar hV q) (am_cpy (am_ar hV (am_fr hV 113 T)) (fun _ => 0) 0 0 (wfR (S 3 p) w (S 3 p 1).toNat).1) 0 (wfR (S 3 p) w (S 3 p 1).toNat).1 (l.length : Int))) (am_sz hV + 1) (am_cpy (am_ar hV (am_fr hV 113 T)) (am_cpy (am_ar hV q) (am_cpy (am_ar hV (am_fr hV 113 T)) (fun _ => 0) 0 0 (wfR (S 3 p) w (S 3 p 1).toNat).1) 0 (wfR (S 3 p) w (S 3 p 1).toNat).1 (l.length : Int)) ((wfR (S 3 p) w (S 3 p 1).toNat).1 + (wfR (S 3 p) w (S 3 p 1).toNat).2) ((wfR (S 3 p) w (S 3 p 1).toNat).1 + (l.length : Int)) ((S 3 p) 1 - ((wfR (S 3 p) w (S 3 p 1).toNat).1 + (wfR (S 3 p) w (S 3 p 1).toNat).2)))) (am_sz hV + 1) = (am_cpy (am_ar hV (am_fr hV 113 T)) (am_cpy (am_ar hV q) (am_cpy (am_ar hV (am_fr hV 113 T)) (fun _ => 0) 0 0 (wfR (S 3 p) w (S 3 p 1).toNat).1) 0 (wfR (S 3 p) w (S 3 p 1).toNat).1 (l.length : Int)) ((wfR (S 3 p) w (S 3 p 1).toNat).1 + (wfR (S 3 p) w (S 3 p 1).toNat).2) ((wfR (S 3 p) w (S 3 p 1).toNat).1 + (l.length : Int)) ((S 3 p) 1 - ((wfR (S 3 p) w (S 3 p 1).toNat).1 + (wfR (S 3 p) w (S 3 p 1).toNat).2))) := war_ar
  have tyA : am_ty (am_war (am_war (am_war (am_new hV 115 (S 3 p 1 - (wfR (S 3 p) w (S 3 p 1).toNat).2 + (l.length : Int)).toNat) (am_sz hV + 1) (am_cpy (am_ar hV (am_fr hV 113 T)) (fun _ => 0) 0 0 (wfR (S 3 p) w (S 3 p 1).toNat).1)) (am_sz hV + 1) (am_cpy (am_ar hV q) (am_cpy (am_ar hV (am_fr hV 113 T)) (fun _ => 0) 0 0 (wfR (S 3 p) w (S 3 p 1).toNat).1) 0 (wfR (S 3 p) w (S 3 p 1).toNat).1 (l.length : Int))) (am_sz hV + 1) (am_cpy (am_ar hV (am_fr hV 113 T)) (am_cpy (am_ar hV q) (am_cpy (am_ar hV (am_fr hV 113 T)) (fun _ => 0) 0 0 (wfR (S 3 p) w (S 3 p 1).toNat).1) 0 (wfR (S 3 p) w (S 3 p 1).toNat).1 (l.length : Int)) ((wfR (S 3 p) w (S 3 p 1).toNat).1 + (wfR (S 3 p) w (S 3 p 1).toNat).2) ((wfR (S 3 p) w (S 3 p 1).toNat).1 + (l.length : Int)) ((S 3 p) 1 - ((wfR (S 3 p) w (S 3 p 1).toNat).1 + (wfR (S 3 p) w (S 3 p 1).toNat).2)))) (am_sz hV + 1) = 115 := x_tyn0 (h := hV) (t := 115) (n := (S 3 p 1 - (wfR (S 3 p) w (S 3 p 1).toNat).2 + (l.length : Int)).toNat) rfl
  have lnA : am_ln (am_war (am_war (am_war (am_new hV 115 (S 3 p 1 - (wfR (S 3 p) w (S 3 p 1).toNat).2 + (l.length : Int)).toNat) (am_sz hV + 1) (am_cpy (am_ar hV (am_fr hV 113 T)) (fun _ => 0) 0 0 (wfR (S 3 p) w (S 3 p 1).toNat).1)) (am_sz hV + 1) (am_cpy (am_ar hV q) (am_cpy (am_ar hV (am_fr hV 113 T)) (fun _ => 0) 0 0 (wfR (S 3 p) w (S 3 p 1).toNat).1) 0 (wfR (S 3 p) w (S 3 p 1).toNat).1 (l.length : Int))) (am_sz hV + 1) (am_cpy (am_ar hV (am_fr hV 113 T)) (am_cpy (am_ar hV q) (am_cpy (am_ar hV (am_fr hV 113 T)) (fun _ => 0) 0 0 (wfR (S 3 p) w (S 3 p 1).toNat).1) 0 (wfR (S 3 p) w (S 3 p 1).toNat).1 (l.length : Int)) ((wfR (S 3 p) w (S 3 p 1).toNat).1 + (wfR (S 3 p) w (S 3 p 1).toNat).2) ((wfR (S 3 p) w (S 3 p 1).toNat).1 + (l.length : Int)) ((S 3 p) 1 - ((wfR (S 3 p) w (S 3 p 1).toNat).1 + (wfR (S 3 p) w (S 3 p 1).toNat).2)))) (am_sz hV + 1) = row 1 := (x_lnn0 (h := hV) (t := 115) (n := (S 3 p 1 - (wfR (S 3 p) w (S 3 p 1).toNat).2 + (l.length : Int)).toNat) rfl).trans (by rw [row1]; omega)
  have szA : am_sz (am_war (am_war (am_war (am_new hV 115 (S 3 p 1 - (wfR (S 3 p) w (S 3 p 1).toNat).2 + (l.length : Int)).toNat) (am_sz hV + 1) (am_cpy (am_ar hV (am_fr hV 113 T)) (fun _ => 0) 0 0 (wfR (S 3 p) w (S 3 p 1).toNat).1)) (am_sz hV + 1) (am_cpy (am_ar hV q) (am_cpy (am_ar hV (am_fr hV 113 T)) (fun _ => 0) 0 0 (wfR (S 3 p) w (S 3 p 1).toNat).1) 0 (wfR (S 3 p) w (S 3 p 1).toNat).1 (l.length : Int))) (am_sz hV + 1) (am_cpy (am_ar hV (am_fr hV 113 T)) (am_cpy (am_ar hV q) (am_cpy (am_ar hV (am_fr hV 113 T)) (fun _ => 0) 0 0 (wfR (S 3 p) w (S 3 p 1).toNat).1) 0 (wfR (S 3 p) w (S 3 p 1).toNat).1 (l.length : Int)) ((wfR (S 3 p) w (S 3 p 1).toNat).1 + (wfR (S 3 p) w (S 3 p 1).toNat).2) ((wfR (S 3 p) w (S 3 p 1).toNat).1 + (l.length : Int)) ((S 3 p) 1 - ((wfR (S 3 p) w (S 3 p 1).toNat).1 + (wfR (S 3 p) w (S 3 p 1).toNat).2)))) = (am_sz hV + 1) := rfl
  have usA : am_us (am_war (am_war (am_war (am_new hV 115 (S 3 p 1 - (wfR (S 3 p) w (S 3 p 1).toNat).2 + (l.length : Int)).toNat) (am_sz hV + 1) (am_cpy (am_ar hV (am_fr hV 113 T)) (fun _ => 0) 0 0 (wfR (S 3 p) w (S 3 p 1).toNat).1)) (am_sz hV + 1) (am_cpy (am_ar hV q) (am_cpy (am_ar hV (am_fr hV 113 T)) (fun _ => 0) 0 0 (wfR (S 3 p) w (S 3 p 1).toNat).1) 0 (wfR (S 3 p) w (S 3 p 1).toNat).1 (l.length : Int))) (am_sz hV + 1) (am_cpy (am_ar hV (am_fr hV 113 T)) (am_cpy (am_ar hV q) (am_cpy (am_ar hV (am_fr hV 113 T)) (fun _ => 0) 0 0 (wfR (S 3 p) w (S 3 p 1).toNat).1) 0 (wfR (S 3 p) w (S 3 p 1).toNat).1 (l.length : Int)) ((wfR (S 3 p) w (S 3 p 1).toNat).1 + (wfR (S 3 p) w (S 3 p 1).toNat).2) ((wfR (S 3 p) w (S 3 p 1).toNat).1 + (l.length : Int)) ((S 3 p) 1 - ((wfR (S 3 p) w (S 3 p 1).toNat).1 + (wfR (S 3 p) w (S 3 p 1).toNat).2)))) = am_us hV + (S 3 p 1 - (wfR (S 3 p) w (S 3 p 1).toNat).2 + (l.length : Int)).toNat := rfl
  have g1 : ∀ k, 0 ≤ k → k < (wfR (S 3 p) w (S 3 p 1).toNat).1 → (am_cpy (am_ar hV (am_fr hV 113 T)) (am_cpy (am_ar hV q) (am_cpy (am_ar hV (am_fr hV 113 T)) (fun _ => 0) 0 0 (wfR (S 3 p) w (S 3 p 1).toNat).1) 0 (wfR (S 3 p) w (S 3 p 1).toNat).1 (l.length : Int)) ((wfR (S 3 p) w (S 3 p 1).toNat).1 + (wfR (S 3 p) w (S 3 p 1).toNat).2) ((wfR (S 3 p) w (S 3 p 1).toNat).1 + (l.length : Int)) ((S 3 p) 1 - ((wfR (S 3 p) w (S 3 p 1).toNat).1 + (wfR (S 3 p) w (S 3 p 1).toNat).2))) k = am_ar hV (am_fr hV 113 T) k := fun k a b => by
    unfold am_cpy
    rw [if_neg (by omega), if_neg (by omega), if_pos (by omega)]
    congr 1
    omega
  have g2 : ∀ k, 0 ≤ k → k < (l.length : Int) → (am_cpy (am_ar hV (am_fr hV 113 T)) (am_cpy (am_ar hV q) (am_cpy (am_ar hV (am_fr hV 113 T)) (fun _ => 0) 0 0 (wfR (S 3 p) w (S 3 p 1).toNat).1) 0 (wfR (S 3 p) w (S 3 p 1).toNat).1 (l.length : Int)) ((wfR (S 3 p) w (S 3 p 1).toNat).1 + (wfR (S 3 p) w (S 3 p 1).toNat).2) ((wfR (S 3 p) w (S 3 p 1).toNat).1 + (l.length : Int)) ((S 3 p) 1 - ((wfR (S 3 p) w (S 3 p 1).toNat).1 + (wfR (S 3 p) w (S 3 p 1).toNat).2))) ((wfR (S 3 p) w (S 3 p 1).toNat).1 + k) = am_ar hV q k := fun k a b => by
    unfold am_cpy
    rw [if_neg (by omega), if_pos (by omega)]
    congr 1
    omega
  have g3 : ∀ k, (wfR (S 3 p) w (S 3 p 1).toNat).1 + (wfR (S 3 p) w (S 3 p 1).toNat).2 ≤ k → k < (S 3 p) 1 → (am_cpy (am_ar hV (am_fr hV 113 T)) (am_cpy (am_ar hV q) (am_cpy (am_ar hV (am_fr hV 113 T)) (fun _ => 0) 0 0 (wfR (S 3 p) w (S 3 p 1).toNat).1) 0 (wfR (S 3 p) w (S 3 p 1).toNat).1 (l.length : Int)) ((wfR (S 3 p) w (S 3 p 1).toNat).1 + (wfR (S 3 p) w (S 3 p 1).toNat).2) ((wfR (S 3 p) w (S 3 p 1).toNat).1 + (l.length : Int)) ((S 3 p) 1 - ((wfR (S 3 p) w (S 3 p 1).toNat).1 + (wfR (S 3 p) w (S 3 p 1).toNat).2))) (k + ((l.length : Int) - (wfR (S 3 p) w (S 3 p 1).toNat).2)) = am_ar hV (am_fr hV 113 T) k := fun k a b => by
    unfold am_cpy
    rw [if_pos (by omega)]
    congr 1
    omega
  have mmb : (S 3 p 1 - (wfR (S 3 p) w (S 3 p 1).toNat).2 + (l.length : Int)).toNat = (row 1).toNat := by
    rw [row1]
    omega
  generalize (am_cpy (am_ar hV (am_fr hV 113 T)) (am_cpy (am_ar hV q) (am_cpy (am_ar hV (am_fr hV 113 T)) (fun _ => 0) 0 0 (wfR (S 3 p) w (S 3 p 1).toNat).1) 0 (wfR (S 3 p) w (S 3 p 1).toNat).1 (l.length : Int)) ((wfR (S 3 p) w (S 3 p 1).toNat).1 + (wfR (S 3 p) w (S 3 p 1).toNat).2) ((wfR (S 3 p) w (S 3 p 1).toNat).1 + (l.length : Int)) ((S 3 p) 1 - ((wfR (S 3 p) w (S 3 p 1).toNat).1 + (wfR (S 3 p) w (S 3 p 1).toNat).2))) = c3 at *
  generalize am_war (am_war (am_war (am_new hV 115 (S 3 p 1 - (wfR (S 3 p) w (S 3 p 1).toNat).2 + (l.length : Int)).toNat) (am_sz hV + 1) (am_cpy (am_ar hV (am_fr hV 113 T)) (fun _ => 0) 0 0 (wfR (S 3 p) w (S 3 p 1).toNat).1)) (am_sz hV + 1) (am_cpy (am_ar hV q) (am_cpy (am_ar hV (am_fr hV 113 T)) (fun _ => 0) 0 0 (wfR (S 3 p) w (S 3 p 1).toNat).1) 0 (wfR (S 3 p) w (S 3 p 1).toNat).1 (l.length : Int))) (am_sz hV + 1) c3 = h3 at *
  have aV := fA.2.2.2 (am_fr hV 113 T) pt.2.2.2.2.2.2.1.1.2.2.2
  have qV := fA.2.2.2 q ac.2.1.2
  have ip : iPc h3 L (am_sz hV + 1) row := by
    refine xP_new ho wf dl hc la cg rd ⟨k4, k5, k6⟩ (iPc_fx fA leL_refl (fun _ _ z => z.elim) pt.2.2.2.2.2.2.1) (arC_fx fA (fun _ _ z => z.elim) ac) (fun c hc2 ty => ?_) tyA ⟨by omega, by omega⟩ lnA (fun k k0 k1 => ?_) (fun k k0 k1 => ?_) (fun k k0 k1 => ?_)
    · by_cases cz : c ≤ am_sz hV
      · rw [(fA.2.2.2 c cz).1] at ty
        exact hL c hc2 ty
      · exact tt.1.2.2 c (by omega)
    · rw [arA, (aV.2.2 (fun z => z)).2.2.2]
      exact g1 k k0 k1
    · rw [arA, (qV.2.2 (fun z => z)).2.2.2]
      exact g2 k k0 k1
    · rw [arA, (aV.2.2 (fun z => z)).2.2.2]
      exact g3 k k0 k1
  have wT := fA.2.2.2 T pt.1.2.1
  have wT' := wT.2.2 (fun z => z)
  refine x_has (m := (row 1).toNat) (g := fun k => am_b (ew row k)) hD (wT.1.trans pt.1.1) (Nat.le_trans pt.1.2.1 fA.1) tyA (by omega) (by rw [lnA]; omega) (by omega) (fun k k0 k1 => ?_) (fun h4 f4 z4 u4 e113 e114 frT fiT => ?_)
  · have q := ip.1.2.2.1 k k0 (by omega)
    exact ⟨q.1, q.2.2.2, q.2.1, am_bz _⟩
  · have nTr : T ≠ (am_sz hV + 1) := by
      have := pt.1.2.1
      omega
    have lT : (L T).1 ≠ 0 := by
      rw [pt.1.2.2.2]
      exact tt.2.2.2.2.2.2
    have imT4 : ∀ c, c ≤ am_sz h3 → c = T → (L c).1 ≠ 0 ∧ ¬ imT (am_ty h3 c) := fun c hc2 e => by
      rw [e]
      refine ⟨lT, ?_⟩
      rw [wT.1, pt.1.1]
      unfold imT
      omega
    refine H h4 (fx_trans2 (fx_sub fA (fun _ _ z => z.elim)) f4 (fun _ _ z => z)) (z4.trans szA) (by rw [u4, usA]; omega) e113 (iPc_fx f4 leL_refl imT4 ip) (e114.trans (ew_sg k2 k1.1.1 k3)) (fun f hf => (frT f hf).trans (wT'.2.1 f)) (fun f hf => (fiT f hf).trans (wT'.1 f))
end
