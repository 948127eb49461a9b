set_option maxRecDepth 100000
/-! a list is put behind one that is empty -/
section
variable {K : am_K} {h : am_H}
theorem c_addAll {l s d : Nat} (vl : xLm h l) (l0 : am_ln h (am_fr h 194 l) = 0) (hm : 0 ≤ am_fi h 193 l ∧ am_fi h 193 l ≤ 1000000) (vs : xLm h s) (hs : (am_fi h 195 s) ≤ 300) (ls : l ≠ s) (hl : am_cs h 0 ≤ am_sz h) (H : ∀ h' v, fx (fun q => q = l) h h' → xLm h' l → am_fi h' 195 l = (am_fi h 195 s) → am_fi h' 193 l = am_fi h 193 l + 1 → (∀ k, 0 ≤ k → k < (am_fi h 195 s) → am_ar h' (am_fr h' 194 l) k = am_ar h (am_fr h 194 s) k) → (0 < am_ln h' (am_fr h' 194 l) → am_sz h < am_fr h' 194 l) → am_sz h' ≤ am_sz h + 2 → am_us h' ≤ am_us h + 600 → K (.inl (some (.inl (v)))) h') : am_ev am_prog (d + 9) 201 [.inr (.inl l), .inr (.inl s)] h K := by
  obtain ⟨⟨a1, a2, a3, a4, a5, a6⟩, a7, a8, a9⟩ := vl
  obtain ⟨⟨b1, b2, b3, b4, b5, b6⟩, b7, b8, b9⟩ := vs
  have n0 : (((am_fi h 195 s).toNat : Nat) : Int) = (am_fi h 195 s) := by omega
  have eA := a8 l0
  have a195 : am_fi h 195 l = 0 := by omega
  -- nothing is there
  have none_ : ∀ m : Int, (am_fi h 195 s) = 0 → K (.inl (some (.inl (0)))) (am_sfi (am_war (am_new h 114 (am_fi h 195 s).toNat) (am_sz h + 1) (am_cpy (am_ar h (am_fr h 194 s)) (fun _ => 0) 0 0 m)) 193 l (am_fi h 193 l + 1)) := by
    intro m z
    refine H _ 0 (fx_sfi (fx_war (fx_new fx_refl) (Or.inl (by omega))) (Or.inr rfl)) ⟨⟨?_, ?_, ?_, ?_, ?_, ?_⟩, ?_, ?_, ?_⟩ ?_ x_fie (fun k k1 k2 => absurd k2 (by omega)) (fun c => ?_) (Nat.le_succ _) ?_
    · exact (x_tyn (h := h) (t := 114) (n := (am_fi h 195 s).toNat) a5).trans a1
    · have e1 : am_fr (am_sfi (am_war (am_new h 114 (am_fi h 195 s).toNat) (am_sz h + 1) (am_cpy (am_ar h (am_fr h 194 s)) (fun _ => 0) 0 0 m)) 193 l (am_fi h 193 l + 1)) 194 l = (am_fr h 194 l) := x_frn (h := h) (t := 114) (n := (am_fi h 195 s).toNat) a5
      rw [e1]
      have e2 : am_ty (am_sfi (am_war (am_new h 114 (am_fi h 195 s).toNat) (am_sz h + 1) (am_cpy (am_ar h (am_fr h 194 s)) (fun _ => 0) 0 0 m)) 193 l (am_fi h 193 l + 1)) (am_fr h 194 l) = am_ty h (am_fr h 194 l) := x_tyn (h := h) (t := 114) (n := (am_fi h 195 s).toNat) a6
      rw [e2]
      exact a2
    · have e1 : am_fr (am_sfi (am_war (am_new h 114 (am_fi h 195 s).toNat) (am_sz h + 1) (am_cpy (am_ar h (am_fr h 194 s)) (fun _ => 0) 0 0 m)) 193 l (am_fi h 193 l + 1)) 194 l = (am_fr h 194 l) := x_frn (h := h) (t := 114) (n := (am_fi h 195 s).toNat) a5
      have e2 : am_ln (am_sfi (am_war (am_new h 114 (am_fi h 195 s).toNat) (am_sz h + 1) (am_cpy (am_ar h (am_fr h 194 s)) (fun _ => 0) 0 0 m)) 193 l (am_fi h 193 l + 1)) (am_fr h 194 l) = am_ln h (am_fr h 194 l) := x_lnn (h := h) (t := 114) (n := (am_fi h 195 s).toNat) a6
      have e3 : am_fi (am_sfi (am_war (am_new h 114 (am_fi h 195 s).toNat) (am_sz h + 1) (am_cpy (am_ar h (am_fr h 194 s)) (fun _ => 0) 0 0 m)) 193 l (am_fi h 193 l + 1)) 195 l = am_fi h 195 l := (x_fif (by decide)).trans (x_fin (h := h) (t := 114) (n := (am_fi h 195 s).toNat) a5)
      rw [e1, e2, e3]
      exact a3
    · have e1 : am_fr (am_sfi (am_war (am_new h 114 (am_fi h 195 s).toNat) (am_sz h + 1) (am_cpy (am_ar h (am_fr h 194 s)) (fun _ => 0) 0 0 m)) 193 l (am_fi h 193 l + 1)) 194 l = (am_fr h 194 l) := x_frn (h := h) (t := 114) (n := (am_fi h 195 s).toNat) a5
      have e2 : am_ln (am_sfi (am_war (am_new h 114 (am_fi h 195 s).toNat) (am_sz h + 1) (am_cpy (am_ar h (am_fr h 194 s)) (fun _ => 0) 0 0 m)) 193 l (am_fi h 193 l + 1)) (am_fr h 194 l) = am_ln h (am_fr h 194 l) := x_lnn (h := h) (t := 114) (n := (am_fi h 195 s).toNat) a6
      rw [e1, e2]
      exact a4
    · exact Nat.le_succ_of_le a5
    · have e1 : am_fr (am_sfi (am_war (am_new h 114 (am_fi h 195 s).toNat) (am_sz h + 1) (am_cpy (am_ar h (am_fr h 194 s)) (fun _ => 0) 0 0 m)) 193 l (am_fi h 193 l + 1)) 194 l = (am_fr h 194 l) := x_frn (h := h) (t := 114) (n := (am_fi h 195 s).toNat) a5
      rw [e1]
      exact Nat.le_succ_of_le a6
    · have e1 : am_fr (am_sfi (am_war (am_new h 114 (am_fi h 195 s).toNat) (am_sz h + 1) (am_cpy (am_ar h (am_fr h 194 s)) (fun _ => 0) 0 0 m)) 193 l (am_fi h 193 l + 1)) 194 l = (am_fr h 194 l) := x_frn (h := h) (t := 114) (n := (am_fi h 195 s).toNat) a5
      have e2 : am_ln (am_sfi (am_war (am_new h 114 (am_fi h 195 s).toNat) (am_sz h + 1) (am_cpy (am_ar h (am_fr h 194 s)) (fun _ => 0) 0 0 m)) 193 l (am_fi h 193 l + 1)) (am_fr h 194 l) = am_ln h (am_fr h 194 l) := x_lnn (h := h) (t := 114) (n := (am_fi h 195 s).toNat) a6
      rw [e1, e2]
      exact a7
    · intro _
      have e1 : am_fr (am_sfi (am_war (am_new h 114 (am_fi h 195 s).toNat) (am_sz h + 1) (am_cpy (am_ar h (am_fr h 194 s)) (fun _ => 0) 0 0 m)) 193 l (am_fi h 193 l + 1)) 194 l = (am_fr h 194 l) := x_frn (h := h) (t := 114) (n := (am_fi h 195 s).toNat) a5
      rw [e1]
      exact eA
    · have e1 : am_fr (am_sfi (am_war (am_new h 114 (am_fi h 195 s).toNat) (am_sz h + 1) (am_cpy (am_ar h (am_fr h 194 s)) (fun _ => 0) 0 0 m)) 193 l (am_fi h 193 l + 1)) 194 l = (am_fr h 194 l) := x_frn (h := h) (t := 114) (n := (am_fi h 195 s).toNat) a5
      have e2 : am_ln (am_sfi (am_war (am_new h 114 (am_fi h 195 s).toNat) (am_sz h + 1) (am_cpy (am_ar h (am_fr h 194 s)) (fun _ => 0) 0 0 m)) 193 l (am_fi h 193 l + 1)) (am_fr h 194 l) = am_ln h (am_fr h 194 l) := x_lnn (h := h) (t := 114) (n := (am_fi h 195 s).toNat) a6
      rw [e1, e2]
      intro c
      exact absurd c (by omega)
    · exact ((x_fif (by decide)).trans (x_fin (h := h) (t := 114) (n := (am_fi h 195 s).toNat) a5)).trans (a195.trans z.symm)
    · have e1 : am_fr (am_sfi (am_war (am_new h 114 (am_fi h 195 s).toNat) (am_sz h + 1) (am_cpy (am_ar h (am_fr h 194 s)) (fun _ => 0) 0 0 m)) 193 l (am_fi h 193 l + 1)) 194 l = (am_fr h 194 l) := x_frn (h := h) (t := 114) (n := (am_fi h 195 s).toNat) a5
      have e2 : am_ln (am_sfi (am_war (am_new h 114 (am_fi h 195 s).toNat) (am_sz h + 1) (am_cpy (am_ar h (am_fr h 194 s)) (fun _ => 0) 0 0 m)) 193 l (am_fi h 193 l + 1)) (am_fr h 194 l) = am_ln h (am_fr h 194 l) := x_lnn (h := h) (t := 114) (n := (am_fi h 195 s).toNat) a6
      rw [e1, e2] at c
      exact absurd c (by omega)
    · show am_us h + (am_fi h 195 s).toNat ≤ am_us h + 600
      omega
  -- all are put behind
  have some_ : ∀ (m : Int) (c : Nat), m = (am_fi h 195 s) → 0 < (am_fi h 195 s) → (am_fi h 195 s) ≤ (c : Int) → c ≤ 300 ∨ c = 10 → K (.inl (some (.inl (1)))) (am_sfi (am_war (am_sfr (am_new (am_sfi (am_war (am_new h 114 (am_fi h 195 s).toNat) (am_sz h + 1) (am_cpy (am_ar h (am_fr h 194 s)) (fun _ => 0) 0 0 m)) 193 l (am_fi h 193 l + 1)) 114 c) 194 l (am_sz h + 2)) (am_sz h + 2) (am_cpy (am_ar (am_sfr (am_new (am_sfi (am_war (am_new h 114 (am_fi h 195 s).toNat) (am_sz h + 1) (am_cpy (am_ar h (am_fr h 194 s)) (fun _ => 0) 0 0 m)) 193 l (am_fi h 193 l + 1)) 114 c) 194 l (am_sz h + 2)) (am_sz h + 1)) (am_ar (am_sfr (am_new (am_sfi (am_war (am_new h 114 (am_fi h 195 s).toNat) (am_sz h + 1) (am_cpy (am_ar h (am_fr h 194 s)) (fun _ => 0) 0 0 m)) 193 l (am_fi h 193 l + 1)) 114 c) 194 l (am_sz h + 2)) (am_sz h + 2)) 0 0 (am_fi h 195 s))) 195 l (0 + (am_fi h 195 s))) := by
    intro m c em np hc c3
    have fT : fx (fun q => q = l) h (am_sfi (am_war (am_new h 114 (am_fi h 195 s).toNat) (am_sz h + 1) (am_cpy (am_ar h (am_fr h 194 s)) (fun _ => 0) 0 0 m)) 193 l (am_fi h 193 l + 1)) := fx_sfi (fx_war (fx_new fx_refl) (Or.inl (by omega))) (Or.inr rfl)
    have szT : am_sz (am_sfi (am_war (am_new h 114 (am_fi h 195 s).toNat) (am_sz h + 1) (am_cpy (am_ar h (am_fr h 194 s)) (fun _ => 0) 0 0 m)) 193 l (am_fi h 193 l + 1)) = am_sz h + 1 := rfl
    have lT : l ≤ am_sz (am_sfi (am_war (am_new h 114 (am_fi h 195 s).toNat) (am_sz h + 1) (am_cpy (am_ar h (am_fr h 194 s)) (fun _ => 0) 0 0 m)) 193 l (am_fi h 193 l + 1)) := by omega
    have arT : am_ar (am_sfi (am_war (am_new h 114 (am_fi h 195 s).toNat) (am_sz h + 1) (am_cpy (am_ar h (am_fr h 194 s)) (fun _ => 0) 0 0 m)) 193 l (am_fi h 193 l + 1)) (am_sz h + 1) = (am_cpy (am_ar h (am_fr h 194 s)) (fun _ => 0) 0 0 m) := x_arwe (h := am_new h 114 (am_fi h 195 s).toNat)
    have i193 : am_fi (am_sfi (am_war (am_new h 114 (am_fi h 195 s).toNat) (am_sz h + 1) (am_cpy (am_ar h (am_fr h 194 s)) (fun _ => 0) 0 0 m)) 193 l (am_fi h 193 l + 1)) 193 l = am_fi h 193 l + 1 := x_fie
    have usT : am_us (am_sfi (am_war (am_new h 114 (am_fi h 195 s).toNat) (am_sz h + 1) (am_cpy (am_ar h (am_fr h 194 s)) (fun _ => 0) 0 0 m)) 193 l (am_fi h 193 l + 1)) = am_us h + (am_fi h 195 s).toNat := rfl
    have tyT : am_ty (am_sfi (am_war (am_new h 114 (am_fi h 195 s).toNat) (am_sz h + 1) (am_cpy (am_ar h (am_fr h 194 s)) (fun _ => 0) 0 0 m)) 193 l (am_fi h 193 l + 1)) l = 31 := (x_tyn (h := h) (t := 114) (n := (am_fi h 195 s).toNat) a5).trans a1
    generalize (am_sfi (am_war (am_new h 114 (am_fi h 195 s).toNat) (am_sz h + 1) (am_cpy (am_ar h (am_fr h 194 s)) (fun _ => 0) 0 0 m)) 193 l (am_fi h 193 l + 1)) = hT at *
    have e2 : am_sz h + 2 = am_sz hT + 1 := by omega
    rw [e2]
    refine H _ 1 (fx_sfi (fx_war (fx_sfr (fx_new fT) (Or.inr rfl)) (Or.inl (by omega))) (Or.inr rfl)) ⟨⟨?_, ?_, ?_, ?_, ?_, ?_⟩, ?_, ?_, ?_⟩ ?_ ?_ ?_ (fun _ => ?_) ?_ ?_
    · exact (x_tyn (h := hT) (t := 114) (n := c) lT).trans tyT
    · have f1 : am_fr (am_sfr (am_new hT 114 c) 194 l (am_sz hT + 1)) 194 l = am_sz hT + 1 := x_fre
      show am_ty (am_new hT 114 c) (am_fr (am_sfr (am_new hT 114 c) 194 l (am_sz hT + 1)) 194 l) = 114 ∨ _
      rw [f1]
      exact Or.inl (x_tyn0 rfl)
    · have f1 : am_fr (am_sfr (am_new hT 114 c) 194 l (am_sz hT + 1)) 194 l = am_sz hT + 1 := x_fre
      rw [x_fie]
      show _ ∧ _ ≤ am_ln (am_new hT 114 c) (am_fr (am_sfr (am_new hT 114 c) 194 l (am_sz hT + 1)) 194 l)
      rw [f1, x_lnn0 rfl]
      omega
    · have f1 : am_fr (am_sfr (am_new hT 114 c) 194 l (am_sz hT + 1)) 194 l = am_sz hT + 1 := x_fre
      show am_ln (am_new hT 114 c) (am_fr (am_sfr (am_new hT 114 c) 194 l (am_sz hT + 1)) 194 l) ≤ 1000000
      rw [f1, x_lnn0 rfl]
      omega
    · show l ≤ am_sz hT + 1
      omega
    · have f1 : am_fr (am_sfr (am_new hT 114 c) 194 l (am_sz hT + 1)) 194 l = am_sz hT + 1 := x_fre
      show am_fr (am_sfr (am_new hT 114 c) 194 l (am_sz hT + 1)) 194 l ≤ am_sz hT + 1
      rw [f1]
      exact Nat.le_refl _
    · have f1 : am_fr (am_sfr (am_new hT 114 c) 194 l (am_sz hT + 1)) 194 l = am_sz hT + 1 := x_fre
      show am_ln (am_new hT 114 c) (am_fr (am_sfr (am_new hT 114 c) 194 l (am_sz hT + 1)) 194 l) ≤ 1000
      rw [f1, x_lnn0 rfl]
      omega
    · have f1 : am_fr (am_sfr (am_new hT 114 c) 194 l (am_sz hT + 1)) 194 l = am_sz hT + 1 := x_fre
      show am_ln (am_new hT 114 c) (am_fr (am_sfr (am_new hT 114 c) 194 l (am_sz hT + 1)) 194 l) = 0 → _
      rw [f1, x_lnn0 rfl]
      intro z
      exact absurd z (by omega)
    · have f1 : am_fr (am_sfr (am_new hT 114 c) 194 l (am_sz hT + 1)) 194 l = am_sz hT + 1 := x_fre
      intro _
      show am_ty (am_new hT 114 c) (am_fr (am_sfr (am_new hT 114 c) 194 l (am_sz hT + 1)) 194 l) = 114
      rw [f1]
      exact x_tyn0 rfl
    · rw [x_fie]
      omega
    · exact (x_fif (by decide)).trans ((x_fin (h := hT) (t := 114) (n := c) lT).trans i193)
    · intro k k1 k2
      have f1 : am_fr (am_sfr (am_new hT 114 c) 194 l (am_sz hT + 1)) 194 l = am_sz hT + 1 := x_fre
      show am_ar (am_war (am_sfr (am_new hT 114 c) 194 l (am_sz hT + 1)) (am_sz hT + 1) _) (am_fr (am_sfr (am_new hT 114 c) 194 l (am_sz hT + 1)) 194 l) k = _
      rw [f1, x_arwe]
      have g1 : am_ar (am_sfr (am_new hT 114 c) 194 l (am_sz hT + 1)) (am_sz h + 1) = (am_cpy (am_ar h (am_fr h 194 s)) (fun _ => 0) 0 0 m) := (x_arn (h := hT) (t := 114) (n := c) (by omega)).trans arT
      rw [g1]
      unfold am_cpy
      rw [if_pos (by omega), if_pos (by omega)]
      congr 1
      omega
    · have f1 : am_fr (am_sfr (am_new hT 114 c) 194 l (am_sz hT + 1)) 194 l = am_sz hT + 1 := x_fre
      show am_sz h < am_fr (am_sfr (am_new hT 114 c) 194 l (am_sz hT + 1)) 194 l
      rw [f1]
      omega
    · show am_sz hT + 1 ≤ am_sz h + 2
      omega
    · show am_us hT + c ≤ am_us h + 600
      omega
  have grow_ : ∀ m : Int, m = (am_fi h 195 s) → 0 < (am_fi h 195 s) → ∀ (Q : am_K), (∀ c : Nat, (am_fi h 195 s) ≤ (c : Int) → c ≤ 300 ∨ c = 10 → Q (.inl (some (.inr (.inl (am_sz h + 2))))) (am_sfr (am_new (am_sfi (am_war (am_new h 114 (am_fi h 195 s).toNat) (am_sz h + 1) (am_cpy (am_ar h (am_fr h 194 s)) (fun _ => 0) 0 0 m)) 193 l (am_fi h 193 l + 1)) 114 c) 194 l (am_sz h + 2))) → am_ev am_prog (d + 8) 291 [.inr (.inl l), .inl (0 + (am_fi h 195 s))] (am_sfi (am_war (am_new h 114 (am_fi h 195 s).toNat) (am_sz h + 1) (am_cpy (am_ar h (am_fr h 194 s)) (fun _ => 0) 0 0 m)) 193 l (am_fi h 193 l + 1)) Q := by
    intro m em np Q HQ
    have e1 : am_fr (am_sfi (am_war (am_new h 114 (am_fi h 195 s).toNat) (am_sz h + 1) (am_cpy (am_ar h (am_fr h 194 s)) (fun _ => 0) 0 0 m)) 193 l (am_fi h 193 l + 1)) 194 l = (am_fr h 194 l) := x_frn (h := h) (t := 114) (n := (am_fi h 195 s).toNat) a5
    have e2 : am_ln (am_sfi (am_war (am_new h 114 (am_fi h 195 s).toNat) (am_sz h + 1) (am_cpy (am_ar h (am_fr h 194 s)) (fun _ => 0) 0 0 m)) 193 l (am_fi h 193 l + 1)) (am_fr h 194 l) = am_ln h (am_fr h 194 l) := x_lnn (h := h) (t := 114) (n := (am_fi h 195 s).toNat) a6
    have e3 : am_ty (am_sfi (am_war (am_new h 114 (am_fi h 195 s).toNat) (am_sz h + 1) (am_cpy (am_ar h (am_fr h 194 s)) (fun _ => 0) 0 0 m)) 193 l (am_fi h 193 l + 1)) (am_fr h 194 l) = am_ty h (am_fr h 194 l) := x_tyn (h := h) (t := 114) (n := (am_fi h 195 s).toNat) a6
    have e4 : am_ty (am_sfi (am_war (am_new h 114 (am_fi h 195 s).toNat) (am_sz h + 1) (am_cpy (am_ar h (am_fr h 194 s)) (fun _ => 0) 0 0 m)) 193 l (am_fi h 193 l + 1)) l = 31 := (x_tyn (h := h) (t := 114) (n := (am_fi h 195 s).toNat) a5).trans a1
    have e5 : am_cs (am_sfi (am_war (am_new h 114 (am_fi h 195 s).toNat) (am_sz h + 1) (am_cpy (am_ar h (am_fr h 194 s)) (fun _ => 0) 0 0 m)) 193 l (am_fi h 193 l + 1)) 0 = am_cs h 0 := rfl
    have szT : am_sz (am_sfi (am_war (am_new h 114 (am_fi h 195 s).toNat) (am_sz h + 1) (am_cpy (am_ar h (am_fr h 194 s)) (fun _ => 0) 0 0 m)) 193 l (am_fi h 193 l + 1)) = am_sz h + 1 := rfl
    have en : (0 + (am_fi h 195 s) : Int) = (am_fi h 195 s) := by omega
    refine am_en p_J6_grow rfl rfl (v_J6_grow_0 ?_)
    generalize (am_sfi (am_war (am_new h 114 (am_fi h 195 s).toNat) (am_sz h + 1) (am_cpy (am_ar h (am_fr h 194 s)) (fun _ => 0) 0 0 m)) 193 l (am_fi h 193 l + 1)) = hT at *
    rw [e1, e2, e3, e4, e5, l0, szT, en]
    refine ⟨⟨rfl, a2⟩, fun c => absurd c (by decide), fun _ => ⟨fun _ => ⟨fun c2 => ⟨by omega, by omega, HQ _ (by omega) (by omega)⟩, fun c2 => ⟨by omega, HQ 10 (by omega) (by omega)⟩⟩, fun c1 => absurd eA c1⟩⟩
  have fin : ∀ (m : Int) (c : Nat), m = (am_fi h 195 s) → 0 < (am_fi h 195 s) → (am_fi h 195 s) ≤ (c : Int) → c ≤ 300 ∨ c = 10 → ∀ r4 : Nat, am_W m_J6_addAll (am_ev am_prog (d + 8)) K 33 [some (.inr (.inl (l))), some (.inr (.inl (s))), some (.inr (.inl (am_sz h + 1))), some (.inl ((am_fi h 195 s))), some (.inr (.inl (r4))), some (.inl (0))] [.inr (.inl (am_sz h + 2))] (am_sfr (am_new (am_sfi (am_war (am_new h 114 (am_fi h 195 s).toNat) (am_sz h + 1) (am_cpy (am_ar h (am_fr h 194 s)) (fun _ => 0) 0 0 m)) 193 l (am_fi h 193 l + 1)) 114 c) 194 l (am_sz h + 2)) := by
    intro m c em np hc c3 r4
    have q := some_ m c em np hc c3
    have szT : am_sz (am_sfi (am_war (am_new h 114 (am_fi h 195 s).toNat) (am_sz h + 1) (am_cpy (am_ar h (am_fr h 194 s)) (fun _ => 0) 0 0 m)) 193 l (am_fi h 193 l + 1)) = am_sz h + 1 := rfl
    have e4 : am_ty (am_sfi (am_war (am_new h 114 (am_fi h 195 s).toNat) (am_sz h + 1) (am_cpy (am_ar h (am_fr h 194 s)) (fun _ => 0) 0 0 m)) 193 l (am_fi h 193 l + 1)) l = 31 := (x_tyn (h := h) (t := 114) (n := (am_fi h 195 s).toNat) a5).trans a1
    have e6 : am_ty (am_sfi (am_war (am_new h 114 (am_fi h 195 s).toNat) (am_sz h + 1) (am_cpy (am_ar h (am_fr h 194 s)) (fun _ => 0) 0 0 m)) 193 l (am_fi h 193 l + 1)) (am_sz h + 1) = 114 := x_tyn0 (h := h) (t := 114) (n := (am_fi h 195 s).toNat) rfl
    have e7 : am_ln (am_sfi (am_war (am_new h 114 (am_fi h 195 s).toNat) (am_sz h + 1) (am_cpy (am_ar h (am_fr h 194 s)) (fun _ => 0) 0 0 m)) 193 l (am_fi h 193 l + 1)) (am_sz h + 1) = (am_fi h 195 s) := (x_lnn0 (h := h) (t := 114) (n := (am_fi h 195 s).toNat) rfl).trans n0
    generalize (am_sfi (am_war (am_new h 114 (am_fi h 195 s).toNat) (am_sz h + 1) (am_cpy (am_ar h (am_fr h 194 s)) (fun _ => 0) 0 0 m)) 193 l (am_fi h 193 l + 1)) = hT at *
    have t1 : am_ty (am_sfr (am_new hT 114 c) 194 l (am_sz h + 2)) (am_sz h + 1) = 114 := (x_tyn (h := hT) (t := 114) (n := c) (by omega)).trans e6
    have t2 : am_ty (am_sfr (am_new hT 114 c) 194 l (am_sz h + 2)) (am_sz h + 2) = 114 := x_tyn0 (h := hT) (t := 114) (n := c) (by omega)
    have t3 : am_ln (am_sfr (am_new hT 114 c) 194 l (am_sz h + 2)) (am_sz h + 1) = (am_fi h 195 s) := (x_lnn (h := hT) (t := 114) (n := c) (by omega)).trans e7
    have t4 : am_ln (am_sfr (am_new hT 114 c) 194 l (am_sz h + 2)) (am_sz h + 2) = (c : Int) := x_lnn0 (h := hT) (t := 114) (n := c) (by omega)
    have t5 : am_ty (am_sfr (am_new hT 114 c) 194 l (am_sz h + 2)) l = 31 := (x_tyn (h := hT) (t := 114) (n := c) (by omega)).trans e4
    refine v_J6_addAll_33 ?_
    rw [t1, t2, t3, t4, t5]
    exact ⟨⟨Or.inl rfl, rfl, by omega⟩, ⟨by omega, rfl⟩, q⟩
  refine am_en p_J6_addAll rfl rfl (v_J6_addAll_0 ?_)
  rw [n0, l0, a195]
  refine ⟨b1, b2, by omega, b6, fun c => ⟨by omega, ⟨a5, a1, by omega⟩, fun z => ⟨⟨a6, a2, by omega⟩, fun y => absurd y (by omega), fun y => ⟨by omega, grow_ _ rfl (by omega) _ (fun c hc c3 => am_av (fin _ c rfl (by omega) hc c3 _))⟩⟩, fun z => none_ _ z⟩, fun c => ⟨by omega, ⟨a5, a1, by omega⟩, fun z => ⟨⟨a6, a2, by omega⟩, fun y => absurd y (by omega), fun y => ⟨by omega, grow_ _ (by omega) (by omega) _ (fun c hc c3 => am_av (fin _ c (by omega) (by omega) hc c3 _))⟩⟩, fun z => none_ _ z⟩⟩
end
