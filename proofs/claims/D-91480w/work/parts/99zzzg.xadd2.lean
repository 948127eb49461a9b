set_option maxRecDepth 100000
/-! a list grows: how much at most -/
section
variable {K : am_K} {h : am_H}
theorem c_grow2 {l : Nat} {d : Nat} (v : xLm h l) (hN : (am_ln h (am_fr h 194 l)) ≤ 600) (H : ∀ (h' : am_H) (m : Int), (am_ln h (am_fr h 194 l)) < m → m ≤ 1000 → 3 * (am_ln h (am_fr h 194 l)) ≤ 2 * m + 1 → (m = 10 ∨ 2 * m ≤ 3 * (am_ln h (am_fr h 194 l)) + 1) → fx (fun q => q = l) h h' → am_sz h' = am_sz h + 1 → am_us h' = am_us h + m.toNat → am_fr h' 194 l = am_sz h + 1 → am_ty h' (am_sz h + 1) = 114 → am_ln h' (am_sz h + 1) = m → (∀ k, 0 ≤ k → k < (am_ln h (am_fr h 194 l)) → am_ar h' (am_sz h + 1) k = am_ar h (am_fr h 194 l) k) → (∀ f, am_fi h' f l = am_fi h f l) → K (.inl (some (.inr (.inl (am_sz h + 1))))) h') : am_ev am_prog (d + 6) 291 [.inr (.inl l), .inl ((am_ln h (am_fr h 194 l)) + 1)] h K := by
  obtain ⟨⟨v1, v2, v3, v4, v5, v6⟩, v7, v8, v9⟩ := v
  have eG : am_shrz (am_ln h (am_fr h 194 l)) 1 = (am_ln h (am_fr h 194 l)) / 2 := am_shr1 (by omega)
  have go : ∀ m : Int, (am_ln h (am_fr h 194 l)) < m → m ≤ 1000 → 3 * (am_ln h (am_fr h 194 l)) ≤ 2 * m + 1 → (m = 10 ∨ 2 * m ≤ 3 * (am_ln h (am_fr h 194 l)) + 1) → K (.inl (some (.inr (.inl (am_sz h + 1))))) (am_sfr (am_war (am_new h 114 m.toNat) (am_sz h + 1) (am_cpy (am_ar h (am_fr h 194 l)) (fun _ => 0) 0 0 (am_ln h (am_fr h 194 l)))) 194 l (am_sz h + 1)) := by
    intro m m1 m2 m3 m4
    refine H _ m m1 m2 m3 m4 (fx_sfr (fx_war (fx_new fx_refl) (Or.inl (by omega))) (Or.inr rfl)) rfl rfl x_fre (x_tyn0 (h := h) (t := 114) (n := m.toNat) rfl) ((x_lnn0 (h := h) (t := 114) (n := m.toNat) rfl).trans (by omega)) ?_ (fun f => x_fin (h := h) (t := 114) (n := m.toNat) v5)
    intro k k1 k2
    have e : am_ar (am_sfr (am_war (am_new h 114 m.toNat) (am_sz h + 1) (am_cpy (am_ar h (am_fr h 194 l)) (fun _ => 0) 0 0 (am_ln h (am_fr h 194 l)))) 194 l (am_sz h + 1)) (am_sz h + 1) = am_cpy (am_ar h (am_fr h 194 l)) (fun _ => 0) 0 0 (am_ln h (am_fr h 194 l)) := x_arwe
    rw [e]
    unfold am_cpy
    rw [if_pos (by omega)]
    congr 1
    omega
  refine am_en p_J6_grow rfl rfl (v_J6_grow_0 ?_)
  rw [eG]
  refine ⟨⟨v1, v2⟩, fun c => ⟨by omega, fun c1 => ⟨by omega, fun c2 => by omega, fun c2 => ⟨fun c3 => by omega, fun c3 => ⟨by omega, v6, fun c4 => absurd c4 (by omega), fun c4 => ⟨by omega, v5, go _ (by omega) (by omega) (by omega) (by omega)⟩⟩⟩⟩, fun c1 => ⟨by omega, fun c2 => by omega, fun c2 => ⟨fun c3 => by omega, fun c3 => ⟨by omega, v6, fun c4 => absurd c4 (by omega), fun c4 => ⟨by omega, v5, go _ (by omega) (by omega) (by omega) (by omega)⟩⟩⟩⟩⟩, fun c => ⟨fun c1 => ⟨fun c2 => absurd c2 (by omega), fun c2 => ⟨v5, ?_⟩⟩, fun c1 => absurd (v8 (by omega)) c1⟩⟩
  refine H _ 10 (by omega) (by omega) (by omega) (Or.inl rfl) (fx_sfr (fx_new fx_refl) (Or.inr rfl)) rfl rfl x_fre (x_tyn0 (h := h) (t := 114) (n := 10) rfl) (x_lnn0 (h := h) (t := 114) (n := 10) rfl) (fun k k1 k2 => absurd k2 (by omega)) (fun f => x_fin (h := h) (t := 114) (n := 10) v5)
theorem c_add2 {l e : Nat} {d : Nat} (v : xLm h l) (hN : am_fi h 195 l = (am_ln h (am_fr h 194 l)) → (am_ln h (am_fr h 194 l)) ≤ 600) (he : e ≠ 0 ∧ am_tin [8, 11, 19, 22, 23, 24, 25, 27, 115] (am_ty h e)) (hes : e ≤ am_sz h) (hm : 0 ≤ am_fi h 193 l ∧ am_fi h 193 l ≤ 1000000) (H : ∀ h', fx (fun q => q = l ∨ (q = (am_fr h 194 l) ∧ am_fi h 195 l < (am_ln h (am_fr h 194 l)))) h h' → xLm h' l → am_fi h' 195 l = am_fi h 195 l + 1 → am_fi h' 193 l = am_fi h 193 l + 1 → (∀ k, 0 ≤ k → k < am_fi h 195 l → am_ar h' (am_fr h' 194 l) k = am_ar h (am_fr h 194 l) k) → am_ar h' (am_fr h' 194 l) (am_fi h 195 l) = e → (am_fr h' 194 l = (am_fr h 194 l) ∨ am_sz h < am_fr h' 194 l) → (am_sz h' : Int) + (am_ln h (am_fr h 194 l)) ≤ am_sz h + am_ln h' (am_fr h' 194 l) → (am_us h' : Int) + 5 * (am_ln h (am_fr h 194 l)) ≤ am_us h + 5 * am_ln h' (am_fr h' 194 l) → (am_ln h' (am_fr h' 194 l) = (am_ln h (am_fr h 194 l)) ∨ (am_fi h 195 l = (am_ln h (am_fr h 194 l)) ∧ (am_ln h (am_fr h 194 l)) < am_ln h' (am_fr h' 194 l))) → am_sz h' ≤ am_sz h + 1 → (am_ln h' (am_fr h' 194 l) = (am_ln h (am_fr h 194 l)) ∨ am_ln h' (am_fr h' 194 l) = 10 ∨ 2 * am_ln h' (am_fr h' 194 l) ≤ 3 * am_fi h 195 l + 1) → K (.inl (some (.inl (1)))) h') : am_ev am_prog (d + 9) 205 [.inr (.inl l), .inr (.inl e)] h K := by
  have v' := v
  obtain ⟨⟨v1, v2, v3, v4, v5, v6⟩, v7, v8, v9⟩ := v
  have nlA : (am_fr h 194 l) ≠ l := fun q => by rw [q, v1] at v2; omega
  refine am_en p_J6_add rfl rfl (v_J6_add_0 ⟨⟨v1, by omega⟩, ?_⟩)
  refine am_en p_J6_add_2 rfl rfl (v_J6_add_2_0 ⟨v2, fun c => ?_, fun c => ?_⟩)
  · have c' : am_fi h 195 l ≠ (am_ln h (am_fr h 194 l)) := c
    have t1 := v9 (by omega)
    refine ⟨⟨t1, Or.inr he.2, show 0 ≤ am_fi h 195 l ∧ am_fi h 195 l < (am_ln h (am_fr h 194 l)) by omega⟩, ⟨by omega, v1⟩, am_an (v_J6_add_13 ?_)⟩
    have ea : am_ar (am_sfi (am_sar (am_sfi h 193 l (am_fi h 193 l + 1)) (am_fr h 194 l) (am_fi h 195 l) e) 195 l (am_fi h 195 l + 1)) (am_fr h 194 l) = am_uz (am_ar h (am_fr h 194 l)) (am_fi h 195 l) e := x_arse (h := am_sfi h 193 l (am_fi h 193 l + 1))
    have e5 : am_fi (am_sfi (am_sar (am_sfi h 193 l (am_fi h 193 l + 1)) (am_fr h 194 l) (am_fi h 195 l) e) 195 l (am_fi h 195 l + 1)) 195 l = am_fi h 195 l + 1 := x_fie
    have e3 : am_fi (am_sfi (am_sar (am_sfi h 193 l (am_fi h 193 l + 1)) (am_fr h 194 l) (am_fi h 195 l) e) 195 l (am_fi h 195 l + 1)) 193 l = am_fi h 193 l + 1 := (x_fif (by decide)).trans (show am_fi (am_sfi h 193 l (am_fi h 193 l + 1)) 193 l = _ from x_fie)
    refine H _ (fx_sfi (fx_sar (fx_sfi fx_refl (Or.inr (Or.inl rfl))) (Or.inr (Or.inr ⟨rfl, by omega⟩))) (Or.inr (Or.inl rfl))) ?_ e5 e3 ?_ ?_ (Or.inl rfl) (by show (am_sz h : Int) + (am_ln h (am_fr h 194 l)) ≤ am_sz h + (am_ln h (am_fr h 194 l)); omega) (by show (am_us h : Int) + 5 * (am_ln h (am_fr h 194 l)) ≤ am_us h + 5 * (am_ln h (am_fr h 194 l)); omega) (Or.inl rfl) (Nat.le_succ _) (Or.inl rfl)
    · refine ⟨⟨v1, v2, ?_, v4, v5, v6⟩, v7, v8, v9⟩
      rw [e5]
      show 0 ≤ am_fi h 195 l + 1 ∧ am_fi h 195 l + 1 ≤ (am_ln h (am_fr h 194 l))
      omega
    · intro k k1 k2
      show am_ar (am_sfi (am_sar (am_sfi h 193 l (am_fi h 193 l + 1)) (am_fr h 194 l) (am_fi h 195 l) e) 195 l (am_fi h 195 l + 1)) (am_fr h 194 l) k = _
      rw [ea, am_uz_ne (by omega)]
    · show am_ar (am_sfi (am_sar (am_sfi h 193 l (am_fi h 193 l + 1)) (am_fr h 194 l) (am_fi h 195 l) e) 195 l (am_fi h 195 l + 1)) (am_fr h 194 l) (am_fi h 195 l) = _
      rw [ea, am_uz_eq]
  · have c' : am_fi h 195 l = (am_ln h (am_fr h 194 l)) := c
    refine ⟨v1, ?_⟩
    have vS : xLm (am_sfi h 193 l (am_fi h 193 l + 1)) l := by
      refine ⟨⟨v1, v2, ?_, v4, v5, v6⟩, v7, v8, v9⟩
      rw [x_fif (by decide : (195 : Nat) ≠ 193)]
      exact v3
    have e195 : am_fi (am_sfi h 193 l (am_fi h 193 l + 1)) 195 l = (am_ln h (am_fr h 194 l)) := (x_fif (by decide : (195 : Nat) ≠ 193)).trans c'
    refine am_en p_J6_grow_2 rfl rfl (v_J6_grow_2_0 ⟨⟨v1, by rw [e195]; omega⟩, ?_⟩)
    rw [e195]
    refine c_grow2 vS (hN c') (fun h' m m1 m2 m3 m4 f z u a t n el fi => am_av (v_J6_grow_2_6 (am_av ?_)))
    have zs : am_sz (am_sfi h 193 l (am_fi h 193 l + 1)) = am_sz h := rfl
    have te : am_ty h' e = am_ty h e := (f.2.2.2 e hes).1
    have tl : am_ty h' l = 31 := (f.2.2.2 l v5).1.trans v1
    have m1' : (am_ln h (am_fr h 194 l)) < m := m1
    have m3' : 3 * (am_ln h (am_fr h 194 l)) ≤ 2 * m + 1 := m3
    have m4' : m = 10 ∨ 2 * m ≤ 3 * (am_ln h (am_fr h 194 l)) + 1 := m4
    have t' : am_ty h' (am_sz h + 1) = 114 := t
    refine v_J6_add_2_6 ⟨⟨t, Or.inr (by rw [te]; exact he.2), by rw [n]; omega⟩, ⟨by omega, tl⟩, am_an (v_J6_add_13 ?_)⟩
    show K (.inl (some (.inl (1)))) (am_sfi (am_sar h' (am_sz h + 1) (am_fi h 195 l) e) 195 l (am_fi h 195 l + 1))
    have nl : am_sz h + 1 ≠ l := by omega
    have fa : fx (fun q => q = l ∨ (q = (am_fr h 194 l) ∧ am_fi h 195 l < (am_ln h (am_fr h 194 l)))) h h' := fx_trans2 (fx_sfi fx_refl (Or.inr (Or.inl rfl))) f (fun q _ e => Or.inl e)
    have ea : am_ar (am_sfi (am_sar h' (am_sz h + 1) (am_fi h 195 l) e) 195 l (am_fi h 195 l + 1)) (am_sz h + 1) = am_uz (am_ar h' (am_sz h + 1)) (am_fi h 195 l) e := x_arse (h := h')
    have e5 : am_fi (am_sfi (am_sar h' (am_sz h + 1) (am_fi h 195 l) e) 195 l (am_fi h 195 l + 1)) 195 l = am_fi h 195 l + 1 := x_fie
    have e3 : am_fi (am_sfi (am_sar h' (am_sz h + 1) (am_fi h 195 l) e) 195 l (am_fi h 195 l + 1)) 193 l = am_fi h 193 l + 1 := (x_fif (by decide)).trans (show am_fi h' 193 l = _ from (fi 193).trans x_fie)
    have a' : am_fr (am_sfi (am_sar h' (am_sz h + 1) (am_fi h 195 l) e) 195 l (am_fi h 195 l + 1)) 194 l = am_sz h + 1 := a
    have n' : am_ln (am_sfi (am_sar h' (am_sz h + 1) (am_fi h 195 l) e) 195 l (am_fi h 195 l + 1)) (am_sz h + 1) = m := n
    have z' : am_sz (am_sfi (am_sar h' (am_sz h + 1) (am_fi h 195 l) e) 195 l (am_fi h 195 l + 1)) = am_sz h + 1 := z
    have u' : am_us (am_sfi (am_sar h' (am_sz h + 1) (am_fi h 195 l) e) 195 l (am_fi h 195 l + 1)) = am_us h + m.toNat := u
    have fe : ∀ k, 0 ≤ k → k < (am_ln h (am_fr h 194 l)) → am_ar h' (am_sz h + 1) k = am_ar h (am_fr h 194 l) k := el
    refine H _ (fx_sfi (fx_sar fa (Or.inl (by omega))) (Or.inr (Or.inl rfl))) ?_ e5 e3 ?_ ?_ ?_ ?_ ?_ ?_ ?_ ?_
    · unfold xLm xL
      rw [a', n', e5, z']
      refine ⟨⟨tl, Or.inl t', by omega, by omega, by omega, Nat.le_refl _⟩, m2, fun q => absurd q (by omega), fun _ => t'⟩
    · intro k k1 k2
      rw [a', ea, am_uz_ne (by omega)]
      exact fe k k1 (by omega)
    · rw [a', ea, am_uz_eq]
    · rw [a']
      right
      omega
    · rw [a', n', z']
      omega
    · rw [a', n', u']
      omega
    · rw [a', n']
      exact Or.inr ⟨c', m1'⟩
    · rw [z']
      exact Nat.le_refl _
    · rw [a', n']
      omega
end
