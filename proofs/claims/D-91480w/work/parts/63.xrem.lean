set_option maxRecDepth 100000
section
variable {K : am_K} {h : am_H}
/-- the first one of a list is taken out -/
theorem c_rem0 {l : Nat} {d : Nat} (v : xLm h l) (hn : 0 < (am_fi h 195 l)) (hm : 0 ≤ am_fi h 193 l ∧ am_fi h 193 l ≤ 1000000) (H : ∀ h', fx (fun q => q = l ∨ q = (am_fr h 194 l)) h h' → am_sz h' = am_sz h → am_us h' = am_us h → xLm h' l → am_fr h' 194 l = (am_fr h 194 l) → am_fi h' 195 l = (am_fi h 195 l) - 1 → am_fi h' 193 l = am_fi h 193 l + 1 → (∀ k, 0 ≤ k → k < (am_fi h 195 l) - 1 → am_ar h' (am_fr h 194 l) k = am_ar h (am_fr h 194 l) (k + 1)) → K (.inl (some (.inr (.inl (am_ar h (am_fr h 194 l) 0))))) h') : am_ev am_prog (d + 6) 349 [.inr (.inl l), .inl 0] h K := by
  obtain ⟨⟨v1, v2, v3, v4, v5, v6⟩, v7, v8, v9⟩ := v
  have t1 := v9 (by omega)
  have fin : ∀ h', fx (fun q => q = l ∨ q = (am_fr h 194 l)) h h' → am_sz h' = am_sz h → am_us h' = am_us h → am_fr h' 194 l = (am_fr h 194 l) → am_fi h' 195 l = (am_fi h 195 l) - 1 → am_fi h' 193 l = am_fi h 193 l + 1 → (∀ k, 0 ≤ k → k < (am_fi h 195 l) - 1 → am_ar h' (am_fr h 194 l) k = am_ar h (am_fr h 194 l) (k + 1)) → K (.inl (some (.inr (.inl (am_ar h (am_fr h 194 l) 0))))) h' := by
    intro h' f z u a e5 e3 el
    refine H h' f z u ?_ a e5 e3 el
    obtain ⟨b1, b2, b3⟩ := f.2.2.2 l v5
    obtain ⟨c1, c2, c3⟩ := f.2.2.2 _ v6
    unfold xLm xL
    rw [a, b1, c1, c2, e5, z, f.2.2.1]
    exact ⟨⟨v1, v2, by omega, v4, v5, v6⟩, v7, v8, v9⟩
  refine am_en p_J6_remove rfl rfl (v_J6_remove_0 ⟨v1, fun c => absurd c (by omega), fun _ => ⟨fun _ => ⟨⟨v2, by omega⟩, by omega, by omega, fun c => ⟨⟨t1, by omega⟩, ?_⟩, fun c => ⟨⟨by omega, by omega, t1, by omega⟩, by omega, ?_⟩⟩, fun c => absurd c (by omega)⟩⟩)
  · exact fin _ (fx_sar (fx_sfi (fx_sfi fx_refl (Or.inr (Or.inl rfl))) (Or.inr (Or.inl rfl))) (Or.inr (Or.inr rfl))) rfl rfl rfl (show am_fi (am_sfi (am_sfi h 193 l (am_fi h 193 l + 1)) 195 l ((am_fi h 195 l) - 1)) 195 l = _ from x_fie) (show am_fi (am_sfi (am_sfi h 193 l (am_fi h 193 l + 1)) 195 l ((am_fi h 195 l) - 1)) 193 l = _ from (x_fif (by decide)).trans x_fie) (fun k k1 k2 => absurd k2 (by omega))
  · refine fin _ (fx_sar (fx_sfi (fx_war (fx_sfi fx_refl (Or.inr (Or.inl rfl))) (Or.inr (Or.inr rfl))) (Or.inr (Or.inl rfl))) (Or.inr (Or.inr rfl))) rfl rfl rfl (show am_fi (am_sfi (am_war (am_sfi h 193 l (am_fi h 193 l + 1)) (am_fr h 194 l) (am_cpy (am_ar h (am_fr h 194 l)) (am_ar h (am_fr h 194 l)) (0 + 1) 0 ((am_fi h 195 l) - 1 - 0))) 195 l ((am_fi h 195 l) - 1)) 195 l = _ from x_fie) (show am_fi (am_sfi (am_war (am_sfi h 193 l (am_fi h 193 l + 1)) (am_fr h 194 l) (am_cpy (am_ar h (am_fr h 194 l)) (am_ar h (am_fr h 194 l)) (0 + 1) 0 ((am_fi h 195 l) - 1 - 0))) 195 l ((am_fi h 195 l) - 1)) 193 l = _ from (x_fif (by decide)).trans (show am_fi (am_sfi h 193 l (am_fi h 193 l + 1)) 193 l = _ from x_fie)) ?_
    intro k k1 k2
    have e1 : am_ar (am_sar (am_sfi (am_war (am_sfi h 193 l (am_fi h 193 l + 1)) (am_fr h 194 l) (am_cpy (am_ar h (am_fr h 194 l)) (am_ar h (am_fr h 194 l)) (0 + 1) 0 ((am_fi h 195 l) - 1 - 0))) 195 l ((am_fi h 195 l) - 1)) (am_fr h 194 l) ((am_fi h 195 l) - 1) 0) (am_fr h 194 l) = am_uz (am_cpy (am_ar h (am_fr h 194 l)) (am_ar h (am_fr h 194 l)) (0 + 1) 0 ((am_fi h 195 l) - 1 - 0)) ((am_fi h 195 l) - 1) 0 := by
      rw [x_arse]
      show am_uz (am_ar (am_war (am_sfi h 193 l (am_fi h 193 l + 1)) (am_fr h 194 l) (am_cpy (am_ar h (am_fr h 194 l)) (am_ar h (am_fr h 194 l)) (0 + 1) 0 ((am_fi h 195 l) - 1 - 0))) (am_fr h 194 l)) ((am_fi h 195 l) - 1) 0 = _
      rw [x_arwe]
    rw [e1, am_uz_ne (by omega)]
    unfold am_cpy
    rw [if_pos (by omega)]
    congr 1
    omega
/-- the slug at a place says what the line says, and is of its face -/
theorem x_isRight {N t l : Nat} {S : am_G} {p k : Int} {D : Nat} (hD : 13 ≤ D) (h1 : am_ty h N = 3) (h3 : am_fr h 25 N = l) (hl : xL h l) (hl2 : am_fi h 195 l = S 0 0 4) (ht : am_ty h t = 9) (hf : am_fi h 111 t = S 2 0 (p / 5)) (hpl : am_ty h (am_fr h 118 t) = 101 ∧ am_ln h (am_fr h 118 t) = S 3 p 4 ∧ am_ai h (am_fr h 118 t) k = S 3 p (45 + k) - 1) (hli : am_ty h (am_fr h 117 t) = 116 ∧ am_ln h (am_fr h 117 t) = S 3 p 4 ∧ xSl h (am_ar h (am_fr h 117 t) k) (lnS (S 3 p) k)) (hk : 0 ≤ k ∧ k < S 3 p 4) (hs : 0 ≤ S 3 p (45 + k) ∧ S 3 p (45 + k) ≤ S 0 0 4) (he : ∀ s, 0 ≤ s → s < S 0 0 4 → (am_ty h (am_ar h (am_fr h 194 l) s) = 23 ∨ am_ty h (am_ar h (am_fr h 194 l) s) = 24) ∧ am_fi h 159 (am_ar h (am_fr h 194 l) s) = S 2 0 (S 4 s 0 / 5) ∧ xSc h (am_fr h 164 (am_ar h (am_fr h 194 l) s)) (S 4 s 9) (fun j => S 4 s (432 + j))) (H1 : rgt S p k → K (.inl (some (.inl (1)))) h) (H0 : ¬ rgt S p k → K (.inl (some (.inl (0)))) h) : am_ev am_prog D 231 [.inr (.inl N), .inr (.inl t), .inl k] h K := by
  have tl := hl.1
  obtain ⟨d, rfl⟩ : ∃ d, D = d + 13 := ⟨D - 13, by omega⟩
  refine am_en p_X3_isRight rfl rfl ?_
  refine v_X3_isRight_0 ⟨⟨ht, Or.inl hpl.1, by rw [hpl.2.1]; exact hk⟩, ?_⟩
  rw [hpl.2.2, h3, hl2, hf, hli.2.1]
  refine ⟨fun c => ⟨h1, tl, ⟨hl, by omega⟩, ?_⟩, fun c => H0 (fun z => z.1 (by omega))⟩
  obtain ⟨y1, y2, y3⟩ := he (S 3 p (45 + k) - 1) c (by omega)
  rw [y2]
  refine ⟨⟨Or.inr y1, y1⟩, fun c2 => H0 (fun z => c2 z.2.2.1), fun c2 => ⟨⟨hli.1, hk⟩, y3.1.1, ?_⟩⟩
  have key : xEq h (am_fr h 164 (am_ar h (am_fr h 194 l) (S 3 p (45 + k) - 1))) (am_ar h (am_fr h 117 t) k) ↔ rgt S p k := by
    unfold xEq rgt
    rw [y3.2.1, hli.2.2.2.1]
    constructor
    · intro z
      refine ⟨by omega, z.1, c2, fun j hj => ?_⟩
      have z1 := z.2 j (by omega) (by omega)
      have z2 := y3.2.2 j (by omega) (by omega)
      have z3 := hli.2.2.2.2 j hj
      rw [z2, z3] at z1
      exact z1
    · intro z
      refine ⟨z.2.1, fun j j1 j2 => ?_⟩
      have ej : ((j.toNat : Nat) : Int) = j := by omega
      have z1 := z.2.2.2 j.toNat (by omega)
      have z2 := y3.2.2 j j1 j2
      have z3 := hli.2.2.2.2 j.toNat (by omega)
      rw [ej] at z1 z3
      rw [z2, z3]
      exact z1
  refine c_equals y3.1 hli.2.2.1 (fun e => am_av (v_X3_isRight_28 ⟨fun q => absurd q (by decide), fun _ => H1 (key.mp e)⟩)) (fun e => am_av (v_X3_isRight_28 ⟨fun _ => H0 (fun z => e (key.mpr z)), fun q => absurd rfl q⟩))
end
