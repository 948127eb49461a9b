set_option maxRecDepth 100000
/-! going through a list -/
/-- behind h an iterator over l: the next one k, the last one z -/
def itH (h : am_H) (l : Nat) (k z : Int) : am_H := am_sfi (am_sfi (am_sfi (am_sfr (am_new h 38 4) 199 (am_sz h + 1) l) 198 (am_sz h + 1) (am_fi h 193 l)) 196 (am_sz h + 1) k) 197 (am_sz h + 1) z
theorem up_cm {α : Type} {f : Nat → α} {i j : Nat} {x y : α} (e : i ≠ j) : am_up (am_up f i x) j y = am_up (am_up f j y) i x := by
  funext q
  unfold am_up
  by_cases a : q = j
  · subst a
    rw [if_pos rfl, if_neg (Ne.symm e), if_pos rfl]
  · rw [if_neg a]
    by_cases b : q = i
    · rw [if_pos b, if_pos b]
    · rw [if_neg b, if_neg b, if_neg a]
theorem sfi_cm {h : am_H} {f g r q : Nat} {x y : Int} (e : f ≠ g) : am_sfi (am_sfi h f r x) g q y = am_sfi (am_sfi h g q y) f r x := by
  unfold am_sfi
  simp only [Prod.mk.injEq, true_and, and_true]
  rw [up_cm e]
  have e1 : am_up h.2.2.2.2.1 f (am_up (h.2.2.2.2.1 f) r x) g = h.2.2.2.2.1 g := if_neg (Ne.symm e)
  have e2 : am_up h.2.2.2.2.1 g (am_up (h.2.2.2.2.1 g) q y) f = h.2.2.2.2.1 f := if_neg e
  rw [e1, e2]
theorem sfi_sfi {h : am_H} {f r : Nat} {x y : Int} : am_sfi (am_sfi h f r x) f r y = am_sfi h f r y := by
  unfold am_sfi
  simp only [Prod.mk.injEq, true_and, and_true]
  have e1 : am_up h.2.2.2.2.1 f (am_up (h.2.2.2.2.1 f) r x) f = am_up (h.2.2.2.2.1 f) r x := if_pos rfl
  rw [e1, am_up_up, am_up_up]
theorem sfi_id {h : am_H} {f r : Nat} {x : Int} (e : am_fi h f r = x) : am_sfi h f r x = h := by
  have e1 : am_up (h.2.2.2.2.1 f) r x = h.2.2.2.2.1 f := by
    funext q
    unfold am_up
    by_cases a : q = r
    · rw [if_pos a, a, ← e]
      rfl
    · rw [if_neg a]
  have e2 : am_up h.2.2.2.2.1 f (h.2.2.2.2.1 f) = h.2.2.2.2.1 := by
    funext q
    unfold am_up
    by_cases a : q = f
    · rw [if_pos a, a]
    · rw [if_neg a]
  unfold am_sfi
  rw [e1, e2]
section
variable {K : am_K} {h : am_H}
variable {l : Nat} {k z : Int}
theorem it_0 : am_sfi (am_sfi (am_sfr (am_new h 38 4) 199 (am_sz h + 1) l) 197 (am_sz h + 1) (-1)) 198 (am_sz h + 1) (am_fi h 193 l) = itH h l 0 (-1) := by
  unfold itH
  rw [sfi_cm (by decide : (197 : Nat) ≠ 198)]
  have e : am_sfi (am_sfi (am_sfr (am_new h 38 4) 199 (am_sz h + 1) l) 198 (am_sz h + 1) (am_fi h 193 l)) 196 (am_sz h + 1) 0 = am_sfi (am_sfr (am_new h 38 4) 199 (am_sz h + 1) l) 198 (am_sz h + 1) (am_fi h 193 l) := sfi_id ((x_fif (by decide : (196 : Nat) ≠ 198)).trans (x_fin0 (h := h) (t := 38) (n := 4) rfl))
  rw [e]
theorem it_next : am_sfi (am_sfi (itH h l k z) 196 (am_sz h + 1) (k + 1)) 197 (am_sz h + 1) k = itH h l (k + 1) k := by
  unfold itH
  rw [sfi_cm (by decide : (197 : Nat) ≠ 196), sfi_sfi, sfi_sfi]
theorem it_196 : am_fi (itH h l k z) 196 (am_sz h + 1) = k := (x_fif (by decide : (196 : Nat) ≠ 197)).trans x_fie
theorem it_198 : am_fi (itH h l k z) 198 (am_sz h + 1) = am_fi h 193 l := (x_fif (by decide : (198 : Nat) ≠ 197)).trans ((x_fif (by decide : (198 : Nat) ≠ 196)).trans x_fie)
theorem it_199 : am_fr (itH h l k z) 199 (am_sz h + 1) = l := x_fre
theorem it_ty : am_ty (itH h l k z) (am_sz h + 1) = 38 := x_tyn0 (h := h) (t := 38) (n := 4) rfl
theorem it_sz : am_sz (itH h l k z) = am_sz h + 1 := rfl
theorem it_us : am_us (itH h l k z) = am_us h + 4 := rfl
theorem it_fx : fx (fun _ => False) h (itH h l k z) := fx_sfi (fx_sfi (fx_sfi (fx_sfr (fx_new fx_refl) (Or.inl (by omega))) (Or.inl (by omega))) (Or.inl (by omega))) (Or.inl (by omega))
theorem it_old {q : Nat} (e : q ≤ am_sz h) : am_ty (itH h l k z) q = am_ty h q ∧ am_ln (itH h l k z) q = am_ln h q ∧ (∀ f, am_fi (itH h l k z) f q = am_fi h f q) ∧ (∀ f, am_fr (itH h l k z) f q = am_fr h f q) ∧ am_ai (itH h l k z) q = am_ai h q ∧ am_ar (itH h l k z) q = am_ar h q :=
  have a := it_fx (h := h) (l := l) (k := k) (z := z) |>.2.2.2 q e
  ⟨a.1, a.2.1, a.2.2 id⟩
theorem it_xL (v : xL h l) : xL (itH h l k z) l := by
  obtain ⟨v1, v2, v3, v4, v5, v6⟩ := v
  obtain ⟨a1, a2, a3, a4, a5, a6⟩ := it_old (l := l) (k := k) (z := z) v5
  obtain ⟨b1, b2, b3, b4, b5, b6⟩ := it_old (l := l) (k := k) (z := z) v6
  unfold xL
  rw [a1, a4, b1, a3, b2]
  exact ⟨v1, v2, v3, v4, Nat.le_succ_of_le v5, Nat.le_succ_of_le v6⟩
theorem it_xI (v : xL h l) (hk : 0 ≤ k ∧ k < am_fi h 195 l) : xI (itH h l k z) (am_sz h + 1) := by
  have v5 := v.2.2.2.2.1
  obtain ⟨a1, a2, a3, a4, a5, a6⟩ := it_old (l := l) (k := k) (z := z) v5
  unfold xI
  rw [it_199, it_ty, it_196, it_198, a3, a3]
  exact ⟨rfl, it_xL v, rfl, hk⟩
theorem c_iterator {d : Nat} (v1 : am_ty h l = 31) (v2 : l ≤ am_sz h) (H : K (.inl (some (.inr (.inl (am_sz h + 1))))) (itH h l 0 (-1))) : am_ev am_prog (d + 6) 104 [.inr (.inl l)] h K := by
  refine am_en p_J6_iterator rfl rfl (v_J6_iterator_0 ⟨⟨v2, v1⟩, ?_⟩)
  rw [it_0]
  exact H
/-- the style of a minute -/
theorem x_style {N : Nat} {g : Int → Int} {mi : Int} {D : Nat} (hD : 13 ≤ D) (h1 : am_ty h N = 3) (h2 : N ≤ am_sz h) (h3 : am_fr h 22 N = l) (hl : xL h l) (he : ∀ k, 0 ≤ k → k < am_fi h 195 l → am_ty h (am_ar h (am_fr h 194 l) k) = 19 ∧ am_ar h (am_fr h 194 l) k ≠ 0 ∧ am_ar h (am_fr h 194 l) k ≤ am_sz h ∧ am_fi h 133 (am_ar h (am_fr h 194 l) k) = g k) (H : ∀ h', fx (fun _ => False) h h' → am_sz h' = am_sz h + 1 → am_us h' = am_us h + 4 → K (.inl (some (.inr (.inl (if stI g mi (am_fi h 195 l).toNat = -1 then 0 else am_ar h (am_fr h 194 l) (stI g mi (am_fi h 195 l).toNat)))))) h') : am_ev am_prog D 117 [.inr (.inl N), .inl mi] h K := by
  have hl' := hl
  obtain ⟨v1, v2, v3, v4, v5, v6⟩ := hl'
  obtain ⟨d, rfl⟩ : ∃ d, D = d + 13 := ⟨D - 13, by omega⟩
  refine am_en p_X3_style rfl rfl ?_
  refine v_X3_style_0 ⟨h1, by rw [h3]; exact v1, ?_⟩
  rw [h3]
  refine c_iterator v1 v5 (am_av (v_X3_style_5 ?_))
  have main : ∀ k, 0 ≤ k → k ≤ am_fi h 195 l → ∀ z o4, am_W m_X3_style (am_ev am_prog (d + 12)) K 6 [some (.inr (.inl (N))), some (.inl (mi)), some (.inr (.inl (if stI g mi k.toNat = -1 then 0 else am_ar h (am_fr h 194 l) (stI g mi k.toNat)))), some (.inr (.inl (am_sz h + 1))), o4] [] (itH h l k z) := by
    refine lp_z ?_ ?_
    · intro k g1 g2 hL z o4
      have e1 : (k + 1).toNat = k.toNat + 1 := by omega
      have e2 : ((k.toNat : Nat) : Int) = k := by omega
      have e3 := stI_bd (g := g) (mi := mi) k.toNat
      rw [e2] at e3
      obtain ⟨y1, y2, y3, y4⟩ := he k g1 g2
      obtain ⟨a1, a2, a3, a4, a5, a6⟩ := it_old (h := h) (l := l) (k := k) (z := z) v5
      obtain ⟨b1, b2, b3, b4, b5, b6⟩ := it_old (h := h) (l := l) (k := k) (z := z) v6
      obtain ⟨c1, c2, c3, c4, c5, c6⟩ := it_old (h := h) (l := l) (k := k) (z := z) y3
      rw [e1] at hL
      have eq : stI g mi (k.toNat + 1) = if g k ≤ mi ∧ (stI g mi k.toNat = -1 ∨ g (stI g mi k.toNat) ≤ g k) then k else stI g mi k.toNat := by
        show (if g ((k.toNat : Nat) : Int) ≤ mi ∧ (stI g mi k.toNat = -1 ∨ g (stI g mi k.toNat) ≤ g ((k.toNat : Nat) : Int)) then ((k.toNat : Nat) : Int) else stI g mi k.toNat) = _
        rw [e2]
      refine v_X3_style_6 ⟨it_ty, by rw [it_199, a1]; exact v1, ?_⟩
      rw [it_199, it_196, a3 195]
      refine ⟨fun c => absurd c (by omega), fun _ => ⟨it_xI hl ⟨g1, g2⟩, ?_⟩⟩
      rw [a4 194, b6, it_next, c1, c3 133, y4]
      refine ⟨Or.inr y1, y1, fun c => ?_, fun c => ⟨fun d => ?_, fun d => ?_⟩⟩
      · rw [eq.trans (if_neg (fun w => absurd w.1 (by omega)))] at hL
        exact hL _ _
      · have e4 : stI g mi k.toNat = -1 := by
          by_cases w : stI g mi k.toNat = -1
          · exact w
          · rw [if_neg w] at d
            exact absurd d (he _ (by omega) (by omega)).2.1
        rw [eq.trans (if_pos ⟨c, Or.inl e4⟩), if_neg (show ¬ (k = -1) by omega)] at hL
        exact hL _ _
      · have e4 : stI g mi k.toNat ≠ -1 := fun w => d (if_pos w)
        obtain ⟨w1, w2, w3, w4⟩ := he (stI g mi k.toNat) (by omega) (by omega)
        obtain ⟨d1, d2, d3, d4, d5, d6⟩ := it_old (h := h) (l := l) (k := k) (z := z) w3
        rw [if_neg e4, d1, d3 133, w4]
        refine ⟨w1, fun c5 => ?_, fun c5 => ?_⟩
        · rw [eq.trans (if_neg (fun w => w.2.elim e4 (fun w => absurd w (by omega)))), if_neg e4] at hL
          exact hL _ _
        · rw [eq.trans (if_pos ⟨c, Or.inr c5⟩), if_neg (show ¬ (k = -1) by omega)] at hL
          exact hL _ _
    · intro z o4
      obtain ⟨a1, a2, a3, a4, a5, a6⟩ := it_old (h := h) (l := l) (k := am_fi h 195 l) (z := z) v5
      refine v_X3_style_6 ⟨it_ty, by rw [it_199, a1]; exact v1, ?_⟩
      rw [it_199, it_196, a3 195]
      exact ⟨fun _ => H _ it_fx it_sz it_us, fun c => absurd rfl c⟩
  exact main 0 (by omega) v3.1 _ _
end
