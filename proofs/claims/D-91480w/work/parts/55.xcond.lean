set_option maxRecDepth 100000
/-! conditions of the component -/
/-- facts: tags tg, numbers fc -/
def xF (h : am_H) (f : Nat) (tg fc : Int → Int) : Prop := am_ty h f = 20 ∧ (am_fi h 135 f = tg 0 ∧ am_fi h 136 f = tg 1 ∧ am_fi h 137 f = tg 2) ∧ (am_fi h 138 f = fc 0 ∧ am_fi h 139 f = fc 1 ∧ am_fi h 140 f = fc 2 ∧ am_fi h 141 f = fc 3 ∧ am_fi h 142 f = fc 4 ∧ am_fi h 143 f = fc 5) ∧ ∀ i, 0 ≤ i → i < 3 → tg i = 0 ∨ tg i = 1
/-- condition c, at most n deep, answers val -/
def xCd (h : am_H) : Nat → Nat → ((Int → Int) → (Int → Int) → Int) → Prop
  | 0, _, _ => False
  | n + 1, c, val => c ≤ am_sz h ∧ ((am_ty h c = 12 ∧ ∃ v1, xCd h n (am_fr h 125 c) v1 ∧ val = fun tg fc => am_b (v1 tg fc = 0)) ∨ (am_ty h c = 13 ∧ val = fun tg _ => tg 0) ∨ (am_ty h c = 14 ∧ val = fun tg _ => tg 1) ∨ (am_ty h c = 15 ∧ val = fun tg _ => tg 2) ∨ (am_ty h c = 16 ∧ (0 ≤ am_fi h 126 c ∧ am_fi h 126 c ≤ 5) ∧ val = fun _ fc => if am_fi h 127 c = 0 then am_b (am_fi h 128 c < fc (am_fi h 126 c)) else am_b (fc (am_fi h 126 c) < am_fi h 128 c)) ∨ (am_ty h c = 17 ∧ ∃ v1 v2, xCd h n (am_fr h 129 c) v1 ∧ xCd h n (am_fr h 130 c) v2 ∧ val = fun tg fc => if v1 tg fc = 0 then 0 else am_b (v2 tg fc ≠ 0)) ∨ (am_ty h c = 18 ∧ ∃ v1 v2, xCd h n (am_fr h 131 c) v1 ∧ xCd h n (am_fr h 132 c) v2 ∧ val = fun tg fc => if v1 tg fc ≠ 0 then 1 else am_b (v2 tg fc ≠ 0)))
theorem xCd_01 {h : am_H} {tg fc : Int → Int} (ht : ∀ i, 0 ≤ i → i < 3 → tg i = 0 ∨ tg i = 1) : ∀ (n c : Nat) (val : (Int → Int) → (Int → Int) → Int), xCd h n c val → val tg fc = 0 ∨ val tg fc = 1
  | 0, _, _, x => x.elim
  | n + 1, c, val, x => by
    rcases x.2 with ⟨_, v1, _, e⟩ | ⟨_, e⟩ | ⟨_, e⟩ | ⟨_, e⟩ | ⟨_, _, e⟩ | ⟨_, v1, v2, _, _, e⟩ | ⟨_, v1, v2, _, _, e⟩
    · subst e
      exact am_bz _
    · subst e
      exact ht 0 (by omega) (by omega)
    · subst e
      exact ht 1 (by omega) (by omega)
    · subst e
      exact ht 2 (by omega) (by omega)
    · subst e
      dsimp only
      split
      · exact am_bz _
      · exact am_bz _
    · subst e
      dsimp only
      split
      · exact Or.inl rfl
      · exact am_bz _
    · subst e
      dsimp only
      split
      · exact Or.inr rfl
      · exact am_bz _
/-- the call of a condition -/
def xEv (E : am_E) (h : am_H) (c f : Nat) (K : am_K) : Prop := ((am_ty h c = 12) ∧ (E 362 [.inr (.inl c), .inr (.inl f)] h K)) ∨ ((am_ty h c = 13) ∧ (E 363 [.inr (.inl c), .inr (.inl f)] h K)) ∨ ((am_ty h c = 14) ∧ (E 364 [.inr (.inl c), .inr (.inl f)] h K)) ∨ ((am_ty h c = 15) ∧ (E 365 [.inr (.inl c), .inr (.inl f)] h K)) ∨ ((am_ty h c = 16) ∧ (E 366 [.inr (.inl c), .inr (.inl f)] h K)) ∨ ((am_ty h c = 17) ∧ (E 367 [.inr (.inl c), .inr (.inl f)] h K)) ∨ ((am_ty h c = 18) ∧ (E 368 [.inr (.inl c), .inr (.inl f)] h K))
theorem am_y01 {K : am_K} {h : am_H} {x : Int} (h01 : x = 0 ∨ x = 1) (H : K (.inl (some (.inl (x)))) h) : (x = 0 → K (.inl (some (.inl (0)))) h) ∧ (x ≠ 0 → K (.inl (some (.inl (1)))) h) := by
  refine ⟨fun e => ?_, fun e => ?_⟩
  · rw [e] at H
    exact H
  · have e1 : x = 1 := by omega
    rw [e1] at H
    exact H
theorem x_cond {h : am_H} {f : Nat} {tg fc : Int → Int} (hf : xF h f tg fc) : ∀ (n c : Nat) (val : (Int → Int) → (Int → Int) → Int) (D : Nat) (K : am_K), xCd h n c val → 13 + n ≤ D → K (.inl (some (.inl (val tg fc)))) h → xEv (am_ev am_prog (D)) h c f K
  | 0, c, val, D, K, x, _, _ => x.elim
  | n + 1, c, val, D, K, x, hD, H => by
    have h01 := xCd_01 (fc := fc) hf.2.2.2 (n + 1) c val x
    have ih := x_cond hf n
    have i01 := xCd_01 (h := h) (tg := tg) (fc := fc) hf.2.2.2 n
    obtain ⟨f1, ⟨f2, f3, f4⟩, ⟨f5, f6, f7, f8, f9, f10⟩, f11⟩ := hf
    obtain ⟨d, rfl⟩ : ∃ d, D = d + 13 := ⟨D - 13, by omega⟩
    rcases x.2 with ⟨t, v1, x1, e⟩ | ⟨t, e⟩ | ⟨t, e⟩ | ⟨t, e⟩ | ⟨t, t2, e⟩ | ⟨t, v1, v2, x1, x2, e⟩ | ⟨t, v1, v2, x1, x2, e⟩
    · subst e
      refine Or.inl ⟨t, am_en p_X13_holds rfl rfl (v_X13_holds_0 ⟨t, ih _ v1 (d + 12) _ x1 (by omega) (am_av ?_)⟩)⟩
      exact v_X13_holds_4 ⟨fun c => am_ubn c H, fun c => am_ub c H⟩
    · subst e
      refine Or.inr (Or.inl ⟨t, am_en p_X14_holds rfl rfl (v_X14_holds_0 ⟨f1, by rw [f2]; exact h01, ?_⟩)⟩)
      rw [f2]
      exact H
    · subst e
      refine Or.inr (Or.inr (Or.inl ⟨t, am_en p_X15_holds rfl rfl (v_X15_holds_0 ⟨f1, by rw [f3]; exact h01, ?_⟩)⟩))
      rw [f3]
      exact H
    · subst e
      refine Or.inr (Or.inr (Or.inr (Or.inl ⟨t, am_en p_X16_holds rfl rfl (v_X16_holds_0 ⟨f1, by rw [f4]; exact h01, ?_⟩)⟩)))
      rw [f4]
      exact H
    · subst e
      refine Or.inr (Or.inr (Or.inr (Or.inr (Or.inl ⟨t, am_en p_X17_holds rfl rfl (v_X17_holds_0 ⟨t, ?_⟩)⟩))))
      have key : ∀ y, y = fc (am_fi h 126 c) → ((am_fi h 127 c : Int) = 0 → (y ≤ am_fi h 128 c → K (.inl (some (.inl (0)))) h) ∧ (am_fi h 128 c < y → K (.inl (some (.inl (1)))) h)) ∧ ((am_fi h 127 c : Int) ≠ 0 → (am_fi h 128 c ≤ y → K (.inl (some (.inl (0)))) h) ∧ (y < am_fi h 128 c → K (.inl (some (.inl (1)))) h)) := by
        intro y hy
        subst hy
        refine ⟨fun z => ?_, fun z => ?_⟩
        · have H' := am_uv H (if_pos z)
          exact ⟨fun q => am_ubn (by omega) H', fun q => am_ub q H'⟩
        · have H' := am_uv H (if_neg z)
          exact ⟨fun q => am_ubn (by omega) H', fun q => am_ub q H'⟩
      refine ⟨fun q => ⟨f1, ?_⟩, fun q => ⟨f1, ?_⟩, fun q => ⟨f1, ?_⟩, fun q => ⟨f1, ?_⟩, fun q => ⟨f1, ?_⟩, fun q => ⟨f1, ?_⟩⟩
      · exact key _ (by rw [q]; exact f5)
      · exact key _ (by rw [q]; exact f6)
      · exact key _ (by rw [q]; exact f7)
      · exact key _ (by rw [q]; exact f8)
      · exact key _ (by rw [q]; exact f9)
      · have q5 : am_fi h 126 c = 5 := by omega
        exact key _ (by rw [q5]; exact f10)
    · subst e
      refine Or.inr (Or.inr (Or.inr (Or.inr (Or.inr (Or.inl ⟨t, am_en p_X18_holds rfl rfl (v_X18_holds_0 ⟨t, ih _ v1 (d + 12) _ x1 (by omega) (am_av ?_)⟩)⟩)))))
      refine v_X18_holds_4 ⟨fun c => am_uv H (if_pos c), fun c => ⟨t, ih _ v2 (d + 12) _ x2 (by omega) (am_av ?_)⟩⟩
      have H' := am_uv H (if_neg c)
      exact v_X18_holds_9 ⟨fun q => am_ubn (fun z => z q) H', fun q => am_ub q H'⟩
    · subst e
      refine Or.inr (Or.inr (Or.inr (Or.inr (Or.inr (Or.inr ⟨t, am_en p_X19_holds rfl rfl (v_X19_holds_0 ⟨t, ih _ v1 (d + 12) _ x1 (by omega) (am_av ?_)⟩)⟩)))))
      refine v_X19_holds_4 ⟨fun c => am_uv H (if_pos c), fun c => ⟨t, ih _ v2 (d + 12) _ x2 (by omega) (am_av ?_)⟩⟩
      have H' := am_uv H (if_neg (fun z => z c))
      exact v_X19_holds_9 ⟨fun q => am_ubn (fun z => z q) H', fun q => am_ub q H'⟩
/-- a rule: what it answers, or always (when is null) -/
def xRl (h : am_H) (r : Nat) (n : Nat) (val : (Int → Int) → (Int → Int) → Int) : Prop := am_ty h r = 11 ∧ r ≤ am_sz h ∧ r ≠ 0 ∧ ((am_fr h 124 r = 0 ∧ val = fun _ _ => 1) ∨ (am_fr h 124 r ≠ 0 ∧ xCd h n (am_fr h 124 r) val))
theorem x_rule {h : am_H} {K : am_K} {f : Nat} {tg fc : Int → Int} (hf : xF h f tg fc) {r n : Nat} {val : (Int → Int) → (Int → Int) → Int} {D : Nat} (x : xRl h r n val) (hD : 14 + n ≤ D) (H : K (.inl (some (.inl (val tg fc)))) h) : am_ev am_prog D 328 [.inr (.inl r), .inr (.inl f)] h K := by
  obtain ⟨x1, x2, x3, x4⟩ := x
  obtain ⟨d, rfl⟩ : ∃ d, D = d + 13 := ⟨D - 13, by omega⟩
  refine am_en p_X12_holds rfl rfl ?_
  rcases x4 with ⟨e, ev⟩ | ⟨e, ev⟩
  · subst ev
    exact v_X12_holds_0 ⟨x1, fun _ => H, fun c => absurd e c⟩
  · refine v_X12_holds_0 ⟨x1, fun c => absurd c e, fun _ => x_cond hf n _ val (d + 12) _ ev (by omega) (am_av ?_)⟩
    have y := am_y01 (xCd_01 (fc := fc) hf.2.2.2 n _ val ev) H
    exact v_X12_holds_7 y
