set_option maxRecDepth 100000
/-! styles of the component, and the paper laid by them -/
theorem xCd_fx {X : Nat → Prop} {h h' : am_H} (a : fx X h h') (hX : ∀ q, X q → am_ty h q = 101 ∨ am_ty h q = 2 ∨ am_ty h q = 3) : ∀ (n c : Nat) (val : (Int → Int) → (Int → Int) → Int), xCd h n c val → xCd h' n c val
  | 0, _, _, x => x.elim
  | n + 1, c, val, x => by
    have ih := xCd_fx a hX n
    obtain ⟨a1, a2, a3⟩ := a.2.2.2 c x.1
    have hn : ¬ X c := fun z => by
      have z1 := hX c z
      rcases x.2 with ⟨t, _⟩ | ⟨t, _⟩ | ⟨t, _⟩ | ⟨t, _⟩ | ⟨t, _⟩ | ⟨t, _⟩ | ⟨t, _⟩ <;> omega
    obtain ⟨c1, c2, c3, c4⟩ := a3 hn
    refine ⟨Nat.le_trans x.1 a.1, ?_⟩
    rw [a1, c2, c1, c1, c1, c2, c2, c2, c2]
    rcases x.2 with ⟨t, v1, x1, e⟩ | x2 | x2 | x2 | x2 | ⟨t, v1, v2, x1, x2, e⟩ | ⟨t, v1, v2, x1, x2, e⟩
    · exact Or.inl ⟨t, v1, ih _ _ x1, e⟩
    · exact Or.inr (Or.inl x2)
    · exact Or.inr (Or.inr (Or.inl x2))
    · exact Or.inr (Or.inr (Or.inr (Or.inl x2)))
    · exact Or.inr (Or.inr (Or.inr (Or.inr (Or.inl x2))))
    · exact Or.inr (Or.inr (Or.inr (Or.inr (Or.inr (Or.inl ⟨t, v1, v2, ih _ _ x1, ih _ _ x2, e⟩)))))
    · exact Or.inr (Or.inr (Or.inr (Or.inr (Or.inr (Or.inr ⟨t, v1, v2, ih _ _ x1, ih _ _ x2, e⟩)))))
theorem xRl_fx {X : Nat → Prop} {h h' : am_H} (a : fx X h h') (hX : ∀ q, X q → am_ty h q = 101 ∨ am_ty h q = 2 ∨ am_ty h q = 3) {r n : Nat} {val : (Int → Int) → (Int → Int) → Int} (x : xRl h r n val) : xRl h' r n val := by
  obtain ⟨x1, x2, x3, x4⟩ := x
  obtain ⟨a1, a2, a3⟩ := a.2.2.2 r x2
  obtain ⟨c1, c2, c3, c4⟩ := a3 (fun z => by have := hX r z; omega)
  unfold xRl
  rw [a1, c2]
  exact ⟨x1, Nat.le_trans x2 a.1, x3, x4.elim Or.inl (fun y => Or.inr ⟨y.1, xCd_fx a hX n _ _ y.2⟩)⟩
theorem xF_fx {X : Nat → Prop} {h h' : am_H} {f : Nat} {tg fc : Int → Int} (a : fx X h h') (hX : ∀ q, X q → am_ty h q = 101 ∨ am_ty h q = 2 ∨ am_ty h q = 3) (hf : f ≤ am_sz h) (x : xF h f tg fc) : xF h' f tg fc := by
  obtain ⟨a1, a2, a3⟩ := a.2.2.2 f hf
  obtain ⟨c1, c2, c3, c4⟩ := a3 (fun z => by have := hX f z; have := x.1; omega)
  unfold xF
  simp only [a1, c1]
  exact x
theorem xL_fx {X : Nat → Prop} {h h' : am_H} {l : Nat} (a : fx X h h') (n1 : ¬ X l) (v : xL h l) : xL h' l ∧ am_fr h' 194 l = am_fr h 194 l ∧ am_fi h' 195 l = am_fi h 195 l := by
  obtain ⟨v1, v2, v3, v4, v5, v6⟩ := v
  obtain ⟨a1, a2, a3⟩ := a.2.2.2 l v5
  obtain ⟨b1, b2, b3⟩ := a.2.2.2 _ v6
  obtain ⟨c1, c2, c3, c4⟩ := a3 n1
  unfold xL
  rw [a1, c2, c1, b1, b2]
  exact ⟨⟨v1, v2, v3, v4, Nat.le_trans v5 a.1, Nat.le_trans v6 a.1⟩, rfl, rfl⟩
/-- style s has the numbers of y -/
def xSt (h : am_H) (s : Nat) (y : Int → Int) : Prop := am_ty h s = 19 ∧ s ≤ am_sz h ∧ s ≠ 0 ∧ am_fi h 133 s = y 0 ∧ xL h (am_fr h 134 s) ∧ am_fi h 195 (am_fr h 134 s) = y 1 ∧ (am_ty h (am_fr h 194 (am_fr h 134 s)) = 114 ∨ am_ty h (am_fr h 194 (am_fr h 134 s)) = 134) ∧ ∀ q, 0 ≤ q → q < y 1 → am_fi h 121 (am_ar h (am_fr h 194 (am_fr h 134 s)) q) = y (2 + 5 * q) ∧ am_fi h 122 (am_ar h (am_fr h 194 (am_fr h 134 s)) q) = y (3 + 5 * q) ∧ am_fi h 123 (am_ar h (am_fr h 194 (am_fr h 134 s)) q) = y (4 + 5 * q) ∧ ∃ n val, n ≤ 60 ∧ xRl h (am_ar h (am_fr h 194 (am_fr h 134 s)) q) n val ∧ ∀ tg fc : Int → Int, (∀ i, 0 ≤ i → i < 3 → tg i = 0 ∨ tg i = 1) → val tg fc = hv y tg fc q
theorem xSt_fx {X : Nat → Prop} {h h' : am_H} (a : fx X h h') (hX : ∀ q, X q → am_ty h q = 101 ∨ am_ty h q = 2 ∨ am_ty h q = 3) {s : Nat} {y : Int → Int} (x : xSt h s y) : xSt h' s y ∧ am_fr h' 134 s = am_fr h 134 s ∧ am_fr h' 194 (am_fr h 134 s) = am_fr h 194 (am_fr h 134 s) ∧ am_ar h' (am_fr h 194 (am_fr h 134 s)) = am_ar h (am_fr h 194 (am_fr h 134 s)) := by
  obtain ⟨x1, x2, x3, x4, x5, x6, x7, x8⟩ := x
  obtain ⟨a1, a2, a3⟩ := a.2.2.2 s x2
  obtain ⟨c1, c2, c3, c4⟩ := a3 (fun z => by have := hX s z; omega)
  have l1 := xL_fx a (fun z => by have := hX _ z; have := x5.1; omega) x5
  obtain ⟨b1, b2, b3⟩ := a.2.2.2 _ x5.2.2.2.2.2
  obtain ⟨d1, d2, d3, d4⟩ := b3 (fun z => by have := hX _ z; omega)
  have e1 := c2 134
  refine ⟨?_, e1, l1.2.1, d4⟩
  unfold xSt
  rw [e1, l1.2.1, l1.2.2, d4, b1]
  refine ⟨a1.trans x1, Nat.le_trans x2 a.1, x3, (c1 133).trans x4, l1.1, x6, x7, fun q h1 h2 => ?_⟩
  obtain ⟨y1, y2, y3, n, val, y4, y5, y6⟩ := x8 q h1 h2
  obtain ⟨f1, f2, f3⟩ := a.2.2.2 _ y5.2.1
  obtain ⟨g1, g2, g3, g4⟩ := f3 (fun z => by have := hX _ z; have := y5.1; omega)
  exact ⟨(g1 121).trans y1, (g1 122).trans y2, (g1 123).trans y3, n, val, y4, xRl_fx a hX y5, y6⟩
theorem nX {h : am_H} : ∀ q, (fun _ : Nat => False) q → am_ty h q = 101 ∨ am_ty h q = 2 ∨ am_ty h q = 3 := fun _ z => z.elim
section
variable {K : am_K} {h : am_H}
/-- the last rule of a word that holds -/
theorem x_last {s f : Nat} {y tg fc : Int → Int} {w : Int} {D : Nat} (hD : 76 ≤ D) (x : xSt h s y) (hf : xF h f tg fc) (hfs : f ≤ am_sz h) (H : ∀ h', fx (fun _ : Nat => False) h h' → am_sz h' = am_sz h + 1 → am_us h' = am_us h + 4 → K (.inl (some (.inr (.inl (if lastR y tg fc w (y 1).toNat = -1 then 0 else am_ar h (am_fr h 194 (am_fr h 134 s)) (lastR y tg fc w (y 1).toNat)))))) h') : am_ev am_prog D 261 [.inr (.inl s), .inl w, .inr (.inl f)] h K := by
  have x' := x
  obtain ⟨x1, x2, x3, x4, x5, x6, x7, x8⟩ := x
  have x5' := x5
  obtain ⟨v1, v2, v3, v4, v5, v6⟩ := x5'
  obtain ⟨d, rfl⟩ : ∃ d, D = d + 13 := ⟨D - 13, by omega⟩
  refine am_en p_X20_last rfl rfl ?_
  refine v_X20_last_0 ⟨x1, v1, ?_⟩
  refine c_iterator v1 v5 (am_av (v_X20_last_5 ?_))
  generalize hl : am_fr h 134 s = l at *
  have main : ∀ k, 0 ≤ k → k ≤ y 1 → ∀ z o5, am_W m_X20_last (am_ev am_prog (d + 12)) K 6 [some (.inr (.inl (s))), some (.inl (w)), some (.inr (.inl (f))), some (.inr (.inl (if lastR y tg fc w k.toNat = -1 then 0 else am_ar h (am_fr h 194 l) (lastR y tg fc w k.toNat)))), some (.inr (.inl (am_sz h + 1))), o5] [] (itH h l k z) := by
    refine lp_z ?_ ?_
    · intro k g1 g2 hL z o5
      have e1 : (k + 1).toNat = k.toNat + 1 := by omega
      have e2 : ((k.toNat : Nat) : Int) = k := by omega
      obtain ⟨y1, y2, y3, n, val, y4, y5, y6⟩ := x8 k g1 g2
      have y7 := y5.2.1
      obtain ⟨a1, a2, a3, a4, a5, a6⟩ := it_old (h := h) (l := l) (k := k) (z := z) v5
      obtain ⟨b1, b2, b3, b4, b5, b6⟩ := it_old (h := h) (l := l) (k := k) (z := z) v6
      obtain ⟨c1, c2, c3, c4, c5, c6⟩ := it_old (h := h) (l := l) (k := k) (z := z) y7
      rw [e1] at hL
      have eq : lastR y tg fc w (k.toNat + 1) = if y (2 + 5 * k) = w ∧ hv y tg fc k ≠ 0 then k else lastR y tg fc w k.toNat := by
        show (if y (2 + 5 * ((k.toNat : Nat) : Int)) = w ∧ hv y tg fc ((k.toNat : Nat) : Int) ≠ 0 then ((k.toNat : Nat) : Int) else lastR y tg fc w k.toNat) = _
        rw [e2]
      refine v_X20_last_6 ⟨it_ty, by rw [it_199, a1]; exact v1, ?_⟩
      rw [it_199, it_196, a3 195]
      refine ⟨fun c => absurd c (by omega), fun _ => ⟨it_xI x5 ⟨g1, by omega⟩, ?_⟩⟩
      rw [a4 194, b6, it_next, c1, c3 121, y1]
      refine ⟨Or.inr y5.1, y5.1, fun c => ?_, fun c => ?_⟩
      · rw [eq.trans (if_neg (fun q => c q.1))] at hL
        exact hL _ _
      · refine x_rule (xF_fx (it_fx (l := l) (k := k + 1) (z := k)) nX hfs hf) (xRl_fx (it_fx (l := l) (k := k + 1) (z := k)) nX y5) (by omega) (am_av ?_)
        rw [y6 tg fc hf.2.2.2]
        refine v_X20_last_20 ⟨fun d => ?_, fun d => ?_⟩
        · rw [eq.trans (if_neg (fun q => q.2 d))] at hL
          exact hL _ _
        · rw [eq.trans (if_pos ⟨c, d⟩), if_neg (show ¬ (k = -1) by omega)] at hL
          exact hL _ _
    · intro z o5
      obtain ⟨a1, a2, a3, a4, a5, a6⟩ := it_old (h := h) (l := l) (k := y 1) (z := z) v5
      refine v_X20_last_6 ⟨it_ty, by rw [it_199, a1]; exact v1, ?_⟩
      rw [it_199, it_196, a3 195, x6]
      exact ⟨fun _ => H _ it_fx it_sz it_us, fun c => absurd rfl c⟩
  exact main 0 (by omega) (by omega) _ _
theorem x_first {s f : Nat} {y tg fc : Int → Int} {w wo : Int} {D : Nat} (hD : 77 ≤ D) (x : xSt h s y) (hf : xF h f tg fc) (hfs : f ≤ am_sz h) (H : ∀ h', fx (fun _ : Nat => False) h h' → am_sz h' = am_sz h + 1 → am_us h' = am_us h + 4 → K (.inl (some (.inl (if lastR y tg fc w (y 1).toNat = -1 then wo else y (2 + 5 * lastR y tg fc w (y 1).toNat + 1))))) h') : am_ev am_prog D 262 [.inr (.inl s), .inl w, .inr (.inl f), .inl wo] h K := by
  have lb := lastR_bd (y := y) (tg := tg) (fc := fc) (w := w) (y 1).toNat
  have x6 := x.2.2.2.2.2.1
  have x3 := x.2.2.2.2.1.2.2.1
  obtain ⟨d, rfl⟩ : ∃ d, D = d + 13 := ⟨D - 13, by omega⟩
  refine am_en p_X20_first rfl rfl ?_
  refine v_X20_first_0 ⟨x.1, x_last (by omega) x hf hfs (fun h' a1 a2 a3 => am_av ?_)⟩
  by_cases c : lastR y tg fc w (y 1).toNat = -1
  · rw [if_pos c]
    refine v_X20_first_4 ⟨fun z => absurd rfl z, fun _ => am_uv (H h' a1 a2 a3) (if_pos c)⟩
  · rw [if_neg c]
    have st := xSt_fx a1 nX x
    obtain ⟨y1, y2, y3, n, val, y4, y5, y6⟩ := x.2.2.2.2.2.2.2 (lastR y tg fc w (y 1).toNat) (by omega) (by omega)
    obtain ⟨f1, f2, f3⟩ := a1.2.2.2 _ y5.2.1
    obtain ⟨g1, g2, g3, g4⟩ := f3 id
    refine v_X20_first_4 ⟨fun _ => ⟨f1.trans y5.1, ?_⟩, fun z => absurd z y5.2.2.1⟩
    rw [g1 122, y2]
    refine am_uv (H h' a1 a2 a3) ?_
    rw [if_neg c]
    congr 1
    omega
end
