set_option maxRecDepth 100000
/-! the words of the program's pool stand in cells of no owner -/
def csZ (h : am_H) (L : am_Lb) (j : Nat) (w : List Int) : Prop := csX h j w ∧ (am_cs h j ≤ am_sz h ∧ (L (am_cs h j)).1 = 0) ∧ (am_fr h 189 (am_cs h j) ≤ am_sz h ∧ (L (am_fr h 189 (am_cs h j))).1 = 0)
section
variable {h h' b : am_H} {L L' : am_Lb} {j r : Nat} {w : List Int}
theorem csZ_fx {X : Nat → Prop} (f : fx X h h') (le : leL h L L') (n : ∀ q, q ≤ am_sz h → X q → (L q).1 ≠ 0) (c : csZ h L j w) : csZ h' L' j w := by
  obtain ⟨c1, ⟨c2, c3⟩, c4, c5⟩ := c
  have n1 : ¬ X (am_cs h j) := fun z => n _ c2 z c3
  have n2 : ¬ X (am_fr h 189 (am_cs h j)) := fun z => n _ c4 z c5
  have k := (f.2.2.2 _ c2).2.2 n1
  have z := f.1
  have x : xSl h' (am_cs h j) w := xSl_fx f c1 n1 n2
  unfold csZ csX
  rw [f.2.2.1, k.2.1 189, le _ c2, le _ c4]
  exact ⟨x, ⟨by omega, c3⟩, by omega, c5⟩
/-- the model's view of them -/
theorem csZ_M {m : Int → Int} {V : Nat → Int → Int} {W : Nat → Int} (lr : ∀ i, i ≤ 35 → (L (r + i)).1 = r) (r0 : r ≠ 0) (e : b = mo b r m V W) (c : csZ b L j w) : csM b r j w := by
  intro m' V' W'
  have f : fx (fun q => r ≤ q ∧ q ≤ r + 35) b (mo b r m' V' W') := by
    have g := mo_fx (b := b) (r := r) (m := m) (m' := m') (V := V) (V' := V') (W := W) (W' := W')
    rw [← e] at g
    exact g
  have no : ∀ q, (L q).1 = 0 → ¬ (r ≤ q ∧ q ≤ r + 35) := fun q hq z => r0 (by
    have e : r + (q - r) = q := by omega
    have l := lr (q - r) (by omega)
    rw [e, hq] at l
    exact l.symm)
  exact xSl_fx f c.1 (no _ c.2.1.2) (no _ c.2.2.2)
end
