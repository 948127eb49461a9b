set_option maxRecDepth 100000
/-! both sides in one heap -/
/-- the model's cells hold m, V, W -/
def MoC (h : am_H) (r : Nat) (m : Int → Int) (V : Nat → Int → Int) (W : Nat → Int) : Prop := am_ty h r = 5 ∧ (∀ j, 0 < j → j ≤ 35 → am_ty h (r + j) = mo_t j ∧ am_ln h (r + j) = mo_n j) ∧ (∀ f, am_fi h f r = W f) ∧ (∀ f, am_fr h f r = if mo_f f = 0 then 0 else r + mo_f f) ∧ am_ai h (r + 1) = m ∧ ∀ j, 1 < j → j ≤ 35 → am_ai h (r + j) = V j
section
variable {h h' b : am_H} {r : Nat} {m m' : Int → Int} {V V' : Nat → Int → Int} {W W' : Nat → Int}
theorem MoC_id (c : MoC h r m V W) : h = mo h r m V W := mo_id c.1 c.2.1 c.2.2.1 c.2.2.2.1 c.2.2.2.2.1 c.2.2.2.2.2
theorem mo_MoC : MoC (mo b r m V W) r m V W := ⟨mo_ty, fun _ a c => ⟨mo_tj ⟨a, c⟩, mo_nj ⟨a, c⟩⟩, fun _ => mo_i, fun _ => if_pos rfl, mo_a1, fun _ a c => mo_aj ⟨a, c⟩⟩
/-- a step that leaves the model's cells -/
theorem MoC_fx {X : Nat → Prop} (f : fx X h h') (z : r + 35 ≤ am_sz h) (n : ∀ j, j ≤ 35 → ¬ X (r + j)) (c : MoC h r m V W) : MoC h' r m V W := by
  obtain ⟨c1, c2, c3, c4, c5, c6⟩ := c
  have k0 := f.2.2.2 r (by omega)
  have u0 := k0.2.2 (n 0 (by omega))
  refine ⟨k0.1.trans c1, fun j a b => ?_, fun g => (u0.1 g).trans (c3 g), fun g => (u0.2.1 g).trans (c4 g), ?_, fun j a b => ?_⟩
  · have k := f.2.2.2 (r + j) (by omega)
    exact ⟨k.1.trans (c2 j a b).1, k.2.1.trans (c2 j a b).2⟩
  · have k := (f.2.2.2 (r + 1) (by omega)).2.2 (n 1 (by omega))
    exact k.2.2.1.trans c5
  · have k := (f.2.2.2 (r + j) (by omega)).2.2 (n j b)
    exact k.2.2.1.trans (c6 j a b)
/-- the model's step leaves all other cells -/
theorem mo_fx : fx (fun q => r ≤ q ∧ q ≤ r + 35) (mo b r m V W) (mo b r m' V' W') := by
  refine ⟨Nat.le_refl _, Nat.le_refl _, rfl, fun q _ => ⟨rfl, rfl, fun n => ⟨fun f => ?_, fun f => rfl, ?_, rfl⟩⟩⟩
  · have e : q ≠ r := fun z => n ⟨by omega, by omega⟩
    show (if q = r then W' f else _) = (if q = r then W f else _)
    rw [if_neg e, if_neg e]
  · have e : ¬ (r < q ∧ q ≤ r + 35) := fun z => n ⟨by omega, z.2⟩
    show (if r < q ∧ q ≤ r + 35 then _ else _) = (if r < q ∧ q ≤ r + 35 then _ else _)
    rw [if_neg e, if_neg e]
/-- a step that touches cells of other owners keeps the relation -/
theorem Nt_own {X : Nat → Prop} {L : am_Lb} {x P N : Nat} {S : am_G} {B : Int} (t : Nt h L x P N S B) (f : fx X h h') (ok : okLb h' L) (hX : ∀ q, q ≤ am_sz h → X q → (L q).1 ≠ 0 ∧ (L q).1 ≠ N ∧ (L q).1 ≠ x) : Nt h' L x P N S B := by
  obtain ⟨t1, t2, t3, t4, t5⟩ := t
  exact ⟨ok, cs_fx f t2, rPap_fx f leL_refl (fun q hq z y => (hX q hq z).2.2 y.1) t3, Rep_fx (Int.le_refl B) f leL_refl t1 t2.1 (fun q hq z => ⟨(hX q hq z).1, (hX q hq z).2.1⟩) t4, t5⟩
/-- the model moved: the component's relation is kept -/
theorem Nt_mo {L : am_Lb} {x P N : Nat} {S : am_G} {B : Int} (t : Nt (mo b r m V W) L x P N S B) (lr : ∀ j, j ≤ 35 → (L (r + j)).1 = r) (r0 : r ≠ 0 ∧ r ≠ N ∧ r ≠ x) : Nt (mo b r m' V' W') L x P N S B := by
  have f := mo_fx (b := b) (r := r) (m := m) (m' := m') (V := V) (V' := V') (W := W) (W' := W')
  refine Nt_own t f (okLb_fx f t.1) (fun q _ z => ?_)
  have e : r + (q - r) = q := by omega
  have l := lr (q - r) (by omega)
  rw [e] at l
  rw [l]
  exact r0
/-- the tape is kept -/
theorem TpX_fx {X : Nat → Prop} {L L' : am_Lb} {x : Nat} {t : Int → Int} {n : Int} (f : fx X h h') (le : leL h L L') (hx : x ≤ am_sz h) (nx : ¬ X x) (nt : ¬ X (am_fr h 3 x)) (tp : TpX h L x t n) : TpX h' L' x t n := by
  obtain ⟨t1, t2, t3, t4, t5⟩ := tp
  have k := (f.2.2.2 x hx).2.2 nx
  have y := f.2.2.2 (am_fr h 3 x) t2.2.1
  have u := y.2.2 nt
  unfold TpX
  rw [k.2.1 3, u.2.2.1]
  exact ⟨(k.1 4).trans t1, (nd_fy f le t2).1, y.2.1.trans t3, t4, t5⟩
end
