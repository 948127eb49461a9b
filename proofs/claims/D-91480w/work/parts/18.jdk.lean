set_option maxRecDepth 100000
/-! the JDK: strings, lists, what is left as it was -/
theorem z_bm {x : Int} (h : -2147483648 ≤ x ∧ x ≤ 2147483647) : x.bmod 4294967296 = x := by
  obtain ⟨h1, h2⟩ := h
  rw [Int.bmod_def]
  have h3 : x % 4294967296 = if 0 ≤ x then x else x + 4294967296 := by
    split
    · omega
    · omega
  omega
theorem z_i32 {x : Int} (h : -2147483648 ≤ x ∧ x ≤ 2147483647) : (Int32.ofInt x).toInt = x := by
  rw [Int32.toInt_ofInt]
  exact z_bm h
theorem am_shr0 {x : Int} (h : 0 ≤ x ∧ x ≤ 2147483647) : am_shrz x 0 = x := by
  unfold am_shrz
  have e : (Int32.ofInt 0 &&& 31) = 0 := by decide
  rw [e, Int32.shiftRight_zero]
  exact z_i32 (by omega)
theorem am_chr {x : Int} (h : 0 ≤ x ∧ x ≤ 127) : am_i2cz (am_andz x 255) = x := by
  have key : ∀ n : Fin 128, am_i2cz (am_andz ((n.val : Nat) : Int) 255) = ((n.val : Nat) : Int) := by decide +kernel
  have e := key ⟨x.toNat, by omega⟩
  have e2 : ((x.toNat : Nat) : Int) = x := by omega
  rw [e2] at e
  exact e
def xS (h : am_H) (r : Nat) : Prop := (am_ty h r = 30 ∨ am_ty h r = 90) ∧ (am_ty h (am_fr h 189 r) = 102 ∨ am_ty h (am_fr h 189 r) = 122) ∧ am_fi h 190 r = 0 ∧ (0 ≤ am_ln h (am_fr h 189 r) ∧ am_ln h (am_fr h 189 r) ≤ 1000000) ∧ (r ≤ am_sz h ∧ am_fr h 189 r ≤ am_sz h) ∧ ∀ k, 0 ≤ k → k < am_ln h (am_fr h 189 r) → 0 ≤ am_ai h (am_fr h 189 r) k ∧ am_ai h (am_fr h 189 r) k ≤ 127
def xL (h : am_H) (r : Nat) : Prop := am_ty h r = 31 ∧ (am_ty h (am_fr h 194 r) = 114 ∨ am_ty h (am_fr h 194 r) = 134) ∧ (0 ≤ am_fi h 195 r ∧ am_fi h 195 r ≤ am_ln h (am_fr h 194 r)) ∧ am_ln h (am_fr h 194 r) ≤ 1000000 ∧ (r ≤ am_sz h ∧ am_fr h 194 r ≤ am_sz h)
def xI (h : am_H) (r : Nat) : Prop := am_ty h r = 38 ∧ xL h (am_fr h 199 r) ∧ am_fi h 193 (am_fr h 199 r) = am_fi h 198 r ∧ (0 ≤ am_fi h 196 r ∧ am_fi h 196 r < am_fi h 195 (am_fr h 199 r))
/-- what stands in h stands in h', but for cells of X -/
def fx (X : Nat → Prop) (h h' : am_H) : Prop := am_sz h ≤ am_sz h' ∧ am_us h ≤ am_us h' ∧ am_cs h' = am_cs h ∧ ∀ q, q ≤ am_sz h → am_ty h' q = am_ty h q ∧ am_ln h' q = am_ln h q ∧ (¬ X q → (∀ f, am_fi h' f q = am_fi h f q) ∧ (∀ f, am_fr h' f q = am_fr h f q) ∧ am_ai h' q = am_ai h q ∧ am_ar h' q = am_ar h q)
theorem fx_refl {X : Nat → Prop} {h : am_H} : fx X h h := ⟨Nat.le_refl _, Nat.le_refl _, rfl, fun _ _ => ⟨rfl, rfl, fun _ => ⟨fun _ => rfl, fun _ => rfl, rfl, rfl⟩⟩⟩
theorem fx_trans {X : Nat → Prop} {h h' h'' : am_H} (a : fx X h h') (b : fx X h' h'') : fx X h h'' := by
  refine ⟨Nat.le_trans a.1 b.1, Nat.le_trans a.2.1 b.2.1, b.2.2.1.trans a.2.2.1, fun q hq => ?_⟩
  obtain ⟨a1, a2, a3⟩ := a.2.2.2 q hq
  obtain ⟨b1, b2, b3⟩ := b.2.2.2 q (Nat.le_trans hq a.1)
  refine ⟨b1.trans a1, b2.trans a2, fun n => ?_⟩
  obtain ⟨c1, c2, c3, c4⟩ := a3 n
  obtain ⟨d1, d2, d3, d4⟩ := b3 n
  exact ⟨fun f => (d1 f).trans (c1 f), fun f => (d2 f).trans (c2 f), d3.trans c3, d4.trans c4⟩
theorem fx_sub {X Y : Nat → Prop} {h h' : am_H} (a : fx X h h') (s : ∀ q, q ≤ am_sz h → X q → Y q) : fx Y h h' :=
  ⟨a.1, a.2.1, a.2.2.1, fun q hq => ⟨(a.2.2.2 q hq).1, (a.2.2.2 q hq).2.1, fun n => (a.2.2.2 q hq).2.2 (fun x => n (s q hq x))⟩⟩
theorem fx_new {X : Nat → Prop} {h h' : am_H} {t n : Nat} (a : fx X h h') : fx X h (am_new h' t n) := by
  refine ⟨Nat.le_succ_of_le a.1, Nat.le_trans a.2.1 (Nat.le_add_right _ _), a.2.2.1, fun q hq => ?_⟩
  obtain ⟨a1, a2, a3⟩ := a.2.2.2 q hq
  have e : q ≤ am_sz h' := Nat.le_trans hq a.1
  refine ⟨(x_tyn e).trans a1, (x_lnn e).trans a2, fun m => ?_⟩
  obtain ⟨c1, c2, c3, c4⟩ := a3 m
  exact ⟨fun f => (x_fin e).trans (c1 f), fun f => (x_frn e).trans (c2 f), (x_ain e).trans c3, (x_arn e).trans c4⟩
theorem fx_sfi {X : Nat → Prop} {h h' : am_H} {f r : Nat} {x : Int} (a : fx X h h') (c : am_sz h < r ∨ X r) : fx X h (am_sfi h' f r x) := by
  refine ⟨a.1, a.2.1, a.2.2.1, fun q hq => ?_⟩
  obtain ⟨a1, a2, a3⟩ := a.2.2.2 q hq
  refine ⟨a1, a2, fun m => ?_⟩
  obtain ⟨c1, c2, c3, c4⟩ := a3 m
  have e : q ≠ r := fun w => c.elim (fun z => by omega) (fun z => m (by rw [w]; exact z))
  refine ⟨fun g => ?_, c2, c3, c4⟩
  by_cases w : g = f
  · subst w
    exact (x_fir e).trans (c1 g)
  · exact (x_fif w).trans (c1 g)
theorem fx_sfr {X : Nat → Prop} {h h' : am_H} {f r : Nat} {x : Nat} (a : fx X h h') (c : am_sz h < r ∨ X r) : fx X h (am_sfr h' f r x) := by
  refine ⟨a.1, a.2.1, a.2.2.1, fun q hq => ?_⟩
  obtain ⟨a1, a2, a3⟩ := a.2.2.2 q hq
  refine ⟨a1, a2, fun m => ?_⟩
  obtain ⟨c1, c2, c3, c4⟩ := a3 m
  have e : q ≠ r := fun w => c.elim (fun z => by omega) (fun z => m (by rw [w]; exact z))
  refine ⟨c1, fun g => ?_, c3, c4⟩
  by_cases w : g = f
  · subst w
    exact (x_frr e).trans (c2 g)
  · exact (x_frf w).trans (c2 g)
theorem fx_wai {X : Nat → Prop} {h h' : am_H} {r : Nat} {g : Int → Int} (a : fx X h h') (c : am_sz h < r ∨ X r) : fx X h (am_wai h' r g) := by
  refine ⟨a.1, a.2.1, a.2.2.1, fun q hq => ?_⟩
  obtain ⟨a1, a2, a3⟩ := a.2.2.2 q hq
  refine ⟨a1, a2, fun m => ?_⟩
  obtain ⟨c1, c2, c3, c4⟩ := a3 m
  have e : q ≠ r := fun w => c.elim (fun z => by omega) (fun z => m (by rw [w]; exact z))
  exact ⟨c1, c2, (x_air e).trans c3, c4⟩
theorem fx_war {X : Nat → Prop} {h h' : am_H} {r : Nat} {g : Int → Nat} (a : fx X h h') (c : am_sz h < r ∨ X r) : fx X h (am_war h' r g) := by
  refine ⟨a.1, a.2.1, a.2.2.1, fun q hq => ?_⟩
  obtain ⟨a1, a2, a3⟩ := a.2.2.2 q hq
  refine ⟨a1, a2, fun m => ?_⟩
  obtain ⟨c1, c2, c3, c4⟩ := a3 m
  have e : q ≠ r := fun w => c.elim (fun z => by omega) (fun z => m (by rw [w]; exact z))
  exact ⟨c1, c2, c3, (x_arr e).trans c4⟩
theorem fx_sai {X : Nat → Prop} {h h' : am_H} {r : Nat} {k x : Int} (a : fx X h h') (c : am_sz h < r ∨ X r) : fx X h (am_sai h' r k x) := fx_wai a c
theorem fx_sar {X : Nat → Prop} {h h' : am_H} {r : Nat} {k : Int} {x : Nat} (a : fx X h h') (c : am_sz h < r ∨ X r) : fx X h (am_sar h' r k x) := fx_war a c
section
variable {K : am_K} {d : Nat} {h : am_H}
theorem c_length {r : Nat} (v : xS h r) (H : K (.inl (some (.inl (am_ln h (am_fr h 189 r))))) h) : am_ev am_prog (d + 6) 237 [.inr (.inl r)] h K := by
  obtain ⟨v1, v2, v3, v4, _, v5⟩ := v
  refine am_en p_J2_length rfl rfl (v_J2_length_0 ⟨⟨v1, v2⟩, by rw [v3]; omega, ?_⟩)
  rw [v3, am_shr0 (by omega)]
  exact H
theorem c_charAt {r : Nat} {i : Int} (v : xS h r) (hi : 0 ≤ i ∧ i < am_ln h (am_fr h 189 r)) (H : K (.inl (some (.inl (am_ai h (am_fr h 189 r) i)))) h) : am_ev am_prog (d + 6) 238 [.inr (.inl r), .inl i] h K := by
  obtain ⟨v1, v2, v3, v4, _, v5⟩ := v
  have v6 := v5 i hi.1 hi.2
  refine am_en p_J2_charAt rfl rfl (v_J2_charAt_0 ⟨v1, fun c => absurd v3 c, fun _ => ⟨v2, fun c => absurd c (by omega), fun _ => ⟨fun _ => ⟨⟨hi, ?_⟩, ?_⟩, fun c => absurd c (by omega)⟩⟩⟩)
  · rw [am_chr v6]
    omega
  · rw [am_chr v6]
    exact H
theorem c_get {r : Nat} {i : Int} (v : xL h r) (hi : 0 ≤ i ∧ i < am_fi h 195 r) (H : K (.inl (some (.inr (.inl (am_ar h (am_fr h 194 r) i))))) h) : am_ev am_prog (d + 6) 235 [.inr (.inl r), .inl i] h K := by
  obtain ⟨v1, v2, v3, v4, _⟩ := v
  exact am_en p_J6_get rfl rfl (v_J6_get_0 ⟨v1, fun c => absurd c (by omega), fun _ => ⟨fun _ => ⟨⟨v2, by omega⟩, H⟩, fun c => absurd c (by omega)⟩⟩)
theorem c_hasNext {r : Nat} (v1 : am_ty h r = 38) (v2 : am_ty h (am_fr h 199 r) = 31) (H : K (.inl (some (.inl (am_b (am_fi h 196 r ≠ am_fi h 195 (am_fr h 199 r)))))) h) : am_ev am_prog (d + 6) 105 [.inr (.inl r)] h K :=
  am_en p_J23_hasNext rfl rfl (v_J23_hasNext_0 ⟨⟨v1, v2⟩, fun c => am_ubn (fun q => q c) H, fun c => am_ub c H⟩)
theorem c_next {r : Nat} (v : xI h r) (H : K (.inl (some (.inr (.inl (am_ar h (am_fr h 194 (am_fr h 199 r)) (am_fi h 196 r)))))) (am_sfi (am_sfi h 196 r (am_fi h 196 r + 1)) 197 r (am_fi h 196 r))) : am_ev am_prog (d + 6) 106 [.inr (.inl r)] h K := by
  obtain ⟨v1, ⟨v2, v3, v4, v5, _⟩, v6, v7⟩ := v
  exact am_en p_J23_next rfl rfl (v_J23_next_0 ⟨v1, v2, fun _ => ⟨fun _ => ⟨v3, fun _ => ⟨by omega, by omega, H⟩, fun c => absurd c (by omega)⟩, fun c => absurd c (by omega)⟩, fun c => absurd v6 c⟩)
end
theorem xS_fx {X : Nat → Prop} {h h' : am_H} {r : Nat} (a : fx X h h') (v : xS h r) (n1 : ¬ X r) (n2 : ¬ X (am_fr h 189 r)) : xS h' r ∧ am_fr h' 189 r = am_fr h 189 r ∧ am_ai h' (am_fr h 189 r) = am_ai h (am_fr h 189 r) ∧ am_ln h' (am_fr h 189 r) = am_ln h (am_fr h 189 r) := by
  obtain ⟨v1, v2, v3, v4, v5, v6⟩ := v
  obtain ⟨a1, a2, a3⟩ := a.2.2.2 r v5.1
  obtain ⟨b1, b2, b3⟩ := a.2.2.2 _ v5.2
  obtain ⟨c1, c2, c3, c4⟩ := a3 n1
  obtain ⟨d1, d2, d3, d4⟩ := b3 n2
  have e := c2 189
  refine ⟨⟨?_, ?_, ?_, ?_, ?_, ?_⟩, e, d3, b2⟩
  · rw [a1]
    exact v1
  · rw [e, b1]
    exact v2
  · rw [c1]
    exact v3
  · rw [e, b2]
    exact v4
  · rw [e]
    exact ⟨Nat.le_trans v5.1 a.1, Nat.le_trans v5.2 a.1⟩
  · rw [e, b2, d3]
    exact v6
