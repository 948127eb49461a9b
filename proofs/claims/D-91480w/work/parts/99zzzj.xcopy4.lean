set_option maxRecDepth 100000
/-! a night is copied: the stages, from the last one -/
/-- so far: what is new, what is old, how much -/
def CpS (h : am_H) (L : am_Lb) (Z P : Nat) (a b : Int) (F : Nat → Int) (T1 T3 T6 T5 T4 T7 T8 T9 T10 : am_G) (h' : am_H) (L' : am_Lb) : Prop := fx (fun _ => False) h h' ∧ leL h L L' ∧ okLb h' L' ∧ (∀ q, am_sz h < q → (L' q).1 = 0 ∨ (L' q).1 = Z) ∧ CpI h' L' Z P F T1 T3 T6 T5 T4 T7 T8 T9 T10 400 ∧ (am_sz h' : Int) ≤ am_sz h + a + capG h' Z ∧ (am_us h' : Int) ≤ am_us h + b + 5 * capG h' Z
theorem CpS_fr {X : Nat → Prop} {h h' h'' : am_H} {L L' L'' : am_Lb} {Z : Nat} (x1 : fx (fun _ => False) h h') (x2 : leL h L L') (x4 : ∀ q, am_sz h < q → (L' q).1 = 0 ∨ (L' q).1 = Z) (ow : ∀ q, q ≤ am_sz h → (L q).1 ≠ Z) (f : fx X h' h'') (le : leL h' L' L'') (hX : ∀ q, q ≤ am_sz h' → X q → (L' q).1 = Z) (lab : ∀ q, am_sz h' < q → (L'' q).1 = 0 ∨ (L'' q).1 = Z) : fx (fun _ => False) h h'' ∧ leL h L L'' ∧ ∀ q, am_sz h < q → (L'' q).1 = 0 ∨ (L'' q).1 = Z := by
  refine ⟨fx_trans2 x1 f (fun q hq z => ?_), fun q hq => (le q (Nat.le_trans hq x1.1)).trans (x2 q hq), fun q hq => ?_⟩
  · have e := hX q (Nat.le_trans hq x1.1) z
    rw [x2 q hq] at e
    exact ow q hq e
  · by_cases c : q ≤ am_sz h'
    · rw [le q c]
      exact x4 q hq
    · exact lab q (by omega)
section
variable {K : am_K} {h : am_H}
/-- the rows, the last numbers -/
theorem cp_130 {L : am_Lb} {Ns Z P : Nat} {S : am_G} {B : Int} {d : Nat} (hd : 30 ≤ d + 12) (ok : okLb h L) (cs : (am_ty h (am_cs h 0) = 134 ∧ am_cs h 0 ≤ am_sz h ∧ am_ln h (am_cs h 0) = 0)) (rep : Rep h L Ns P S B) (hZ : Z = am_sz h + 1) (ow : ∀ q, q ≤ am_sz h → (L q).1 ≠ Z) (hC : okC S) (H : ∀ h' L', fx (fun _ => False) h h' → leL h L L' → okLb h' L' → Rep h' L' Z P S 400 → (∀ q, am_sz h < q → (L' q).1 = 0 ∨ (L' q).1 = Z) → (am_sz h' : Int) ≤ am_sz h + 600 + S 0 0 4 + capG h' Z → (am_us h' : Int) ≤ am_us h + 9000 + 11 * S 0 0 4 + 5 * capG h' Z → K (.inl (some (.inr (.inl (Z))))) h') {T10 : am_G} {F : Nat → Int} (f18 : F 18 = S 0 0 0) (f21 : F 21 = S 0 0 1) (f24 : F 24 = S 0 0 3) : ∀ h' L', CpS h L Z P (600 + S 0 0 4) (9000 + 11 * S 0 0 4) F S S S S S S S S T10 h' L' → ∀ x2 y0 o3, am_W m_X3_copy (am_ev am_prog (d + 12)) K 130 [some (.inr (.inl (Ns))), some (.inr (.inl (Z))), some (.inl (x2)), o3] [.inl y0] h' := by
  intro h' L' x i2 y0 o3
  obtain ⟨x1, x2, x3, x4, x5, x6, x7⟩ := x
  have c7 := hC.2.2.2.2.2
  have rp := Rep_fx (Int.le_refl B) x1 x2 ok cs.1 (fun _ _ z => z.elim) rep
  have cs' := cs_fx x1 cs
  have s1 := rp.1
  have s10 := rp.2.2.2.2.2.2.2.2.2
  have t0 := x5.1
  have t10 := x5.2.2.2.2.2.2.2.2.2.2.2
  have NZ : Ns ≠ Z := fun e => by
    have := rep.1.1.2.1
    omega
  have nd10 : ∀ q t c q' t' c', nd h' L' q t Ns 10 c 0 → nd h' L' q' t' Z 10 c' 0 → q ≠ q' := fun q t c q' t' c' a b => nd_one_ne a b NZ
  refine v_X3_copy_130 ?_
  rw [s10.2.2.1, s10.2.2.2.1, t10.2.2.1, t10.2.2.2.1, s1.2.2.2.2.2.1, s1.2.2.2.2.2.2]
  refine ⟨⟨s1.1.1, t0.1⟩, ⟨Or.inl s10.1.1, t10.1.1, by omega⟩, ⟨Or.inl s10.2.1.1, t10.2.1.1, by omega⟩, ?_⟩
  -- the numbers, the rows
  have c1 := CpI_num (f := 29) (v := crN S) x5 x3 cs'.1
  have o1 : okLb (am_sfi h' 29 Z (crN S)) L' := okLb_fx (fx_sfi fx_refl (Or.inr rfl) : fx (fun q => q = Z) h' (am_sfi h' 29 Z (crN S))) x3
  have fr1 : fx (fun q => q = Z) h' (am_sfi h' 29 Z (crN S)) := fx_sfi fx_refl (Or.inr rfl)
  have e2 : am_ai (am_wai (am_sfi h' 29 Z (crN S)) (am_fr h' 30 Z) (am_cpy (am_ai h' (am_fr h' 30 Ns)) (am_ai h' (am_fr h' 30 Z)) 0 0 32)) (am_fr h' 31 Ns) = am_ai h' (am_fr h' 31 Ns) := x_air (nd10 _ _ _ _ _ _ s10.2.1 t10.1)
  rw [e2]
  have f2 : fx (fun q => q = am_fr h' 30 Z ∨ q = am_fr h' 31 Z) (am_sfi h' 29 Z (crN S)) (am_wai (am_wai (am_sfi h' 29 Z (crN S)) (am_fr h' 30 Z) (am_cpy (am_ai h' (am_fr h' 30 Ns)) (am_ai h' (am_fr h' 30 Z)) 0 0 32)) (am_fr h' 31 Z) (am_cpy (am_ai h' (am_fr h' 31 Ns)) (am_ai (am_wai (am_sfi h' 29 Z (crN S)) (am_fr h' 30 Z) (am_cpy (am_ai h' (am_fr h' 30 Ns)) (am_ai h' (am_fr h' 30 Z)) 0 0 32)) (am_fr h' 31 Z)) 0 0 32)) := fx_wai (fx_wai fx_refl (Or.inr (Or.inl rfl))) (Or.inr (Or.inr rfl))
  have ne : am_fr h' 30 Z ≠ am_fr h' 31 Z := nd_kne t10.1 t10.2.1 (by decide)
  have a30 : am_ai (am_wai (am_wai (am_sfi h' 29 Z (crN S)) (am_fr h' 30 Z) (am_cpy (am_ai h' (am_fr h' 30 Ns)) (am_ai h' (am_fr h' 30 Z)) 0 0 32)) (am_fr h' 31 Z) (am_cpy (am_ai h' (am_fr h' 31 Ns)) (am_ai (am_wai (am_sfi h' 29 Z (crN S)) (am_fr h' 30 Z) (am_cpy (am_ai h' (am_fr h' 30 Ns)) (am_ai h' (am_fr h' 30 Z)) 0 0 32)) (am_fr h' 31 Z)) 0 0 32)) (am_fr h' 30 Z) = am_cpy (am_ai h' (am_fr h' 30 Ns)) (am_ai h' (am_fr h' 30 Z)) 0 0 32 := (x_air ne).trans x_aiwe
  have a31 : am_ai (am_wai (am_wai (am_sfi h' 29 Z (crN S)) (am_fr h' 30 Z) (am_cpy (am_ai h' (am_fr h' 30 Ns)) (am_ai h' (am_fr h' 30 Z)) 0 0 32)) (am_fr h' 31 Z) (am_cpy (am_ai h' (am_fr h' 31 Ns)) (am_ai (am_wai (am_sfi h' 29 Z (crN S)) (am_fr h' 30 Z) (am_cpy (am_ai h' (am_fr h' 30 Ns)) (am_ai h' (am_fr h' 30 Z)) 0 0 32)) (am_fr h' 31 Z)) 0 0 32)) (am_fr h' 31 Z) = am_cpy (am_ai h' (am_fr h' 31 Ns)) (am_ai (am_wai (am_sfi h' 29 Z (crN S)) (am_fr h' 30 Z) (am_cpy (am_ai h' (am_fr h' 30 Ns)) (am_ai h' (am_fr h' 30 Z)) 0 0 32)) (am_fr h' 31 Z)) 0 0 32 := x_aiwe
  have z2 : am_sz (am_wai (am_wai (am_sfi h' 29 Z (crN S)) (am_fr h' 30 Z) (am_cpy (am_ai h' (am_fr h' 30 Ns)) (am_ai h' (am_fr h' 30 Z)) 0 0 32)) (am_fr h' 31 Z) (am_cpy (am_ai h' (am_fr h' 31 Ns)) (am_ai (am_wai (am_sfi h' 29 Z (crN S)) (am_fr h' 30 Z) (am_cpy (am_ai h' (am_fr h' 30 Ns)) (am_ai h' (am_fr h' 30 Z)) 0 0 32)) (am_fr h' 31 Z)) 0 0 32)) = am_sz h' := rfl
  have u2 : am_us (am_wai (am_wai (am_sfi h' 29 Z (crN S)) (am_fr h' 30 Z) (am_cpy (am_ai h' (am_fr h' 30 Ns)) (am_ai h' (am_fr h' 30 Z)) 0 0 32)) (am_fr h' 31 Z) (am_cpy (am_ai h' (am_fr h' 31 Ns)) (am_ai (am_wai (am_sfi h' 29 Z (crN S)) (am_fr h' 30 Z) (am_cpy (am_ai h' (am_fr h' 30 Ns)) (am_ai h' (am_fr h' 30 Z)) 0 0 32)) (am_fr h' 31 Z)) 0 0 32)) = am_us h' := rfl
  have q2 : capG (am_wai (am_wai (am_sfi h' 29 Z (crN S)) (am_fr h' 30 Z) (am_cpy (am_ai h' (am_fr h' 30 Ns)) (am_ai h' (am_fr h' 30 Z)) 0 0 32)) (am_fr h' 31 Z) (am_cpy (am_ai h' (am_fr h' 31 Ns)) (am_ai (am_wai (am_sfi h' 29 Z (crN S)) (am_fr h' 30 Z) (am_cpy (am_ai h' (am_fr h' 30 Ns)) (am_ai h' (am_fr h' 30 Z)) 0 0 32)) (am_fr h' 31 Z)) 0 0 32)) Z = capG h' Z := rfl
  have cpy32 : ∀ (p q : Int → Int) j, 0 ≤ j → j < 32 → am_cpy p q 0 0 32 j = p j := fun p q j a b => by
    unfold am_cpy
    rw [if_pos (by omega)]
    congr 1
    omega
  generalize am_wai (am_wai (am_sfi h' 29 Z (crN S)) (am_fr h' 30 Z) (am_cpy (am_ai h' (am_fr h' 30 Ns)) (am_ai h' (am_fr h' 30 Z)) 0 0 32)) (am_fr h' 31 Z) (am_cpy (am_ai h' (am_fr h' 31 Ns)) (am_ai (am_wai (am_sfi h' 29 Z (crN S)) (am_fr h' 30 Z) (am_cpy (am_ai h' (am_fr h' 30 Ns)) (am_ai h' (am_fr h' 30 Z)) 0 0 32)) (am_fr h' 31 Z)) 0 0 32) = h2 at *
  have lb10 : ∀ q, q ≤ am_sz (am_sfi h' 29 Z (crN S)) → (q = am_fr h' 30 Z ∨ q = am_fr h' 31 Z) → (L' q).1 = Z ∧ (L' q).2.1 = 10 := fun q _ z => by
    rcases z with z | z
    · rw [z, t10.1.2.2.2]
      exact ⟨rfl, rfl⟩
    · rw [z, t10.2.1.2.2.2]
      exact ⟨rfl, rfl⟩
  have r10 := c1.2.2.2.2.2.2.2.2.2.2.2
  obtain ⟨⟨w0, wr, wp, wf⟩, w1, w3, w6, w5, w4, w7, w8, w9, _⟩ := CpI_gr 10 (by decide) c1 f2 (leL_refl (L := L')) o1 cs'.1 lb10
  have y10 : rR h2 L' Z (am_fr h' 30 Z) (am_fr h' 31 Z) S := by
    have v1 := nd_fy f2 (leL_refl (L := L')) r10.1
    have v2 := nd_fy f2 (leL_refl (L := L')) r10.2.1
    refine ⟨v1.1, v2.1, v1.2.trans r10.2.2.1, v2.2.trans r10.2.2.2.1, fun i k i0 i1 k0 k1 => ?_⟩
    rw [a30, a31, cpy32 _ _ _ (by omega) (by omega), cpy32 _ _ _ (by omega) (by omega)]
    exact s10.2.2.2.2 i k i0 i1 k0 k1
  have c2 : CpI h2 L' Z P (am_up F 29 (crN S)) S S S S S S S S S 400 := CpI_mk w0 wr wp wf (w1 (by decide)) (w3 (by decide)) (w6 (by decide)) (w5 (by decide)) (w4 (by decide)) (w7 (by decide)) (w8 (by decide)) (w9 (by decide)) y10
  have cs2 := cs_fx f2 (cs_fx fr1 cs')
  have o2 := okLb_fx f2 o1
  have c3 := CpI_num (f := 32) (v := S 0 0 7) c2 o2 cs2.1
  have f3 : fx (fun q => q = Z) h2 (am_sfi h2 32 Z (S 0 0 7)) := fx_sfi fx_refl (Or.inr rfl)
  have fA : fx (fun q => q = Z ∨ q = am_fr h' 30 Z ∨ q = am_fr h' 31 Z) h' (am_sfi h2 32 Z (S 0 0 7)) := fx_trans2 (fx_trans2 (fx_sub fr1 (fun q _ e => Or.inl e)) f2 (fun q _ e => Or.inr e)) f3 (fun q _ e => Or.inl e)
  obtain ⟨k1, k2, k3⟩ := CpS_fr x1 x2 x4 ow fA (leL_refl (L := L')) (fun q _ z => by
    rcases z with z | z | z
    · rw [z, t0.2.2.2]
    · rw [z, t10.1.2.2.2]
    · rw [z, t10.2.1.2.2.2]) (fun q hq => Or.inl (x3.2.2 q hq))
  have z4 : am_sz (am_sfi h2 32 Z (S 0 0 7)) = am_sz h2 := rfl
  have u4 : am_us (am_sfi h2 32 Z (S 0 0 7)) = am_us h2 := rfl
  have q4 : capG (am_sfi h2 32 Z (S 0 0 7)) Z = capG h2 Z := rfl
  refine H _ L' k1 k2 (okLb_fx f3 o2) (CpI_Rep c3 ?_ ?_ ?_ ?_ ?_) k3 (by rw [z4, z2, q4, q2]; omega) (by rw [u4, u2, q4, q2]; omega)
  · rw [am_up_ne (by decide), am_up_ne (by decide)]
    exact f18
  · rw [am_up_ne (by decide), am_up_ne (by decide)]
    exact f21
  · rw [am_up_ne (by decide), am_up_ne (by decide)]
    exact f24
  · rw [am_up_eq]
  · rw [am_up_ne (by decide), am_up_eq]
end
