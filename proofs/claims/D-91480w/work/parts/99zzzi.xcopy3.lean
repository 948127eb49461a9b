set_option maxRecDepth 100000
/-! a night is copied: groups one by one -/
theorem CpI_mk {h h' : am_H} {L' : am_Lb} {N P : Nat} {F : Nat → Int} {T1 T3 T6 T5 T4 T7 T8 T9 T10 : am_G} {B : Int} (hN : nd h' L' N 3 N 0 0 0) (hr : ∀ f, am_fr h' f N = am_fr h f N) (p : am_fr h 17 N = P) (hf : ∀ f, am_fi h' f N = F f) (y1 : rW h' L' N (am_fr h 19 N) T1) (y3 : rP h' L' N (am_fr h 20 N) T3) (y6 : rY h' L' N (am_fr h 22 N) T6 B) (y5 : rM h' L' N (am_fr h 23 N) T5 B) (y4 : rG h' L' N (am_fr h 25 N) T4 B) (y7 : rT h' L' N (am_fr h 26 N) T7 B) (y8 : rH h' L' N (am_fr h 27 N) T8) (y9 : rE h' L' N (am_fr h 28 N) T9 B) (y10 : rR h' L' N (am_fr h 30 N) (am_fr h 31 N) T10) : CpI h' L' N P F T1 T3 T6 T5 T4 T7 T8 T9 T10 B := by
  unfold CpI
  rw [hr, hr, hr, hr, hr, hr, hr, hr, hr, hr, hr]
  exact ⟨hN, p, hf, y1, y3, y6, y5, y4, y7, y8, y9, y10⟩
/-- cells of one group are changed: the others are as they were -/
theorem CpI_gr {X : Nat → Prop} {h h' : am_H} {L L' : am_Lb} {N P : Nat} {F : Nat → Int} {B : Int} {T1 T3 T6 T5 T4 T7 T8 T9 T10 : am_G} (G : Nat) (G0 : G ≠ 0) (x : CpI h L N P F T1 T3 T6 T5 T4 T7 T8 T9 T10 B) (a : fx X h h') (le : leL h L L') (ok : okLb h L) (c0 : am_ty h (am_cs h 0) = 134) (hX : ∀ q, q ≤ am_sz h → X q → (L q).1 = N ∧ (L q).2.1 = G) : (nd h' L' N 3 N 0 0 0 ∧ (∀ f, am_fr h' f N = am_fr h f N) ∧ am_fr h 17 N = P ∧ (∀ f, am_fi h' f N = F f)) ∧ (G ≠ 1 → rW h' L' N (am_fr h 19 N) T1) ∧ (G ≠ 3 → rP h' L' N (am_fr h 20 N) T3) ∧ (G ≠ 6 → rY h' L' N (am_fr h 22 N) T6 B) ∧ (G ≠ 5 → rM h' L' N (am_fr h 23 N) T5 B) ∧ (G ≠ 4 → rG h' L' N (am_fr h 25 N) T4 B) ∧ (G ≠ 7 → rT h' L' N (am_fr h 26 N) T7 B) ∧ (G ≠ 8 → rH h' L' N (am_fr h 27 N) T8) ∧ (G ≠ 9 → rE h' L' N (am_fr h 28 N) T9 B) ∧ (G ≠ 10 → rR h' L' N (am_fr h 30 N) (am_fr h 31 N) T10) := by
  obtain ⟨x0, xp, xf, x1, x3, x6, x5, x4, x7, x8, x9, x10⟩ := x
  have n0 := x0.2.2.1
  have zg := zfg n0 hX
  have y := nd_fx a le x0 (fun z => by
    have e := (hX _ x0.2.1 z).2
    rw [x0.2.2.2] at e
    exact G0 e.symm)
  refine ⟨⟨y.1, y.2.2.2.1, xp, fun f => (y.2.2.1 f).trans (xf f)⟩, fun c => ?_, fun c => ?_, fun c => ?_, fun c => ?_, fun c => ?_, fun c => ?_, fun c => ?_, fun c => ?_, fun c => ?_⟩
  · exact rW_fx a le ok c0 (zg 1 (fun e => c e.symm)) rfl x1
  · exact rP_fx a le ok c0 (zg 3 (fun e => c e.symm)) rfl rfl rfl x3
  · exact rY_fx a le ok c0 (zg 6 (fun e => c e.symm)) (Int.le_refl _) rfl rfl x6
  · exact rM_fx a le ok c0 (zg 5 (fun e => c e.symm)) (Int.le_refl _) rfl rfl (fun _ _ _ _ _ _ => rfl) x5
  · exact rG_fx a le ok c0 (zg 4 (fun e => c e.symm)) (Int.le_refl _) rfl (fun _ _ _ => rfl) rfl x4
  · exact rT_fx a le ok c0 (zg 7 (fun e => c e.symm)) (Int.le_refl _) rfl rfl x7
  · exact rH_fx a le ok c0 (zg 8 (fun e => c e.symm)) rfl x8
  · exact rE_fx a le ok c0 (zg 9 (fun e => c e.symm)) (Int.le_refl _) rfl rfl x9
  · exact rR_fx a le ok c0 (zg 10 (fun e => c e.symm)) rfl rfl (fun _ _ _ _ _ _ => rfl) x10
/-- nothing old is changed -/
theorem CpI_f0 {h h' : am_H} {L L' : am_Lb} {N P : Nat} {F : Nat → Int} {B : Int} {T1 T3 T6 T5 T4 T7 T8 T9 T10 : am_G} (x : CpI h L N P F T1 T3 T6 T5 T4 T7 T8 T9 T10 B) (a : fx (fun _ => False) h h') (le : leL h L L') (ok : okLb h L) (c0 : am_ty h (am_cs h 0) = 134) : CpI h' L' N P F T1 T3 T6 T5 T4 T7 T8 T9 T10 B := by
  obtain ⟨⟨w0, wr, wp, wf⟩, w1, w3, w6, w5, w4, w7, w8, w9, w10⟩ := CpI_gr 2 (by decide) x a le ok c0 (fun q _ z => z.elim)
  exact CpI_mk w0 wr wp wf (w1 (by decide)) (w3 (by decide)) (w6 (by decide)) (w5 (by decide)) (w4 (by decide)) (w7 (by decide)) (w8 (by decide)) (w9 (by decide)) (w10 (by decide))
/-- one of the night's numbers -/
theorem CpI_num {h : am_H} {L : am_Lb} {N P f : Nat} {v : Int} {F : Nat → Int} {B : Int} {T1 T3 T6 T5 T4 T7 T8 T9 T10 : am_G} (x : CpI h L N P F T1 T3 T6 T5 T4 T7 T8 T9 T10 B) (ok : okLb h L) (c0 : am_ty h (am_cs h 0) = 134) : CpI (am_sfi h f N v) L N P (am_up F f v) T1 T3 T6 T5 T4 T7 T8 T9 T10 B := by
  obtain ⟨x0, xp, xf, x1, x3, x6, x5, x4, x7, x8, x9, x10⟩ := x
  have n0 := x0.2.2.1
  have a : fx (fun q => q = N) h (am_sfi h f N v) := fx_sfi fx_refl (Or.inr rfl)
  have zg := zfg (G := 0) n0 (nd_one x0)
  refine CpI_mk (h := h) ⟨x0.1, x0.2.1, x0.2.2⟩ (fun _ => rfl) xp (fun g => ?_) ?_ ?_ ?_ ?_ ?_ ?_ ?_ ?_ ?_
  · by_cases e : g = f
    · rw [e, x_fie, am_up_eq]
    · rw [x_fif e, am_up_ne e]
      exact xf g
  · exact rW_fx a leL_refl ok c0 (zg 1 (by decide)) rfl x1
  · exact rP_fx a leL_refl ok c0 (zg 3 (by decide)) rfl rfl rfl x3
  · exact rY_fx a leL_refl ok c0 (zg 6 (by decide)) (Int.le_refl _) rfl rfl x6
  · exact rM_fx a leL_refl ok c0 (zg 5 (by decide)) (Int.le_refl _) rfl rfl (fun _ _ _ _ _ _ => rfl) x5
  · exact rG_fx a leL_refl ok c0 (zg 4 (by decide)) (Int.le_refl _) rfl (fun _ _ _ => rfl) rfl x4
  · exact rT_fx a leL_refl ok c0 (zg 7 (by decide)) (Int.le_refl _) rfl rfl x7
  · exact rH_fx a leL_refl ok c0 (zg 8 (by decide)) rfl x8
  · exact rE_fx a leL_refl ok c0 (zg 9 (by decide)) (Int.le_refl _) rfl rfl x9
  · exact rR_fx a leL_refl ok c0 (zg 10 (by decide)) rfl rfl (fun _ _ _ _ _ _ => rfl) x10
theorem CpI_B {h : am_H} {L : am_Lb} {N P : Nat} {F : Nat → Int} {B B' : Int} {T1 T3 T6 T5 T4 T7 T8 T9 T10 : am_G} (hB : B ≤ B') (x : CpI h L N P F T1 T3 T6 T5 T4 T7 T8 T9 T10 B) (ok : okLb h L) (c0 : am_ty h (am_cs h 0) = 134) : CpI h L N P F T1 T3 T6 T5 T4 T7 T8 T9 T10 B' := by
  obtain ⟨x0, xp, xf, x1, x3, x6, x5, x4, x7, x8, x9, x10⟩ := x
  have a : fx (fun _ => False) h h := fx_refl
  have zg : ∀ g q, q ≤ am_sz h → (fun _ => False) q → zf L N g q := fun g q _ z => z.elim
  exact ⟨x0, xp, xf, x1, x3, rY_fx a leL_refl ok c0 (zg 6) hB rfl rfl x6, rM_fx a leL_refl ok c0 (zg 5) hB rfl rfl (fun _ _ _ _ _ _ => rfl) x5, rG_fx a leL_refl ok c0 (zg 4) hB rfl (fun _ _ _ => rfl) rfl x4, rT_fx a leL_refl ok c0 (zg 7) hB rfl rfl x7, x8, rE_fx a leL_refl ok c0 (zg 9) hB rfl rfl x9, x10⟩
/-- the whole, when every group tells the same state -/
theorem CpI_Rep {h : am_H} {L : am_Lb} {N P : Nat} {F : Nat → Int} {B : Int} {S : am_G} (x : CpI h L N P F S S S S S S S S S B) (f18 : F 18 = S 0 0 0) (f21 : F 21 = S 0 0 1) (f24 : F 24 = S 0 0 3) (f32 : F 32 = S 0 0 7) (f29 : F 29 = crN S) : Rep h L N P S B := by
  obtain ⟨x0, xp, xf, x1, x3, x6, x5, x4, x7, x8, x9, x10⟩ := x
  exact ⟨⟨x0, xp, (xf 18).trans f18, (xf 21).trans f21, (xf 24).trans f24, (xf 32).trans f32, (xf 29).trans f29⟩, x1, x3, x6, x5, x4, x7, x8, x9, x10⟩
/-- parts ahead of k alone -/
def tP (S : am_G) (k : Int) : am_G := fun c p i => if c = 2 ∧ p = 2 then (if 5 * i + S 2 2 i ≤ k then S 2 2 i else if k ≤ 5 * i then 0 else k - 5 * i) else S c p i
theorem tP_c {S : am_G} {k p i : Int} {c : Nat} (h : ¬ (c = 2 ∧ p = 2)) : tP S k c p i = S c p i := if_neg h
theorem tP_P {S : am_G} {k p : Int} : isP (tP S k) p ↔ isP S p ∧ p < k := by
  have e1 : tP S k 0 0 1 = S 0 0 1 := tP_c (by decide)
  have e2 : tP S k 2 2 (p / 5) = if 5 * (p / 5) + S 2 2 (p / 5) ≤ k then S 2 2 (p / 5) else if k ≤ 5 * (p / 5) then 0 else k - 5 * (p / 5) := if_pos ⟨rfl, rfl⟩
  unfold isP
  rw [e1, e2]
  by_cases c1 : 5 * (p / 5) + S 2 2 (p / 5) ≤ k
  · rw [if_pos c1]
    constructor
    · intro z
      exact ⟨z, by omega⟩
    · intro z
      exact z.1
  · rw [if_neg c1]
    by_cases c2 : k ≤ 5 * (p / 5)
    · rw [if_pos c2]
      constructor
      · intro z
        omega
      · intro z
        omega
    · rw [if_neg c2]
      constructor
      · intro z
        exact ⟨⟨z.1, z.2.1, by omega⟩, by omega⟩
      · intro z
        exact ⟨z.1.1, z.1.2.1, by omega⟩
theorem rPt_tP {h : am_H} {L : am_Lb} {N t : Nat} {S : am_G} {p k : Int} : rPt h L N (tP S k) p t ↔ rPt h L N S p t := by
  have e3 : tP S k 3 = S 3 := by
    funext p i
    exact tP_c (by simp)
  have e20 : tP S k 2 0 = S 2 0 := by
    funext i
    exact tP_c (by decide)
  have e21 : tP S k 2 1 = S 2 1 := by
    funext i
    exact tP_c (by decide)
  unfold rPt
  rw [e3, e20, e21]
