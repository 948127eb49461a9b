set_option maxRecDepth 100000
/-- one machine alone is changed -/
theorem rM_one {X : Nat → Prop} {h h' : am_H} {L L' : am_Lb} {N : Nat} (a : fx X h h') (le : leL h L L') (ok : okLb h L) (n0 : N ≠ 0) (c0 : am_ty h (am_cs h 0) = 134) {r : Nat} {k B B' : Int} (hB : B ≤ B') {S S' : am_G} (hX : ∀ q, q ≤ am_sz h → X q → (L q).1 = N ∧ (L q).2.1 = 5 ∧ (L q).2.2.1 ≠ 0 ∧ (L q).2.2.2 = k) (e0 : S' 0 0 3 = S 0 0 3) (e5 : ∀ q, q ≠ k → S' 5 q = S 5 q) (eb : ∀ q i, q ≠ k → 0 ≤ q → q < S 0 0 3 → 0 ≤ i → i < S 5 q 29 → bhd S' q i = bhd S q i) (y : rM h L N r S B) (w : rMc h' L' N S' k (am_ar h r k) B') : rM h' L' N r S' B' := by
  obtain ⟨x1, x2, x3⟩ := y
  have v := nd_fx a le x1 (fun z => (hX _ x1.2.1 z).2.2.1 (by rw [x1.2.2.2]))
  refine ⟨v.1, v.2.1.trans x2, fun q k1 k2 => ?_⟩
  rw [e0] at k2
  rw [v.2.2.2.2.2]
  by_cases e : q = k
  · rw [e]
    exact w
  · exact rMc_fx a le ok c0 hB (e5 q e) (fun i i1 i2 => eb q i e k1 k2 i1 i2) (fun c hc z => ⟨by rw [(hX c hc z).1]; exact n0, fun u => e (u.2.2.symm.trans (hX c hc z).2.2.2)⟩) (x3 q k1 k2)
/-- the machine's own cell alone is changed -/
theorem rMc_m {h h' : am_H} {L : am_Lb} {N m : Nat} {k B : Int} {S S' : am_G} (a : fx (fun q => q = m) h h') (ok : okLb h L) (c0 : am_ty h (am_cs h 0) = 134) (x : rMc h L N S k m B) (hr : ∀ f, am_fr h' f m = am_fr h f m) (v1 : am_fi h' 145 m = S' 5 k 27) (v2 : am_fi h' 146 m = S' 5 k 28) (v3 : am_fi h' 148 m = S' 5 k 30) (v4 : am_fi h' 149 m = S' 5 k 31) (v5 : am_fi h' 150 m = S' 5 k 32) (e1 : ∀ c, 0 ≤ c → c < 27 → S' 5 k c = S 5 k c) (e2 : S' 5 k 29 = S 5 k 29) (e3 : ∀ o, 33 ≤ o → S' 5 k o = S 5 k o) (eb : ∀ i, 0 ≤ i → i < S 5 k 29 → bhd S' k i = bhd S k i) : rMc h' L N S' k m B := by
  obtain ⟨x1, x2, x3, x4, x5, x6, x7, x8, x9, x10, x11, x12⟩ := x
  have nn : ∀ q t kd, nd h L q t N 5 kd k → kd ≠ 1 → q ≠ m := fun q t kd n c e => by
    rw [e] at n
    have := n.2.2.2.symm.trans x1.2.2.2
    injection this with _ this
    injection this with _ this
    injection this with this _
    exact c this
  have l1 : am_fr h 147 m ≠ m := fun e => by
    have e2 := x10.1.1.1
    rw [e, x1.1] at e2
    exact absurd e2 (by decide)
  have l2 : am_fr h 194 (am_fr h 147 m) ≠ m := fun e => by
    have e2 := x10.1.1.2.1
    rw [e, x1.1] at e2
    omega
  have w := nd_fx a leL_refl x2 (nn _ _ _ x2 (by decide))
  have r := rL_fx a leL_refl (Int.le_refl B) x10 l1 l2
  have y1 := a.2.2.2 m x1.2.1
  unfold rMc rQ
  rw [hr, hr, w.2.1, w.2.2.2.2.1, r.2.1, r.2.2, e2]
  refine ⟨⟨y1.1.trans x1.1, Nat.le_trans x1.2.1 a.1, x1.2.2⟩, w.1, x3, fun c c1 c2 => (x4 c c1 c2).trans (e1 c c1 c2).symm, v1, v2, v3, v4, v5, r.1, fun i i1 i2 => ?_, x12⟩
  have xj := x11 i i1 i2
  exact rJ_fx a leL_refl (fun o o1 o2 => e3 o (by omega)) (eb i i1 i2) xj (nn _ _ _ xj.1 (by decide))
/-- the brasses alone -/
theorem rMc_b {h h' : am_H} {L : am_Lb} {N m : Nat} {k B : Int} {S S' : am_G} (a : fx (fun q => q = am_fr h 144 m) h h') (ok : okLb h L) (c0 : am_ty h (am_cs h 0) = 134) (x : rMc h L N S k m B) (v1 : ∀ c, 0 ≤ c → c < 27 → am_ai h' (am_fr h 144 m) c = S' 5 k c) (e3 : ∀ o, 27 ≤ o → S' 5 k o = S 5 k o) (eb : ∀ i, 0 ≤ i → i < S 5 k 29 → bhd S' k i = bhd S k i) : rMc h' L N S' k m B := by
  obtain ⟨x1, x2, x3, x4, x5, x6, x7, x8, x9, x10, x11, x12⟩ := x
  have nn : ∀ q t kd, nd h L q t N 5 kd k → kd ≠ 2 → q ≠ am_fr h 144 m := fun q t kd n c e => by
    rw [e] at n
    have := n.2.2.2.symm.trans x2.2.2.2
    injection this with _ this
    injection this with _ this
    injection this with this _
    exact c this
  have l1 : am_fr h 147 m ≠ am_fr h 144 m := fun e => by
    have e2 := x10.1.1.1
    rw [e, x2.1] at e2
    exact absurd e2 (by decide)
  have l2 : am_fr h 194 (am_fr h 147 m) ≠ am_fr h 144 m := fun e => by
    have e2 := x10.1.1.2.1
    rw [e, x2.1] at e2
    omega
  have w := nd_fx a leL_refl x1 (nn _ _ _ x1 (by decide))
  have r := rL_fx a leL_refl (Int.le_refl B) x10 l1 l2
  have y1 := a.2.2.2 _ x2.2.1
  unfold rMc rQ
  rw [w.2.2.2.1, w.2.2.2.1, w.2.2.1, w.2.2.1, w.2.2.1, w.2.2.1, w.2.2.1, y1.2.1, r.2.1, r.2.2, e3 27 (by omega), e3 28 (by omega), e3 29 (by omega), e3 30 (by omega), e3 31 (by omega), e3 32 (by omega)]
  refine ⟨w.1, ⟨y1.1.trans x2.1, Nat.le_trans x2.2.1 a.1, x2.2.2⟩, x3, v1, x5, x6, x7, x8, x9, r.1, fun i i1 i2 => ?_, x12⟩
  have xj := x11 i i1 i2
  exact rJ_fx a leL_refl (fun o o1 o2 => e3 o (by omega)) (eb i i1 i2) xj (nn _ _ _ xj.1 (by decide))
/-- one part alone -/
theorem rP_one {X : Nat → Prop} {h h' : am_H} {L L' : am_Lb} {N : Nat} (a : fx X h h') (le : leL h L L') (ok : okLb h L) (n0 : N ≠ 0) (c0 : am_ty h (am_cs h 0) = 134) {r : Nat} {p : Int} {S S' : am_G} (hX : ∀ q, q ≤ am_sz h → X q → (L q).1 = N ∧ (L q).2.1 = 3 ∧ (L q).2.2.1 ≠ 0 ∧ (L q).2.2.2 = p) (e0 : S' 0 0 1 = S 0 0 1) (e2 : S' 2 = S 2) (e3 : ∀ q, q ≠ p → S' 3 q = S 3 q) (y : rP h L N r S) (w : isP S p → rPt h' L' N S' p (am_ar h r p)) : rP h' L' N r S' := by
  obtain ⟨x1, x2, x3⟩ := y
  have v := nd_fx a le x1 (fun z => (hX _ x1.2.1 z).2.2.1 (by rw [x1.2.2.2]))
  refine ⟨v.1, v.2.1.trans x2, fun q k1 k2 => ?_⟩
  obtain ⟨w1, w2⟩ := x3 q k1 k2
  unfold isP at w1 w2 w ⊢
  rw [v.2.2.2.2.2, e0, e2]
  refine ⟨w1, fun c => ?_⟩
  by_cases e : q = p
  · rw [e]
    rw [e] at c
    exact w c
  · obtain ⟨x1, x2, x3, x4, x5, x6, x7, x8, x9⟩ := w2 c
    have i0 : ∀ q, q ≤ am_sz h → X q → (L q).1 ≠ 0 := fun q hq z => by rw [(hX q hq z).1]; exact n0
    have im : ∀ q, q ≤ am_sz h → X q → (L q).1 ≠ 0 ∧ ¬ imT (am_ty h q) := fun q hq z => ⟨i0 q hq z, fun t => i0 q hq z (ok.2.1 q hq t)⟩
    have nn : ∀ c t kd, nd h L c t N 3 kd q → ¬ X c := fun c t kd n z => e (by have := (hX c n.2.1 z).2.2.2; rw [n.2.2.2] at this; exact this)
    have u := nd_fx a le x1 (nn _ _ _ x1)
    unfold rPt
    rw [u.2.2.1, u.2.2.1, u.2.2.1, u.2.2.1, u.2.2.1, u.2.2.2.1, u.2.2.2.1, u.2.2.2.1, u.2.2.2.1, e2, e3 q e]
    refine ⟨u.1, x2, x3, x4, x5, x6, iPc_fx a le im x7, x8, fun c => ?_⟩
    obtain ⟨z1, z2, z3, z4, z5⟩ := x9 c
    have w := nd_fx a le z3 (nn _ _ _ z3)
    rw [w.2.1, w.2.2.2.2.1]
    exact ⟨iA_fx a le i0 z1, iLi_fx a le im z2, w.1, z4, z5⟩
/-- the places of a part alone -/
theorem rPt_pl {h h' : am_H} {L : am_Lb} {N t : Nat} {p : Int} {S S' : am_G} (a : fx (fun q => q = am_fr h 118 t) h h') (ok : okLb h L) (n0 : N ≠ 0) (x : rPt h L N S p t) (c3 : S 3 p 3 ≠ 0) (e2 : S' 2 = S 2) (e3 : ∀ o, o < 45 ∨ 85 ≤ o → S' 3 p o = S 3 p o) (v : ∀ l, 0 ≤ l → l < S 3 p 4 → am_ai h' (am_fr h 118 t) l = S' 3 p (45 + l) - 1) (ePc : iPc h L (am_fr h 113 t) (S' 3 p)) (eLi : iLi h L (am_fr h 117 t) (S' 3 p)) (hl : S 3 p 4 ≤ 40) : rPt h' L N S' p t := by
  obtain ⟨x1, x2, x3, x4, x5, x6, x7, x8, x9⟩ := x
  obtain ⟨z1, z2, z3, z4, z5⟩ := x9 c3
  have e : t ≠ am_fr h 118 t := fun e => by
    have := z3.1
    rw [← e, x1.1] at this
    exact absurd this (by decide)
  have u := nd_fx a leL_refl x1 e
  have i0 : ∀ q, q ≤ am_sz h → q = am_fr h 118 t → (L q).1 ≠ 0 := fun q hq z => by rw [z, z3.2.2.2]; exact n0
  have im : ∀ q, q ≤ am_sz h → q = am_fr h 118 t → (L q).1 ≠ 0 ∧ ¬ imT (am_ty h q) := fun q hq z => ⟨i0 q hq z, fun t => i0 q hq z (ok.2.1 q hq t)⟩
  have y1 := a.2.2.2 _ z3.2.1
  unfold rPt
  rw [u.2.2.1, u.2.2.1, u.2.2.1, u.2.2.1, u.2.2.1, u.2.2.2.1, u.2.2.2.1, u.2.2.2.1, u.2.2.2.1, e2, e3 0 (by omega), e3 2 (by omega), e3 3 (by omega), e3 4 (by omega)]
  refine ⟨u.1, x2, x3, x4, x5, x6, iPc_fx a leL_refl im ePc, fun c => absurd c c3, fun c => ⟨?_, iLi_fx a leL_refl im eLi, ⟨y1.1.trans z3.1, Nat.le_trans z3.2.1 a.1, z3.2.2⟩, y1.2.1.trans z4, v⟩⟩
  have q := iA_fx a leL_refl i0 z1
  exact ⟨q.1, q.2.1, q.2.2.1, q.2.2.2.1, q.2.2.2.2.1, fun l l1 l2 => (q.2.2.2.2.2 l l1 l2).trans (e3 _ (by omega)).symm⟩
/-- one slug alone -/
theorem rG_one {X : Nat → Prop} {h h' : am_H} {L L' : am_Lb} {N : Nat} (a : fx X h h') (le : leL h L L') (ok : okLb h L) (n0 : N ≠ 0) (c0 : am_ty h (am_cs h 0) = 134) {l : Nat} {s B B' : Int} (hB : B ≤ B') {S S' : am_G} (hX : ∀ q, q ≤ am_sz h → X q → (L q).1 = N ∧ (L q).2.1 = 4 ∧ (L q).2.2.1 = 2 ∧ (L q).2.2.2 = s) (e0 : S' 0 0 4 = S 0 0 4) (e2 : S' 2 = S 2) (e4 : ∀ q, q ≠ s → S' 4 q = S 4 q) (y : rG h L N l S B) (w : 0 ≤ s → s < S 0 0 4 → rSg h' L' N S' s (am_ar h (am_fr h 194 l) s)) : rG h' L' N l S' B' := by
  obtain ⟨x1, x2⟩ := y
  have i0 : ∀ q, q ≤ am_sz h → X q → (L q).1 ≠ 0 := fun q hq z => by rw [(hX q hq z).1]; exact n0
  have l1 : ¬ X l := fun z => by
    have e := (hX l x1.1.1.2.2.2.2.1 z).2.2.1
    rw [x1.2.2.1] at e
    exact absurd (show (0 : Nat) = 2 from e) (by decide)
  have l2 : ¬ X (am_fr h 194 l) := fun z => by
    have zz := hX _ x1.1.1.2.2.2.2.2 z
    by_cases c : 0 < am_ln h (am_fr h 194 l)
    · have e := zz.2.2.1
      rw [x1.2.2.2.1 c] at e
      exact absurd (show (1 : Nat) = 2 from e) (by decide)
    · have e := x1.1.2.2.1 (by have := x1.1.1.2.2.1; omega)
      have e2 := x1.1.1.2.2.2.2.2
      have zi := i0 _ e2 z
      rw [e] at zi e2
      exact zi (ok.2.1 _ e2 (by unfold imT; omega))
  have r := rL_fx a le hB x1 l1 l2
  unfold rG
  rw [r.2.1, r.2.2, e0]
  refine ⟨r.1, fun q s1 s2 => ?_⟩
  by_cases e : q = s
  · rw [e]
    rw [e] at s1 s2
    exact w s1 s2
  · have xs := x2 q s1 s2
    exact rSg_fx a le ok i0 (by rw [e2]) (e4 q e) xs (fun z => e (by have := (hX _ xs.1.2.1 z).2.2.2; rw [xs.1.2.2.2] at this; exact this))
/-- numbers of a slug alone -/
theorem rSg_i {h h' : am_H} {L : am_Lb} {N g : Nat} {s : Int} {S S' : am_G} (a : fx (fun q => q = g) h h') (ok : okLb h L) (n0 : N ≠ 0) (x : rSg h L N S s g) (hr : ∀ f, am_fr h' f g = am_fr h f g) (e2 : S' 2 = S 2) (e4 : ∀ o, o < 4 ∨ (6 < o ∧ o < 10) ∨ 11 < o → S' 4 s o = S 4 s o) (hi : ∀ f, f < 161 → am_fi h' f g = am_fi h f g) (v1 : am_fi h' 161 g = S' 4 s 6) (v2 : am_fi h' 162 g = S' 4 s 5) (v3 : am_fi h' 163 g = S' 4 s 4) (v4 : am_fi h' 165 g = S' 4 s 10 + 2 * S' 4 s 11) : rSg h' L N S' s g := by
  obtain ⟨x1, x2, x3, x4, x5, x6, x7, x8, x9, x10, x11, x12⟩ := x
  have y1 := a.2.2.2 g x1.2.1
  have i0 : ∀ q, q ≤ am_sz h → q = g → (L q).1 ≠ 0 := fun q hq z => by rw [z, x1.2.2.2]; exact n0
  have im : ∀ q, q ≤ am_sz h → q = g → (L q).1 ≠ 0 ∧ ¬ imT (am_ty h q) := fun q hq z => ⟨i0 q hq z, fun t => i0 q hq z (ok.2.1 q hq t)⟩
  have f1 : (fun j : Int => S 4 s (12 + j)) = fun j => S 4 s (12 + j) := rfl
  have w1 := iSc_fx (L' := L) a leL_refl im x7
  have w2 := iSc_fx (L' := L) a leL_refl im x11
  have k1 : ∀ f : Int → Int, ∀ n r, iSc h' L r n f → ∀ f' : Int → Int, (∀ j, 0 ≤ j → j < n → f' j = f j) → iSc h' L r n f' := fun f n r z f' e => ⟨⟨z.1.1, z.1.2.1, fun j j1 j2 => (z.1.2.2 j j1 j2).trans (e j j1 j2).symm⟩, z.2⟩
  unfold rSg
  rw [hr, hr, hi 155 (by decide), hi 156 (by decide), hi 157 (by decide), hi 158 (by decide), hi 159 (by decide), e2, e4 0 (by omega), e4 1 (by omega), e4 2 (by omega), e4 7 (by omega), e4 8 (by omega), e4 9 (by omega)]
  exact ⟨⟨y1.1.trans x1.1, Nat.le_trans x1.2.1 a.1, x1.2.2⟩, x2, x3, x4, x5, x6, k1 _ _ _ w1 _ (fun j j1 j2 => e4 _ (by omega)), v1, v2, v3, k1 _ _ _ w2 _ (fun j j1 j2 => e4 _ (by omega)), v4⟩
