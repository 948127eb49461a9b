set_option maxRecDepth 100000
theorem lsG_c {S S' : am_G} (e : S' 4 = S 4) {k mi : Int} : ∀ n : Nat, lsG S' k mi n = lsG S k mi n
  | 0 => rfl
  | n + 1 => by
    unfold lsG
    rw [e, lsG_c e n]
theorem crN_c {S S' : am_G} (e : S' 4 = S 4) (e0 : S' 0 0 4 = S 0 0 4) : crN S' = crN S := by
  unfold crN
  rw [e, e0]
theorem rN_fx2 {X : Nat → Prop} {h h' : am_H} {L L' : am_Lb} {N : Nat} (a : fx X h h') (le : leL h L L') {P : Nat} {S S' : am_G} (n1 : ¬ X N) (e : S' 0 0 0 = S 0 0 0 ∧ S' 0 0 1 = S 0 0 1 ∧ S' 0 0 3 = S 0 0 3 ∧ S' 0 0 7 = S 0 0 7) (ec : crN S' = crN S) (x : rN h L N P S) : rN h' L' N P S' := by
  obtain ⟨x1, x2⟩ := x
  have y := nd_fx a le x1 n1
  refine ⟨y.1, ?_⟩
  rw [y.2.2.1, y.2.2.1, y.2.2.1, y.2.2.1, y.2.2.1, y.2.2.2.1, e.1, e.2.1, e.2.2.1, e.2.2.2, ec]
  exact x2
theorem Nt_1 {X : Nat → Prop} {h h' : am_H} {L L' : am_Lb} {x P N : Nat} {S S' : am_G} {B B' : Int} (t : Nt h L x P N S B) (hB : B ≤ B') (a : fx X h h') (le : leL h L L') (ok2 : okLb h' L') (hX : ∀ q, q ≤ am_sz h → X q → (L q).1 = N ∧ (L q).2.1 = 1) (eS : ∀ c, c ≠ 1 → c ≠ 0 → S' c = S c) (e0 : ∀ j, S' 0 0 j = S 0 0 j) (y : rW h' L' N (am_fr h 19 N) S') : Nt h' L' x P N S' B' := by
  obtain ⟨t1, t2, t3, ⟨x1, x2, x3, x4, x5, x6, x7, x8, x9, x10⟩, t5⟩ := t
  have z := zfg (h := h) t5.2.2 hX
  have nN : ¬ X N := fun w => nd_zf x1.1 (z 0 (by decide) _ x1.1.2.1 w)
  have yN := nd_fx a le x1.1 nN
  exact ⟨ok2, cs_fx a t2, rPap_fx a le (fun q hq w u => t5.1 (u.1.symm.trans (hX q hq w).1)) t3, Rep_mk (h := h) yN.2.2.2.1 ⟨rN_fx2 a le nN ⟨(e0 0), (e0 1), (e0 3), (e0 7)⟩ (crN_c (eS 4 (by decide) (by decide)) (e0 4)) x1,
    y,
    rP_fx a le t1 t2.1 (z 3 (by decide)) (e0 1) (eS 2 (by decide) (by decide)) (eS 3 (by decide) (by decide)) x3,
    rY_fx a le t1 t2.1 (z 6 (by decide)) hB (e0 2) (eS 6 (by decide) (by decide)) x4,
    rM_fx a le t1 t2.1 (z 5 (by decide)) hB (e0 3) (eS 5 (by decide) (by decide)) (fun k i _ _ _ _ => by unfold bhd; rw [eS 5 (by decide) (by decide), eS 3 (by decide) (by decide)]) x5,
    rG_fx a le t1 t2.1 (z 4 (by decide)) hB (e0 4) (fun _ _ _ => by rw [eS 2 (by decide) (by decide)]) (eS 4 (by decide) (by decide)) x6,
    rT_fx a le t1 t2.1 (z 7 (by decide)) hB (e0 5) (eS 7 (by decide) (by decide)) x7,
    rH_fx a le t1 t2.1 (z 8 (by decide)) (eS 8 (by decide) (by decide)) x8,
    rE_fx a le t1 t2.1 (z 9 (by decide)) hB (e0 6) (eS 9 (by decide) (by decide)) x9,
    rR_fx a le t1 t2.1 (z 10 (by decide)) (e0 7) (eS 10 (by decide) (by decide)) (fun i k _ _ _ _ => by rw [e0 4]; exact lsG_c (eS 4 (by decide) (by decide)) _) x10⟩, t5⟩
theorem Nt_3 {X : Nat → Prop} {h h' : am_H} {L L' : am_Lb} {x P N : Nat} {S S' : am_G} {B B' : Int} (t : Nt h L x P N S B) (hB : B ≤ B') (a : fx X h h') (le : leL h L L') (ok2 : okLb h' L') (hX : ∀ q, q ≤ am_sz h → X q → (L q).1 = N ∧ (L q).2.1 = 3) (eS : ∀ c, c ≠ 3 → c ≠ 0 → S' c = S c) (e0 : ∀ j, S' 0 0 j = S 0 0 j) (e2 : S' 2 = S 2) (eb : ∀ k i, 0 ≤ k → k < S 0 0 3 → 0 ≤ i → i < S 5 k 29 → bhd S' k i = bhd S k i) (y : rP h' L' N (am_fr h 20 N) S') : Nt h' L' x P N S' B' := by
  obtain ⟨t1, t2, t3, ⟨x1, x2, x3, x4, x5, x6, x7, x8, x9, x10⟩, t5⟩ := t
  have z := zfg (h := h) t5.2.2 hX
  have nN : ¬ X N := fun w => nd_zf x1.1 (z 0 (by decide) _ x1.1.2.1 w)
  have yN := nd_fx a le x1.1 nN
  exact ⟨ok2, cs_fx a t2, rPap_fx a le (fun q hq w u => t5.1 (u.1.symm.trans (hX q hq w).1)) t3, Rep_mk (h := h) yN.2.2.2.1 ⟨rN_fx2 a le nN ⟨(e0 0), (e0 1), (e0 3), (e0 7)⟩ (crN_c (eS 4 (by decide) (by decide)) (e0 4)) x1,
    rW_fx a le t1 t2.1 (z 1 (by decide)) (eS 1 (by decide) (by decide)) x2,
    y,
    rY_fx a le t1 t2.1 (z 6 (by decide)) hB (e0 2) (eS 6 (by decide) (by decide)) x4,
    rM_fx a le t1 t2.1 (z 5 (by decide)) hB (e0 3) (eS 5 (by decide) (by decide)) eb x5,
    rG_fx a le t1 t2.1 (z 4 (by decide)) hB (e0 4) (fun _ _ _ => by rw [e2]) (eS 4 (by decide) (by decide)) x6,
    rT_fx a le t1 t2.1 (z 7 (by decide)) hB (e0 5) (eS 7 (by decide) (by decide)) x7,
    rH_fx a le t1 t2.1 (z 8 (by decide)) (eS 8 (by decide) (by decide)) x8,
    rE_fx a le t1 t2.1 (z 9 (by decide)) hB (e0 6) (eS 9 (by decide) (by decide)) x9,
    rR_fx a le t1 t2.1 (z 10 (by decide)) (e0 7) (eS 10 (by decide) (by decide)) (fun i k _ _ _ _ => by rw [e0 4]; exact lsG_c (eS 4 (by decide) (by decide)) _) x10⟩, t5⟩
theorem Nt_6 {X : Nat → Prop} {h h' : am_H} {L L' : am_Lb} {x P N : Nat} {S S' : am_G} {B B' : Int} (t : Nt h L x P N S B) (hB : B ≤ B') (a : fx X h h') (le : leL h L L') (ok2 : okLb h' L') (hX : ∀ q, q ≤ am_sz h → X q → (L q).1 = N ∧ (L q).2.1 = 6) (eS : ∀ c, c ≠ 6 → c ≠ 0 → S' c = S c) (e0 : ∀ j, j ≠ 2 → S' 0 0 j = S 0 0 j) (y : rY h' L' N (am_fr h 22 N) S' B') : Nt h' L' x P N S' B' := by
  obtain ⟨t1, t2, t3, ⟨x1, x2, x3, x4, x5, x6, x7, x8, x9, x10⟩, t5⟩ := t
  have z := zfg (h := h) t5.2.2 hX
  have nN : ¬ X N := fun w => nd_zf x1.1 (z 0 (by decide) _ x1.1.2.1 w)
  have yN := nd_fx a le x1.1 nN
  exact ⟨ok2, cs_fx a t2, rPap_fx a le (fun q hq w u => t5.1 (u.1.symm.trans (hX q hq w).1)) t3, Rep_mk (h := h) yN.2.2.2.1 ⟨rN_fx2 a le nN ⟨(e0 0 (by decide)), (e0 1 (by decide)), (e0 3 (by decide)), (e0 7 (by decide))⟩ (crN_c (eS 4 (by decide) (by decide)) (e0 4 (by decide))) x1,
    rW_fx a le t1 t2.1 (z 1 (by decide)) (eS 1 (by decide) (by decide)) x2,
    rP_fx a le t1 t2.1 (z 3 (by decide)) (e0 1 (by decide)) (eS 2 (by decide) (by decide)) (eS 3 (by decide) (by decide)) x3,
    y,
    rM_fx a le t1 t2.1 (z 5 (by decide)) hB (e0 3 (by decide)) (eS 5 (by decide) (by decide)) (fun k i _ _ _ _ => by unfold bhd; rw [eS 5 (by decide) (by decide), eS 3 (by decide) (by decide)]) x5,
    rG_fx a le t1 t2.1 (z 4 (by decide)) hB (e0 4 (by decide)) (fun _ _ _ => by rw [eS 2 (by decide) (by decide)]) (eS 4 (by decide) (by decide)) x6,
    rT_fx a le t1 t2.1 (z 7 (by decide)) hB (e0 5 (by decide)) (eS 7 (by decide) (by decide)) x7,
    rH_fx a le t1 t2.1 (z 8 (by decide)) (eS 8 (by decide) (by decide)) x8,
    rE_fx a le t1 t2.1 (z 9 (by decide)) hB (e0 6 (by decide)) (eS 9 (by decide) (by decide)) x9,
    rR_fx a le t1 t2.1 (z 10 (by decide)) (e0 7 (by decide)) (eS 10 (by decide) (by decide)) (fun i k _ _ _ _ => by rw [e0 4 (by decide)]; exact lsG_c (eS 4 (by decide) (by decide)) _) x10⟩, t5⟩
theorem Nt_5 {X : Nat → Prop} {h h' : am_H} {L L' : am_Lb} {x P N : Nat} {S S' : am_G} {B B' : Int} (t : Nt h L x P N S B) (hB : B ≤ B') (a : fx X h h') (le : leL h L L') (ok2 : okLb h' L') (hX : ∀ q, q ≤ am_sz h → X q → (L q).1 = N ∧ (L q).2.1 = 5) (eS : ∀ c, c ≠ 5 → c ≠ 0 → S' c = S c) (e0 : ∀ j, S' 0 0 j = S 0 0 j) (y : rM h' L' N (am_fr h 23 N) S' B') : Nt h' L' x P N S' B' := by
  obtain ⟨t1, t2, t3, ⟨x1, x2, x3, x4, x5, x6, x7, x8, x9, x10⟩, t5⟩ := t
  have z := zfg (h := h) t5.2.2 hX
  have nN : ¬ X N := fun w => nd_zf x1.1 (z 0 (by decide) _ x1.1.2.1 w)
  have yN := nd_fx a le x1.1 nN
  exact ⟨ok2, cs_fx a t2, rPap_fx a le (fun q hq w u => t5.1 (u.1.symm.trans (hX q hq w).1)) t3, Rep_mk (h := h) yN.2.2.2.1 ⟨rN_fx2 a le nN ⟨(e0 0), (e0 1), (e0 3), (e0 7)⟩ (crN_c (eS 4 (by decide) (by decide)) (e0 4)) x1,
    rW_fx a le t1 t2.1 (z 1 (by decide)) (eS 1 (by decide) (by decide)) x2,
    rP_fx a le t1 t2.1 (z 3 (by decide)) (e0 1) (eS 2 (by decide) (by decide)) (eS 3 (by decide) (by decide)) x3,
    rY_fx a le t1 t2.1 (z 6 (by decide)) hB (e0 2) (eS 6 (by decide) (by decide)) x4,
    y,
    rG_fx a le t1 t2.1 (z 4 (by decide)) hB (e0 4) (fun _ _ _ => by rw [eS 2 (by decide) (by decide)]) (eS 4 (by decide) (by decide)) x6,
    rT_fx a le t1 t2.1 (z 7 (by decide)) hB (e0 5) (eS 7 (by decide) (by decide)) x7,
    rH_fx a le t1 t2.1 (z 8 (by decide)) (eS 8 (by decide) (by decide)) x8,
    rE_fx a le t1 t2.1 (z 9 (by decide)) hB (e0 6) (eS 9 (by decide) (by decide)) x9,
    rR_fx a le t1 t2.1 (z 10 (by decide)) (e0 7) (eS 10 (by decide) (by decide)) (fun i k _ _ _ _ => by rw [e0 4]; exact lsG_c (eS 4 (by decide) (by decide)) _) x10⟩, t5⟩
theorem Nt_4 {X : Nat → Prop} {h h' : am_H} {L L' : am_Lb} {x P N : Nat} {S S' : am_G} {B B' : Int} (t : Nt h L x P N S B) (hB : B ≤ B') (a : fx X h h') (le : leL h L L') (ok2 : okLb h' L') (hX : ∀ q, q ≤ am_sz h → X q → (L q).1 = N ∧ (L q).2.1 = 4) (eS : ∀ c, c ≠ 4 → c ≠ 0 → S' c = S c) (e0 : ∀ j, j ≠ 4 → S' 0 0 j = S 0 0 j) (ec : crN S' = crN S) (eg : ∀ i k, 0 ≤ i → i < S 0 0 7 → 0 ≤ k → k < 4 → lsG S' k (S 10 0 (5 * i)) (S' 0 0 4).toNat = lsG S k (S 10 0 (5 * i)) (S 0 0 4).toNat) (y : rG h' L' N (am_fr h 25 N) S' B') : Nt h' L' x P N S' B' := by
  obtain ⟨t1, t2, t3, ⟨x1, x2, x3, x4, x5, x6, x7, x8, x9, x10⟩, t5⟩ := t
  have z := zfg (h := h) t5.2.2 hX
  have nN : ¬ X N := fun w => nd_zf x1.1 (z 0 (by decide) _ x1.1.2.1 w)
  have yN := nd_fx a le x1.1 nN
  exact ⟨ok2, cs_fx a t2, rPap_fx a le (fun q hq w u => t5.1 (u.1.symm.trans (hX q hq w).1)) t3, Rep_mk (h := h) yN.2.2.2.1 ⟨rN_fx2 a le nN ⟨(e0 0 (by decide)), (e0 1 (by decide)), (e0 3 (by decide)), (e0 7 (by decide))⟩ ec x1,
    rW_fx a le t1 t2.1 (z 1 (by decide)) (eS 1 (by decide) (by decide)) x2,
    rP_fx a le t1 t2.1 (z 3 (by decide)) (e0 1 (by decide)) (eS 2 (by decide) (by decide)) (eS 3 (by decide) (by decide)) x3,
    rY_fx a le t1 t2.1 (z 6 (by decide)) hB (e0 2 (by decide)) (eS 6 (by decide) (by decide)) x4,
    rM_fx a le t1 t2.1 (z 5 (by decide)) hB (e0 3 (by decide)) (eS 5 (by decide) (by decide)) (fun k i _ _ _ _ => by unfold bhd; rw [eS 5 (by decide) (by decide), eS 3 (by decide) (by decide)]) x5,
    y,
    rT_fx a le t1 t2.1 (z 7 (by decide)) hB (e0 5 (by decide)) (eS 7 (by decide) (by decide)) x7,
    rH_fx a le t1 t2.1 (z 8 (by decide)) (eS 8 (by decide) (by decide)) x8,
    rE_fx a le t1 t2.1 (z 9 (by decide)) hB (e0 6 (by decide)) (eS 9 (by decide) (by decide)) x9,
    rR_fx a le t1 t2.1 (z 10 (by decide)) (e0 7 (by decide)) (eS 10 (by decide) (by decide)) eg x10⟩, t5⟩
theorem Nt_7 {X : Nat → Prop} {h h' : am_H} {L L' : am_Lb} {x P N : Nat} {S S' : am_G} {B B' : Int} (t : Nt h L x P N S B) (hB : B ≤ B') (a : fx X h h') (le : leL h L L') (ok2 : okLb h' L') (hX : ∀ q, q ≤ am_sz h → X q → (L q).1 = N ∧ (L q).2.1 = 7) (eS : ∀ c, c ≠ 7 → c ≠ 0 → S' c = S c) (e0 : ∀ j, j ≠ 5 → S' 0 0 j = S 0 0 j) (y : rT h' L' N (am_fr h 26 N) S' B') : Nt h' L' x P N S' B' := by
  obtain ⟨t1, t2, t3, ⟨x1, x2, x3, x4, x5, x6, x7, x8, x9, x10⟩, t5⟩ := t
  have z := zfg (h := h) t5.2.2 hX
  have nN : ¬ X N := fun w => nd_zf x1.1 (z 0 (by decide) _ x1.1.2.1 w)
  have yN := nd_fx a le x1.1 nN
  exact ⟨ok2, cs_fx a t2, rPap_fx a le (fun q hq w u => t5.1 (u.1.symm.trans (hX q hq w).1)) t3, Rep_mk (h := h) yN.2.2.2.1 ⟨rN_fx2 a le nN ⟨(e0 0 (by decide)), (e0 1 (by decide)), (e0 3 (by decide)), (e0 7 (by decide))⟩ (crN_c (eS 4 (by decide) (by decide)) (e0 4 (by decide))) x1,
    rW_fx a le t1 t2.1 (z 1 (by decide)) (eS 1 (by decide) (by decide)) x2,
    rP_fx a le t1 t2.1 (z 3 (by decide)) (e0 1 (by decide)) (eS 2 (by decide) (by decide)) (eS 3 (by decide) (by decide)) x3,
    rY_fx a le t1 t2.1 (z 6 (by decide)) hB (e0 2 (by decide)) (eS 6 (by decide) (by decide)) x4,
    rM_fx a le t1 t2.1 (z 5 (by decide)) hB (e0 3 (by decide)) (eS 5 (by decide) (by decide)) (fun k i _ _ _ _ => by unfold bhd; rw [eS 5 (by decide) (by decide), eS 3 (by decide) (by decide)]) x5,
    rG_fx a le t1 t2.1 (z 4 (by decide)) hB (e0 4 (by decide)) (fun _ _ _ => by rw [eS 2 (by decide) (by decide)]) (eS 4 (by decide) (by decide)) x6,
    y,
    rH_fx a le t1 t2.1 (z 8 (by decide)) (eS 8 (by decide) (by decide)) x8,
    rE_fx a le t1 t2.1 (z 9 (by decide)) hB (e0 6 (by decide)) (eS 9 (by decide) (by decide)) x9,
    rR_fx a le t1 t2.1 (z 10 (by decide)) (e0 7 (by decide)) (eS 10 (by decide) (by decide)) (fun i k _ _ _ _ => by rw [e0 4 (by decide)]; exact lsG_c (eS 4 (by decide) (by decide)) _) x10⟩, t5⟩
theorem Nt_8 {X : Nat → Prop} {h h' : am_H} {L L' : am_Lb} {x P N : Nat} {S S' : am_G} {B B' : Int} (t : Nt h L x P N S B) (hB : B ≤ B') (a : fx X h h') (le : leL h L L') (ok2 : okLb h' L') (hX : ∀ q, q ≤ am_sz h → X q → (L q).1 = N ∧ (L q).2.1 = 8) (eS : ∀ c, c ≠ 8 → c ≠ 0 → S' c = S c) (e0 : ∀ j, S' 0 0 j = S 0 0 j) (y : rH h' L' N (am_fr h 27 N) S') : Nt h' L' x P N S' B' := by
  obtain ⟨t1, t2, t3, ⟨x1, x2, x3, x4, x5, x6, x7, x8, x9, x10⟩, t5⟩ := t
  have z := zfg (h := h) t5.2.2 hX
  have nN : ¬ X N := fun w => nd_zf x1.1 (z 0 (by decide) _ x1.1.2.1 w)
  have yN := nd_fx a le x1.1 nN
  exact ⟨ok2, cs_fx a t2, rPap_fx a le (fun q hq w u => t5.1 (u.1.symm.trans (hX q hq w).1)) t3, Rep_mk (h := h) yN.2.2.2.1 ⟨rN_fx2 a le nN ⟨(e0 0), (e0 1), (e0 3), (e0 7)⟩ (crN_c (eS 4 (by decide) (by decide)) (e0 4)) x1,
    rW_fx a le t1 t2.1 (z 1 (by decide)) (eS 1 (by decide) (by decide)) x2,
    rP_fx a le t1 t2.1 (z 3 (by decide)) (e0 1) (eS 2 (by decide) (by decide)) (eS 3 (by decide) (by decide)) x3,
    rY_fx a le t1 t2.1 (z 6 (by decide)) hB (e0 2) (eS 6 (by decide) (by decide)) x4,
    rM_fx a le t1 t2.1 (z 5 (by decide)) hB (e0 3) (eS 5 (by decide) (by decide)) (fun k i _ _ _ _ => by unfold bhd; rw [eS 5 (by decide) (by decide), eS 3 (by decide) (by decide)]) x5,
    rG_fx a le t1 t2.1 (z 4 (by decide)) hB (e0 4) (fun _ _ _ => by rw [eS 2 (by decide) (by decide)]) (eS 4 (by decide) (by decide)) x6,
    rT_fx a le t1 t2.1 (z 7 (by decide)) hB (e0 5) (eS 7 (by decide) (by decide)) x7,
    y,
    rE_fx a le t1 t2.1 (z 9 (by decide)) hB (e0 6) (eS 9 (by decide) (by decide)) x9,
    rR_fx a le t1 t2.1 (z 10 (by decide)) (e0 7) (eS 10 (by decide) (by decide)) (fun i k _ _ _ _ => by rw [e0 4]; exact lsG_c (eS 4 (by decide) (by decide)) _) x10⟩, t5⟩
theorem Nt_9 {X : Nat → Prop} {h h' : am_H} {L L' : am_Lb} {x P N : Nat} {S S' : am_G} {B B' : Int} (t : Nt h L x P N S B) (hB : B ≤ B') (a : fx X h h') (le : leL h L L') (ok2 : okLb h' L') (hX : ∀ q, q ≤ am_sz h → X q → (L q).1 = N ∧ (L q).2.1 = 9) (eS : ∀ c, c ≠ 9 → c ≠ 0 → S' c = S c) (e0 : ∀ j, j ≠ 6 → S' 0 0 j = S 0 0 j) (y : rE h' L' N (am_fr h 28 N) S' B') : Nt h' L' x P N S' B' := by
  obtain ⟨t1, t2, t3, ⟨x1, x2, x3, x4, x5, x6, x7, x8, x9, x10⟩, t5⟩ := t
  have z := zfg (h := h) t5.2.2 hX
  have nN : ¬ X N := fun w => nd_zf x1.1 (z 0 (by decide) _ x1.1.2.1 w)
  have yN := nd_fx a le x1.1 nN
  exact ⟨ok2, cs_fx a t2, rPap_fx a le (fun q hq w u => t5.1 (u.1.symm.trans (hX q hq w).1)) t3, Rep_mk (h := h) yN.2.2.2.1 ⟨rN_fx2 a le nN ⟨(e0 0 (by decide)), (e0 1 (by decide)), (e0 3 (by decide)), (e0 7 (by decide))⟩ (crN_c (eS 4 (by decide) (by decide)) (e0 4 (by decide))) x1,
    rW_fx a le t1 t2.1 (z 1 (by decide)) (eS 1 (by decide) (by decide)) x2,
    rP_fx a le t1 t2.1 (z 3 (by decide)) (e0 1 (by decide)) (eS 2 (by decide) (by decide)) (eS 3 (by decide) (by decide)) x3,
    rY_fx a le t1 t2.1 (z 6 (by decide)) hB (e0 2 (by decide)) (eS 6 (by decide) (by decide)) x4,
    rM_fx a le t1 t2.1 (z 5 (by decide)) hB (e0 3 (by decide)) (eS 5 (by decide) (by decide)) (fun k i _ _ _ _ => by unfold bhd; rw [eS 5 (by decide) (by decide), eS 3 (by decide) (by decide)]) x5,
    rG_fx a le t1 t2.1 (z 4 (by decide)) hB (e0 4 (by decide)) (fun _ _ _ => by rw [eS 2 (by decide) (by decide)]) (eS 4 (by decide) (by decide)) x6,
    rT_fx a le t1 t2.1 (z 7 (by decide)) hB (e0 5 (by decide)) (eS 7 (by decide) (by decide)) x7,
    rH_fx a le t1 t2.1 (z 8 (by decide)) (eS 8 (by decide) (by decide)) x8,
    y,
    rR_fx a le t1 t2.1 (z 10 (by decide)) (e0 7 (by decide)) (eS 10 (by decide) (by decide)) (fun i k _ _ _ _ => by rw [e0 4 (by decide)]; exact lsG_c (eS 4 (by decide) (by decide)) _) x10⟩, t5⟩
theorem Nt_10 {X : Nat → Prop} {h h' : am_H} {L L' : am_Lb} {x P N : Nat} {S S' : am_G} {B B' : Int} (t : Nt h L x P N S B) (hB : B ≤ B') (a : fx X h h') (le : leL h L L') (ok2 : okLb h' L') (hX : ∀ q, q ≤ am_sz h → X q → (L q).1 = N ∧ (L q).2.1 = 10) (eS : ∀ c, c ≠ 10 → c ≠ 0 → S' c = S c) (e0 : ∀ j, S' 0 0 j = S 0 0 j) (y : rR h' L' N (am_fr h 30 N) (am_fr h 31 N) S') : Nt h' L' x P N S' B' := by
  obtain ⟨t1, t2, t3, ⟨x1, x2, x3, x4, x5, x6, x7, x8, x9, x10⟩, t5⟩ := t
  have z := zfg (h := h) t5.2.2 hX
  have nN : ¬ X N := fun w => nd_zf x1.1 (z 0 (by decide) _ x1.1.2.1 w)
  have yN := nd_fx a le x1.1 nN
  exact ⟨ok2, cs_fx a t2, rPap_fx a le (fun q hq w u => t5.1 (u.1.symm.trans (hX q hq w).1)) t3, Rep_mk (h := h) yN.2.2.2.1 ⟨rN_fx2 a le nN ⟨(e0 0), (e0 1), (e0 3), (e0 7)⟩ (crN_c (eS 4 (by decide) (by decide)) (e0 4)) x1,
    rW_fx a le t1 t2.1 (z 1 (by decide)) (eS 1 (by decide) (by decide)) x2,
    rP_fx a le t1 t2.1 (z 3 (by decide)) (e0 1) (eS 2 (by decide) (by decide)) (eS 3 (by decide) (by decide)) x3,
    rY_fx a le t1 t2.1 (z 6 (by decide)) hB (e0 2) (eS 6 (by decide) (by decide)) x4,
    rM_fx a le t1 t2.1 (z 5 (by decide)) hB (e0 3) (eS 5 (by decide) (by decide)) (fun k i _ _ _ _ => by unfold bhd; rw [eS 5 (by decide) (by decide), eS 3 (by decide) (by decide)]) x5,
    rG_fx a le t1 t2.1 (z 4 (by decide)) hB (e0 4) (fun _ _ _ => by rw [eS 2 (by decide) (by decide)]) (eS 4 (by decide) (by decide)) x6,
    rT_fx a le t1 t2.1 (z 7 (by decide)) hB (e0 5) (eS 7 (by decide) (by decide)) x7,
    rH_fx a le t1 t2.1 (z 8 (by decide)) (eS 8 (by decide) (by decide)) x8,
    rE_fx a le t1 t2.1 (z 9 (by decide)) hB (e0 6) (eS 9 (by decide) (by decide)) x9,
    y⟩, t5⟩
