set_option maxRecDepth 100000
/-- the component begins a minute: the relation -/
theorem Nt_mb {h h1 : am_H} {L : am_Lb} {x P N : Nat} {S : am_G} {B : Int} (t : Nt h L x P N S B) (hC : okC S) (a : fx (fun q => q = N ∨ q = am_fr h 30 N ∨ q = am_fr h 31 N) h h1) (hr : ∀ f, am_fr h1 f N = am_fr h f N) (f18 : am_fi h1 18 N = S 0 0 0 + 1) (f32 : am_fi h1 32 N = mnR0 S) (fo : ∀ f, f ≠ 18 → f ≠ 32 → am_fi h1 f N = am_fi h f N) (tt : ∀ j, 0 ≤ j → j < 4 * mnR0 S → am_ai h1 (am_fr h 30 N) j = am_ai h (am_fr h 30 N) (j + 4 * (if S 0 0 7 = 8 then 1 else 0 : Int)) ∧ am_ai h1 (am_fr h 31 N) j = am_ai h (am_fr h 31 N) (j + 4 * (if S 0 0 7 = 8 then 1 else 0 : Int))) : Nt h1 L x P N (rs (mnS S) (mnR0 S)) B := by
  obtain ⟨x1, x2, x3, x4, x5, x6, x7, x8, x9, x10⟩ := t.2.2.2.1
  obtain ⟨v1, v2, v3, v4, v5, v6, v7, v8⟩ := mnS_v (S := S) hC.2.2.2.2.2
  have c7 := hC.2.2.2.2.2
  obtain ⟨r1, r2, r3, r4, r5⟩ := x10
  have e : ∀ c, c ≠ 0 → c ≠ 10 → rs (mnS S) (mnR0 S) c = S c := fun c c0 c10 => (rs_r c0).trans (v1 c c0 c10)
  have ej : ∀ j, j ≠ 0 → j ≠ 7 → rs (mnS S) (mnR0 S) 0 0 j = S 0 0 j := fun j j0 j7 => (rs_j j7).trans (v4 j j0 j7)
  have e0 : rs (mnS S) (mnR0 S) 0 0 0 = S 0 0 0 + 1 := (rs_j (by decide)).trans v2
  have e7 : rs (mnS S) (mnR0 S) 0 0 7 = mnR0 S := u3_eq
  have e10 : ∀ i, 0 ≤ i → i < 5 * mnR0 S → rs (mnS S) (mnR0 S) 10 0 i = S 10 0 (i + 5 * (if S 0 0 7 = 8 then 1 else 0 : Int)) := fun i i1 i2 => by
    rw [rs_r (by decide), v7 i i1 i2]
    by_cases c : S 0 0 7 = 8
    · rw [if_pos c, if_pos c]
      congr 1
      omega
    · rw [if_neg c, if_neg c]
      congr 1
      omega
  have bR : mnR0 S + (if S 0 0 7 = 8 then 1 else 0 : Int) ≤ S 0 0 7 := by
    unfold mnR0
    by_cases c : S 0 0 7 = 8
    · rw [if_pos c, if_pos c]
      omega
    · rw [if_neg c, if_neg c]
      omega
  have bs : (0 : Int) ≤ (if S 0 0 7 = 8 then 1 else 0 : Int) ∧ ((if S 0 0 7 = 8 then 1 else 0 : Int) : Int) ≤ 1 := by
    split <;> omega
  generalize hS' : rs (mnS S) (mnR0 S) = S' at *
  have hX : ∀ q, q ≤ am_sz h → (fun q => q = N ∨ q = am_fr h 30 N ∨ q = am_fr h 31 N) q → (L q).1 = N ∧ ((L q).2.1 = 0 ∨ (L q).2.1 = 10) := fun q hq z => by
    rcases z with z | z | z
    · rw [z, x1.1.2.2.2]
      exact ⟨rfl, Or.inl rfl⟩
    · rw [z, r1.2.2.2]
      exact ⟨rfl, Or.inr rfl⟩
    · rw [z, r2.2.2.2]
      exact ⟨rfl, Or.inr rfl⟩
  have zf' : ∀ g, g ≠ 0 → g ≠ 10 → ∀ q, q ≤ am_sz h → (fun q => q = N ∨ q = am_fr h 30 N ∨ q = am_fr h 31 N) q → zf L N g q := fun g g0 g10 q hq w => ⟨by rw [(hX q hq w).1]; exact t.2.2.2.2.2.2, fun u => by
    have := (hX q hq w).2
    rw [u.2] at this
    omega⟩
  have e4 := e 4 (by decide) (by decide)
  have c04 := ej 4 (by decide) (by decide)
  refine Nt_all t (Int.le_refl _) a leL_refl (okLb_fx a t.1) (fun q hq z => ⟨(hX q hq z).1, by have := (hX q hq z).2; omega⟩) hr ⟨e 1 (by decide) (by decide), e 6 (by decide) (by decide), e 7 (by decide) (by decide), e 8 (by decide) (by decide), e 9 (by decide) (by decide)⟩ ⟨ej 2 (by decide) (by decide), ej 5 (by decide) (by decide), ej 6 (by decide) (by decide)⟩ ?_ ?_ ?_ ?_ ?_
  · refine ⟨(nd_fy a (leL_refl (L := L)) x1.1).1, (hr 17).trans x1.2.1, by rw [f18, e0], ?_, ?_, by rw [f32, e7], ?_⟩
    · rw [fo 21 (by decide) (by decide), ej 1 (by decide) (by decide)]
      exact x1.2.2.2.1
    · rw [fo 24 (by decide) (by decide), ej 3 (by decide) (by decide)]
      exact x1.2.2.2.2.1
    · rw [fo 29 (by decide) (by decide), crN_c e4 c04]
      exact x1.2.2.2.2.2.2
  · exact rP_fx a leL_refl t.1 t.2.1.1 (zf' 3 (by decide) (by decide)) (ej 1 (by decide) (by decide)) (e 2 (by decide) (by decide)) (e 3 (by decide) (by decide)) x3
  · refine rM_fx a leL_refl t.1 t.2.1.1 (zf' 5 (by decide) (by decide)) (Int.le_refl _) (ej 3 (by decide) (by decide)) (e 5 (by decide) (by decide)) (fun k i _ _ _ _ => ?_) x5
    unfold bhd
    rw [e 5 (by decide) (by decide), e 3 (by decide) (by decide)]
  · exact rG_fx a leL_refl t.1 t.2.1.1 (zf' 4 (by decide) (by decide)) (Int.le_refl _) c04 (fun _ _ _ => by rw [e 2 (by decide) (by decide)]) e4 x6
  · refine ⟨(nd_fy a (leL_refl (L := L)) r1).1, (nd_fy a (leL_refl (L := L)) r2).1, (nd_fy a (leL_refl (L := L)) r1).2.trans r3, (nd_fy a (leL_refl (L := L)) r2).2.trans r4, fun i q i1 i2 q1 q2 => ?_⟩
    rw [e7] at i2
    have w := tt (4 * i + q) (by omega) (by omega)
    have u := r5 (i + (if S 0 0 7 = 8 then 1 else 0 : Int)) q (by omega) (by omega) q1 q2
    have k1 : (4 * (i + (if S 0 0 7 = 8 then 1 else 0 : Int)) + q : Int) = 4 * i + q + 4 * (if S 0 0 7 = 8 then 1 else 0 : Int) := by omega
    have k2 : (1 + 5 * (i + (if S 0 0 7 = 8 then 1 else 0 : Int)) + q : Int) = 1 + 5 * i + q + 5 * (if S 0 0 7 = 8 then 1 else 0 : Int) := by omega
    have k3 : (5 * (i + (if S 0 0 7 = 8 then 1 else 0 : Int)) : Int) = 5 * i + 5 * (if S 0 0 7 = 8 then 1 else 0 : Int) := by omega
    rw [k1, k2, k3] at u
    rw [w.1, w.2, e10 _ (by omega) (by omega), e10 _ (by omega) (by omega), c04]
    exact ⟨u.1, u.2.trans (lsG_c e4 _).symm⟩
