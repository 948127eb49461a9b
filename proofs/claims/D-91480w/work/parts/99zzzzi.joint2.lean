set_option maxRecDepth 100000
/-! the law's things in one heap: room x, its paper P and night N and image I, model r, answer o, script s -/
def JB (x P r o s : Nat) (sc : Int → Int) (ns : Int) (L : am_Lb) (N I : Nat) (h : am_H) : Prop := (am_ty h x = 1 ∧ x ≤ am_sz h ∧ L x = (x, 0, 0, 0)) ∧ (am_fr h 0 x = P ∧ am_fr h 1 x = N ∧ am_fr h 2 x = I) ∧ (r + 35 ≤ am_sz h ∧ ∀ j, j ≤ 35 → (L (r + j)).1 = r) ∧ (am_ty h o = 104 ∧ am_ln h o = 1 ∧ o ≤ am_sz h ∧ (L o).1 = o) ∧ (am_ty h s = 121 ∧ am_ln h s = ns ∧ s ≤ am_sz h ∧ (L s).1 = 0 ∧ am_ai h s = sc) ∧ ((∀ q, (L q).1 ≤ am_sz h) ∧ N ≤ am_sz h) ∧ (x ≠ 0 ∧ r ≠ 0 ∧ o ≠ 0 ∧ N ≠ 0) ∧ (x ≠ r ∧ x ≠ o ∧ x ≠ N ∧ r ≠ o ∧ r ≠ N ∧ o ≠ N) ∧ (I ≠ x ∧ I ≠ r ∧ I ≠ o ∧ I ≠ N)
section
variable {h h' : am_H} {L L' : am_Lb}
theorem Out_OutX {x P r o s : Nat} {sc : Int → Int} {ns : Int} {N I : Nat} {dz du : Nat} (j : JB x P r o s sc ns L N I h) (a : Out h L x N h' L' dz du) : OutX h L x N h' L' dz du ∧ (∀ f, am_fi h' f x = am_fi h f x) := by
  obtain ⟨o1, o2, o3, o4⟩ := a
  obtain ⟨⟨x1, x2, x3⟩, _, _, _, _, _, _, ⟨_, _, d3, _⟩, _⟩ := j
  have k := (o1.2.2.2 x x2).2.2 (fun e => by
    have e' : (L x).1 = N ∨ ((L x).1 = x ∧ (L x).2.1 = 1) := e
    rw [x3] at e'
    rcases e' with e' | e'
    · exact d3 e'
    · exact absurd e'.2 (by show (0 : Nat) ≠ 1; decide))
  exact ⟨⟨fx_sub o1 (fun q _ z => z.elim Or.inl (fun z => Or.inr (Or.inl ⟨z.1, Or.inl z.2⟩))), o2, o3, o4, k.2.1, fun f _ _ => k.1 f⟩, k.1⟩
/-- cells that a call of the room leaves -/
theorem JB_n {x P r o s : Nat} {sc : Int → Int} {ns : Int} {N I : Nat} (j : JB x P r o s sc ns L N I h) {q : Nat} (hN : (L q).1 ≠ N) (hx : (L q).1 ≠ x) : ¬ ((L q).1 = N ∨ ((L q).1 = x ∧ ((L q).2.1 = 1 ∨ (L q).2.1 = 2)) ∨ q = x) := fun z => by
  rcases z with z | z | z
  · exact hN z
  · exact hx z.1
  · rw [z, j.1.2.2] at hx
    exact hx rfl
theorem JB_X {x P r o s : Nat} {sc : Int → Int} {ns : Int} {N I : Nat} {dz du : Nat} (j : JB x P r o s sc ns L N I h) (a : OutX h L x N h' L' dz du) : JB x P r o s sc ns L' N I h' ∧ ∀ m V W, MoC h r m V W → MoC h' r m V W := by
  have nn := fun q => JB_n j (q := q)
  obtain ⟨a1, a2, a3, a4, a5, a6⟩ := a
  obtain ⟨⟨x1, x2, x3⟩, ⟨p1, p2, p3⟩, ⟨r1, r2⟩, ⟨q1, q2, q3, q4⟩, ⟨s1, s2, s3, s4, s5⟩, ⟨w1, w2⟩, ⟨n1, n2, n3, n4⟩, ⟨d1, d2, d3, d4, d5, d6⟩, i1⟩ := j
  have z := a1.1
  have kx := a1.2.2.2 x x2
  have ko := a1.2.2.2 o q3
  have ks := a1.2.2.2 s s3
  have us := ks.2.2 (nn s (by rw [s4]; exact fun e => n4 e.symm) (by rw [s4]; exact fun e => n1 e.symm))
  refine ⟨⟨⟨kx.1.trans x1, by omega, (a2 x x2).trans x3⟩, ⟨(a5 0).trans p1, (a5 1).trans p2, (a5 2).trans p3⟩, ⟨by omega, fun j hj => by rw [a2 (r + j) (by omega)]; exact r2 j hj⟩, ⟨ko.1.trans q1, ko.2.1.trans q2, by omega, by rw [a2 o q3]; exact q4⟩, ⟨ks.1.trans s1, ks.2.1.trans s2, by omega, by rw [a2 s s3]; exact s4, us.2.2.1.trans s5⟩, ⟨fun q => ?_, by omega⟩, ⟨n1, n2, n3, n4⟩, ⟨d1, d2, d3, d4, d5, d6⟩, i1⟩, fun m V W c => MoC_fx a1 r1 (fun j hj => nn (r + j) (by rw [r2 j hj]; exact d5) (by rw [r2 j hj]; exact fun e => d1 e.symm)) c⟩
  by_cases c : q ≤ am_sz h
  · rw [a2 q c]
    have := w1 q
    omega
  · rcases a4 q (by omega) with e | e | e <;> omega
/-- the image is left -/
theorem Rep_X {x P r o s : Nat} {sc : Int → Int} {ns : Int} {N I : Nat} {dz du : Nat} {SI : am_G} {BI : Int} (j : JB x P r o s sc ns L N I h) (a : OutX h L x N h' L' dz du) (ok : okLb h L) (c0 : am_ty h (am_cs h 0) = 134) (rI : Rep h L I P SI BI) : Rep h' L' I P SI BI := by
  obtain ⟨⟨x1, x2, x3⟩, _, _, _, _, _, ⟨n1, n2, n3, n4⟩, _, ⟨i1, i2, i3, i4⟩⟩ := j
  refine Rep_fx (Int.le_refl BI) a.1 a.2.1 ok c0 (fun q _ z => ?_) rI
  rcases z with z | z | z
  · rw [z]
    exact ⟨n4, fun e => i4 e.symm⟩
  · rw [z.1]
    exact ⟨n1, fun e => i1 e.symm⟩
  · rw [z, x3]
    exact ⟨n1, fun e => i1 e.symm⟩
/-- the model's call leaves the room's things -/
theorem JB_M {x P r o s : Nat} {sc : Int → Int} {ns : Int} {N I : Nat} {b : am_H} {m m' : Int → Int} {V V' : Nat → Int → Int} {W W' : Nat → Int} (j : JB x P r o s sc ns L N I (mo b r m V W)) : JB x P r o s sc ns L N I (mo b r m' V' W') ∧ (∀ f, am_fi (mo b r m' V' W') f x = am_fi (mo b r m V W) f x) := by
  have f := mo_fx (b := b) (r := r) (m := m) (m' := m') (V := V) (V' := V') (W := W) (W' := W')
  obtain ⟨⟨x1, x2, x3⟩, ⟨p1, p2, p3⟩, ⟨r1, r2⟩, ⟨q1, q2, q3, q4⟩, ⟨s1, s2, s3, s4, s5⟩, ⟨w1, w2⟩, ⟨n1, n2, n3, n4⟩, ⟨d1, d2, d3, d4, d5, d6⟩, i1⟩ := j
  have no : ∀ q, (L q).1 ≠ r → ¬ (r ≤ q ∧ q ≤ r + 35) := fun q hq z => hq (by
    have e : r + (q - r) = q := by omega
    have l := r2 (q - r) (by omega)
    rw [e] at l
    exact l)
  generalize mo b r m' V' W' = h2 at *
  generalize mo b r m V W = h1 at *
  have z := f.1
  have kx := f.2.2.2 x x2
  have ux := kx.2.2 (no x (by rw [x3]; exact d1))
  have ko := f.2.2.2 o q3
  have ks := f.2.2.2 s s3
  have us := ks.2.2 (no s (by rw [s4]; exact fun e => n2 e.symm))
  exact ⟨⟨⟨kx.1.trans x1, by omega, x3⟩, ⟨(ux.2.1 0).trans p1, (ux.2.1 1).trans p2, (ux.2.1 2).trans p3⟩, ⟨by omega, r2⟩, ⟨ko.1.trans q1, ko.2.1.trans q2, by omega, q4⟩, ⟨ks.1.trans s1, ks.2.1.trans s2, by omega, s4, us.2.2.1.trans s5⟩, ⟨fun q => by have := w1 q; omega, by omega⟩, ⟨n1, n2, n3, n4⟩, ⟨d1, d2, d3, d4, d5, d6⟩, i1⟩, ux.1⟩
/-- an answer is written: all else is left -/
theorem JB_o {x P r o s : Nat} {sc : Int → Int} {ns : Int} {N I : Nat} {i y : Int} (j : JB x P r o s sc ns L N I h) : JB x P r o s sc ns L N I (am_sai h o i y) ∧ fx (fun q => q = o) h (am_sai h o i y) := by
  have f : fx (fun q => q = o) h (am_sai h o i y) := fx_sai fx_refl (Or.inr rfl)
  refine ⟨?_, f⟩
  obtain ⟨⟨x1, x2, x3⟩, ⟨p1, p2, p3⟩, ⟨r1, r2⟩, ⟨q1, q2, q3, q4⟩, ⟨s1, s2, s3, s4, s5⟩, ⟨w1, w2⟩, ⟨n1, n2, n3, n4⟩, ⟨d1, d2, d3, d4, d5, d6⟩, i1⟩ := j
  generalize am_sai h o i y = h2 at *
  have z := f.1
  have kx := f.2.2.2 x x2
  have ux := kx.2.2 d2
  have ko := f.2.2.2 o q3
  have ks := f.2.2.2 s s3
  have us := ks.2.2 (fun e => by rw [e, q4] at s4; exact n3 s4)
  exact ⟨⟨kx.1.trans x1, by omega, x3⟩, ⟨(ux.2.1 0).trans p1, (ux.2.1 1).trans p2, (ux.2.1 2).trans p3⟩, ⟨by omega, r2⟩, ⟨ko.1.trans q1, ko.2.1.trans q2, by omega, q4⟩, ⟨ks.1.trans s1, ks.2.1.trans s2, by omega, s4, us.2.2.1.trans s5⟩, ⟨fun q => by have := w1 q; omega, by omega⟩, ⟨n1, n2, n3, n4⟩, ⟨d1, d2, d3, d4, d5, d6⟩, i1⟩
end
