set_option maxRecDepth 100000
section
variable {h h2 : am_H} {x P r o s : Nat} {sc : Int → Int} {ns : Int} {Z U c : Nat} {i kk b : Int} {Q : am_K} {A : Prop}
theorem ly_f (js : JS x P r o s sc ns Z U c h) : am_ty h s = 121 ∧ am_ln h s = ns ∧ am_ai h s = sc ∧ am_ty h x = 1 ∧ am_ty h r = 5 ∧ am_ty h o = 104 ∧ am_ln h o = 1 := by
  obtain ⟨L, N, I, S, SI, B, BI, t, n, V, W, u⟩ := js
  obtain ⟨⟨x1, _, _⟩, _, _, ⟨q1, q2, _, _⟩, ⟨s1, s2, _, _, s5⟩, _⟩ := u.1.1
  exact ⟨s1, s2, s5, x1, u.1.2.2.1.1, q1, q2⟩
theorem jb_f (j : ∃ L N I, JB x P r o s sc ns L N I h) : am_ty h s = 121 ∧ am_ln h s = ns ∧ am_ai h s = sc := by
  obtain ⟨L, N, I, _, _, _, _, ⟨s1, s2, _, _, s5⟩, _⟩ := j
  exact ⟨s1, s2, s5⟩
theorem JS_up (js : JS x P r o s sc ns Z U c h) : JS x P r o s sc ns Z U (c + 1) h := by
  obtain ⟨L, N, I, S, SI, B, BI, t, n, V, W, u1, u2, u3, u4, ⟨u5, u6, u7⟩, u8, u9⟩ := js
  exact ⟨L, N, I, S, SI, B, BI, t, n, V, W, u1, u2, u3, u4, ⟨by omega, by omega, by omega⟩, by omega, by omega⟩
theorem ly_I (hi : 0 ≤ i ∧ i + 6 ≤ ns) (hn : ns ≤ 384) (js : JS x P r o s sc ns Z U c h2) (e : am_fi h2 38 r = kk) (k0 : kk = 0 → am_ai h2 o 0 = b) (nx : A) : (am_ty h2 r = 5) ∧ (((am_fi h2 38 r : Int) = kk → ((kk : Int) ≠ 0 → ((-2147483648 ≤ i + 6 ∧ i + 6 ≤ 2147483647)) ∧ A) ∧ ((kk : Int) = 0 → (am_ty h2 o = 104 ∧ ((0 : Int) ≤ 0 ∧ 0 < am_ln h2 o)) ∧ (((am_ai h2 o 0) < b → Q (.inl (some (.inl 0))) h2) ∧ ((am_ai h2 o 0) = b → ((-2147483648 ≤ i + 6 ∧ i + 6 ≤ 2147483647)) ∧ A) ∧ (b < (am_ai h2 o 0) → Q (.inl (some (.inl 0))) h2)))) ∧ ((am_fi h2 38 r : Int) ≠ kk → Q (.inl (some (.inl 0))) h2)) := by
  obtain ⟨_, _, _, _, t5, t6, t7⟩ := ly_f js
  exact ⟨t5, fun _ => ⟨fun _ => ⟨by omega, nx⟩, fun z => ⟨⟨t6, by decide, by omega⟩, fun y => absurd (k0 z) (by omega), fun _ => ⟨by omega, nx⟩, fun y => absurd (k0 z) (by omega)⟩⟩, fun y => absurd e y⟩
theorem ly_V (hi : 0 ≤ i ∧ i + 6 ≤ ns) (hn : ns ≤ 384) (js : JS x P r o s sc ns Z U c h2) (e : am_fi h2 38 r = kk) (nx : A) : (am_ty h2 r = 5) ∧ (((am_fi h2 38 r : Int) = kk → ((-2147483648 ≤ i + 6 ∧ i + 6 ≤ 2147483647)) ∧ A) ∧ ((am_fi h2 38 r : Int) ≠ kk → Q (.inl (some (.inl 0))) h2)) := by
  obtain ⟨_, _, _, _, t5, t6, t7⟩ := ly_f js
  exact ⟨t5, fun _ => ⟨by omega, nx⟩, fun y => absurd e y⟩
theorem ly_B (hi : 0 ≤ i ∧ i + 6 ≤ ns) (hn : ns ≤ 384) (js : JS x P r o s sc ns Z U c h2) (e : am_fi h2 38 r = kk) (k0 : kk = 0 → am_ai h2 o 0 = b ∧ (b = 0 ∨ b = 1)) (nx : A) : (am_ty h2 r = 5) ∧ (((am_fi h2 38 r : Int) = kk → ((kk : Int) ≠ 0 → ((-2147483648 ≤ i + 6 ∧ i + 6 ≤ 2147483647)) ∧ A) ∧ ((kk : Int) = 0 → (am_ty h2 o = 104 ∧ ((0 : Int) ≤ 0 ∧ 0 < am_ln h2 o)) ∧ (((b : Int) = 0 → ((am_ai h2 o 0) < 0 → Q (.inl (some (.inl 0))) h2) ∧ ((am_ai h2 o 0) = 0 → ((-2147483648 ≤ i + 6 ∧ i + 6 ≤ 2147483647)) ∧ A) ∧ (0 < (am_ai h2 o 0) → Q (.inl (some (.inl 0))) h2)) ∧ ((b : Int) ≠ 0 → ((am_ai h2 o 0) < 1 → Q (.inl (some (.inl 0))) h2) ∧ ((am_ai h2 o 0) = 1 → ((-2147483648 ≤ i + 6 ∧ i + 6 ≤ 2147483647)) ∧ A) ∧ (1 < (am_ai h2 o 0) → Q (.inl (some (.inl 0))) h2))))) ∧ ((am_fi h2 38 r : Int) ≠ kk → Q (.inl (some (.inl 0))) h2)) := by
  obtain ⟨_, _, _, _, t5, t6, t7⟩ := ly_f js
  refine ⟨t5, fun _ => ⟨fun _ => ⟨by omega, nx⟩, fun z => ⟨⟨t6, by decide, by omega⟩, fun y => ?_, fun y => ?_⟩⟩, fun y => absurd e y⟩
  · have q := k0 z
    exact ⟨fun w => by exfalso; omega, fun _ => ⟨by omega, nx⟩, fun w => by exfalso; omega⟩
  · have q := k0 z
    exact ⟨fun w => by exfalso; omega, fun _ => ⟨by omega, nx⟩, fun w => by exfalso; omega⟩
theorem ly_S (hi : 0 ≤ i ∧ i + 6 ≤ ns) (hn : ns ≤ 384) (nx : A) : (((b : Int) = b → ((-2147483648 ≤ i + 6 ∧ i + 6 ≤ 2147483647)) ∧ A) ∧ ((b : Int) ≠ b → Q (.inl (some (.inl 0))) h2)) := ⟨fun _ => ⟨by omega, nx⟩, fun y => absurd rfl y⟩
end
