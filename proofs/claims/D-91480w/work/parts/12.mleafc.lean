set_option maxRecDepth 100000
/-! small methods of the model, as laws of calls -/
theorem am_ub {K : am_K} {h : am_H} {c : Prop} [Decidable c] (q : c) (H : K (.inl (some (.inl (am_b c)))) h) : K (.inl (some (.inl 1))) h := by
  rw [am_bt q] at H
  exact H
theorem am_ubn {K : am_K} {h : am_H} {c : Prop} [Decidable c] (q : ¬ c) (H : K (.inl (some (.inl (am_b c)))) h) : K (.inl (some (.inl 0))) h := by
  rw [am_bf q] at H
  exact H
theorem am_uv {K : am_K} {h : am_H} {x y : Int} (H : K (.inl (some (.inl x))) h) (e : x = y) : K (.inl (some (.inl y))) h := by
  rw [← e]
  exact H
theorem am_bc {p q : Prop} [Decidable p] [Decidable q] (h : p ↔ q) : am_b p = am_b q := by
  by_cases e : p
  · rw [am_bt e, am_bt (h.mp e)]
  · rw [am_bf e, am_bf (fun w => e (h.mpr w))]
theorem am_uc {K : am_K} {h : am_H} {p q : Prop} [Decidable p] [Decidable q] (H : K (.inl (some (.inl (am_b p)))) h) (e : p ↔ q) : K (.inl (some (.inl (am_b q)))) h := am_uv H (am_bc e)
section
variable {K : am_K} {d : Nat} {b : am_H} {r : Nat} {S : am_G} {V : Nat → Int → Int} {W : Nat → Int}
theorem c_part0 {x : Int} (v : 0 ≤ x ∧ x < 3000000) (H : K (.inl (some (.inl (130 + 645 * x)))) (mo b r (ms S) V W)) : am_ev am_prog (d + 1) 110 [.inl x] (mo b r (ms S) V W) K :=
  am_en p_X5_part0 rfl rfl (w_part0_0 ⟨by omega, H⟩)
theorem c_slug0 {x : Int} (v : 0 ≤ x ∧ x < 2000000) (H : K (.inl (some (.inl (64630 + 852 * x)))) (mo b r (ms S) V W)) : am_ev am_prog (d + 1) 108 [.inl x] (mo b r (ms S) V W) K :=
  am_en p_X5_slug0 rfl rfl (w_slug0_0 ⟨by omega, H⟩)
theorem c_machine0 {x : Int} (v : 0 ≤ x ∧ x < 2000000) (H : K (.inl (some (.inl (320230 + 183 * x)))) (mo b r (ms S) V W)) : am_ev am_prog (d + 1) 152 [.inl x] (mo b r (ms S) V W) K :=
  am_en p_X5_machine0 rfl rfl (w_machine0_0 ⟨by omega, H⟩)
theorem c_isIn {v lo hi : Int} (H : K (.inl (some (.inl (am_b (lo ≤ v ∧ v ≤ hi))))) (mo b r (ms S) V W)) : am_ev am_prog (d + 1) 143 [.inl v, .inl lo, .inl hi] (mo b r (ms S) V W) K :=
  am_en p_X5_isIn rfl rfl (w_isIn_0 ⟨fun c => am_ubn (by omega) H, fun c => am_uc H ⟨fun w => by omega, fun w => by omega⟩⟩)
theorem c_isLetter {v : Int} (H : K (.inl (some (.inl (am_b (97 ≤ v ∧ v ≤ 122))))) (mo b r (ms S) V W)) : am_ev am_prog (d + 1) 196 [.inl v] (mo b r (ms S) V W) K :=
  am_en p_X5_isLetter rfl rfl (w_isLetter_0 ⟨fun c => am_ubn (by omega) H, fun c => am_uc H ⟨fun w => by omega, fun w => by omega⟩⟩)
theorem c_isPage {v : Int} (H : K (.inl (some (.inl (am_b (0 ≤ v ∧ v < 6))))) (mo b r (ms S) V W)) : am_ev am_prog (d + 1) 171 [.inl v] (mo b r (ms S) V W) K :=
  am_en p_X5_isPage rfl rfl (w_isPage_0 ⟨fun c => am_ubn (by omega) H, fun c => am_uc H ⟨fun w => by omega, fun w => by omega⟩⟩)
theorem c_isMachine {v : Int} (H : K (.inl (some (.inl (am_b (0 ≤ v ∧ v < S 0 0 3))))) (mo b r (ms S) V W)) : am_ev am_prog (d + 1) 151 [.inr (.inl r), .inl v] (mo b r (ms S) V W) K :=
  am_en p_X5_isMachine rfl rfl (w_isMachine_0 ⟨fun c => am_ubn (by omega) H, fun c => am_uc H ⟨fun w => by omega, fun w => by omega⟩⟩)
theorem c_isSlug {v : Int} (H : K (.inl (some (.inl (am_b (0 ≤ v ∧ v < S 0 0 4))))) (mo b r (ms S) V W)) : am_ev am_prog (d + 1) 147 [.inr (.inl r), .inl v] (mo b r (ms S) V W) K :=
  am_en p_X5_isSlug rfl rfl (w_isSlug_0 ⟨fun c => am_ubn (by omega) H, fun c => am_uc H ⟨fun w => by omega, fun w => by omega⟩⟩)
theorem c_isPart {x : Int} (v : -2147483648 ≤ x ∧ x ≤ 2147483647) (v2 : S 0 0 1 ≤ 20) (H : K (.inl (some (.inl (am_b (0 ≤ x ∧ x / 5 < S 0 0 1 ∧ x % 5 < S 2 2 (x / 5)))))) (mo b r (ms S) V W)) : am_ev am_prog (d + 1) 109 [.inr (.inl r), .inl x] (mo b r (ms S) V W) K :=
  am_en p_X5_isPart rfl rfl (w_isPart_0 ⟨fun c => am_ubn (by omega) H, fun c => ⟨by omega, fun c2 => am_ubn (by omega) H, fun c2 => ⟨by omega, am_uc H ⟨fun w => by omega, fun w => by omega⟩⟩⟩⟩)
theorem c_endsWord {p z : Int} (v : 0 ≤ p ∧ p < 100) (v2 : 0 ≤ z ∧ z < 500) (v3 : -2147483648 ≤ S 3 p 1 - 1 ∧ S 3 p 1 - 1 ≤ 2147483647) (H : K (.inl (some (.inl (am_b (z = S 3 p 1 - 1 ∨ S 3 p (85 + z) ≠ S 3 p (86 + z)))))) (mo b r (ms S) V W)) : am_ev am_prog (d + 1) 287 [.inr (.inl r), .inl (130 + 645 * p), .inl z] (mo b r (ms S) V W) K :=
  am_en p_X5_endsWord rfl rfl (w_endsWord_0 ⟨by omega, fun c => am_ub (by omega) H, fun c => ⟨by omega, am_uc H ⟨fun w => by omega, fun w => by omega⟩⟩⟩)
theorem c_gapsOf {p f z : Int} (v : 0 ≤ p ∧ p < 100) (v2 : 0 ≤ f ∧ f < 500) (v3 : 0 ≤ z ∧ z < 500) (v4 : -2147483648 ≤ S 3 p (85 + z) - S 3 p (85 + f) ∧ S 3 p (85 + z) - S 3 p (85 + f) ≤ 2147483647) (H : K (.inl (some (.inl (S 3 p (85 + z) - S 3 p (85 + f))))) (mo b r (ms S) V W)) : am_ev am_prog (d + 1) 284 [.inr (.inl r), .inl (130 + 645 * p), .inl f, .inl z] (mo b r (ms S) V W) K :=
  am_en p_X5_gapsOf rfl rfl (w_gapsOf_0 ⟨by omega, H⟩)
theorem c_begins {p l : Int} (v : 0 ≤ p ∧ p < 100) (v2 : 0 ≤ l ∧ l < 500) (v3 : -2147483648 ≤ S 3 p (4 + l) + 1 ∧ S 3 p (4 + l) + 1 ≤ 2147483647) (H : K (.inl (some (.inl (if l = 0 then 0 else S 3 p (4 + l) + 1)))) (mo b r (ms S) V W)) : am_ev am_prog (d + 1) 192 [.inr (.inl r), .inl (130 + 645 * p), .inl l] (mo b r (ms S) V W) K :=
  am_en p_X5_begins rfl rfl (w_begins_0 ⟨fun c => ⟨by omega, am_uv H (if_neg c)⟩, fun c => am_uv H (if_pos c)⟩)
theorem c_many0 {p e : Int} (v : 0 ≤ p ∧ p < 1000) (v2 : 0 ≤ e ∧ e < 1000) (H : K (.inl (some (.inl (328492 + 181 * (6 * e + p))))) (mo b r (ms S) V W)) : am_ev am_prog (d + 1) 114 [.inr (.inl r), .inl p, .inl e] (mo b r (ms S) V W) K :=
  am_en p_X5_many0 rfl rfl (w_many0_0 ⟨by omega, H⟩)
end
