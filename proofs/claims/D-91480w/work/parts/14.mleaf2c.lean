section
variable {K : am_K} {d : Nat} {b : am_H} {r : Nat} {S : am_G} {V : Nat → Int → Int} {W : Nat → Int}
theorem c_isLast {p z : Int} (v : 0 ≤ p ∧ p < 100) (v3 : -2147483648 ≤ S 3 p 1 - 1 ∧ S 3 p 1 - 1 ≤ 2147483647) (H : K (.inl (some (.inl (am_b (z = S 3 p 1 - 1))))) (mo b r (ms S) V W)) : am_ev am_prog (d + 2) 285 [.inr (.inl r), .inl p, .inl z] (mo b r (ms S) V W) K :=
  am_en p_X5_isLast rfl rfl (w_isLast_0 ⟨by omega, by omega, H⟩)
theorem c_isEdition {e : Int} (v3 : -2147483648 ≤ S 0 0 6 - 1 ∧ S 0 0 6 - 1 ≤ 2147483647) (H : K (.inl (some (.inl (am_b ((-1) ≤ e ∧ e ≤ S 0 0 6 - 1))))) (mo b r (ms S) V W)) : am_ev am_prog (d + 2) 186 [.inr (.inl r), .inl e] (mo b r (ms S) V W) K :=
  am_en p_X5_isEdition rfl rfl (w_isEdition_0 ⟨by omega, H⟩)
theorem c_isRow {i k : Int} (v3 : -2147483648 ≤ S 0 0 7 - 1 ∧ S 0 0 7 - 1 ≤ 2147483647) (H : K (.inl (some (.inl (am_b ((0 ≤ i ∧ i ≤ S 0 0 7 - 1) ∧ (0 ≤ k ∧ k ≤ 3)))))) (mo b r (ms S) V W)) : am_ev am_prog (d + 2) 172 [.inr (.inl r), .inl i, .inl k] (mo b r (ms S) V W) K :=
  am_en p_X5_isRow rfl rfl (w_isRow_0 ⟨by omega, fun c => am_ubn (by omega) H, fun c => am_uc H ⟨fun w => by omega, fun w => by omega⟩⟩)
end
