set_option maxRecDepth 100000
/-! the JDK: StringBuilder -/
theorem am_shl0 {x : Int} (h : 0 ≤ x ∧ x ≤ 2147483647) : am_shlz x 0 = x := by
  unfold am_shlz
  have e : (Int32.ofInt 0 &&& 31) = 0 := by decide
  rw [e, Int32.shiftLeft_zero]
  exact z_i32 (by omega)
theorem am_i2b0 {x : Int} (h : 0 ≤ x ∧ x ≤ 127) : am_i2bz (am_i2bz x) = x := by
  have key : ∀ n : Fin 128, am_i2bz (am_i2bz ((n.val : Nat) : Int)) = ((n.val : Nat) : Int) := by decide +kernel
  have e := key ⟨x.toNat, by omega⟩
  have e2 : ((x.toNat : Nat) : Int) = x := by omega
  rw [e2] at e
  exact e
/-- a builder with the bytes of l -/
def xB (h : am_H) (r : Nat) (l : List Int) : Prop := am_ty h r = 29 ∧ am_ty h (am_fr h 185 r) = 102 ∧ am_fi h 186 r = 0 ∧ am_fi h 188 r = (l.length : Int) ∧ ((l.length : Int) ≤ (am_ln h (am_fr h 185 r)) ∧ (am_ln h (am_fr h 185 r)) ≤ 10000) ∧ (r ≤ am_sz h ∧ (am_fr h 185 r) ≤ am_sz h) ∧ pf (am_ai h (am_fr h 185 r)) l ∧ ∀ x, x ∈ l → 0 ≤ x ∧ x ≤ 127
section
variable {K : am_K} {h : am_H}
theorem c_ensure {r : Nat} {x : Int} {d : Nat} (v1 : am_ty h r = 29) (v2 : am_ty h (am_fr h 185 r) = 102) (v3 : am_fi h 186 r = 0) (v4 : 0 ≤ (am_ln h (am_fr h 185 r)) ∧ (am_ln h (am_fr h 185 r)) ≤ 100000) (v5 : r ≤ am_sz h ∧ (am_fr h 185 r) ≤ am_sz h) (hx : 0 ≤ x ∧ x ≤ 100000) (H0 : x ≤ (am_ln h (am_fr h 185 r)) → K (.inl none) h) (H1 : ∀ m, (am_ln h (am_fr h 185 r)) < x → x ≤ m → (m ≤ 2 * (am_ln h (am_fr h 185 r)) + 2 ∨ m ≤ x) → m ≤ 300000 → 2 * (am_ln h (am_fr h 185 r)) + 2 ≤ m → K (.inl none) (am_sfr (am_wai (am_new h 102 m.toNat) (am_sz h + 1) (am_cpy (am_ai h (am_fr h 185 r)) (fun _ => 0) 0 0 (am_ln h (am_fr h 185 r)))) 185 r (am_sz h + 1))) : am_ev am_prog (d + 6) 414 [.inr (.inl r), .inl x] h K := by
  refine am_en p_J0_ensureCapacityInternal rfl rfl (v_J0_ensureCapacityInternal_0 ?_)
  have e1 : am_shrz (am_ln h (am_fr h 185 r)) 0 = (am_ln h (am_fr h 185 r)) := am_shr0 (by omega)
  have e2 : am_shlz x 0 = x := am_shl0 (by omega)
  have e3 : am_shlz 2 0 = 2 := am_shl0 (by omega)
  have e4 : am_shrz ((am_ln h (am_fr h 185 r)) + ((am_ln h (am_fr h 185 r)) + 2)) 0 = (am_ln h (am_fr h 185 r)) + ((am_ln h (am_fr h 185 r)) + 2) := am_shr0 (by omega)
  have e5 : am_shlz ((am_ln h (am_fr h 185 r)) + ((am_ln h (am_fr h 185 r)) + 2)) 0 = (am_ln h (am_fr h 185 r)) + ((am_ln h (am_fr h 185 r)) + 2) := am_shl0 (by omega)
  rw [v3]
  simp only [e1, e2, e3, e4, e5]
  refine ⟨⟨v1, Or.inl v2, by omega⟩, fun c => H0 (by omega), fun c => ⟨by omega, fun c1 => ⟨by omega, fun c2 => by omega, fun c2 => ⟨fun c3 => by omega, fun c3 => ⟨fun c4 => ⟨fun c5 => ⟨by omega, v5.2, fun c6 => absurd c6 (by omega), fun c6 => ⟨by omega, v5.1, H1 _ (by omega) (by omega) (Or.inl (by omega)) (by omega) (by omega)⟩⟩, fun c5 => absurd c5 (by omega)⟩, fun c4 => by omega⟩⟩⟩, fun c1 => ?_⟩⟩
  have e6 : am_shrz ((am_ln h (am_fr h 185 r)) + (x - (am_ln h (am_fr h 185 r)))) 0 = (am_ln h (am_fr h 185 r)) + (x - (am_ln h (am_fr h 185 r))) := am_shr0 (by omega)
  have e7 : am_shlz ((am_ln h (am_fr h 185 r)) + (x - (am_ln h (am_fr h 185 r)))) 0 = (am_ln h (am_fr h 185 r)) + (x - (am_ln h (am_fr h 185 r))) := am_shl0 (by omega)
  simp only [e6, e7]
  refine ⟨by omega, fun c2 => by omega, fun c2 => ⟨fun c3 => by omega, fun c3 => ⟨fun c4 => ⟨fun c5 => ⟨by omega, v5.2, fun c6 => absurd c6 (by omega), fun c6 => ⟨by omega, v5.1, H1 _ (by omega) (by omega) (Or.inr (by omega)) (by omega) (by omega)⟩⟩, fun c5 => absurd c5 (by omega)⟩, fun c4 => by omega⟩⟩⟩
theorem xB_grow {r : Nat} {l : List Int} {m : Int} (v : xB h r l) (h1 : (am_ln h (am_fr h 185 r)) < m) (h2 : m ≤ 10000) : xB (am_sfr (am_wai (am_new h 102 m.toNat) (am_sz h + 1) (am_cpy (am_ai h (am_fr h 185 r)) (fun _ => 0) 0 0 (am_ln h (am_fr h 185 r)))) 185 r (am_sz h + 1)) r l ∧ am_ln (am_sfr (am_wai (am_new h 102 m.toNat) (am_sz h + 1) (am_cpy (am_ai h (am_fr h 185 r)) (fun _ => 0) 0 0 (am_ln h (am_fr h 185 r)))) 185 r (am_sz h + 1)) (am_sz h + 1) = m ∧ am_fr (am_sfr (am_wai (am_new h 102 m.toNat) (am_sz h + 1) (am_cpy (am_ai h (am_fr h 185 r)) (fun _ => 0) 0 0 (am_ln h (am_fr h 185 r)))) 185 r (am_sz h + 1)) 185 r = am_sz h + 1 := by
  obtain ⟨v1, v2, v3, v4, v5, v6, v7, v8⟩ := v
  have e1 : am_ln (am_new h 102 m.toNat) (am_sz h + 1) = m := (x_lnn0 rfl).trans (by omega)
  refine ⟨?_, e1, x_fre⟩
  unfold xB
  rw [x_fre]
  refine ⟨(x_tyn (t := 102) (n := m.toNat) v6.1).trans v1, x_tyn0 (t := 102) (n := m.toNat) rfl, (x_fin (t := 102) (n := m.toNat) v6.1).trans v3, (x_fin (t := 102) (n := m.toNat) v6.1).trans v4, ?_, ⟨Nat.le_succ_of_le v6.1, Nat.le_refl _⟩, ?_, v8⟩
  · have e2 : am_ln (am_sfr (am_wai (am_new h 102 m.toNat) (am_sz h + 1) (am_cpy (am_ai h (am_fr h 185 r)) (fun _ => 0) 0 0 (am_ln h (am_fr h 185 r)))) 185 r (am_sz h + 1)) (am_sz h + 1) = m := e1
    rw [e2]
    omega
  · have e3 : am_ai (am_sfr (am_wai (am_new h 102 m.toNat) (am_sz h + 1) (am_cpy (am_ai h (am_fr h 185 r)) (fun _ => 0) 0 0 (am_ln h (am_fr h 185 r)))) 185 r (am_sz h + 1)) (am_sz h + 1) = am_cpy (am_ai h (am_fr h 185 r)) (fun _ => 0) 0 0 (am_ln h (am_fr h 185 r)) := x_aiwe
    rw [e3]
    intro k hk
    have e4 : am_cpy (am_ai h (am_fr h 185 r)) (fun _ => 0) 0 0 (am_ln h (am_fr h 185 r)) (k : Int) = am_ai h (am_fr h 185 r) (k : Int) := by
      unfold am_cpy
      rw [if_pos (by omega)]
      congr 1
      omega
    rw [e4]
    exact v7 k hk
/-- a sign is put behind -/
theorem c_appc {r : Nat} {l : List Int} {x : Int} {d : Nat} (v : xB h r l) (hx : 0 ≤ x ∧ x ≤ 127) (hl : (l.length : Int) ≤ 1000) (hN : (am_ln h (am_fr h 185 r)) ≤ 3000) (H : ∀ h', fx (fun q => q = r ∨ q = (am_fr h 185 r)) h h' → xB h' r (l ++ [x]) → (am_sz h' : Int) + (am_ln h (am_fr h 185 r)) ≤ am_sz h + am_ln h' (am_fr h' 185 r) → (am_us h' : Int) + 2 * (am_ln h (am_fr h 185 r)) ≤ am_us h + 2 * am_ln h' (am_fr h' 185 r) → (am_ln h' (am_fr h' 185 r) = (am_ln h (am_fr h 185 r)) ∨ ((am_ln h (am_fr h 185 r)) < am_ln h' (am_fr h' 185 r) ∧ am_ln h' (am_fr h' 185 r) ≤ 2 * (l.length : Int) + 2)) → (am_fr h' 185 r = (am_fr h 185 r) ∨ am_sz h < am_fr h' 185 r) → K (.inl (some (.inr (.inl (r))))) h') : am_ev am_prog (d + 7) 399 [.inr (.inl r), .inl x] h K := by
  obtain ⟨v1, v2, v3, v4, v5, v6, v7, v8⟩ := v
  have vv : xB h r l := ⟨v1, v2, v3, v4, v5, v6, v7, v8⟩
  refine am_en p_J0_append_3 rfl rfl (v_J0_append_3_0 ⟨⟨v1, by omega⟩, ?_⟩)
  have step : ∀ h1, xB h1 r l → (l.length : Int) < am_ln h1 (am_fr h1 185 r) → fx (fun q => q = r ∨ q = (am_fr h 185 r)) h h1 → (am_sz h1 : Int) + (am_ln h (am_fr h 185 r)) ≤ am_sz h + am_ln h1 (am_fr h1 185 r) → (am_us h1 : Int) + 2 * (am_ln h (am_fr h 185 r)) ≤ am_us h + 2 * am_ln h1 (am_fr h1 185 r) → (am_ln h1 (am_fr h1 185 r) = (am_ln h (am_fr h 185 r)) ∨ ((am_ln h (am_fr h 185 r)) < am_ln h1 (am_fr h1 185 r) ∧ am_ln h1 (am_fr h1 185 r) ≤ 2 * (l.length : Int) + 2)) → (am_fr h1 185 r = (am_fr h 185 r) ∨ am_sz h < am_fr h1 185 r) → am_W m_J0_append_3 (am_ev am_prog (d + 5 + 1)) K 6 [some (.inr (.inl (r))), some (.inl (x))] [] h1 := by
    intro h1 w hlt g1 g2 g3 g4 g5
    obtain ⟨w1, w2, w3, w4, w5, w6, w7, w8⟩ := w
    refine v_J0_append_3_6 ⟨w1, fun c => absurd w3 c, fun _ => ⟨fun c => absurd c (by omega), fun _ => ⟨by omega, ⟨w2, by omega⟩, ?_⟩⟩⟩
    rw [w4, am_i2b0 hx]
    refine H _ (fx_sai (fx_sfi g1 (Or.inr (Or.inl rfl))) (g5.elim (fun e => Or.inr (Or.inr e)) (fun e => Or.inl e))) ?_ g2 g3 g4 g5
    refine ⟨w1, w2, w3, ?_, ?_, w6, ?_, ?_⟩
    · rw [len_app1]
      exact x_fie (h := h1) (f := 188) (r := r)
    · rw [len_app1]
      exact ⟨by show (l.length : Int) + 1 ≤ am_ln h1 (am_fr h1 185 r); omega, w5.2⟩
    · have e : am_ai (am_sai (am_sfi h1 188 r ((l.length : Int) + 1)) (am_fr h1 185 r) (l.length : Int) x) (am_fr h1 185 r) = am_uz (am_ai h1 (am_fr h1 185 r)) (l.length : Int) x := x_aise
      show pf (am_ai (am_sai (am_sfi h1 188 r ((l.length : Int) + 1)) (am_fr h1 185 r) (l.length : Int) x) (am_fr h1 185 r)) (l ++ [x])
      rw [e]
      exact pf_app w7 rfl
    · intro y hy
      rcases List.mem_append.mp hy with hy | hy
      · exact w8 y hy
      · have : y = x := List.mem_singleton.mp hy
        rw [this]
        exact hx
  refine c_ensure v1 v2 v3 (by omega) v6 (by omega) (fun c => am_an ?_) (fun m c1 c2 c3 c4 c5 => am_an ?_)
  · exact step h vv (by omega) fx_refl (by omega) (by omega) (Or.inl rfl) (Or.inl rfl)
  · have gr := xB_grow vv (m := m) (by omega) (by omega)
    refine step _ gr.1 ?_ (fx_sfr (fx_wai (fx_new fx_refl) (Or.inl (by omega))) (Or.inr (Or.inl rfl))) ?_ ?_ ?_ ?_
    · rw [gr.2.2, gr.2.1]
      omega
    · rw [gr.2.2, gr.2.1]
      show ((am_sz h + 1 : Nat) : Int) + _ ≤ _
      omega
    · rw [gr.2.2, gr.2.1]
      show ((am_us h + m.toNat : Nat) : Int) + _ ≤ _
      omega
    · rw [gr.2.2, gr.2.1]
      right
      omega
    · rw [gr.2.2]
      right
      omega
end
