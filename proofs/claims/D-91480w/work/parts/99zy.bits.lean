set_option maxRecDepth 100000
/-! bits -/
theorem z_bv (a : Nat) (h : a < 2147483648) : (Int32.ofInt (a : Int)).toBitVec.toNat = a := by
  show (BitVec.ofInt 32 (a : Int)).toNat = a
  rw [BitVec.toNat_ofInt]
  omega
theorem z_ti (x : Int32) (h : x.toBitVec.toNat < 2147483648) : x.toInt = (x.toBitVec.toNat : Int) := by
  show x.toBitVec.toInt = _
  rw [BitVec.toInt_eq_toNat_of_lt (by omega)]
theorem andz_nat (a b : Nat) (ha : a < 2147483648) (hb : b < 2147483648) : am_andz a b = ((a &&& b : Nat) : Int) := by
  unfold am_andz
  have e : (Int32.ofInt (a : Int) &&& Int32.ofInt (b : Int)).toBitVec.toNat = a &&& b := by
    show ((Int32.ofInt (a : Int)).toBitVec &&& (Int32.ofInt (b : Int)).toBitVec).toNat = _
    rw [BitVec.toNat_and, z_bv a ha, z_bv b hb]
  have l : a &&& b ≤ a := Nat.and_le_left
  rw [z_ti _ (by rw [e]; omega), e]
theorem ushrz_nat (a : Nat) (ha : a < 2147483648) (k : Fin 32) : am_ushrz a (k.val : Int) = ((a / 2 ^ k.val : Nat) : Int) := by
  have key : ∀ k : Fin 32, ((Int32.ofInt (k.val : Int)).toUInt32 &&& Int32.toUInt32 31).toNat % 32 = k.val := by decide +kernel
  unfold am_ushrz
  have e : ((Int32.ofInt (a : Int)).toUInt32 >>> ((Int32.ofInt (k.val : Int)).toUInt32 &&& Int32.toUInt32 31)).toInt32.toBitVec.toNat = a / 2 ^ k.val := by
    show ((Int32.ofInt (a : Int)).toUInt32 >>> ((Int32.ofInt (k.val : Int)).toUInt32 &&& Int32.toUInt32 31)).toNat = _
    rw [UInt32.toNat_shiftRight, key k, Nat.shiftRight_eq_div_pow]
    have : (Int32.ofInt (a : Int)).toUInt32.toNat = a := z_bv a ha
    rw [this]
  have l : a / 2 ^ k.val ≤ a := Nat.div_le_self _ _
  rw [z_ti _ (by rw [e]; omega), e]
theorem shrz_div (x : Int) (hx : -2147483648 ≤ x ∧ x ≤ 2147483647) (k : Fin 32) : am_shrz x (k.val : Int) = x / 2 ^ k.val := by
  have key : ∀ k : Fin 32, ((Int32.ofInt (k.val : Int) &&& 31).toBitVec.smod 32).toNat = k.val := by decide +kernel
  unfold am_shrz
  show ((Int32.ofInt x).toBitVec.sshiftRight' ((Int32.ofInt (k.val : Int) &&& 31).toBitVec.smod 32)).toInt = _
  rw [BitVec.sshiftRight', key k, BitVec.toInt_sshiftRight, Int.shiftRight_eq_div_pow]
  have : (Int32.ofInt x).toBitVec.toInt = x := by
    show (Int32.ofInt x).toInt = x
    rw [Int32.toInt_ofInt]
    show Int.bmod x (2 ^ 32) = x
    rw [Int.bmod_eq_of_le] <;> omega
  rw [this]
  push_cast
  rfl
theorem land_fld (i a A M m : Nat) (hA : A < 2 ^ i) (hm : m < 2 ^ i) : (2 ^ i * a + A) &&& (2 ^ i * M + m) = 2 ^ i * (a &&& M) + (A &&& m) := by
  apply Nat.eq_of_testBit_eq
  intro j
  have h3 : A &&& m < 2 ^ i := Nat.and_lt_two_pow _ hm
  rw [Nat.testBit_and, Nat.testBit_two_pow_mul_add _ hA, Nat.testBit_two_pow_mul_add _ hm, Nat.testBit_two_pow_mul_add _ h3]
  by_cases c : j < i
  · simp [c]
  · simp [c]
/-- bits below m -/
def bcn (x : Nat) : Nat → Nat
  | 0 => 0
  | m + 1 => bcn x m + x / 2 ^ m % 2
theorem land3 (a b c M N O : Nat) (ha : a < 256) (hb : b < 256) (hM : M < 256) (hN : N < 256) : (a + 256 * b + 65536 * c) &&& (M + 256 * N + 65536 * O) = (a &&& M) + 256 * (b &&& N) + 65536 * (c &&& O) := by
  have e1 : a + 256 * b + 65536 * c = 2 ^ 8 * (2 ^ 8 * c + b) + a := by omega
  have e2 : M + 256 * N + 65536 * O = 2 ^ 8 * (2 ^ 8 * O + N) + M := by omega
  rw [e1, e2, land_fld 8 _ _ _ _ ha hM, land_fld 8 _ _ _ _ hb hN]
  omega
def q1 (a : Nat) : Nat := a - (a / 2 &&& 85)
def q2 (a : Nat) : Nat := (a &&& 51) + (a / 4 &&& 51)
def q3 (a : Nat) : Nat := (a + a / 16) &&& 15
theorem q1_k : ∀ a : Fin 256, ∀ t : Fin 2, (a.val / 2 + 128 * t.val) &&& 85 = a.val / 2 &&& 85 := by decide +kernel
theorem q1_b : ∀ a : Fin 256, (a.val / 2 &&& 85) ≤ a.val := by decide +kernel
theorem q2_k : ∀ a : Fin 256, ∀ t : Fin 4, (a.val / 4 + 64 * t.val) &&& 51 = a.val / 4 &&& 51 := by decide +kernel
theorem q2_b : ∀ a : Fin 256, q2 (q1 a.val) ≤ 68 ∧ q2 (q1 a.val) % 16 ≤ 4 := by decide +kernel
theorem q3_k : ∀ a : Fin 69, ∀ t : Fin 5, (a.val + (a.val / 16 + 16 * t.val)) &&& 15 = (a.val + a.val / 16) &&& 15 := by decide +kernel
theorem q3_b : ∀ a : Fin 256, q3 (q2 (q1 a.val)) = bcn a.val 8 ∧ bcn a.val 8 ≤ 8 := by decide +kernel
theorem q1_c : ∀ c : Fin 16, (c.val / 2 &&& 21845) = (c.val / 2 &&& 85) := by decide +kernel
theorem q2_c : ∀ c : Fin 256, (c.val &&& 13107) = (c.val &&& 51) ∧ (c.val / 4 &&& 13107) = (c.val / 4 &&& 51) := by decide +kernel
theorem q3_c : ∀ c : Fin 256, (c.val &&& 3855) = (c.val &&& 15) := by decide +kernel
theorem q6 : ∀ c : Fin 25, ∀ t : Fin 4, ((c.val + 64 * 4 * t.val) &&& 63) = c.val := by decide +kernel
theorem b1 (a b c : Nat) (ha : a < 256) (hb : b < 256) (hc : c < 16) : ((a + 256 * b + 65536 * c) / 2 &&& 1431655765) = (a / 2 &&& 85) + 256 * (b / 2 &&& 85) + 65536 * (c / 2 &&& 85) := by
  have e : (a + 256 * b + 65536 * c) / 2 = (a / 2 + 128 * (b % 2)) + 256 * (b / 2 + 128 * (c % 2)) + 65536 * (c / 2) := by omega
  have m : 1431655765 = 85 + 256 * 85 + 65536 * 21845 := rfl
  rw [e, m, land3 _ _ _ _ _ _ (by omega) (by omega) (by omega) (by omega)]
  have k1 := q1_k ⟨a, ha⟩ ⟨b % 2, by omega⟩
  have k2 := q1_k ⟨b, hb⟩ ⟨c % 2, by omega⟩
  have k3 := q1_c ⟨c, hc⟩
  dsimp only at k1 k2 k3
  rw [k1, k2, k3]
theorem b2 (a b c : Nat) (ha : a < 256) (hb : b < 256) (hc : c < 256) : ((a + 256 * b + 65536 * c) &&& 858993459) = (a &&& 51) + 256 * (b &&& 51) + 65536 * (c &&& 51) ∧ ((a + 256 * b + 65536 * c) / 4 &&& 858993459) = (a / 4 &&& 51) + 256 * (b / 4 &&& 51) + 65536 * (c / 4 &&& 51) := by
  have e : (a + 256 * b + 65536 * c) / 4 = (a / 4 + 64 * (b % 4)) + 256 * (b / 4 + 64 * (c % 4)) + 65536 * (c / 4) := by omega
  have m : 858993459 = 51 + 256 * 51 + 65536 * 13107 := rfl
  have k3 := q2_c ⟨c, hc⟩
  have k1 := q2_k ⟨a, ha⟩ ⟨b % 4, by omega⟩
  have k2 := q2_k ⟨b, hb⟩ ⟨c % 4, by omega⟩
  dsimp only at k1 k2 k3
  constructor
  · rw [m, land3 _ _ _ _ _ _ ha hb (by omega) (by omega), k3.1]
  · rw [e, m, land3 _ _ _ _ _ _ (by omega) (by omega) (by omega) (by omega), k1, k2, k3.2]
theorem b3 (a b c : Nat) (ha : a ≤ 68) (hb : b ≤ 68) (hc : c ≤ 68) (hb' : b % 16 ≤ 4) (hc' : c % 16 ≤ 4) : (((a + 256 * b + 65536 * c) + (a + 256 * b + 65536 * c) / 16) &&& 252645135) = q3 a + 256 * q3 b + 65536 * q3 c := by
  have e : (a + 256 * b + 65536 * c) + (a + 256 * b + 65536 * c) / 16 = (a + (a / 16 + 16 * (b % 16))) + 256 * (b + (b / 16 + 16 * (c % 16))) + 65536 * (c + c / 16) := by omega
  have m : 252645135 = 15 + 256 * 15 + 65536 * 3855 := rfl
  have k1 := q3_k ⟨a, by omega⟩ ⟨b % 16, by omega⟩
  have k2 := q3_k ⟨b, by omega⟩ ⟨c % 16, by omega⟩
  have k3 := q3_c ⟨c + c / 16, by omega⟩
  dsimp only at k1 k2 k3
  rw [e, m, land3 _ _ _ _ _ _ (by omega) (by omega) (by omega) (by omega), k1, k2, k3]
  rfl
theorem bcn_s (x y : Nat) : ∀ m, (∀ j, j < m → x / 2 ^ j % 2 = y / 2 ^ j % 2) → bcn x m = bcn y m
  | 0, _ => rfl
  | m + 1, h => by
    show bcn x m + x / 2 ^ m % 2 = bcn y m + y / 2 ^ m % 2
    rw [bcn_s x y m (fun j hj => h j (by omega)), h m (by omega)]
theorem bcn_sp (a b : Nat) (ha : a < 256) : ∀ m, bcn (a + 256 * b) (8 + m) = bcn a 8 + bcn b m
  | 0 => by
    have e : bcn (a + 256 * b) 8 = bcn a 8 := bcn_s _ _ 8 (fun j hj => by
      have p : 256 = 2 ^ j * (2 * 2 ^ (7 - j)) := by
        have : j = 0 ∨ j = 1 ∨ j = 2 ∨ j = 3 ∨ j = 4 ∨ j = 5 ∨ j = 6 ∨ j = 7 := by omega
        rcases this with e | e | e | e | e | e | e | e <;> rw [e]
      rw [p, Nat.mul_assoc, Nat.add_mul_div_left _ _ (Nat.two_pow_pos j), Nat.mul_assoc]
      omega)
    exact e
  | m + 1 => by
    show bcn (a + 256 * b) (8 + m) + (a + 256 * b) / 2 ^ (8 + m) % 2 = bcn a 8 + (bcn b m + b / 2 ^ m % 2)
    rw [bcn_sp a b ha m, Nat.pow_add, ← Nat.div_div_eq_div_mul]
    have e : (a + 256 * b) / 2 ^ 8 = b := by omega
    rw [e]
    omega
theorem bcn_3 (a b c : Nat) (ha : a < 256) (hb : b < 256) (hc : c < 16) : bcn (a + 256 * b + 65536 * c) 20 = bcn a 8 + bcn b 8 + bcn c 8 := by
  have e : a + 256 * b + 65536 * c = a + 256 * (b + 256 * c) := by omega
  have k := bcn_sp a (b + 256 * c) ha 12
  have k2 := bcn_sp b c hb 4
  have z : ∀ c : Fin 16, bcn c.val 4 = bcn c.val 8 := by decide +kernel
  have k3 := z ⟨c, hc⟩
  dsimp only at k3
  rw [e, k, k2, k3]
  omega
section
variable {K : am_K} {h : am_H}
theorem c_bitCount {x : Int} {D : Nat} (hD : 7 ≤ D) (hx : 0 ≤ x ∧ x < 1048576) (H : K (.inl (some (.inl ((bcn x.toNat 20 : Nat))))) h) : am_ev am_prog D 308 [.inl x] h K := by
  obtain ⟨X, rfl⟩ : ∃ X : Nat, x = (X : Int) := ⟨x.toNat, by omega⟩
  obtain ⟨a, b, c, ha, hb, hc, rfl⟩ : ∃ a b c : Nat, a < 256 ∧ b < 256 ∧ c < 16 ∧ X = a + 256 * b + 65536 * c := ⟨X % 256, X / 256 % 256, X / 65536, by omega, by omega, by omega, by omega⟩
  have et : (((a + 256 * b + 65536 * c : Nat) : Int)).toNat = a + 256 * b + 65536 * c := by omega
  rw [et, bcn_3 a b c ha hb hc] at H
  obtain ⟨d, rfl⟩ : ∃ d, D = d + 6 := ⟨D - 6, by omega⟩
  refine am_en p_J19_bitCount rfl rfl (v_J19_bitCount_0 ?_)
  have la1 := q1_b ⟨a, ha⟩
  have lb1 := q1_b ⟨b, hb⟩
  have lc1 := q1_b ⟨c, by omega⟩
  have la2 := q2_b ⟨a, ha⟩
  have lb2 := q2_b ⟨b, hb⟩
  have lc2 := q2_b ⟨c, by omega⟩
  have la3 := q3_b ⟨a, ha⟩
  have lb3 := q3_b ⟨b, hb⟩
  have lc3 := q3_b ⟨c, by omega⟩
  dsimp only at la1 lb1 lc1 la2 lb2 lc2 la3 lb3 lc3
  have u1 : am_ushrz ((a + 256 * b + 65536 * c : Nat) : Int) 1 = (((a + 256 * b + 65536 * c) / 2 : Nat) : Int) := ushrz_nat _ (by omega) 1
  have w1 : am_andz (((a + 256 * b + 65536 * c) / 2 : Nat) : Int) 1431655765 = (((a / 2 &&& 85) + 256 * (b / 2 &&& 85) + 65536 * (c / 2 &&& 85) : Nat) : Int) := by
    rw [← b1 a b c ha hb hc]
    exact andz_nat _ 1431655765 (by omega) (by decide)
  have y1 : ((a + 256 * b + 65536 * c : Nat) : Int) - (((a / 2 &&& 85) + 256 * (b / 2 &&& 85) + 65536 * (c / 2 &&& 85) : Nat) : Int) = ((q1 a + 256 * q1 b + 65536 * q1 c : Nat) : Int) := by
    unfold q1
    omega
  rw [u1, w1, y1]
  have qa : q1 a < 256 := by unfold q1; omega
  have qb : q1 b < 256 := by unfold q1; omega
  have qc : q1 c < 256 := by unfold q1; omega
  have B2 := b2 (q1 a) (q1 b) (q1 c) qa qb qc
  have u2 : am_ushrz ((q1 a + 256 * q1 b + 65536 * q1 c : Nat) : Int) 2 = (((q1 a + 256 * q1 b + 65536 * q1 c) / 4 : Nat) : Int) := ushrz_nat _ (by omega) 2
  have w2 : am_andz ((q1 a + 256 * q1 b + 65536 * q1 c : Nat) : Int) 858993459 = (((q1 a &&& 51) + 256 * (q1 b &&& 51) + 65536 * (q1 c &&& 51) : Nat) : Int) := by
    rw [← B2.1]
    exact andz_nat _ 858993459 (by omega) (by decide)
  have w3 : am_andz (((q1 a + 256 * q1 b + 65536 * q1 c) / 4 : Nat) : Int) 858993459 = (((q1 a / 4 &&& 51) + 256 * (q1 b / 4 &&& 51) + 65536 * (q1 c / 4 &&& 51) : Nat) : Int) := by
    rw [← B2.2]
    exact andz_nat _ 858993459 (by omega) (by decide)
  have y2 : (((q1 a &&& 51) + 256 * (q1 b &&& 51) + 65536 * (q1 c &&& 51) : Nat) : Int) + (((q1 a / 4 &&& 51) + 256 * (q1 b / 4 &&& 51) + 65536 * (q1 c / 4 &&& 51) : Nat) : Int) = ((q2 (q1 a) + 256 * q2 (q1 b) + 65536 * q2 (q1 c) : Nat) : Int) := by
    unfold q2
    omega
  rw [u2, w2, w3, y2]
  have r1 : -2147483648 ≤ ((q1 a + 256 * q1 b + 65536 * q1 c : Nat) : Int) ∧ ((q1 a + 256 * q1 b + 65536 * q1 c : Nat) : Int) ≤ 2147483647 := by omega
  generalize q2 (q1 a) = A at *
  generalize q2 (q1 b) = B at *
  generalize q2 (q1 c) = C at *
  have u4 : am_ushrz ((A + 256 * B + 65536 * C : Nat) : Int) 4 = (((A + 256 * B + 65536 * C) / 16 : Nat) : Int) := ushrz_nat _ (by omega) 4
  rw [u4]
  have y3 : ((A + 256 * B + 65536 * C : Nat) : Int) + (((A + 256 * B + 65536 * C) / 16 : Nat) : Int) = (((A + 256 * B + 65536 * C) + (A + 256 * B + 65536 * C) / 16 : Nat) : Int) := by omega
  have w4 : am_andz (((A + 256 * B + 65536 * C) + (A + 256 * B + 65536 * C) / 16 : Nat) : Int) 252645135 = ((bcn a 8 + 256 * bcn b 8 + 65536 * bcn c 8 : Nat) : Int) := by
    rw [← la3.1, ← lb3.1, ← lc3.1, ← b3 A B C la2.1 lb2.1 lc2.1 lb2.2 lc2.2]
    exact andz_nat _ 252645135 (by omega) (by decide)
  rw [y3, w4]
  have r3 : -2147483648 ≤ (((A + 256 * B + 65536 * C) + (A + 256 * B + 65536 * C) / 16 : Nat) : Int) ∧ (((A + 256 * B + 65536 * C) + (A + 256 * B + 65536 * C) / 16 : Nat) : Int) ≤ 2147483647 := by omega
  generalize bcn a 8 = u at *
  generalize bcn b 8 = v at *
  generalize bcn c 8 = w at *
  have u5 : am_ushrz ((u + 256 * v + 65536 * w : Nat) : Int) 8 = ((v + 256 * w : Nat) : Int) := by
    have k : am_ushrz ((u + 256 * v + 65536 * w : Nat) : Int) 8 = (((u + 256 * v + 65536 * w) / 256 : Nat) : Int) := ushrz_nat _ (by omega) 8
    rw [k]
    omega
  rw [u5]
  have y4 : ((u + 256 * v + 65536 * w : Nat) : Int) + ((v + 256 * w : Nat) : Int) = (((u + v) + 256 * (v + w) + 65536 * w : Nat) : Int) := by omega
  rw [y4]
  have u6 : am_ushrz (((u + v) + 256 * (v + w) + 65536 * w : Nat) : Int) 16 = ((w : Nat) : Int) := by
    have k : am_ushrz (((u + v) + 256 * (v + w) + 65536 * w : Nat) : Int) 16 = ((((u + v) + 256 * (v + w) + 65536 * w) / 65536 : Nat) : Int) := ushrz_nat _ (by omega) 16
    rw [k]
    omega
  rw [u6]
  have y5 : (((u + v) + 256 * (v + w) + 65536 * w : Nat) : Int) + ((w : Nat) : Int) = (((u + v + w) + 256 * (v + w) + 65536 * w : Nat) : Int) := by omega
  have w6 : am_andz (((u + v + w) + 256 * (v + w) + 65536 * w : Nat) : Int) 63 = ((u + v + w : Nat) : Int) := by
    have k : am_andz (((u + v + w) + 256 * (v + w) + 65536 * w : Nat) : Int) 63 = ((((u + v + w) + 256 * (v + w) + 65536 * w) &&& 63 : Nat) : Int) := andz_nat _ 63 (by omega) (by decide)
    have l3 := land3 (u + v + w) (v + w) w 63 0 0 (by omega) (by omega) (by omega) (by omega)
    have k6 := q6 ⟨u + v + w, by omega⟩ ⟨0, by omega⟩
    dsimp only at k6
    have z1 : (v + w) &&& 0 = 0 := Nat.and_zero _
    have z2 : w &&& 0 = 0 := Nat.and_zero _
    rw [z1, z2] at l3
    have e0 : 63 + 256 * 0 + 65536 * 0 = 63 := rfl
    have e1 : u + v + w + 64 * 4 * 0 = u + v + w := by omega
    rw [e0] at l3
    rw [e1] at k6
    rw [k, l3, k6]
    omega
  rw [y5, w6]
  exact ⟨⟨r1, by omega, by omega, by omega, by omega⟩, H⟩
/-- bit j of x -/
theorem bit_z {x j : Int} (hx : 0 ≤ x ∧ x ≤ 2147483647) (hj : 0 ≤ j ∧ j < 32) : am_andz (am_shrz x j) 1 = ((x.toNat / 2 ^ j.toNat % 2 : Nat) : Int) := by
  obtain ⟨X, rfl⟩ : ∃ X : Nat, x = (X : Int) := ⟨x.toNat, by omega⟩
  obtain ⟨k, rfl⟩ : ∃ k : Nat, j = (k : Int) := ⟨j.toNat, by omega⟩
  have e := shrz_div (X : Int) (by omega) ⟨k, by omega⟩
  dsimp only at e
  have e2 : (X : Int) / 2 ^ k = ((X / 2 ^ k : Nat) : Int) := by
    push_cast
    rfl
  have l : X / 2 ^ k ≤ X := Nat.div_le_self _ _
  have a := andz_nat (X / 2 ^ k) 1 (by omega) (by omega)
  have n1 : (X / 2 ^ k) &&& 1 = X / 2 ^ k % 2 := Nat.and_one_is_mod _
  have a' : am_andz ((X / 2 ^ k : Nat) : Int) 1 = (((X / 2 ^ k) &&& 1 : Nat) : Int) := a
  rw [e, e2, a', n1]
  rfl
theorem shl_p {k : Int} (hk : 0 ≤ k ∧ k ≤ 20) : am_shlz 1 k = ((2 ^ k.toNat : Nat) : Int) := by
  have key : ∀ n : Fin 21, am_shlz 1 ((n.val : Nat) : Int) = ((2 ^ n.val : Nat) : Int) := by decide +kernel
  have q := key ⟨k.toNat, by omega⟩
  have e : ((k.toNat : Nat) : Int) = k := by omega
  dsimp only at q
  rw [e] at q
  exact q
theorem shr_0 {x k : Int} (hx : -2147483648 ≤ x ∧ x ≤ 2147483647) (hk : 0 ≤ k ∧ k ≤ 20) : am_shrz x k = 0 ↔ 0 ≤ x ∧ x < am_shlz 1 k := by
  rw [shl_p hk]
  obtain ⟨n, rfl⟩ : ∃ n : Nat, k = (n : Int) := ⟨k.toNat, by omega⟩
  have e := shrz_div x hx ⟨n, by omega⟩
  dsimp only at e
  have et : ((n : Int)).toNat = n := by omega
  rw [e, et]
  have p : (0 : Int) < 2 ^ n := Int.pow_pos (by decide)
  have pc : ((2 ^ n : Nat) : Int) = 2 ^ n := by
    push_cast
    rfl
  rw [pc]
  constructor
  · intro h
    have h1 := Int.emod_add_mul_ediv x (2 ^ n)
    have h2 := Int.emod_nonneg x (Int.ne_of_gt p)
    have h3 := Int.emod_lt_of_pos x p
    rw [h, Int.mul_zero] at h1
    omega
  · intro h
    exact Int.ediv_eq_zero_of_lt h.1 h.2
end
