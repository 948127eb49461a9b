set_option maxRecDepth 100000
/-! THE MODEL: one object at r, its arrays at r + 1 .. r + 35; m: the row; V: the other arrays; W: its numbers -/
def mo_fl : List (Nat × Nat) := [(39, 1), (40, 2), (41, 3), (43, 4), (50, 5), (51, 6), (52, 7), (53, 8), (54, 9), (56, 10), (59, 11), (60, 12), (61, 13), (69, 14), (70, 15), (71, 16), (72, 17), (74, 18), (75, 19), (76, 20), (77, 21), (78, 22), (79, 23), (80, 24), (81, 25), (82, 26), (83, 27), (84, 28), (85, 29), (86, 30), (87, 31), (88, 32), (91, 33), (92, 34), (93, 35)]
def mo_f (f : Nat) : Nat := match am_lk mo_fl f with
  | some j => j
  | none => 0
def mo_tl : List Nat := [101, 101, 101, 101, 101, 101, 101, 101, 101, 101, 103, 101, 103, 101, 101, 101, 101, 101, 103, 101, 101, 101, 101, 101, 101, 101, 101, 101, 101, 101, 101, 101, 101, 101, 101]
def mo_nl : List Int := [337220, 337220, 337220, 400, 200, 200, 2400, 5, 5, 562, 3, 6, 100, 41, 41, 41, 430, 27, 41, 17200, 40, 40, 645, 40, 40, 480, 4, 4, 4, 4, 4, 3, 5, 5, 4]
def mo_t (j : Nat) : Nat := match am_at mo_tl (j - 1) with
  | some t => t
  | none => 0
def mo_n (j : Nat) : Int := match am_at mo_nl (j - 1) with
  | some t => t
  | none => 0
def mo (b : am_H) (r : Nat) (m : Int → Int) (V : Nat → Int → Int) (W : Nat → Int) : am_H :=
  (b.1, b.2.1, fun q => if q = r then 5 else if r < q ∧ q ≤ r + 35 then mo_t (q - r) else b.2.2.1 q,
    fun q => if r < q ∧ q ≤ r + 35 then mo_n (q - r) else b.2.2.2.1 q,
    fun f q => if q = r then W f else b.2.2.2.2.1 f q,
    fun f q => if q = r then (if mo_f f = 0 then 0 else r + mo_f f) else b.2.2.2.2.2.1 f q,
    fun q => if r < q ∧ q ≤ r + 35 then (if q = r + 1 then m else V (q - r)) else b.2.2.2.2.2.2.1 q, b.2.2.2.2.2.2.2.1, b.2.2.2.2.2.2.2.2)
section
variable {b : am_H} {r : Nat} {m : Int → Int} {V : Nat → Int → Int} {W : Nat → Int}
theorem mo_ty : am_ty (mo b r m V W) r = 5 := if_pos rfl
theorem mo_i {f : Nat} : am_fi (mo b r m V W) f r = W f := if_pos rfl
theorem mo_fr {f : Nat} (h : mo_f f ≠ 0) : am_fr (mo b r m V W) f r = r + mo_f f := by
  show (if r = r then (if mo_f f = 0 then 0 else r + mo_f f) else _) = _
  rw [if_pos rfl, if_neg h]
theorem mo_tj {j : Nat} (h : 0 < j ∧ j ≤ 35) : am_ty (mo b r m V W) (r + j) = mo_t j := by
  show (if r + j = r then 5 else if r < r + j ∧ r + j ≤ r + 35 then mo_t (r + j - r) else _) = _
  rw [if_neg (by omega), if_pos (by omega), Nat.add_sub_cancel_left]
theorem mo_nj {j : Nat} (h : 0 < j ∧ j ≤ 35) : am_ln (mo b r m V W) (r + j) = mo_n j := by
  show (if r < r + j ∧ r + j ≤ r + 35 then mo_n (r + j - r) else _) = _
  rw [if_pos (by omega), Nat.add_sub_cancel_left]
theorem mo_a1 : am_ai (mo b r m V W) (r + 1) = m := by
  show (if r < r + 1 ∧ r + 1 ≤ r + 35 then (if r + 1 = r + 1 then m else V (r + 1 - r)) else _) = _
  rw [if_pos (by omega), if_pos rfl]
theorem mo_aj {j : Nat} (h : 1 < j ∧ j ≤ 35) : am_ai (mo b r m V W) (r + j) = V j := by
  show (if r < r + j ∧ r + j ≤ r + 35 then (if r + j = r + 1 then m else V (r + j - r)) else _) = _
  rw [if_pos (by omega), if_neg (by omega), Nat.add_sub_cancel_left]
theorem mo_si {f : Nat} {x : Int} : am_sfi (mo b r m V W) f r x = mo b r m V (am_up W f x) := by
  unfold am_sfi mo
  simp only [Prod.mk.injEq, true_and, and_true]
  funext g q
  by_cases e : g = f
  · subst e
    simp only [am_up, if_true]
    by_cases e2 : q = r <;> simp [e2]
  · by_cases e2 : q = r <;> simp [am_up, e, e2]
theorem mo_w1 {g : Int → Int} : am_wai (mo b r m V W) (r + 1) g = mo b r g V W := by
  unfold am_wai mo
  simp only [Prod.mk.injEq, true_and, and_true]
  funext q
  by_cases e : q = r + 1
  · subst e
    simp [am_up]
  · simp [am_up, e]
theorem mo_wj {j : Nat} {g : Int → Int} (h : 1 < j ∧ j ≤ 35) : am_wai (mo b r m V W) (r + j) g = mo b r m (am_up V j g) W := by
  unfold am_wai mo
  simp only [Prod.mk.injEq, true_and, and_true]
  funext q
  by_cases e : q = r + j
  · subst e
    simp only [am_up, if_true]
    rw [if_pos (by omega), if_neg (by omega), if_pos (by omega)]
  · simp only [am_up, if_neg e]
    by_cases e2 : r < q ∧ q ≤ r + 35
    · rw [if_pos e2, if_pos e2]
      by_cases e3 : q = r + 1
      · rw [if_pos e3, if_pos e3]
      · rw [if_neg e3, if_neg e3, if_neg (by omega)]
    · rw [if_neg e2, if_neg e2]
theorem mo_s1 {k x : Int} : am_sai (mo b r m V W) (r + 1) k x = mo b r (am_uz m k x) V W := by
  unfold am_sai
  rw [mo_a1, mo_w1]
theorem mo_sj {j : Nat} {k x : Int} (h : 1 < j ∧ j ≤ 35) : am_sai (mo b r m V W) (r + j) k x = mo b r m (am_up V j (am_uz (V j) k x)) W := by
  unfold am_sai
  rw [mo_aj h, mo_wj h]
theorem mo_f39 : am_fr (mo b r m V W) 39 r = r + 1 := mo_fr (by decide)
theorem mo_t1 : am_ty (mo b r m V W) (r + 1) = 101 := mo_tj (by decide)
theorem mo_n1 : am_ln (mo b r m V W) (r + 1) = 337220 := mo_nj (by decide)
theorem mo_f40 : am_fr (mo b r m V W) 40 r = r + 2 := mo_fr (by decide)
theorem mo_t2 : am_ty (mo b r m V W) (r + 2) = 101 := mo_tj (by decide)
theorem mo_n2 : am_ln (mo b r m V W) (r + 2) = 337220 := mo_nj (by decide)
theorem mo_a2 : am_ai (mo b r m V W) (r + 2) = V 2 := mo_aj (by decide)
theorem mo_s2 {k x : Int} : am_sai (mo b r m V W) (r + 2) k x = mo b r m (am_up V 2 (am_uz (V 2) k x)) W := mo_sj (by decide)
theorem mo_w2 {g : Int → Int} : am_wai (mo b r m V W) (r + 2) g = mo b r m (am_up V 2 g) W := mo_wj (by decide)
theorem mo_f41 : am_fr (mo b r m V W) 41 r = r + 3 := mo_fr (by decide)
theorem mo_t3 : am_ty (mo b r m V W) (r + 3) = 101 := mo_tj (by decide)
theorem mo_n3 : am_ln (mo b r m V W) (r + 3) = 337220 := mo_nj (by decide)
theorem mo_a3 : am_ai (mo b r m V W) (r + 3) = V 3 := mo_aj (by decide)
theorem mo_s3 {k x : Int} : am_sai (mo b r m V W) (r + 3) k x = mo b r m (am_up V 3 (am_uz (V 3) k x)) W := mo_sj (by decide)
theorem mo_w3 {g : Int → Int} : am_wai (mo b r m V W) (r + 3) g = mo b r m (am_up V 3 g) W := mo_wj (by decide)
theorem mo_f43 : am_fr (mo b r m V W) 43 r = r + 4 := mo_fr (by decide)
theorem mo_t4 : am_ty (mo b r m V W) (r + 4) = 101 := mo_tj (by decide)
theorem mo_n4 : am_ln (mo b r m V W) (r + 4) = 400 := mo_nj (by decide)
theorem mo_a4 : am_ai (mo b r m V W) (r + 4) = V 4 := mo_aj (by decide)
theorem mo_s4 {k x : Int} : am_sai (mo b r m V W) (r + 4) k x = mo b r m (am_up V 4 (am_uz (V 4) k x)) W := mo_sj (by decide)
theorem mo_w4 {g : Int → Int} : am_wai (mo b r m V W) (r + 4) g = mo b r m (am_up V 4 g) W := mo_wj (by decide)
theorem mo_f50 : am_fr (mo b r m V W) 50 r = r + 5 := mo_fr (by decide)
theorem mo_t5 : am_ty (mo b r m V W) (r + 5) = 101 := mo_tj (by decide)
theorem mo_n5 : am_ln (mo b r m V W) (r + 5) = 200 := mo_nj (by decide)
theorem mo_a5 : am_ai (mo b r m V W) (r + 5) = V 5 := mo_aj (by decide)
theorem mo_s5 {k x : Int} : am_sai (mo b r m V W) (r + 5) k x = mo b r m (am_up V 5 (am_uz (V 5) k x)) W := mo_sj (by decide)
theorem mo_w5 {g : Int → Int} : am_wai (mo b r m V W) (r + 5) g = mo b r m (am_up V 5 g) W := mo_wj (by decide)
theorem mo_f51 : am_fr (mo b r m V W) 51 r = r + 6 := mo_fr (by decide)
theorem mo_t6 : am_ty (mo b r m V W) (r + 6) = 101 := mo_tj (by decide)
theorem mo_n6 : am_ln (mo b r m V W) (r + 6) = 200 := mo_nj (by decide)
theorem mo_a6 : am_ai (mo b r m V W) (r + 6) = V 6 := mo_aj (by decide)
theorem mo_s6 {k x : Int} : am_sai (mo b r m V W) (r + 6) k x = mo b r m (am_up V 6 (am_uz (V 6) k x)) W := mo_sj (by decide)
theorem mo_w6 {g : Int → Int} : am_wai (mo b r m V W) (r + 6) g = mo b r m (am_up V 6 g) W := mo_wj (by decide)
theorem mo_f52 : am_fr (mo b r m V W) 52 r = r + 7 := mo_fr (by decide)
theorem mo_t7 : am_ty (mo b r m V W) (r + 7) = 101 := mo_tj (by decide)
theorem mo_n7 : am_ln (mo b r m V W) (r + 7) = 2400 := mo_nj (by decide)
theorem mo_a7 : am_ai (mo b r m V W) (r + 7) = V 7 := mo_aj (by decide)
theorem mo_s7 {k x : Int} : am_sai (mo b r m V W) (r + 7) k x = mo b r m (am_up V 7 (am_uz (V 7) k x)) W := mo_sj (by decide)
theorem mo_w7 {g : Int → Int} : am_wai (mo b r m V W) (r + 7) g = mo b r m (am_up V 7 g) W := mo_wj (by decide)
theorem mo_f53 : am_fr (mo b r m V W) 53 r = r + 8 := mo_fr (by decide)
theorem mo_t8 : am_ty (mo b r m V W) (r + 8) = 101 := mo_tj (by decide)
theorem mo_n8 : am_ln (mo b r m V W) (r + 8) = 5 := mo_nj (by decide)
theorem mo_a8 : am_ai (mo b r m V W) (r + 8) = V 8 := mo_aj (by decide)
theorem mo_s8 {k x : Int} : am_sai (mo b r m V W) (r + 8) k x = mo b r m (am_up V 8 (am_uz (V 8) k x)) W := mo_sj (by decide)
theorem mo_w8 {g : Int → Int} : am_wai (mo b r m V W) (r + 8) g = mo b r m (am_up V 8 g) W := mo_wj (by decide)
theorem mo_f54 : am_fr (mo b r m V W) 54 r = r + 9 := mo_fr (by decide)
theorem mo_t9 : am_ty (mo b r m V W) (r + 9) = 101 := mo_tj (by decide)
theorem mo_n9 : am_ln (mo b r m V W) (r + 9) = 5 := mo_nj (by decide)
theorem mo_a9 : am_ai (mo b r m V W) (r + 9) = V 9 := mo_aj (by decide)
theorem mo_s9 {k x : Int} : am_sai (mo b r m V W) (r + 9) k x = mo b r m (am_up V 9 (am_uz (V 9) k x)) W := mo_sj (by decide)
theorem mo_w9 {g : Int → Int} : am_wai (mo b r m V W) (r + 9) g = mo b r m (am_up V 9 g) W := mo_wj (by decide)
theorem mo_f56 : am_fr (mo b r m V W) 56 r = r + 10 := mo_fr (by decide)
theorem mo_t10 : am_ty (mo b r m V W) (r + 10) = 101 := mo_tj (by decide)
theorem mo_n10 : am_ln (mo b r m V W) (r + 10) = 562 := mo_nj (by decide)
theorem mo_a10 : am_ai (mo b r m V W) (r + 10) = V 10 := mo_aj (by decide)
theorem mo_s10 {k x : Int} : am_sai (mo b r m V W) (r + 10) k x = mo b r m (am_up V 10 (am_uz (V 10) k x)) W := mo_sj (by decide)
theorem mo_w10 {g : Int → Int} : am_wai (mo b r m V W) (r + 10) g = mo b r m (am_up V 10 g) W := mo_wj (by decide)
theorem mo_f59 : am_fr (mo b r m V W) 59 r = r + 11 := mo_fr (by decide)
theorem mo_t11 : am_ty (mo b r m V W) (r + 11) = 103 := mo_tj (by decide)
theorem mo_n11 : am_ln (mo b r m V W) (r + 11) = 3 := mo_nj (by decide)
theorem mo_a11 : am_ai (mo b r m V W) (r + 11) = V 11 := mo_aj (by decide)
theorem mo_s11 {k x : Int} : am_sai (mo b r m V W) (r + 11) k x = mo b r m (am_up V 11 (am_uz (V 11) k x)) W := mo_sj (by decide)
theorem mo_w11 {g : Int → Int} : am_wai (mo b r m V W) (r + 11) g = mo b r m (am_up V 11 g) W := mo_wj (by decide)
theorem mo_f60 : am_fr (mo b r m V W) 60 r = r + 12 := mo_fr (by decide)
theorem mo_t12 : am_ty (mo b r m V W) (r + 12) = 101 := mo_tj (by decide)
theorem mo_n12 : am_ln (mo b r m V W) (r + 12) = 6 := mo_nj (by decide)
theorem mo_a12 : am_ai (mo b r m V W) (r + 12) = V 12 := mo_aj (by decide)
theorem mo_s12 {k x : Int} : am_sai (mo b r m V W) (r + 12) k x = mo b r m (am_up V 12 (am_uz (V 12) k x)) W := mo_sj (by decide)
theorem mo_w12 {g : Int → Int} : am_wai (mo b r m V W) (r + 12) g = mo b r m (am_up V 12 g) W := mo_wj (by decide)
theorem mo_f61 : am_fr (mo b r m V W) 61 r = r + 13 := mo_fr (by decide)
theorem mo_t13 : am_ty (mo b r m V W) (r + 13) = 103 := mo_tj (by decide)
theorem mo_n13 : am_ln (mo b r m V W) (r + 13) = 100 := mo_nj (by decide)
theorem mo_a13 : am_ai (mo b r m V W) (r + 13) = V 13 := mo_aj (by decide)
theorem mo_s13 {k x : Int} : am_sai (mo b r m V W) (r + 13) k x = mo b r m (am_up V 13 (am_uz (V 13) k x)) W := mo_sj (by decide)
theorem mo_w13 {g : Int → Int} : am_wai (mo b r m V W) (r + 13) g = mo b r m (am_up V 13 g) W := mo_wj (by decide)
theorem mo_f69 : am_fr (mo b r m V W) 69 r = r + 14 := mo_fr (by decide)
theorem mo_t14 : am_ty (mo b r m V W) (r + 14) = 101 := mo_tj (by decide)
theorem mo_n14 : am_ln (mo b r m V W) (r + 14) = 41 := mo_nj (by decide)
theorem mo_a14 : am_ai (mo b r m V W) (r + 14) = V 14 := mo_aj (by decide)
theorem mo_s14 {k x : Int} : am_sai (mo b r m V W) (r + 14) k x = mo b r m (am_up V 14 (am_uz (V 14) k x)) W := mo_sj (by decide)
theorem mo_w14 {g : Int → Int} : am_wai (mo b r m V W) (r + 14) g = mo b r m (am_up V 14 g) W := mo_wj (by decide)
theorem mo_f70 : am_fr (mo b r m V W) 70 r = r + 15 := mo_fr (by decide)
theorem mo_t15 : am_ty (mo b r m V W) (r + 15) = 101 := mo_tj (by decide)
theorem mo_n15 : am_ln (mo b r m V W) (r + 15) = 41 := mo_nj (by decide)
theorem mo_a15 : am_ai (mo b r m V W) (r + 15) = V 15 := mo_aj (by decide)
theorem mo_s15 {k x : Int} : am_sai (mo b r m V W) (r + 15) k x = mo b r m (am_up V 15 (am_uz (V 15) k x)) W := mo_sj (by decide)
theorem mo_w15 {g : Int → Int} : am_wai (mo b r m V W) (r + 15) g = mo b r m (am_up V 15 g) W := mo_wj (by decide)
theorem mo_f71 : am_fr (mo b r m V W) 71 r = r + 16 := mo_fr (by decide)
theorem mo_t16 : am_ty (mo b r m V W) (r + 16) = 101 := mo_tj (by decide)
theorem mo_n16 : am_ln (mo b r m V W) (r + 16) = 41 := mo_nj (by decide)
theorem mo_a16 : am_ai (mo b r m V W) (r + 16) = V 16 := mo_aj (by decide)
theorem mo_s16 {k x : Int} : am_sai (mo b r m V W) (r + 16) k x = mo b r m (am_up V 16 (am_uz (V 16) k x)) W := mo_sj (by decide)
theorem mo_w16 {g : Int → Int} : am_wai (mo b r m V W) (r + 16) g = mo b r m (am_up V 16 g) W := mo_wj (by decide)
theorem mo_f72 : am_fr (mo b r m V W) 72 r = r + 17 := mo_fr (by decide)
theorem mo_t17 : am_ty (mo b r m V W) (r + 17) = 101 := mo_tj (by decide)
theorem mo_n17 : am_ln (mo b r m V W) (r + 17) = 430 := mo_nj (by decide)
theorem mo_a17 : am_ai (mo b r m V W) (r + 17) = V 17 := mo_aj (by decide)
theorem mo_s17 {k x : Int} : am_sai (mo b r m V W) (r + 17) k x = mo b r m (am_up V 17 (am_uz (V 17) k x)) W := mo_sj (by decide)
theorem mo_w17 {g : Int → Int} : am_wai (mo b r m V W) (r + 17) g = mo b r m (am_up V 17 g) W := mo_wj (by decide)
theorem mo_f74 : am_fr (mo b r m V W) 74 r = r + 18 := mo_fr (by decide)
theorem mo_t18 : am_ty (mo b r m V W) (r + 18) = 101 := mo_tj (by decide)
theorem mo_n18 : am_ln (mo b r m V W) (r + 18) = 27 := mo_nj (by decide)
theorem mo_a18 : am_ai (mo b r m V W) (r + 18) = V 18 := mo_aj (by decide)
theorem mo_s18 {k x : Int} : am_sai (mo b r m V W) (r + 18) k x = mo b r m (am_up V 18 (am_uz (V 18) k x)) W := mo_sj (by decide)
theorem mo_w18 {g : Int → Int} : am_wai (mo b r m V W) (r + 18) g = mo b r m (am_up V 18 g) W := mo_wj (by decide)
theorem mo_f75 : am_fr (mo b r m V W) 75 r = r + 19 := mo_fr (by decide)
theorem mo_t19 : am_ty (mo b r m V W) (r + 19) = 103 := mo_tj (by decide)
theorem mo_n19 : am_ln (mo b r m V W) (r + 19) = 41 := mo_nj (by decide)
theorem mo_a19 : am_ai (mo b r m V W) (r + 19) = V 19 := mo_aj (by decide)
theorem mo_s19 {k x : Int} : am_sai (mo b r m V W) (r + 19) k x = mo b r m (am_up V 19 (am_uz (V 19) k x)) W := mo_sj (by decide)
theorem mo_w19 {g : Int → Int} : am_wai (mo b r m V W) (r + 19) g = mo b r m (am_up V 19 g) W := mo_wj (by decide)
theorem mo_f76 : am_fr (mo b r m V W) 76 r = r + 20 := mo_fr (by decide)
theorem mo_t20 : am_ty (mo b r m V W) (r + 20) = 101 := mo_tj (by decide)
theorem mo_n20 : am_ln (mo b r m V W) (r + 20) = 17200 := mo_nj (by decide)
theorem mo_a20 : am_ai (mo b r m V W) (r + 20) = V 20 := mo_aj (by decide)
theorem mo_s20 {k x : Int} : am_sai (mo b r m V W) (r + 20) k x = mo b r m (am_up V 20 (am_uz (V 20) k x)) W := mo_sj (by decide)
theorem mo_w20 {g : Int → Int} : am_wai (mo b r m V W) (r + 20) g = mo b r m (am_up V 20 g) W := mo_wj (by decide)
theorem mo_f77 : am_fr (mo b r m V W) 77 r = r + 21 := mo_fr (by decide)
theorem mo_t21 : am_ty (mo b r m V W) (r + 21) = 101 := mo_tj (by decide)
theorem mo_n21 : am_ln (mo b r m V W) (r + 21) = 40 := mo_nj (by decide)
theorem mo_a21 : am_ai (mo b r m V W) (r + 21) = V 21 := mo_aj (by decide)
theorem mo_s21 {k x : Int} : am_sai (mo b r m V W) (r + 21) k x = mo b r m (am_up V 21 (am_uz (V 21) k x)) W := mo_sj (by decide)
theorem mo_w21 {g : Int → Int} : am_wai (mo b r m V W) (r + 21) g = mo b r m (am_up V 21 g) W := mo_wj (by decide)
theorem mo_f78 : am_fr (mo b r m V W) 78 r = r + 22 := mo_fr (by decide)
theorem mo_t22 : am_ty (mo b r m V W) (r + 22) = 101 := mo_tj (by decide)
theorem mo_n22 : am_ln (mo b r m V W) (r + 22) = 40 := mo_nj (by decide)
theorem mo_a22 : am_ai (mo b r m V W) (r + 22) = V 22 := mo_aj (by decide)
theorem mo_s22 {k x : Int} : am_sai (mo b r m V W) (r + 22) k x = mo b r m (am_up V 22 (am_uz (V 22) k x)) W := mo_sj (by decide)
theorem mo_w22 {g : Int → Int} : am_wai (mo b r m V W) (r + 22) g = mo b r m (am_up V 22 g) W := mo_wj (by decide)
theorem mo_f79 : am_fr (mo b r m V W) 79 r = r + 23 := mo_fr (by decide)
theorem mo_t23 : am_ty (mo b r m V W) (r + 23) = 101 := mo_tj (by decide)
theorem mo_n23 : am_ln (mo b r m V W) (r + 23) = 645 := mo_nj (by decide)
theorem mo_a23 : am_ai (mo b r m V W) (r + 23) = V 23 := mo_aj (by decide)
theorem mo_s23 {k x : Int} : am_sai (mo b r m V W) (r + 23) k x = mo b r m (am_up V 23 (am_uz (V 23) k x)) W := mo_sj (by decide)
theorem mo_w23 {g : Int → Int} : am_wai (mo b r m V W) (r + 23) g = mo b r m (am_up V 23 g) W := mo_wj (by decide)
theorem mo_f80 : am_fr (mo b r m V W) 80 r = r + 24 := mo_fr (by decide)
theorem mo_t24 : am_ty (mo b r m V W) (r + 24) = 101 := mo_tj (by decide)
theorem mo_n24 : am_ln (mo b r m V W) (r + 24) = 40 := mo_nj (by decide)
theorem mo_a24 : am_ai (mo b r m V W) (r + 24) = V 24 := mo_aj (by decide)
theorem mo_s24 {k x : Int} : am_sai (mo b r m V W) (r + 24) k x = mo b r m (am_up V 24 (am_uz (V 24) k x)) W := mo_sj (by decide)
theorem mo_w24 {g : Int → Int} : am_wai (mo b r m V W) (r + 24) g = mo b r m (am_up V 24 g) W := mo_wj (by decide)
theorem mo_f81 : am_fr (mo b r m V W) 81 r = r + 25 := mo_fr (by decide)
theorem mo_t25 : am_ty (mo b r m V W) (r + 25) = 101 := mo_tj (by decide)
theorem mo_n25 : am_ln (mo b r m V W) (r + 25) = 40 := mo_nj (by decide)
theorem mo_a25 : am_ai (mo b r m V W) (r + 25) = V 25 := mo_aj (by decide)
theorem mo_s25 {k x : Int} : am_sai (mo b r m V W) (r + 25) k x = mo b r m (am_up V 25 (am_uz (V 25) k x)) W := mo_sj (by decide)
theorem mo_w25 {g : Int → Int} : am_wai (mo b r m V W) (r + 25) g = mo b r m (am_up V 25 g) W := mo_wj (by decide)
theorem mo_f82 : am_fr (mo b r m V W) 82 r = r + 26 := mo_fr (by decide)
theorem mo_t26 : am_ty (mo b r m V W) (r + 26) = 101 := mo_tj (by decide)
theorem mo_n26 : am_ln (mo b r m V W) (r + 26) = 480 := mo_nj (by decide)
theorem mo_a26 : am_ai (mo b r m V W) (r + 26) = V 26 := mo_aj (by decide)
theorem mo_s26 {k x : Int} : am_sai (mo b r m V W) (r + 26) k x = mo b r m (am_up V 26 (am_uz (V 26) k x)) W := mo_sj (by decide)
theorem mo_w26 {g : Int → Int} : am_wai (mo b r m V W) (r + 26) g = mo b r m (am_up V 26 g) W := mo_wj (by decide)
theorem mo_f83 : am_fr (mo b r m V W) 83 r = r + 27 := mo_fr (by decide)
theorem mo_t27 : am_ty (mo b r m V W) (r + 27) = 101 := mo_tj (by decide)
theorem mo_n27 : am_ln (mo b r m V W) (r + 27) = 4 := mo_nj (by decide)
theorem mo_a27 : am_ai (mo b r m V W) (r + 27) = V 27 := mo_aj (by decide)
theorem mo_s27 {k x : Int} : am_sai (mo b r m V W) (r + 27) k x = mo b r m (am_up V 27 (am_uz (V 27) k x)) W := mo_sj (by decide)
theorem mo_w27 {g : Int → Int} : am_wai (mo b r m V W) (r + 27) g = mo b r m (am_up V 27 g) W := mo_wj (by decide)
theorem mo_f84 : am_fr (mo b r m V W) 84 r = r + 28 := mo_fr (by decide)
theorem mo_t28 : am_ty (mo b r m V W) (r + 28) = 101 := mo_tj (by decide)
theorem mo_n28 : am_ln (mo b r m V W) (r + 28) = 4 := mo_nj (by decide)
theorem mo_a28 : am_ai (mo b r m V W) (r + 28) = V 28 := mo_aj (by decide)
theorem mo_s28 {k x : Int} : am_sai (mo b r m V W) (r + 28) k x = mo b r m (am_up V 28 (am_uz (V 28) k x)) W := mo_sj (by decide)
theorem mo_w28 {g : Int → Int} : am_wai (mo b r m V W) (r + 28) g = mo b r m (am_up V 28 g) W := mo_wj (by decide)
theorem mo_f85 : am_fr (mo b r m V W) 85 r = r + 29 := mo_fr (by decide)
theorem mo_t29 : am_ty (mo b r m V W) (r + 29) = 101 := mo_tj (by decide)
theorem mo_n29 : am_ln (mo b r m V W) (r + 29) = 4 := mo_nj (by decide)
theorem mo_a29 : am_ai (mo b r m V W) (r + 29) = V 29 := mo_aj (by decide)
theorem mo_s29 {k x : Int} : am_sai (mo b r m V W) (r + 29) k x = mo b r m (am_up V 29 (am_uz (V 29) k x)) W := mo_sj (by decide)
theorem mo_w29 {g : Int → Int} : am_wai (mo b r m V W) (r + 29) g = mo b r m (am_up V 29 g) W := mo_wj (by decide)
theorem mo_f86 : am_fr (mo b r m V W) 86 r = r + 30 := mo_fr (by decide)
theorem mo_t30 : am_ty (mo b r m V W) (r + 30) = 101 := mo_tj (by decide)
theorem mo_n30 : am_ln (mo b r m V W) (r + 30) = 4 := mo_nj (by decide)
theorem mo_a30 : am_ai (mo b r m V W) (r + 30) = V 30 := mo_aj (by decide)
theorem mo_s30 {k x : Int} : am_sai (mo b r m V W) (r + 30) k x = mo b r m (am_up V 30 (am_uz (V 30) k x)) W := mo_sj (by decide)
theorem mo_w30 {g : Int → Int} : am_wai (mo b r m V W) (r + 30) g = mo b r m (am_up V 30 g) W := mo_wj (by decide)
theorem mo_f87 : am_fr (mo b r m V W) 87 r = r + 31 := mo_fr (by decide)
theorem mo_t31 : am_ty (mo b r m V W) (r + 31) = 101 := mo_tj (by decide)
theorem mo_n31 : am_ln (mo b r m V W) (r + 31) = 4 := mo_nj (by decide)
theorem mo_a31 : am_ai (mo b r m V W) (r + 31) = V 31 := mo_aj (by decide)
theorem mo_s31 {k x : Int} : am_sai (mo b r m V W) (r + 31) k x = mo b r m (am_up V 31 (am_uz (V 31) k x)) W := mo_sj (by decide)
theorem mo_w31 {g : Int → Int} : am_wai (mo b r m V W) (r + 31) g = mo b r m (am_up V 31 g) W := mo_wj (by decide)
theorem mo_f88 : am_fr (mo b r m V W) 88 r = r + 32 := mo_fr (by decide)
theorem mo_t32 : am_ty (mo b r m V W) (r + 32) = 101 := mo_tj (by decide)
theorem mo_n32 : am_ln (mo b r m V W) (r + 32) = 3 := mo_nj (by decide)
theorem mo_a32 : am_ai (mo b r m V W) (r + 32) = V 32 := mo_aj (by decide)
theorem mo_s32 {k x : Int} : am_sai (mo b r m V W) (r + 32) k x = mo b r m (am_up V 32 (am_uz (V 32) k x)) W := mo_sj (by decide)
theorem mo_w32 {g : Int → Int} : am_wai (mo b r m V W) (r + 32) g = mo b r m (am_up V 32 g) W := mo_wj (by decide)
theorem mo_f91 : am_fr (mo b r m V W) 91 r = r + 33 := mo_fr (by decide)
theorem mo_t33 : am_ty (mo b r m V W) (r + 33) = 101 := mo_tj (by decide)
theorem mo_n33 : am_ln (mo b r m V W) (r + 33) = 5 := mo_nj (by decide)
theorem mo_a33 : am_ai (mo b r m V W) (r + 33) = V 33 := mo_aj (by decide)
theorem mo_s33 {k x : Int} : am_sai (mo b r m V W) (r + 33) k x = mo b r m (am_up V 33 (am_uz (V 33) k x)) W := mo_sj (by decide)
theorem mo_w33 {g : Int → Int} : am_wai (mo b r m V W) (r + 33) g = mo b r m (am_up V 33 g) W := mo_wj (by decide)
theorem mo_f92 : am_fr (mo b r m V W) 92 r = r + 34 := mo_fr (by decide)
theorem mo_t34 : am_ty (mo b r m V W) (r + 34) = 101 := mo_tj (by decide)
theorem mo_n34 : am_ln (mo b r m V W) (r + 34) = 5 := mo_nj (by decide)
theorem mo_a34 : am_ai (mo b r m V W) (r + 34) = V 34 := mo_aj (by decide)
theorem mo_s34 {k x : Int} : am_sai (mo b r m V W) (r + 34) k x = mo b r m (am_up V 34 (am_uz (V 34) k x)) W := mo_sj (by decide)
theorem mo_w34 {g : Int → Int} : am_wai (mo b r m V W) (r + 34) g = mo b r m (am_up V 34 g) W := mo_wj (by decide)
theorem mo_f93 : am_fr (mo b r m V W) 93 r = r + 35 := mo_fr (by decide)
theorem mo_t35 : am_ty (mo b r m V W) (r + 35) = 101 := mo_tj (by decide)
theorem mo_n35 : am_ln (mo b r m V W) (r + 35) = 4 := mo_nj (by decide)
theorem mo_a35 : am_ai (mo b r m V W) (r + 35) = V 35 := mo_aj (by decide)
theorem mo_s35 {k x : Int} : am_sai (mo b r m V W) (r + 35) k x = mo b r m (am_up V 35 (am_uz (V 35) k x)) W := mo_sj (by decide)
theorem mo_w35 {g : Int → Int} : am_wai (mo b r m V W) (r + 35) g = mo b r m (am_up V 35 g) W := mo_wj (by decide)
theorem mo_cs {k : Nat} : am_cs (mo b r m V W) k = am_cs b k := rfl
end
abbrev am_G : Type := Nat → Int → Int → Int
/-- the row's state with one number changed -/
def u3 (S : am_G) (c : Nat) (p i v : Int) : am_G := fun c' p' i' => if c' = c ∧ p' = p ∧ i' = i then v else S c' p' i'
theorem u3_eq {S : am_G} {c : Nat} {p i v : Int} : u3 S c p i v c p i = v := if_pos ⟨rfl, rfl, rfl⟩
theorem u3_nc {S : am_G} {c c' : Nat} {p i v p' i' : Int} (h : c' ≠ c) : u3 S c p i v c' p' i' = S c' p' i' := if_neg (fun e => h e.1)
theorem u3_np {S : am_G} {c c' : Nat} {p i v p' i' : Int} (h : p' ≠ p) : u3 S c p i v c' p' i' = S c' p' i' := if_neg (fun e => h e.2.1)
theorem u3_no {S : am_G} {c c' : Nat} {p i v p' i' : Int} (h : i' ≠ i) : u3 S c p i v c' p' i' = S c' p' i' := if_neg (fun e => h e.2.2)
theorem am_up_eq {α : Type} {f : Nat → α} {k : Nat} {v : α} : am_up f k v k = v := if_pos rfl
theorem am_up_ne {α : Type} {f : Nat → α} {k j : Nat} {v : α} (h : j ≠ k) : am_up f k v j = f j := if_neg h
theorem am_up_up {α : Type} {f : Nat → α} {k : Nat} {v w : α} : am_up (am_up f k v) k w = am_up f k w := by
  funext j
  unfold am_up
  by_cases e : j = k <;> simp [e]
theorem am_uz_eq {α : Type} {f : Int → α} {k : Int} {v : α} : am_uz f k v k = v := if_pos rfl
theorem am_uz_ne {α : Type} {f : Int → α} {k j : Int} {v : α} (h : j ≠ k) : am_uz f k v j = f j := if_neg h
def am_b (c : Prop) [Decidable c] : Int := if c then 1 else 0
theorem am_en {P : am_P} {d y : Nat} {a : List am_V} {h : am_H} {Q : am_K} {n : Nat} {M : am_M} (hp : P y = (n, M)) (hl : Nat.ble a.length n = true) (hn : a.all am_nl = true) (H : am_W M (am_ev P d) Q 0 (am_fill n a) [] h) : am_ev P (d + 1) y a h Q :=
  am_ev_of hp (Nat.le_of_ble_eq_true hl) hn H
theorem am_b0 {c : Prop} [Decidable c] (h : am_b c = 0) : ¬ c := fun q => by
  unfold am_b at h
  rw [if_pos q] at h
  exact absurd h (by decide)
theorem am_b1 {c : Prop} [Decidable c] (h : am_b c ≠ 0) : c := by
  by_cases q : c
  · exact q
  · exact absurd (if_neg q) h
theorem am_bt {c : Prop} [Decidable c] (h : c) : am_b c = 1 := if_pos h
theorem am_bf {c : Prop} [Decidable c] (h : ¬ c) : am_b c = 0 := if_neg h
theorem am_bz (c : Prop) [Decidable c] : am_b c = 0 ∨ am_b c = 1 := by
  by_cases q : c
  · exact Or.inr (if_pos q)
  · exact Or.inl (if_neg q)
theorem am_nz0 : am_nz 0 = 0 := by decide
theorem am_nz1 : am_nz 1 = 1 := by decide
theorem am_nzv {x : Int} (h : x = 0 ∨ x = 1) : am_nz x = x := by
  rcases h with h | h <;> subst h <;> decide
theorem am_nzb {c : Prop} [Decidable c] : am_nz (am_b c) = am_b c := am_nzv (am_bz c)
theorem am_td {x y : Int} (h : 0 ≤ x) : Int.tdiv x y = x / y := Int.tdiv_eq_ediv_of_nonneg h
theorem am_tm {x y : Int} (h : 0 ≤ x) : Int.tmod x y = x % y := Int.tmod_eq_emod_of_nonneg h
theorem am_dk {x y : Int} (h : 0 ≤ x ∧ x ≤ 2147483647) (hy : 0 < y) : am_in (x / y) := by
  have h1 := Int.ediv_nonneg h.1 (Int.le_of_lt hy)
  have h2 := Int.ediv_le_self y h.1
  exact ⟨by omega, by omega⟩
theorem am_av {M : am_M} {E : am_E} {Q : am_K} {T : Nat → am_L → am_H → Prop} {i : Nat} {ls : am_L} {st : am_S} {v : am_V} {h : am_H} (H : am_W M E Q (i + 1) ls (v :: st) h) : am_aft T (am_W M E Q) i ls st (.inl (some v)) h := H
theorem am_an {M : am_M} {E : am_E} {Q : am_K} {T : Nat → am_L → am_H → Prop} {i : Nat} {ls : am_L} {st : am_S} {h : am_H} (H : am_W M E Q (i + 1) ls st h) : am_aft T (am_W M E Q) i ls st (.inl none) h := H
def rc (k : Int) : Nat × Int × Int :=
  if k < 16 then (0, 0, k) else
  if k < 70 then (1, (k - 16) / 27, (k - 16) % 27) else
  if k < 130 then (2, (k - 70) / 20, (k - 70) % 20) else
  if k < 64630 then (3, (k - 130) / 645, (k - 130) % 645) else
  if k < 320230 then (4, (k - 64630) / 852, (k - 64630) % 852) else
  if k < 320962 then (5, (k - 320230) / 183, (k - 320230) % 183) else
  if k < 326582 then (6, (k - 320962) / 562, (k - 320962) % 562) else
  if k < 327382 then (7, (k - 326582) / 4, (k - 326582) % 4) else
  if k < 328492 then (8, (k - 327382) / 185, (k - 327382) % 185) else
  if k < 337180 then (9, (k - 328492) / 181, (k - 328492) % 181) else
  (10, 0, k - 337180)
def fl (c : Nat) (p i : Int) : Int := match c with
  | 0 => i
  | 1 => 16 + 27 * p + i
  | 2 => 70 + 20 * p + i
  | 3 => 130 + 645 * p + i
  | 4 => 64630 + 852 * p + i
  | 5 => 320230 + 183 * p + i
  | 6 => 320962 + 562 * p + i
  | 7 => 326582 + 4 * p + i
  | 8 => 327382 + 185 * p + i
  | 9 => 328492 + 181 * p + i
  | _ => 337180 + i
theorem fl_rc (k : Int) : fl (rc k).1 (rc k).2.1 (rc k).2.2 = k := by
  unfold rc
  repeat' split
  all_goals (simp only [fl]; try omega)
def ms (S : am_G) : Int → Int := fun k => if 0 ≤ k ∧ k < 337220 then S (rc k).1 (rc k).2.1 (rc k).2.2 else 0
theorem ms_g {S : am_G} {k : Int} {c : Nat} {p i : Int} (h : 0 ≤ k ∧ k < 337220) (e : rc k = (c, p, i)) : ms S k = S c p i := by
  unfold ms
  rw [if_pos h, e]
theorem ms_u {S : am_G} {k v : Int} {c : Nat} {p i : Int} (h : 0 ≤ k ∧ k < 337220) (e : rc k = (c, p, i)) : am_uz (ms S) k v = ms (u3 S c p i v) := by
  funext j
  unfold am_uz
  by_cases q : j = k
  · subst q
    rw [if_pos rfl, ms_g h e, u3_eq]
  · rw [if_neg q]
    unfold ms
    by_cases q2 : 0 ≤ j ∧ j < 337220
    · rw [if_pos q2, if_pos q2]
      unfold u3
      rw [if_neg]
      intro w
      apply q
      have e1 := fl_rc j
      have e2 := fl_rc k
      rw [e] at e2
      rw [w.1, w.2.1, w.2.2] at e1
      rw [← e1, ← e2]
    · rw [if_neg q2, if_neg q2]
theorem rc_0 {k p i : Int} (hk : k = i) (hp : p = 0) (hi : 0 ≤ i ∧ i < 16) : (0 ≤ k ∧ k < 337220) ∧ rc k = (0, p, i) := by
  refine ⟨by omega, ?_⟩
  unfold rc
  rw [if_pos (by omega)]
  refine Prod.ext rfl (Prod.ext ?_ ?_)
  · show (0 : Int) = p
    omega
  · show k = i
    omega
theorem ms_r0 {S : am_G} {k p i : Int} (hk : k = i) (hp : p = 0) (hi : 0 ≤ i ∧ i < 16) : ms S k = S 0 p i := ms_g (rc_0 hk hp hi).1 (rc_0 hk hp hi).2
theorem ms_w0 {S : am_G} {k p i v : Int} (hk : k = i) (hp : p = 0) (hi : 0 ≤ i ∧ i < 16) : am_uz (ms S) k v = ms (u3 S 0 p i v) := ms_u (rc_0 hk hp hi).1 (rc_0 hk hp hi).2
theorem rc_1 {k p i : Int} (hk : k = 16 + 27 * p + i) (hp : 0 ≤ p ∧ p < 2) (hi : 0 ≤ i ∧ i < 27) : (0 ≤ k ∧ k < 337220) ∧ rc k = (1, p, i) := by
  refine ⟨by omega, ?_⟩
  unfold rc
  rw [if_neg (by omega)]
  rw [if_pos (by omega)]
  refine Prod.ext rfl (Prod.ext ?_ ?_)
  · show (k - 16) / 27 = p
    omega
  · show (k - 16) % 27 = i
    omega
theorem ms_r1 {S : am_G} {k p i : Int} (hk : k = 16 + 27 * p + i) (hp : 0 ≤ p ∧ p < 2) (hi : 0 ≤ i ∧ i < 27) : ms S k = S 1 p i := ms_g (rc_1 hk hp hi).1 (rc_1 hk hp hi).2
theorem ms_w1 {S : am_G} {k p i v : Int} (hk : k = 16 + 27 * p + i) (hp : 0 ≤ p ∧ p < 2) (hi : 0 ≤ i ∧ i < 27) : am_uz (ms S) k v = ms (u3 S 1 p i v) := ms_u (rc_1 hk hp hi).1 (rc_1 hk hp hi).2
theorem rc_2 {k p i : Int} (hk : k = 70 + 20 * p + i) (hp : 0 ≤ p ∧ p < 3) (hi : 0 ≤ i ∧ i < 20) : (0 ≤ k ∧ k < 337220) ∧ rc k = (2, p, i) := by
  refine ⟨by omega, ?_⟩
  unfold rc
  rw [if_neg (by omega)]
  rw [if_neg (by omega)]
  rw [if_pos (by omega)]
  refine Prod.ext rfl (Prod.ext ?_ ?_)
  · show (k - 70) / 20 = p
    omega
  · show (k - 70) % 20 = i
    omega
theorem ms_r2 {S : am_G} {k p i : Int} (hk : k = 70 + 20 * p + i) (hp : 0 ≤ p ∧ p < 3) (hi : 0 ≤ i ∧ i < 20) : ms S k = S 2 p i := ms_g (rc_2 hk hp hi).1 (rc_2 hk hp hi).2
theorem ms_w2 {S : am_G} {k p i v : Int} (hk : k = 70 + 20 * p + i) (hp : 0 ≤ p ∧ p < 3) (hi : 0 ≤ i ∧ i < 20) : am_uz (ms S) k v = ms (u3 S 2 p i v) := ms_u (rc_2 hk hp hi).1 (rc_2 hk hp hi).2
theorem rc_3 {k p i : Int} (hk : k = 130 + 645 * p + i) (hp : 0 ≤ p ∧ p < 100) (hi : 0 ≤ i ∧ i < 645) : (0 ≤ k ∧ k < 337220) ∧ rc k = (3, p, i) := by
  refine ⟨by omega, ?_⟩
  unfold rc
  rw [if_neg (by omega)]
  rw [if_neg (by omega)]
  rw [if_neg (by omega)]
  rw [if_pos (by omega)]
  refine Prod.ext rfl (Prod.ext ?_ ?_)
  · show (k - 130) / 645 = p
    omega
  · show (k - 130) % 645 = i
    omega
theorem ms_r3 {S : am_G} {k p i : Int} (hk : k = 130 + 645 * p + i) (hp : 0 ≤ p ∧ p < 100) (hi : 0 ≤ i ∧ i < 645) : ms S k = S 3 p i := ms_g (rc_3 hk hp hi).1 (rc_3 hk hp hi).2
theorem ms_w3 {S : am_G} {k p i v : Int} (hk : k = 130 + 645 * p + i) (hp : 0 ≤ p ∧ p < 100) (hi : 0 ≤ i ∧ i < 645) : am_uz (ms S) k v = ms (u3 S 3 p i v) := ms_u (rc_3 hk hp hi).1 (rc_3 hk hp hi).2
theorem rc_4 {k p i : Int} (hk : k = 64630 + 852 * p + i) (hp : 0 ≤ p ∧ p < 300) (hi : 0 ≤ i ∧ i < 852) : (0 ≤ k ∧ k < 337220) ∧ rc k = (4, p, i) := by
  refine ⟨by omega, ?_⟩
  unfold rc
  rw [if_neg (by omega)]
  rw [if_neg (by omega)]
  rw [if_neg (by omega)]
  rw [if_neg (by omega)]
  rw [if_pos (by omega)]
  refine Prod.ext rfl (Prod.ext ?_ ?_)
  · show (k - 64630) / 852 = p
    omega
  · show (k - 64630) % 852 = i
    omega
theorem ms_r4 {S : am_G} {k p i : Int} (hk : k = 64630 + 852 * p + i) (hp : 0 ≤ p ∧ p < 300) (hi : 0 ≤ i ∧ i < 852) : ms S k = S 4 p i := ms_g (rc_4 hk hp hi).1 (rc_4 hk hp hi).2
theorem ms_w4 {S : am_G} {k p i v : Int} (hk : k = 64630 + 852 * p + i) (hp : 0 ≤ p ∧ p < 300) (hi : 0 ≤ i ∧ i < 852) : am_uz (ms S) k v = ms (u3 S 4 p i v) := ms_u (rc_4 hk hp hi).1 (rc_4 hk hp hi).2
theorem rc_5 {k p i : Int} (hk : k = 320230 + 183 * p + i) (hp : 0 ≤ p ∧ p < 4) (hi : 0 ≤ i ∧ i < 183) : (0 ≤ k ∧ k < 337220) ∧ rc k = (5, p, i) := by
  refine ⟨by omega, ?_⟩
  unfold rc
  rw [if_neg (by omega)]
  rw [if_neg (by omega)]
  rw [if_neg (by omega)]
  rw [if_neg (by omega)]
  rw [if_neg (by omega)]
  rw [if_pos (by omega)]
  refine Prod.ext rfl (Prod.ext ?_ ?_)
  · show (k - 320230) / 183 = p
    omega
  · show (k - 320230) % 183 = i
    omega
theorem ms_r5 {S : am_G} {k p i : Int} (hk : k = 320230 + 183 * p + i) (hp : 0 ≤ p ∧ p < 4) (hi : 0 ≤ i ∧ i < 183) : ms S k = S 5 p i := ms_g (rc_5 hk hp hi).1 (rc_5 hk hp hi).2
theorem ms_w5 {S : am_G} {k p i v : Int} (hk : k = 320230 + 183 * p + i) (hp : 0 ≤ p ∧ p < 4) (hi : 0 ≤ i ∧ i < 183) : am_uz (ms S) k v = ms (u3 S 5 p i v) := ms_u (rc_5 hk hp hi).1 (rc_5 hk hp hi).2
theorem rc_6 {k p i : Int} (hk : k = 320962 + 562 * p + i) (hp : 0 ≤ p ∧ p < 10) (hi : 0 ≤ i ∧ i < 562) : (0 ≤ k ∧ k < 337220) ∧ rc k = (6, p, i) := by
  refine ⟨by omega, ?_⟩
  unfold rc
  rw [if_neg (by omega)]
  rw [if_neg (by omega)]
  rw [if_neg (by omega)]
  rw [if_neg (by omega)]
  rw [if_neg (by omega)]
  rw [if_neg (by omega)]
  rw [if_pos (by omega)]
  refine Prod.ext rfl (Prod.ext ?_ ?_)
  · show (k - 320962) / 562 = p
    omega
  · show (k - 320962) % 562 = i
    omega
theorem ms_r6 {S : am_G} {k p i : Int} (hk : k = 320962 + 562 * p + i) (hp : 0 ≤ p ∧ p < 10) (hi : 0 ≤ i ∧ i < 562) : ms S k = S 6 p i := ms_g (rc_6 hk hp hi).1 (rc_6 hk hp hi).2
theorem ms_w6 {S : am_G} {k p i v : Int} (hk : k = 320962 + 562 * p + i) (hp : 0 ≤ p ∧ p < 10) (hi : 0 ≤ i ∧ i < 562) : am_uz (ms S) k v = ms (u3 S 6 p i v) := ms_u (rc_6 hk hp hi).1 (rc_6 hk hp hi).2
theorem rc_7 {k p i : Int} (hk : k = 326582 + 4 * p + i) (hp : 0 ≤ p ∧ p < 200) (hi : 0 ≤ i ∧ i < 4) : (0 ≤ k ∧ k < 337220) ∧ rc k = (7, p, i) := by
  refine ⟨by omega, ?_⟩
  unfold rc
  rw [if_neg (by omega)]
  rw [if_neg (by omega)]
  rw [if_neg (by omega)]
  rw [if_neg (by omega)]
  rw [if_neg (by omega)]
  rw [if_neg (by omega)]
  rw [if_neg (by omega)]
  rw [if_pos (by omega)]
  refine Prod.ext rfl (Prod.ext ?_ ?_)
  · show (k - 326582) / 4 = p
    omega
  · show (k - 326582) % 4 = i
    omega
theorem ms_r7 {S : am_G} {k p i : Int} (hk : k = 326582 + 4 * p + i) (hp : 0 ≤ p ∧ p < 200) (hi : 0 ≤ i ∧ i < 4) : ms S k = S 7 p i := ms_g (rc_7 hk hp hi).1 (rc_7 hk hp hi).2
theorem ms_w7 {S : am_G} {k p i v : Int} (hk : k = 326582 + 4 * p + i) (hp : 0 ≤ p ∧ p < 200) (hi : 0 ≤ i ∧ i < 4) : am_uz (ms S) k v = ms (u3 S 7 p i v) := ms_u (rc_7 hk hp hi).1 (rc_7 hk hp hi).2
theorem rc_8 {k p i : Int} (hk : k = 327382 + 185 * p + i) (hp : 0 ≤ p ∧ p < 6) (hi : 0 ≤ i ∧ i < 185) : (0 ≤ k ∧ k < 337220) ∧ rc k = (8, p, i) := by
  refine ⟨by omega, ?_⟩
  unfold rc
  rw [if_neg (by omega)]
  rw [if_neg (by omega)]
  rw [if_neg (by omega)]
  rw [if_neg (by omega)]
  rw [if_neg (by omega)]
  rw [if_neg (by omega)]
  rw [if_neg (by omega)]
  rw [if_neg (by omega)]
  rw [if_pos (by omega)]
  refine Prod.ext rfl (Prod.ext ?_ ?_)
  · show (k - 327382) / 185 = p
    omega
  · show (k - 327382) % 185 = i
    omega
theorem ms_r8 {S : am_G} {k p i : Int} (hk : k = 327382 + 185 * p + i) (hp : 0 ≤ p ∧ p < 6) (hi : 0 ≤ i ∧ i < 185) : ms S k = S 8 p i := ms_g (rc_8 hk hp hi).1 (rc_8 hk hp hi).2
theorem ms_w8 {S : am_G} {k p i v : Int} (hk : k = 327382 + 185 * p + i) (hp : 0 ≤ p ∧ p < 6) (hi : 0 ≤ i ∧ i < 185) : am_uz (ms S) k v = ms (u3 S 8 p i v) := ms_u (rc_8 hk hp hi).1 (rc_8 hk hp hi).2
theorem rc_9 {k p i : Int} (hk : k = 328492 + 181 * p + i) (hp : 0 ≤ p ∧ p < 48) (hi : 0 ≤ i ∧ i < 181) : (0 ≤ k ∧ k < 337220) ∧ rc k = (9, p, i) := by
  refine ⟨by omega, ?_⟩
  unfold rc
  rw [if_neg (by omega)]
  rw [if_neg (by omega)]
  rw [if_neg (by omega)]
  rw [if_neg (by omega)]
  rw [if_neg (by omega)]
  rw [if_neg (by omega)]
  rw [if_neg (by omega)]
  rw [if_neg (by omega)]
  rw [if_neg (by omega)]
  rw [if_pos (by omega)]
  refine Prod.ext rfl (Prod.ext ?_ ?_)
  · show (k - 328492) / 181 = p
    omega
  · show (k - 328492) % 181 = i
    omega
theorem ms_r9 {S : am_G} {k p i : Int} (hk : k = 328492 + 181 * p + i) (hp : 0 ≤ p ∧ p < 48) (hi : 0 ≤ i ∧ i < 181) : ms S k = S 9 p i := ms_g (rc_9 hk hp hi).1 (rc_9 hk hp hi).2
theorem ms_w9 {S : am_G} {k p i v : Int} (hk : k = 328492 + 181 * p + i) (hp : 0 ≤ p ∧ p < 48) (hi : 0 ≤ i ∧ i < 181) : am_uz (ms S) k v = ms (u3 S 9 p i v) := ms_u (rc_9 hk hp hi).1 (rc_9 hk hp hi).2
theorem rc_10 {k p i : Int} (hk : k = 337180 + i) (hp : p = 0) (hi : 0 ≤ i ∧ i < 40) : (0 ≤ k ∧ k < 337220) ∧ rc k = (10, p, i) := by
  refine ⟨by omega, ?_⟩
  unfold rc
  rw [if_neg (by omega)]
  rw [if_neg (by omega)]
  rw [if_neg (by omega)]
  rw [if_neg (by omega)]
  rw [if_neg (by omega)]
  rw [if_neg (by omega)]
  rw [if_neg (by omega)]
  rw [if_neg (by omega)]
  rw [if_neg (by omega)]
  rw [if_neg (by omega)]
  refine Prod.ext rfl (Prod.ext ?_ ?_)
  · show (0 : Int) = p
    omega
  · show k - 337180 = i
    omega
theorem ms_r10 {S : am_G} {k p i : Int} (hk : k = 337180 + i) (hp : p = 0) (hi : 0 ≤ i ∧ i < 40) : ms S k = S 10 p i := ms_g (rc_10 hk hp hi).1 (rc_10 hk hp hi).2
theorem ms_w10 {S : am_G} {k p i v : Int} (hk : k = 337180 + i) (hp : p = 0) (hi : 0 ≤ i ∧ i < 40) : am_uz (ms S) k v = ms (u3 S 10 p i v) := ms_u (rc_10 hk hp hi).1 (rc_10 hk hp hi).2
