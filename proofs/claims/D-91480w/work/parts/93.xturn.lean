set_option maxRecDepth 100000
/-! a machine's turn -/
/-- the first job's next line -/
theorem Nt_jn {h : am_H} {L : am_Lb} {x P N : Nat} {S : am_G} {B : Int} {k v : Int} (t : Nt h L x P N S B) (hk : 0 ≤ k ∧ k < S 0 0 3) (hn : 0 < S 5 k 29) : Nt (am_sfi h 153 (am_ar h (am_fr h 194 (am_fr h 147 (am_ar h (am_fr h 23 N) k))) 0) v) L x P N (u3 S 5 k 34 v) B := by
  have x5 := t.2.2.2.1.2.2.2.2.1
  have mk := x5.2.2 k hk.1 hk.2
  obtain ⟨m1, m2, m3, m4, m5, m6, m7, m8, m9, rl, m11, m12⟩ := mk
  have j0 := m11 0 (by omega) hn
  have a : fx (fun q => q = (am_ar h (am_fr h 194 (am_fr h 147 (am_ar h (am_fr h 23 N) k))) 0)) h (am_sfi h 153 (am_ar h (am_fr h 194 (am_fr h 147 (am_ar h (am_fr h 23 N) k))) 0) v) := fx_sfi fx_refl (Or.inr rfl)
  have lb : ∀ q, q ≤ am_sz h → q = (am_ar h (am_fr h 194 (am_fr h 147 (am_ar h (am_fr h 23 N) k))) 0) → (L q).1 = N ∧ (L q).2.1 = 5 ∧ (L q).2.2.1 = 5 ∧ (L q).2.2.2 = k := fun q hq z => by
    rw [z, j0.1.2.2.2]
    exact ⟨rfl, rfl, rfl, rfl⟩
  have kn : ∀ q t kd, nd h L q t N 5 kd k → kd ≠ 5 → q ≠ (am_ar h (am_fr h 194 (am_fr h 147 (am_ar h (am_fr h 23 N) k))) 0) := fun q t kd nn k5 z => by
    have := (lb q nn.2.1 z).2.2.1
    rw [nn.2.2.2] at this
    exact k5 this
  have v1 := nd_fx a (leL_refl (L := L)) m1 (kn _ _ _ m1 (by decide))
  have v2 := nd_fx a (leL_refl (L := L)) m2 (kn _ _ _ m2 (by decide))
  have nl : (am_fr h 147 (am_ar h (am_fr h 23 N) k)) ≠ (am_ar h (am_fr h 194 (am_fr h 147 (am_ar h (am_fr h 23 N) k))) 0) := fun z => by
    have := rl.1.1.1
    rw [z, j0.1.1] at this
    exact absurd this (by decide)
  have na : am_fr h 194 (am_fr h 147 (am_ar h (am_fr h 23 N) k)) ≠ (am_ar h (am_fr h 194 (am_fr h 147 (am_ar h (am_fr h 23 N) k))) 0) := fun z => by
    have := rl.1.1.2.1
    rw [z, j0.1.1] at this
    omega
  have r := rL_fx a (leL_refl (L := L)) (Int.le_refl _) rl nl na
  refine Nt_5 t (Int.le_refl _) a leL_refl (okLb_fx a t.1) (fun q hq z => ⟨(lb q hq z).1, (lb q hq z).2.1⟩) (fun c c1 _ => u3_r c1) (fun j => u3_nc (by decide)) ?_
  refine rM_one a leL_refl t.1 t.2.2.2.2.2.2 t.2.1.1 (k := k) (Int.le_refl _) (fun q hq z => ?_) (u3_nc (by decide)) (fun q e => u3_rp e) (fun q i nq _ _ _ _ => ?_) x5 ?_
  · have := lb q hq z
    exact ⟨this.1, this.2.1, by rw [this.2.2.1]; decide, this.2.2.2⟩
  · unfold bhd
    rw [u3_rp nq, u3_r (by decide)]
  · have eb : ∀ i, 0 ≤ i → bhd (u3 S 5 k 34 v) k i = bhd S k i := fun i i1 => by
      have r3 : u3 S 5 k 34 v 3 = S 3 := u3_r (by decide)
      unfold bhd
      rw [r3, u3_no (by omega), u3_no (by omega), u3_no (by omega)]
    unfold rMc rQ
    rw [v1.2.2.1, v1.2.2.1, v1.2.2.1, v1.2.2.1, v1.2.2.1, v1.2.2.2.1, v1.2.2.2.1, v2.2.1, v2.2.2.2.2.1, r.2.1, r.2.2, u3_no (by decide), u3_no (by decide), u3_no (by decide), u3_no (by decide), u3_no (by decide), u3_no (by decide)]
    refine ⟨v1.1, v2.1, m3, fun c c1 c2 => ?_, m5, m6, m7, m8, m9, r.1, fun i i1 i2 => ?_, m12⟩
    · rw [u3_no (by omega)]
      exact m4 c c1 c2
    · by_cases ei : i = 0
      · subst ei
        refine ⟨⟨j0.1.1, j0.1.2.1, j0.1.2.2⟩, ?_, ?_, ?_, ?_⟩
        · rw [x_fif (by decide), u3_no (by decide)]
          exact j0.2.1
        · rw [x_fif (by decide), u3_no (by decide)]
          exact j0.2.2.1
        · rw [x_fie]
          exact u3_eq.symm
        · rw [x_fif (by decide), eb 0 (by omega)]
          exact j0.2.2.2.2
      · have xj := m11 i i1 i2
        exact rJ_fx a leL_refl (fun o o1 o2 => u3_no (by omega)) (eb i i1) xj (fun z => m12 0 i (by omega) (by omega) i2 z.symm)
/-- letters of a string, counted -/
theorem sg_cn {f : Int → Int} {y : Int} : ∀ (ml : List Int), (∀ j : Nat, j < ml.length → f (j : Int) = gt ml j) → sg (fun j => am_b (f j = y)) 0 ml.length = cn y ml := by
  have gen : ∀ (ml : List Int) (i : Int) (g : Int → Int), (∀ j : Nat, j < ml.length → g (i + (j : Int)) = gt ml j) → sg (fun j => am_b (g j = y)) i ml.length = cn y ml := by
    intro ml
    induction ml with
    | nil => intro i g _; rfl
    | cons z r ih =>
      intro i g hg
      show am_b (g i = y) + sg (fun j => am_b (g j = y)) (i + 1) r.length = cn y (z :: r)
      have h0 := hg 0 (by simp)
      have e0 : i + ((0 : Nat) : Int) = i := by omega
      rw [e0] at h0
      rw [ih (i + 1) g (fun j hj => by
        have := hg (j + 1) (by simp; omega)
        have e : i + ((j + 1 : Nat) : Int) = i + 1 + (j : Int) := by omega
        rw [e] at this
        exact this), h0]
      show am_b (z = y) + cn y r = (if z = y then 1 else 0) + cn y r
      rfl
  intro ml h
  exact gen ml 0 f (fun j hj => by
    have e : (0 : Int) + (j : Int) = j := by omega
    rw [e]
    exact h j hj)
/-- brasses that are lacking now -/
def wtF (S : am_G) (k : Int) (ml : List Int) : Nat → Int
  | 0 => am_b (S 0 0 4 = 300)
  | c + 1 => if wtF S k ml c = 0 then am_b (0 < cn (sgn (c : Int)) ml ∧ thr S k (c : Int) (S 0 0 0) < cn (sgn (c : Int)) ml) else 1
theorem wtF_01 {S : am_G} {k : Int} {ml : List Int} : ∀ c : Nat, wtF S k ml c = 0 ∨ wtF S k ml c = 1
  | 0 => by
    unfold wtF am_b
    split
    · exact Or.inr rfl
    · exact Or.inl rfl
  | c + 1 => by
    unfold wtF am_b
    split
    · split
      · exact Or.inr rfl
      · exact Or.inl rfl
    · exact Or.inr rfl
/-- brasses that are lacking for ever -/
def mss (S : am_G) (k : Int) (ml : List Int) : Prop := ∃ c, (0 ≤ c ∧ c < 27) ∧ S 5 k c < cn (sgn c) ml
/-- a slug is cast and put at its place -/
def csS (S : am_G) (k : Int) : am_G := u3 (u3 (ptS (csA S (lnS (S 3 (S 5 k 33)) (S 5 k 34)) (S 5 k 33) k (S 5 k 34) (S 5 k 36)) (S 0 0 4) (S 5 k 33) (S 5 k 34)) 5 k 30 (S 5 k 30 + 1)) 5 k 34 ((S 5 k 34) + 1)
def csE (S : am_G) (k : Int) : am_G := if (S 5 k 34) + 1 = bhd S k 0 then awy (csS S k) k else csS S k
/-- a machine runs on: the state then, the slug -/
def runR (S : am_G) (k : Int) (S' : am_G) (a : Int) : Prop := (mss S k (lnS (S 3 (S 5 k 33)) (S 5 k 34)) ∧ S' = spk S k ∧ a = -1) ∨ (¬ mss S k (lnS (S 3 (S 5 k 33)) (S 5 k 34)) ∧ wtF S k (lnS (S 3 (S 5 k 33)) (S 5 k 34)) 27 ≠ 0 ∧ S' = u3 S 5 k 31 (S 5 k 31 + 1) ∧ a = -1) ∨ (¬ mss S k (lnS (S 3 (S 5 k 33)) (S 5 k 34)) ∧ wtF S k (lnS (S 3 (S 5 k 33)) (S 5 k 34)) 27 = 0 ∧ S' = csE S k ∧ a = (S 0 0 4))
/-- cells of the night alone are others -/
def Ow (h : am_H) (L : am_Lb) (N : Nat) (h' : am_H) (L' : am_Lb) : Prop := fx (fun q => (L q).1 = N ∧ (L q).2.1 ≠ 10) h h' ∧ leL h L L' ∧ (∀ q, am_sz h < q → (L' q).1 = 0 ∨ (L' q).1 = N) ∧ ∀ f, am_fr h' f N = am_fr h f N
theorem Ow_Out {h h' : am_H} {L L' : am_Lb} {x N dz du : Nat} (a : Ow h L N h' L') (z : am_sz h' ≤ am_sz h + dz) (u : am_us h' ≤ am_us h + du) : Out h L x N h' L' dz du := ⟨fx_sub a.1 (fun q _ z => Or.inl z.1), a.2.1, ⟨z, u⟩, fun q hq => (a.2.2.1 q hq).elim Or.inl (fun e => Or.inr (Or.inl e))⟩
/-- the rows are left -/
def G10 (h : am_H) (L : am_Lb) (N : Nat) (h' : am_H) : Prop := (∀ f, am_fr h' f N = am_fr h f N) ∧ ∀ q, q ≤ am_sz h → (L q).1 = N → (L q).2.1 = 10 → am_ai h' q = am_ai h q
theorem G10_w {h h' : am_H} {L L' : am_Lb} {N : Nat} (a : Ow h L N h' L') : G10 h L N h' := ⟨a.2.2.2, fun q hq _ q10 => ((a.1.2.2.2 q hq).2.2 (fun z => z.2 q10)).2.2.1⟩
theorem G10_tr {h h1 h2 : am_H} {L L1 : am_Lb} {N : Nat} (a : G10 h L N h1) (le : leL h L L1) (z : am_sz h ≤ am_sz h1) (b : G10 h1 L1 N h2) : G10 h L N h2 := ⟨fun f => (b.1 f).trans (a.1 f), fun q hq qN q10 => (b.2 q (Nat.le_trans hq z) (by rw [le q hq]; exact qN) (by rw [le q hq]; exact q10)).trans (a.2 q hq qN q10)⟩
section
variable {K : am_K} {h : am_H}
theorem ncI (h : am_H) (t : Nat) (a b c e f : Int) (s : Nat) : am_fi (am_sfr (am_sfr (am_sfi (am_sfi (am_sfi (am_sfi (am_sfi (am_new h t 11) 155 (am_sz h + 1) a) 156 (am_sz h + 1) b) 157 (am_sz h + 1) c) 158 (am_sz h + 1) e) 159 (am_sz h + 1) f) 160 (am_sz h + 1) s) 164 (am_sz h + 1) s) 155 (am_sz h + 1) = a ∧ am_fi (am_sfr (am_sfr (am_sfi (am_sfi (am_sfi (am_sfi (am_sfi (am_new h t 11) 155 (am_sz h + 1) a) 156 (am_sz h + 1) b) 157 (am_sz h + 1) c) 158 (am_sz h + 1) e) 159 (am_sz h + 1) f) 160 (am_sz h + 1) s) 164 (am_sz h + 1) s) 156 (am_sz h + 1) = b ∧ am_fi (am_sfr (am_sfr (am_sfi (am_sfi (am_sfi (am_sfi (am_sfi (am_new h t 11) 155 (am_sz h + 1) a) 156 (am_sz h + 1) b) 157 (am_sz h + 1) c) 158 (am_sz h + 1) e) 159 (am_sz h + 1) f) 160 (am_sz h + 1) s) 164 (am_sz h + 1) s) 157 (am_sz h + 1) = c ∧ am_fi (am_sfr (am_sfr (am_sfi (am_sfi (am_sfi (am_sfi (am_sfi (am_new h t 11) 155 (am_sz h + 1) a) 156 (am_sz h + 1) b) 157 (am_sz h + 1) c) 158 (am_sz h + 1) e) 159 (am_sz h + 1) f) 160 (am_sz h + 1) s) 164 (am_sz h + 1) s) 158 (am_sz h + 1) = e ∧ am_fi (am_sfr (am_sfr (am_sfi (am_sfi (am_sfi (am_sfi (am_sfi (am_new h t 11) 155 (am_sz h + 1) a) 156 (am_sz h + 1) b) 157 (am_sz h + 1) c) 158 (am_sz h + 1) e) 159 (am_sz h + 1) f) 160 (am_sz h + 1) s) 164 (am_sz h + 1) s) 159 (am_sz h + 1) = f := by
  show am_fi (am_sfi (am_sfi (am_sfi (am_sfi (am_sfi (am_new h t 11) 155 (am_sz h + 1) a) 156 (am_sz h + 1) b) 157 (am_sz h + 1) c) 158 (am_sz h + 1) e) 159 (am_sz h + 1) f) 155 (am_sz h + 1) = a ∧ am_fi (am_sfi (am_sfi (am_sfi (am_sfi (am_sfi (am_new h t 11) 155 (am_sz h + 1) a) 156 (am_sz h + 1) b) 157 (am_sz h + 1) c) 158 (am_sz h + 1) e) 159 (am_sz h + 1) f) 156 (am_sz h + 1) = b ∧ am_fi (am_sfi (am_sfi (am_sfi (am_sfi (am_sfi (am_new h t 11) 155 (am_sz h + 1) a) 156 (am_sz h + 1) b) 157 (am_sz h + 1) c) 158 (am_sz h + 1) e) 159 (am_sz h + 1) f) 157 (am_sz h + 1) = c ∧ am_fi (am_sfi (am_sfi (am_sfi (am_sfi (am_sfi (am_new h t 11) 155 (am_sz h + 1) a) 156 (am_sz h + 1) b) 157 (am_sz h + 1) c) 158 (am_sz h + 1) e) 159 (am_sz h + 1) f) 158 (am_sz h + 1) = e ∧ am_fi (am_sfi (am_sfi (am_sfi (am_sfi (am_sfi (am_new h t 11) 155 (am_sz h + 1) a) 156 (am_sz h + 1) b) 157 (am_sz h + 1) c) 158 (am_sz h + 1) e) 159 (am_sz h + 1) f) 159 (am_sz h + 1) = f
  refine ⟨?_, ?_, ?_, ?_, x_fie⟩
  · rw [x_fif (by decide), x_fif (by decide), x_fif (by decide), x_fif (by decide), x_fie]
  · rw [x_fif (by decide), x_fif (by decide), x_fif (by decide), x_fie]
  · rw [x_fif (by decide), x_fif (by decide), x_fie]
  · rw [x_fif (by decide), x_fie]
theorem ncR (h : am_H) (t : Nat) (a b c e f : Int) (s : Nat) : am_fr (am_sfr (am_sfr (am_sfi (am_sfi (am_sfi (am_sfi (am_sfi (am_new h t 11) 155 (am_sz h + 1) a) 156 (am_sz h + 1) b) 157 (am_sz h + 1) c) 158 (am_sz h + 1) e) 159 (am_sz h + 1) f) 160 (am_sz h + 1) s) 164 (am_sz h + 1) s) 160 (am_sz h + 1) = s ∧ am_fr (am_sfr (am_sfr (am_sfi (am_sfi (am_sfi (am_sfi (am_sfi (am_new h t 11) 155 (am_sz h + 1) a) 156 (am_sz h + 1) b) 157 (am_sz h + 1) c) 158 (am_sz h + 1) e) 159 (am_sz h + 1) f) 160 (am_sz h + 1) s) 164 (am_sz h + 1) s) 164 (am_sz h + 1) = s := by
  refine ⟨?_, x_fre⟩
  rw [x_frf (by decide), x_fre]
theorem nc0 (h : am_H) (t : Nat) (a b c e f : Int) (s : Nat) : am_fi (am_sfr (am_sfr (am_sfi (am_sfi (am_sfi (am_sfi (am_sfi (am_new h t 11) 155 (am_sz h + 1) a) 156 (am_sz h + 1) b) 157 (am_sz h + 1) c) 158 (am_sz h + 1) e) 159 (am_sz h + 1) f) 160 (am_sz h + 1) s) 164 (am_sz h + 1) s) 161 (am_sz h + 1) = 0 ∧ am_fi (am_sfr (am_sfr (am_sfi (am_sfi (am_sfi (am_sfi (am_sfi (am_new h t 11) 155 (am_sz h + 1) a) 156 (am_sz h + 1) b) 157 (am_sz h + 1) c) 158 (am_sz h + 1) e) 159 (am_sz h + 1) f) 160 (am_sz h + 1) s) 164 (am_sz h + 1) s) 162 (am_sz h + 1) = 0 ∧ am_fi (am_sfr (am_sfr (am_sfi (am_sfi (am_sfi (am_sfi (am_sfi (am_new h t 11) 155 (am_sz h + 1) a) 156 (am_sz h + 1) b) 157 (am_sz h + 1) c) 158 (am_sz h + 1) e) 159 (am_sz h + 1) f) 160 (am_sz h + 1) s) 164 (am_sz h + 1) s) 163 (am_sz h + 1) = 0 ∧ am_fi (am_sfr (am_sfr (am_sfi (am_sfi (am_sfi (am_sfi (am_sfi (am_new h t 11) 155 (am_sz h + 1) a) 156 (am_sz h + 1) b) 157 (am_sz h + 1) c) 158 (am_sz h + 1) e) 159 (am_sz h + 1) f) 160 (am_sz h + 1) s) 164 (am_sz h + 1) s) 165 (am_sz h + 1) = 0 := by
  have g : ∀ i, i ≠ 155 → i ≠ 156 → i ≠ 157 → i ≠ 158 → i ≠ 159 → am_fi (am_sfr (am_sfr (am_sfi (am_sfi (am_sfi (am_sfi (am_sfi (am_new h t 11) 155 (am_sz h + 1) a) 156 (am_sz h + 1) b) 157 (am_sz h + 1) c) 158 (am_sz h + 1) e) 159 (am_sz h + 1) f) 160 (am_sz h + 1) s) 164 (am_sz h + 1) s) i (am_sz h + 1) = 0 := fun i i1 i2 i3 i4 i5 => by
    show am_fi (am_sfi (am_sfi (am_sfi (am_sfi (am_sfi (am_new h t 11) 155 (am_sz h + 1) a) 156 (am_sz h + 1) b) 157 (am_sz h + 1) c) 158 (am_sz h + 1) e) 159 (am_sz h + 1) f) i (am_sz h + 1) = 0
    rw [x_fif i5, x_fif i4, x_fif i3, x_fif i2, x_fif i1]
    exact x_fin0 rfl
  exact ⟨g 161 (by decide) (by decide) (by decide) (by decide) (by decide), g 162 (by decide) (by decide) (by decide) (by decide) (by decide), g 163 (by decide) (by decide) (by decide) (by decide) (by decide), g 165 (by decide) (by decide) (by decide) (by decide) (by decide)⟩
theorem okPl_d {S S' : am_G} {p : Int} (e0 : S' 0 0 1 = S 0 0 1) (e2 : S' 2 = S 2) (e3 : ∀ o, o < 45 → S' 3 p o = S 3 p o) (x : okPl S p) : okPl S' p := by
  obtain ⟨x1, x2, x3, x4, x5⟩ := x
  have i1 : isP S' p := by
    unfold isP
    rw [e0, e2]
    exact x1
  refine ⟨i1, x2, by rw [e3 3 (by omega)]; exact x3, by rw [e3 4 (by omega)]; exact x4, fun l l1 l2 => ?_⟩
  rw [e3 4 (by omega)] at l2
  have y := x5 l l1 l2
  unfold bg at y ⊢
  rw [e3 (4 + l) (by omega), e3 (5 + l) (by omega)]
  exact y
theorem crN_b {S : am_G} (hG : okG S) : 0 ≤ crN S ∧ crN S ≤ 300 := by
  have c4 := hG.1
  unfold crN
  have bd := sg_bd (c := 1) (f := fun s => am_b (S 4 s 7 = 1)) (S 0 0 4).toNat 0 (fun j _ _ => by
    show 0 ≤ am_b (S 4 j 7 = 1) ∧ am_b (S 4 j 7 = 1) ≤ 1
    unfold am_b
    split <;> omega)
  omega
theorem ptS_r {S : am_G} {s p l : Int} : (∀ c, c ≠ 3 → c ≠ 4 → ptS S s p l c = S c) ∧ (∀ q o, o < 45 → 0 ≤ l → ptS S s p l 3 q o = S 3 q o) := by
  unfold ptS
  refine ⟨fun c c3 c4 => ?_, fun q o ho hl => ?_⟩
  · rw [u3_r c3, u3_r c4, u3_r c4]
    split
    · rfl
    · rw [u3_r c4, u3_r c4, u3_r c4]
  · have e : o ≠ 45 + l := by omega
    rw [u3_no e, u3_nc (by decide), u3_nc (by decide)]
    split
    · rfl
    · rw [u3_nc (by decide), u3_nc (by decide), u3_nc (by decide)]
theorem Nt_B {h : am_H} {L : am_Lb} {x P N : Nat} {S : am_G} {B B' : Int} (hB : B ≤ B') (t : Nt h L x P N S B) : Nt h L x P N S B' := by
  obtain ⟨t1, t2, t3, t4, t5⟩ := t
  exact ⟨t1, t2, t3, Rep_fx (X := (fun _ => False)) hB fx_refl leL_refl t1 t2.1 (fun _ _ z => z.elim) t4, t5⟩
/-- the slug is cast and put -/
theorem x_cast {L : am_Lb} {x P N : Nat} {S : am_G} {B : Int} {k : Int} {tx : Nat} {d : Nat} {o8 : Option am_V} (hd : 14 ≤ d + 12) (hB2 : B + 2 ≤ 1000000) (t : Nt h L x P N S B) (hx : am_ty h x = 1) {Rn : Nat} (hN : am_fr h 1 x = Rn) (hz : x ≤ am_sz h) (hl : L x = (x, 0, 0, 0)) (hB : B ≤ 1000000) (hC : okC S) (hF : okF S) (hG : okG S) (hM : okM S) (hk : 0 ≤ k ∧ k < S 0 0 3) (hn : 0 < S 5 k 29) (oP : okPl S (S 5 k 33)) (hl2 : 0 ≤ (S 5 k 34) ∧ (S 5 k 34) < S 3 (S 5 k 33) 4) (h45 : 0 ≤ S 3 (S 5 k 33) (45 + (S 5 k 34)) ∧ S 3 (S 5 k 33) (45 + (S 5 k 34)) ≤ (S 0 0 4)) (hm : (((lnS (S 3 (S 5 k 33)) (S 5 k 34))).length : Int) ≤ 420) (hr : ∀ i, 0 ≤ i → i < S 0 0 7 → S 10 0 (5 * i) < S 0 0 0) (ht : iSl h L tx (lnS (S 3 (S 5 k 33)) (S 5 k 34))) (hno : ¬ mss S k (lnS (S 3 (S 5 k 33)) (S 5 k 34))) (hw0 : wtF S k (lnS (S 3 (S 5 k 33)) (S 5 k 34)) 27 = 0) (h300 : (S 0 0 4) < 300) (H : ∀ S' a h' L', runR S k S' a → Nt h' L' x P N S' (B + 2) → Ow h L N h' L' → ((am_sz h' : Int) + capG h N ≤ am_sz h + capG h' N + (S' 0 0 4 - S 0 0 4)) ∧ ((am_us h' : Int) + 5 * capG h N ≤ am_us h + 5 * capG h' N + 11 * (S' 0 0 4 - S 0 0 4)) → K (.inl (some (.inl (a)))) h') : am_W m_X3_turn (am_ev am_prog (d + 12)) K 87 [some (.inr (.inl (N))), some (.inl (k)), some (.inr (.inl ((am_ar h (am_fr h 23 N) k)))), some (.inr (.inl ((am_ar h (am_fr h 194 (am_fr h 147 (am_ar h (am_fr h 23 N) k))) 0)))), some (.inr (.inl ((am_ar h (am_fr h 20 N) (S 5 k 33))))), some (.inr (.inl (tx))), some (.inl (0)), some (.inl (27)), o8] [] h := by
  obtain ⟨x1, x2, x3, x4, x5, x6, x7, x8, x9, x10⟩ := t.2.2.2.1
  obtain ⟨g1, g2, g3, g4⟩ := G_fc t
  obtain ⟨k1, k2, k3, k4⟩ := P_fc t
  have mk := x5.2.2 k hk.1 hk.2
  obtain ⟨m1, m2, m3, m4, m5, m6, m7, m8, m9, rl, m11, m12⟩ := mk
  have j0 := m11 0 (by omega) hn
  have ip := oP.1
  have pb := isP_bd hC hF ip
  have pt := (k4 (S 5 k 33) pb.1.1 pb.1.2).2 ip
  have mo' := (hM k hk.1 (by have := hC.2.2.1; omega))
  have mj := mo'.2.2.2.2.2.2.2 0 (by omega) hn
  have e36 : S 5 k (36 + 5 * 0) = S 5 k 36 := rfl
  have e34 : S 5 k (34 + 5 * 0) = (S 5 k 34) := rfl
  have e33 : S 5 k (33 + 5 * 0) = (S 5 k 33) := rfl
  have co01 : S 5 k 36 = 0 ∨ S 5 k 36 = 1 := mj.2.2.2.1
  have g04 := hG.1
  have HH := H (csE S k) (S 0 0 4)
  have rr : runR S k (csE S k) (S 0 0 4) := Or.inr (Or.inr ⟨hno, hw0, rfl, rfl⟩)
  -- behind the list: co is 0 or 1
  have aft : ∀ (co : Int) (h1 : am_H), co = S 5 k 36 → fx (fun _ => False) h h1 → am_sz h1 = am_sz h + 1 → am_us h1 = am_us h + 11 → am_ty h1 (am_sz h + 1) = (if co = 1 then 24 else 23) → (am_fi h1 155 (am_sz h + 1) = (S 5 k 33) ∧ am_fi h1 156 (am_sz h + 1) = k ∧ am_fi h1 157 (am_sz h + 1) = S 0 0 0 ∧ am_fi h1 158 (am_sz h + 1) = (S 5 k 34) ∧ am_fi h1 159 (am_sz h + 1) = S 2 0 ((S 5 k 33) / 5)) → (am_fr h1 160 (am_sz h + 1) = tx ∧ am_fr h1 164 (am_sz h + 1) = tx) → (am_fi h1 161 (am_sz h + 1) = 0 ∧ am_fi h1 162 (am_sz h + 1) = 0 ∧ am_fi h1 163 (am_sz h + 1) = 0 ∧ am_fi h1 165 (am_sz h + 1) = 0) → am_ev am_prog (d + 12) 205 [.inr (.inl (am_fr h 25 N)), .inr (.inl (am_sz h + 1))] h1 (am_aft (am_hand m_X3_turn K (am_W m_X3_turn (am_ev am_prog (d + 12)) K) 180) (am_W m_X3_turn (am_ev am_prog (d + 12)) K) 180 [some (.inr (.inl (N))), some (.inl (k)), some (.inr (.inl ((am_ar h (am_fr h 23 N) k)))), some (.inr (.inl ((am_ar h (am_fr h 194 (am_fr h 147 (am_ar h (am_fr h 23 N) k))) 0)))), some (.inr (.inl ((am_ar h (am_fr h 20 N) (S 5 k 33))))), some (.inr (.inl (tx))), some (.inl (0)), some (.inl ((S 0 0 4))), o8] []) := by
    intro co h1 hco a z1 u1 ty i1 i2 i3
    have eN : ∀ f, am_fr h1 f N = am_fr h f N := ((a.2.2.2 N x1.1.2.1).2.2 id).2.1
    have t1 := Nt_fx0 a t
    have y6 := t1.2.2.2.1.2.2.2.2.2.1
    rw [eN 25] at y6
    have rg := y6.1
    have rg5 := rg.2.2.2.2.1
    have rg6 := rg.2.2.2.2.2
    refine c_add rg.1 (fun e => by rw [← e, rg5]; omega) ⟨by omega, by rw [ty]; rcases co01 with q | q <;> rw [hco, q] <;> simp [am_tin]⟩ (by omega) (by omega) (fun h2 fr xm e5 e3 el en hA hs hu hg => am_av ?_)
    obtain ⟨L3, t3, le3, f3, n3, r3, e29⟩ := Nt_cast (h3 := am_sfi h2 29 N (crN S + co)) t hC hF hx hN hz hl hB (by omega) hk ip (by rw [hco]; exact co01) hm hr ht a z1 ty i1 i2 i3 fr xm e5 e3 el en hA hg rfl
    obtain ⟨v1, v2, v3, v4, v5'⟩ := csA_v (S := S) (m := (lnS (S 3 (S 5 k 33)) (S 5 k 34))) (p := (S 5 k 33)) (k := k) (l := (S 5 k 34)) (co := co) hm
    -- cells of the machines are left
    have X5 : ∀ q, q ≤ am_sz h → (L q).1 = N → (L q).2.1 = 5 ∨ (L q).2.1 = 3 → ((∀ f, am_fi (am_sfi h2 29 N (crN S + co)) f q = am_fi h f q) ∧ (∀ f, am_fr (am_sfi h2 29 N (crN S + co)) f q = am_fr h f q) ∧ am_ai (am_sfi h2 29 N (crN S + co)) q = am_ai h q ∧ am_ar (am_sfi h2 29 N (crN S + co)) q = am_ar h q) := fun q hq _ q5 => (f3.2.2.2 q hq).2.2 (fun z => by have := z.2; omega)
    have jb := X5 (am_ar h (am_fr h 194 (am_fr h 147 (am_ar h (am_fr h 23 N) k))) 0) j0.1.2.1 (by rw [j0.1.2.2.2]) (by rw [j0.1.2.2.2]; exact Or.inl rfl)
    have pa := X5 _ x3.1.2.1 (by rw [x3.1.2.2.2]) (by rw [x3.1.2.2.2]; exact Or.inr rfl)
    have tJ : am_ty h2 (am_ar h (am_fr h 194 (am_fr h 147 (am_ar h (am_fr h 23 N) k))) 0) = 22 := (f3.2.2.2 _ j0.1.2.1).1.trans j0.1.1
    have tN2 : am_ty h2 N = 3 := (f3.2.2.2 _ x1.1.2.1).1.trans x1.1.1
    have f152 : am_fi h2 152 (am_ar h (am_fr h 194 (am_fr h 147 (am_ar h (am_fr h 23 N) k))) 0) = S 5 k 36 := ((x_fif (by decide)).symm.trans (jb.1 152)).trans j0.2.2.1
    have f153 : am_fi h2 153 (am_ar h (am_fr h 194 (am_fr h 147 (am_ar h (am_fr h 23 N) k))) 0) = (S 5 k 34) := ((x_fif (by decide)).symm.trans (jb.1 153)).trans j0.2.2.2.1
    have cb := crN_b hG
    have eP : am_ar (am_sfi h2 29 N (crN S + co)) (am_fr (am_sfi h2 29 N (crN S + co)) 20 N) (S 5 k 33) = (am_ar h (am_fr h 20 N) (S 5 k 33)) := by
      rw [r3 20, pa.2.2.2]
    have cap1 : am_ln h1 (am_fr h1 194 (am_fr h 25 N)) = capG h N := by
      unfold capG
      rw [((a.2.2.2 _ x6.1.1.1.2.2.2.2.1).2.2 id).2.1 194, (a.2.2.2 _ x6.1.1.1.2.2.2.2.2).2.1]
    have cap3 : capG (am_sfi h2 29 N (crN S + co)) N = am_ln h2 (am_fr h2 194 (am_fr h 25 N)) := by
      unfold capG
      rw [r3 25]
      rfl
    generalize hh3 : am_sfi h2 29 N (crN S + co) = h3 at *
    have z3 : am_sz h3 = am_sz h2 := by rw [← hh3]; rfl
    have u3' : am_us h3 = am_us h2 := by rw [← hh3]; rfl
    obtain ⟨w1, w2⟩ := ptS_r (S := csA S (lnS (S 3 (S 5 k 33)) (S 5 k 34)) (S 5 k 33) k (S 5 k 34) co) (s := (S 0 0 4)) (p := (S 5 k 33)) (l := (S 5 k 34))
    have put : am_ev am_prog (d + 12) 348 [.inr (.inl N), .inl (S 0 0 4), .inr (.inl (am_ar h (am_fr h 20 N) (S 5 k 33))), .inl (S 5 k 34)] h3 (am_aft (am_hand m_X3_turn K (am_W m_X3_turn (am_ev am_prog (d + 12)) K) 198) (am_W m_X3_turn (am_ev am_prog (d + 12)) K) 198 [some (.inr (.inl (N))), some (.inl (k)), some (.inr (.inl ((am_ar h (am_fr h 23 N) k)))), some (.inr (.inl ((am_ar h (am_fr h 194 (am_fr h 147 (am_ar h (am_fr h 23 N) k))) 0)))), some (.inr (.inl ((am_ar h (am_fr h 20 N) (S 5 k 33))))), some (.inr (.inl (tx))), some (.inl (0)), some (.inl ((S 0 0 4))), o8] []) := by
      rw [← eP]
      refine x_put (by omega) t3 (okPl_d (v2 1 (by decide)) (v1 2 (by decide) (by decide)) (fun o _ => by rw [v1 3 (by decide) (by decide)]) oP) (by rw [v1 3 (by decide) (by decide)]; exact hl2) (by rw [v3]; omega) (by rw [v1 3 (by decide) (by decide), v3]; omega) (by rw [v1 3 (by decide) (by decide)]; omega) (fun h4 t4 f4 z4 u4 => am_an (v_X3_turn_199 ?_))
      -- cells of the machines are left again
      have Y5 : ∀ q, q ≤ am_sz h → (L q).1 = N → (L q).2.1 = 5 → ((∀ f, am_fi h4 f q = am_fi h f q) ∧ (∀ f, am_fr h4 f q = am_fr h f q) ∧ am_ai h4 q = am_ai h q ∧ am_ar h4 q = am_ar h q) := fun q hq qN q5 => by
        have e1 := X5 q hq qN (Or.inl q5)
        have e2 := (f4.2.2.2 q (Nat.le_trans hq f3.1)).2.2 (fun z => by
          have := z.2.2
          rw [le3 q hq] at this
          omega)
        exact ⟨fun f => (e2.1 f).trans (e1.1 f), fun f => (e2.2.1 f).trans (e1.2.1 f), e2.2.2.1.trans e1.2.2.1, e2.2.2.2.trans e1.2.2.2⟩
      have lNN : L3 N = (N, 0, 0, 0) := (le3 N x1.1.2.1).trans x1.1.2.2.2
      have N4 : ∀ f, am_fr h4 f N = am_fr h f N := fun f => (((f4.2.2.2 N (Nat.le_trans x1.1.2.1 f3.1)).2.2 (fun z => by
          have := z.2.1
          rw [lNN] at this
          exact absurd this (by simp))).2.1 f).trans (r3 f)
      have yMA := Y5 _ x5.1.2.1 (by rw [x5.1.2.2.2]) (by rw [x5.1.2.2.2])
      have yMK := Y5 _ m1.2.1 (by rw [m1.2.2.2]) (by rw [m1.2.2.2])
      have yJ := Y5 _ j0.1.2.1 (by rw [j0.1.2.2.2]) (by rw [j0.1.2.2.2])
      have yLQ := Y5 _ rl.1.1.2.2.2.2.1 (by rw [rl.2.2.1]) (by rw [rl.2.2.1])
      have pos : 0 < am_ln h (am_fr h 194 (am_fr h 147 (am_ar h (am_fr h 23 N) k))) := by
        have := rl.1.1.2.2.1
        rw [rl.2.2.2.2.1] at this
        omega
      have yA := Y5 _ rl.1.1.2.2.2.2.2 (by rw [rl.2.2.2.1 pos]) (by rw [rl.2.2.2.1 pos])
      have eM4 : am_ar h4 (am_fr h4 23 N) k = (am_ar h (am_fr h 23 N) k) := by rw [N4 23, yMA.2.2.2]
      have eL4 : am_fr h4 147 (am_ar h (am_fr h 23 N) k) = (am_fr h 147 (am_ar h (am_fr h 23 N) k)) := yMK.2.1 147
      have eJ4 : am_ar h4 (am_fr h4 194 (am_fr h 147 (am_ar h (am_fr h 23 N) k))) 0 = (am_ar h (am_fr h 194 (am_fr h 147 (am_ar h (am_fr h 23 N) k))) 0) := by rw [yLQ.2.1 194, yA.2.2.2]
      have s5 : ptS (csA S (lnS (S 3 (S 5 k 33)) (S 5 k 34)) (S 5 k 33) k (S 5 k 34) co) (S 0 0 4) (S 5 k 33) (S 5 k 34) 5 = S 5 := (w1 5 (by decide) (by decide)).trans (v1 5 (by decide) (by decide))
      have s03 : ptS (csA S (lnS (S 3 (S 5 k 33)) (S 5 k 34)) (S 5 k 33) k (S 5 k 34) co) (S 0 0 4) (S 5 k 33) (S 5 k 34) 0 0 3 = S 0 0 3 := by rw [w1 0 (by decide) (by decide), v2 3 (by decide)]
      have sb : bhd (ptS (csA S (lnS (S 3 (S 5 k 33)) (S 5 k 34)) (S 5 k 33) k (S 5 k 34) co) (S 0 0 4) (S 5 k 33) (S 5 k 34)) k 0 = bhd S k 0 := by
        unfold bhd
        rw [s5, w2 _ 3 (by decide) hl2.1, w2 _ 4 (by decide) hl2.1, v1 3 (by decide) (by decide)]
      have hk4 : 0 ≤ k ∧ k < ptS (csA S (lnS (S 3 (S 5 k 33)) (S 5 k 34)) (S 5 k 33) k (S 5 k 34) co) (S 0 0 4) (S 5 k 33) (S 5 k 34) 0 0 3 := by rw [s03]; exact hk
      have f148 : am_fi h4 148 (am_ar h (am_fr h 23 N) k) = S 5 k 30 := (yMK.1 148).trans m7
      have f153' : am_fi h4 153 (am_ar h (am_fr h 194 (am_fr h 147 (am_ar h (am_fr h 23 N) k))) 0) = (S 5 k 34) := (yJ.1 153).trans j0.2.2.2.1
      have f154 : am_fi h4 154 (am_ar h (am_fr h 194 (am_fr h 147 (am_ar h (am_fr h 23 N) k))) 0) = bhd S k 0 := (yJ.1 154).trans j0.2.2.2.2
      have tMK : am_ty h4 (am_ar h (am_fr h 23 N) k) = 21 := (f4.2.2.2 _ (Nat.le_trans m1.2.1 f3.1)).1.trans ((f3.2.2.2 _ m1.2.1).1.trans m1.1)
      have tJ4 : am_ty h4 (am_ar h (am_fr h 194 (am_fr h 147 (am_ar h (am_fr h 23 N) k))) 0) = 22 := (f4.2.2.2 _ (Nat.le_trans j0.1.2.1 f3.1)).1.trans ((f3.2.2.2 _ j0.1.2.1).1.trans j0.1.1)
      have tLQ : am_ty h4 (am_fr h 147 (am_ar h (am_fr h 23 N) k)) = 31 := (f4.2.2.2 _ (Nat.le_trans rl.1.1.2.2.2.2.1 f3.1)).1.trans ((f3.2.2.2 _ rl.1.1.2.2.2.2.1).1.trans rl.1.1.1)
      rw [f148, f153', f154, eL4]
      have x54 := t4.2.2.2.1.2.2.2.2.1
      have k4' := x54.2.2 k hk4.1 hk4.2
      rw [eM4] at k4'
      -- one more is done
      have t5 : Nt (am_sfi h4 148 (am_ar h (am_fr h 23 N) k) (S 5 k 30 + 1)) L3 x P N (u3 (ptS (csA S (lnS (S 3 (S 5 k 33)) (S 5 k 34)) (S 5 k 33) k (S 5 k 34) co) (S 0 0 4) (S 5 k 33) (S 5 k 34)) 5 k 30 (S 5 k 30 + 1)) (B + 1) := by
        refine Nt_mn t4 (k := k) (m := (am_ar h (am_fr h 23 N) k)) hk4 eM4.symm (fx_sfi fx_refl (Or.inr rfl)) (fun f => rfl) (fun c c1 => u3_r c1) (fun q e => u3_rp e) (fun o ho => u3_no (by omega)) (x_fif (by decide)) ?_ ?_ ?_ ?_
        · rw [x_fif (by decide), u3_no (by decide)]
          exact k4'.2.2.2.2.2.1
        · rw [x_fie, u3_eq]
        · rw [x_fif (by decide), u3_no (by decide)]
          exact k4'.2.2.2.2.2.2.2.1
        · rw [x_fif (by decide), u3_no (by decide)]
          exact k4'.2.2.2.2.2.2.2.2.1
      have t6 := Nt_jn (v := (S 5 k 34) + 1) t5 (k := k) (by rw [u3_nc (by decide)]; exact hk4) (by rw [u3_no (by decide), s5]; exact hn)
      have eJ5 : am_ar (am_sfi h4 148 (am_ar h (am_fr h 23 N) k) (S 5 k 30 + 1)) (am_fr (am_sfi h4 148 (am_ar h (am_fr h 23 N) k) (S 5 k 30 + 1)) 194 (am_fr (am_sfi h4 148 (am_ar h (am_fr h 23 N) k) (S 5 k 30 + 1)) 147 (am_ar (am_sfi h4 148 (am_ar h (am_fr h 23 N) k) (S 5 k 30 + 1)) (am_fr (am_sfi h4 148 (am_ar h (am_fr h 23 N) k) (S 5 k 30 + 1)) 23 N) k))) 0 = (am_ar h (am_fr h 194 (am_fr h 147 (am_ar h (am_fr h 23 N) k))) 0) := by
        show am_ar h4 (am_fr h4 194 (am_fr h4 147 (am_ar h4 (am_fr h4 23 N) k))) 0 = _
        rw [eM4, eL4, eJ4]
      rw [eJ5] at t6
      have ecs : u3 (u3 (ptS (csA S (lnS (S 3 (S 5 k 33)) (S 5 k 34)) (S 5 k 33) k (S 5 k 34) co) (S 0 0 4) (S 5 k 33) (S 5 k 34)) 5 k 30 (S 5 k 30 + 1)) 5 k 34 ((S 5 k 34) + 1) = csS S k := by
        rw [hco]
        rfl
      rw [ecs] at t6
      have c04 : csS S k 0 0 4 = (S 0 0 4) + 1 := by
        rw [← ecs, u3_nc (by decide), u3_nc (by decide), w1 0 (by decide) (by decide), v3]
      have c03 : csS S k 0 0 3 = S 0 0 3 := by
        rw [← ecs, u3_nc (by decide), u3_nc (by decide)]
        exact s03
      have c29 : csS S k 5 k 29 = S 5 k 29 := by
        rw [← ecs, u3_no (by decide), u3_no (by decide), s5]
      have F4 : fx (fun q => (L q).1 = N ∧ (L q).2.1 ≠ 10) h h4 := fx_trans2 (fx_sub f3 (fun q _ z => ⟨z.1, by have := z.2; omega⟩)) f4 (fun q hq z => by
        have z1 := z.1
        have z2 := z.2.2
        rw [le3 q hq] at z1 z2
        exact ⟨z1, by omega⟩)
      have F6 : fx (fun q => (L q).1 = N ∧ (L q).2.1 ≠ 10) h (am_sfi (am_sfi h4 148 (am_ar h (am_fr h 23 N) k) (S 5 k 30 + 1)) 153 (am_ar h (am_fr h 194 (am_fr h 147 (am_ar h (am_fr h 23 N) k))) 0) ((S 5 k 34) + 1)) := fx_sfi (fx_sfi F4 (Or.inr (by rw [m1.2.2.2]; exact ⟨rfl, by show (5 : Nat) ≠ 10; decide⟩))) (Or.inr (by rw [j0.1.2.2.2]; exact ⟨rfl, by show (5 : Nat) ≠ 10; decide⟩))
      have cap4 : capG h4 N = capG h3 N := (nG_cap t3 (fx_sub f4 (fun q _ z => pG_n z))).1
      have fin : ∀ S' h7, S' = csE S k → S' 0 0 4 = (S 0 0 4) + 1 → Nt h7 L3 x P N S' (B + 2) → (∀ f, am_fr h7 f N = am_fr h f N) → fx (fun q => (L q).1 = N ∧ (L q).2.1 ≠ 10) h h7 → am_sz h7 = am_sz h4 → am_us h7 = am_us h4 → capG h7 N = capG h4 N → K (.inl (some (.inl ((S 0 0 4))))) h7 := by
        intro S' h7 eS e04 t7 hr7 F7 z7 u7 c7
        subst eS
        refine HH h7 L3 rr t7 ⟨F7, le3, n3, hr7⟩ ⟨?_, ?_⟩
        · rw [e04, c7, cap4, cap3]
          rw [cap1] at hs
          omega
        · rw [e04, c7, cap4, cap3]
          rw [cap1] at hu
          omega
      have d30 := mo'.2.2.2.2.1
      refine ⟨⟨tMK, by omega⟩, ⟨tJ4, by have := oP.2.2.2.1; omega⟩, fun c => ?_, fun c => ⟨tLQ, ?_⟩⟩
      · exact fin (csS S k) _ (if_neg c).symm c04 (Nt_B (by omega) t6) N4 F6 rfl rfl rfl
      · have eL6 : am_fr (am_sfi (am_sfi h4 148 (am_ar h (am_fr h 23 N) k) (S 5 k 30 + 1)) 153 (am_ar h (am_fr h 194 (am_fr h 147 (am_ar h (am_fr h 23 N) k))) 0) ((S 5 k 34) + 1)) 147 (am_ar (am_sfi (am_sfi h4 148 (am_ar h (am_fr h 23 N) k) (S 5 k 30 + 1)) 153 (am_ar h (am_fr h 194 (am_fr h 147 (am_ar h (am_fr h 23 N) k))) 0) ((S 5 k 34) + 1)) (am_fr (am_sfi (am_sfi h4 148 (am_ar h (am_fr h 23 N) k) (S 5 k 30 + 1)) 153 (am_ar h (am_fr h 194 (am_fr h 147 (am_ar h (am_fr h 23 N) k))) 0) ((S 5 k 34) + 1)) 23 N) k) = (am_fr h 147 (am_ar h (am_fr h 23 N) k)) := by
          show am_fr h4 147 (am_ar h4 (am_fr h4 23 N) k) = _
          rw [eM4, eL4]
        have R : ∀ (KK : am_K), (∀ h7 v, Nt h7 L3 x P N (awy (csS S k) k) (B + 1 + 1) → fx (nG L3 N) (am_sfi (am_sfi h4 148 (am_ar h (am_fr h 23 N) k) (S 5 k 30 + 1)) 153 (am_ar h (am_fr h 194 (am_fr h 147 (am_ar h (am_fr h 23 N) k))) 0) ((S 5 k 34) + 1)) h7 → am_sz h7 = am_sz h4 → am_us h7 = am_us h4 → KK (.inl (some (.inr (.inl (v))))) h7) → am_ev am_prog (d + 12) 349 [.inr (.inl (am_fr h 147 (am_ar h (am_fr h 23 N) k))), .inl 0] (am_sfi (am_sfi h4 148 (am_ar h (am_fr h 23 N) k) (S 5 k 30 + 1)) 153 (am_ar h (am_fr h 194 (am_fr h 147 (am_ar h (am_fr h 23 N) k))) 0) ((S 5 k 34) + 1)) KK := by
          intro KK hKK
          have R1 := x_rm (K := KK) (d := d + 6) t6 (by omega) (by rw [c03]; exact hk) (by rw [c29]; exact ⟨hn, mo'.2.2.2.1.2⟩) (fun h7 t7 f7 z7 u7 _ _ _ _ => hKK h7 _ t7 f7 z7 u7)
          rw [eL6] at R1
          exact R1
        refine R _ (fun h7 v t7 f7 z7 u7 => am_av (v_X3_turn_220 ?_))
        have eA : awy (csS S k) k = csE S k := (if_pos c).symm
        refine fin (awy (csS S k) k) h7 eA ?_ (by rw [show B + 2 = B + 1 + 1 by omega]; exact t7) (fun f => ((nG_cap t6 f7).2 f).trans (N4 f)) (fx_trans2 F6 f7 (fun q hq z => by
          have z1 := z.1
          have z2 := z.2.2.2
          rw [le3 q hq] at z1 z2
          exact ⟨z1, z2⟩)) z7 u7 ((nG_cap t6 f7).1.trans rfl)
        rw [(awy_c (S := csS S k) (k := k)).1 0 (by decide)]
        exact c04
    refine v_X3_turn_181 ?_
    rw [f152, f153, e29]
    refine ⟨⟨tN2, tJ⟩, fun c => ⟨by omega, ?_⟩, fun c => ⟨by omega, ?_⟩⟩
    · have e0 : co = 0 := by omega
      rw [e0] at hh3
      rw [hh3]
      exact put
    · have e1 : co = 1 := by omega
      rw [e1] at hh3
      rw [hh3]
      exact put
  refine v_X3_turn_87 ⟨fun _ => ⟨fun _ => ⟨x1.1.1, g1.1, j0.1.1, ?_⟩, fun z => absurd rfl z⟩, fun z => absurd z (by omega)⟩
  rw [g2, pt.2.1, x1.2.2.1, pt.2.2.1, j0.2.2.1, j0.2.2.2.1]
  refine ⟨fun c => ⟨⟨pt.1.2.1, pt.1.1, x1.1.2.1, j0.1.2.1⟩, g1.2.2.2.2.1, ?_⟩, fun c => ⟨⟨pt.1.2.1, pt.1.1, x1.1.2.1, j0.1.2.1⟩, g1.2.2.2.2.1, ?_⟩⟩
  · refine aft 0 _ c.symm (fx_sfr (fx_sfr (fx_sfi (fx_sfi (fx_sfi (fx_sfi (fx_sfi (fx_new fx_refl) (Or.inl (Nat.lt_succ_self _))) (Or.inl (Nat.lt_succ_self _))) (Or.inl (Nat.lt_succ_self _))) (Or.inl (Nat.lt_succ_self _))) (Or.inl (Nat.lt_succ_self _))) (Or.inl (Nat.lt_succ_self _))) (Or.inl (Nat.lt_succ_self _))) rfl rfl (x_tyn0 (h := h) (t := 23) (n := 11) rfl) (ncI h 23 _ _ _ _ _ _) (ncR h 23 _ _ _ _ _ _) (nc0 h 23 _ _ _ _ _ _)
  · have c1 : S 5 k 36 = 1 := by
      rcases co01 with q | q
      · exact absurd q c
      · exact q
    refine aft 1 _ c1.symm (fx_sfr (fx_sfr (fx_sfi (fx_sfi (fx_sfi (fx_sfi (fx_sfi (fx_new fx_refl) (Or.inl (Nat.lt_succ_self _))) (Or.inl (Nat.lt_succ_self _))) (Or.inl (Nat.lt_succ_self _))) (Or.inl (Nat.lt_succ_self _))) (Or.inl (Nat.lt_succ_self _))) (Or.inl (Nat.lt_succ_self _))) (Or.inl (Nat.lt_succ_self _))) rfl rfl (x_tyn0 (h := h) (t := 24) (n := 11) rfl) (ncI h 24 _ _ _ _ _ _) (ncR h 24 _ _ _ _ _ _) (nc0 h 24 _ _ _ _ _ _)
end
