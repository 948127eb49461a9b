set_option maxRecDepth 100000
/-- the words that both sides read, by their places in the pool -/
def wdF : Nat → Option (List Int)
  | 27 => some wNot
  | 28 => some wHead
  | 29 => some wLate
  | 30 => some wCorr
  | 31 => some wWords
  | 32 => some wBits
  | 33 => some wDue
  | 34 => some wMin
  | 35 => some wLett
  | 36 => some wMach
  | 23 => some wAnd
  | 20 => some wOr
  | 16 => some wIf
  | 9 => some wMeas
  | 10 => some wSpac
  | 11 => some wPart
  | 12 => some wFat
  | 13 => some wPay
  | 14 => some wFree
  | 15 => some wClos
  | 17 => some wAtt
  | 37 => some wNot
  | 38 => some wHead
  | 39 => some wLate
  | 40 => some wCorr
  | 41 => some wWords
  | 42 => some wBits
  | 43 => some wDue
  | 44 => some wMin
  | 45 => some wLett
  | 46 => some wMach
  | 26 => some wAnd
  | 22 => some wOr
  | 18 => some wIf
  | 1 => some wMeas
  | 2 => some wSpac
  | 3 => some wPart
  | 4 => some wFat
  | 5 => some wPay
  | 6 => some wFree
  | 7 => some wClos
  | 8 => some wAtt
  | _ => none
def WD (h : am_H) (L : am_Lb) : Prop := ∀ j w, wdF j = some w → csZ h L j w
section
variable {h h' b : am_H} {L L' : am_Lb} {r : Nat}
theorem WD_fx {X : Nat → Prop} (f : fx X h h') (le : leL h L L') (n : ∀ q, q ≤ am_sz h → X q → (L q).1 ≠ 0) (c : WD h L) : WD h' L' := fun j w e => csZ_fx f le n (c j w e)
theorem WD_S (c : WD h L) : CsS h := ⟨⟨(c 27 _ rfl).1, (c 28 _ rfl).1, (c 29 _ rfl).1, (c 30 _ rfl).1, (c 31 _ rfl).1, (c 32 _ rfl).1, (c 33 _ rfl).1, (c 34 _ rfl).1, (c 35 _ rfl).1, (c 36 _ rfl).1, (c 23 _ rfl).1, (c 20 _ rfl).1⟩, (c 16 _ rfl).1, (c 9 _ rfl).1, (c 10 _ rfl).1, (c 11 _ rfl).1, (c 12 _ rfl).1, (c 13 _ rfl).1, (c 14 _ rfl).1, (c 15 _ rfl).1, (c 17 _ rfl).1⟩
theorem WD_R {m : Int → Int} {V : Nat → Int → Int} {W : Nat → Int} (lr : ∀ i, i ≤ 35 → (L (r + i)).1 = r) (r0 : r ≠ 0) (e : b = mo b r m V W) (c : WD b L) : CsR b r := by
  have k : ∀ {j w}, csZ b L j w → csM b r j w := fun c => csZ_M lr r0 e c
  exact ⟨⟨k (c 37 _ rfl), k (c 38 _ rfl), k (c 39 _ rfl), k (c 40 _ rfl), k (c 41 _ rfl), k (c 42 _ rfl), k (c 43 _ rfl), k (c 44 _ rfl), k (c 45 _ rfl), k (c 46 _ rfl), k (c 26 _ rfl), k (c 22 _ rfl)⟩, k (c 18 _ rfl), k (c 1 _ rfl), k (c 2 _ rfl), k (c 3 _ rfl), k (c 4 _ rfl), k (c 5 _ rfl), k (c 6 _ rfl), k (c 7 _ rfl), k (c 8 _ rfl)⟩
end
/-- the image on both sides -/
def JI (h : am_H) (L : am_Lb) (P I : Nat) (SI : am_G) (BI : Int) (V : Nat → Int → Int) (W : Nat → Int) : Prop := (W 42 = 0 ∧ I = 0) ∨ (W 42 = 1 ∧ I ≠ 0 ∧ Rep h L I P SI BI ∧ okI SI ∧ ∀ k, 0 ≤ k → k < 337220 → V 2 k = ms SI k)
/-- room at S, model at m, tape t of n, fault fl -/
def JH (x P r o s : Nat) (sc : Int → Int) (ns : Int) (L : am_Lb) (N I : Nat) (S m SI : am_G) (B BI : Int) (t : Int → Int) (n fl : Int) (V : Nat → Int → Int) (W : Nat → Int) (h : am_H) : Prop := JB x P r o s sc ns L N I h ∧ Nt h L x P N S B ∧ MoC h r (ms m) V W ∧ JI h L P I SI BI V W ∧ TpX h L x t n ∧ am_fi h 5 x = fl ∧ WD h L
section
variable {h h' : am_H} {L L' : am_Lb} {x P r o s : Nat} {sc : Int → Int} {ns : Int} {N I : Nat} {S m SI : am_G} {B BI : Int} {t : Int → Int} {n fl : Int} {V : Nat → Int → Int} {W : Nat → Int}
/-- a plain call of the room -/
theorem JH_X {S' : am_G} {B' : Int} {dz du : Nat} (j : JH x P r o s sc ns L N I S m SI B BI t n fl V W h) (a : Out h L x N h' L' dz du) (nt : Nt h' L' x P N S' B') : JH x P r o s sc ns L' N I S' m SI B' BI t n fl V W h' := by
  obtain ⟨j1, j2, j3, j4, j5, j6, j7⟩ := j
  obtain ⟨ox, fi⟩ := Out_OutX j1 a
  obtain ⟨jb, mc⟩ := JB_X j1 ox
  have n4 := j1.2.2.2.2.2.2.1
  have d3 := j1.2.2.2.2.2.2.2.1.2.2.1
  have x3 := j1.1.2.2
  refine ⟨jb, nt, mc _ _ _ j3, ?_, TpX_fx a.1 a.2.1 j1.1.2.1 (fun z => ?_) (fun z => ?_) j5, (fi 5).trans j6, WD_fx a.1 a.2.1 (fun q _ z => ?_) j7⟩
  · rcases j4 with c | ⟨c1, c2, c3, c4, c5⟩
    · exact Or.inl c
    · exact Or.inr ⟨c1, c2, Rep_X j1 ox j2.1 j2.2.1.1 c3, c4, c5⟩
  · have z' : (L x).1 = N ∨ ((L x).1 = x ∧ (L x).2.1 = 1) := z
    rw [x3] at z'
    rcases z' with z' | z'
    · exact d3 z'
    · exact absurd z'.2 (by show (0 : Nat) ≠ 1; decide)
  · have z' : (L (am_fr h 3 x)).1 = N ∨ ((L (am_fr h 3 x)).1 = x ∧ (L (am_fr h 3 x)).2.1 = 1) := z
    rw [j5.2.1.2.2.2] at z'
    rcases z' with z' | z'
    · exact d3 z'
    · exact absurd z'.2 (by show (2 : Nat) ≠ 1; decide)
  · rcases z with z | z
    · rw [z]
      exact n4.2.2.2
    · rw [z.1]
      exact n4.1
/-- the model's call -/
theorem JH_M {m' : am_G} {V' : Nat → Int → Int} {W' : Nat → Int} (j : JH x P r o s sc ns L N I S m SI B BI t n fl V W h) (v2 : V' 2 = V 2) (w42 : W' 42 = W 42) : JH x P r o s sc ns L N I S m' SI B BI t n fl V' W' (mo h r (ms m') V' W') := by
  obtain ⟨j1, j2, j3, j4, j5, j6, j7⟩ := j
  have e := MoC_id j3
  have f := mo_fx (b := h) (r := r) (m := ms m) (m' := ms m') (V := V) (V' := V') (W := W) (W' := W')
  rw [← e] at f
  have j1' := j1
  rw [e] at j1'
  obtain ⟨jb, fi⟩ := JB_M (m' := ms m') (V' := V') (W' := W') j1'
  rw [← e] at fi
  obtain ⟨⟨x1, x2, x3⟩, _, ⟨r1, r2⟩, _, _, _, ⟨n1, n2, n3, n4⟩, ⟨d1, d2, d3, d4, d5, d6⟩, ⟨i1, i2, i3, i4⟩⟩ := j1
  have own : ∀ q, r ≤ q ∧ q ≤ r + 35 → (L q).1 = r := fun q z => by
    have e : r + (q - r) = q := by omega
    have l := r2 (q - r) (by omega)
    rw [e] at l
    exact l
  refine ⟨jb, Nt_own j2 f (okLb_fx f j2.1) (fun q _ z => by rw [own q z]; exact ⟨n2, d5, fun y => d1 y.symm⟩), mo_MoC, ?_, TpX_fx f leL_refl x2 (fun z => ?_) (fun z => ?_) j5, (fi 5).trans j6, WD_fx f leL_refl (fun q _ z => by rw [own q z]; exact n2) j7⟩
  · rcases j4 with c | ⟨c1, c2, c3, c4, c5⟩
    · exact Or.inl ⟨w42.trans c.1, c.2⟩
    · refine Or.inr ⟨w42.trans c1, c2, Rep_fx (Int.le_refl BI) f leL_refl j2.1 j2.2.1.1 (fun q _ z => by rw [own q z]; exact ⟨n2, fun y => i2 y.symm⟩) c3, c4, ?_⟩
      rw [v2]
      exact c5
  · have y := own x z
    rw [x3] at y
    exact d1 y
  · have y := own _ z
    rw [j5.2.1.2.2.2] at y
    exact d1 y
end
