set_option maxRecDepth 100000
/-! groups of a night: 1 widths, 3 parts, 4 slugs, 5 machines, 6 styles, 7 tellings, 8 pages, 9 editions, 10 rows; 0 the night -/
/-- the last slug of a machine in a minute -/
def lsG (S : am_G) (k mi : Int) : Nat → Int
  | 0 => -1
  | n + 1 => if S 4 (n : Int) 1 = k ∧ S 4 (n : Int) 2 = mi then (n : Int) else lsG S k mi n
def crN (S : am_G) : Int := sg (fun s => am_b (S 4 s 7 = 1)) 0 (S 0 0 4).toNat
def rN (h : am_H) (L : am_Lb) (N P : Nat) (S : am_G) : Prop := nd h L N 3 N 0 0 0 ∧ am_fr h 17 N = P ∧ am_fi h 18 N = S 0 0 0 ∧ am_fi h 21 N = S 0 0 1 ∧ am_fi h 24 N = S 0 0 3 ∧ am_fi h 32 N = S 0 0 7 ∧ am_fi h 29 N = crN S
theorem rN_fx {X : Nat → Prop} {h h' : am_H} {L L' : am_Lb} {N : Nat} (a : fx X h h') (le : leL h L L') (ok : okLb h L) (c0 : am_ty h (am_cs h 0) = 134) (hz : ∀ q, q ≤ am_sz h → X q → zf L N 0 q) {P : Nat} {S S' : am_G} (e0 : S' 0 = S 0) (e4 : S' 4 = S 4) (x : rN h L N P S) : rN h' L' N P S' := by
  obtain ⟨x1, x2⟩ := x
  have y := nd_fx a le x1 (fun z => nd_zf x1 (hz _ x1.2.1 z))
  refine ⟨y.1, ?_⟩
  unfold crN
  rw [y.2.2.1, y.2.2.1, y.2.2.1, y.2.2.1, y.2.2.1, y.2.2.2.1, e0, e4]
  exact x2
def rW (h : am_H) (L : am_Lb) (N a : Nat) (S : am_G) : Prop := nd h L a 110 N 1 0 0 ∧ am_ln h a = 2 ∧ ∀ f, 0 ≤ f → f < 2 → nd h L (am_ar h a f) 101 N 1 1 f ∧ xW h (am_ar h a f) (S 1 f)
theorem rW_fx {X : Nat → Prop} {h h' : am_H} {L L' : am_Lb} {N : Nat} (a : fx X h h') (le : leL h L L') (ok : okLb h L) (c0 : am_ty h (am_cs h 0) = 134) (hz : ∀ q, q ≤ am_sz h → X q → zf L N 1 q) {r : Nat} {S S' : am_G} (e1 : S' 1 = S 1) (x : rW h L N r S) : rW h' L' N r S' := by
  obtain ⟨x1, x2, x3⟩ := x
  have y := nd_fx a le x1 (fun z => nd_zf x1 (hz _ x1.2.1 z))
  refine ⟨y.1, y.2.1.trans x2, fun f f1 f2 => ?_⟩
  obtain ⟨w1, w2⟩ := x3 f f1 f2
  have n1 : ¬ X (am_ar h r f) := fun z => nd_zf w1 (hz _ w1.2.1 z)
  rw [y.2.2.2.2.2, e1]
  exact ⟨(nd_fx a le w1 n1).1, xW_fx a n1 w2⟩
/-- a part -/
def rPt (h : am_H) (L : am_Lb) (N : Nat) (S : am_G) (p : Int) (t : Nat) : Prop := nd h L t 9 N 3 1 p ∧ am_fi h 110 t = p ∧ am_fi h 111 t = S 2 0 (p / 5) ∧ am_fi h 112 t = S 2 1 (p / 5) ∧ am_fi h 114 t = S 3 p 0 ∧ am_fi h 115 t = S 3 p 2 ∧ iPc h L (am_fr h 113 t) (S 3 p) ∧ (S 3 p 3 = 0 → am_fr h 116 t = 0 ∧ am_fr h 117 t = 0 ∧ am_fr h 118 t = 0) ∧ (S 3 p 3 ≠ 0 → iA h L (am_fr h 116 t) (S 3 p 4) (fun l => S 3 p (5 + l)) ∧ iLi h L (am_fr h 117 t) (S 3 p) ∧ nd h L (am_fr h 118 t) 101 N 3 2 p ∧ am_ln h (am_fr h 118 t) = S 3 p 4 ∧ ∀ l, 0 ≤ l → l < S 3 p 4 → am_ai h (am_fr h 118 t) l = S 3 p (45 + l) - 1)
theorem rPt_fx {X : Nat → Prop} {h h' : am_H} {L L' : am_Lb} {N : Nat} (a : fx X h h') (le : leL h L L') (ok : okLb h L) (c0 : am_ty h (am_cs h 0) = 134) (hz : ∀ q, q ≤ am_sz h → X q → zf L N 3 q) {t : Nat} {p : Int} {S S' : am_G} (e2 : S' 2 = S 2) (e3 : S' 3 = S 3) (x : rPt h L N S p t) : rPt h' L' N S' p t := by
  obtain ⟨x1, x2, x3, x4, x5, x6, x7, x8, x9⟩ := x
  have y := nd_fx a le x1 (fun z => nd_zf x1 (hz _ x1.2.1 z))
  unfold rPt
  rw [y.2.2.1, y.2.2.1, y.2.2.1, y.2.2.1, y.2.2.1, y.2.2.2.1, y.2.2.2.1, y.2.2.2.1, y.2.2.2.1, e2, e3]
  refine ⟨y.1, x2, x3, x4, x5, x6, iPc_fx a le (fun q hq z => ⟨(hz q hq z).1, okLb_im ok hq (hz q hq z)⟩) x7, x8, fun c => ?_⟩
  obtain ⟨z1, z2, z3, z4, z5⟩ := x9 c
  have w := nd_fx a le z3 (fun z => nd_zf z3 (hz _ z3.2.1 z))
  rw [w.2.1, w.2.2.2.2.1]
  exact ⟨iA_fx a le (fun q hq z => (hz q hq z).1) z1, iLi_fx a le (fun q hq z => ⟨(hz q hq z).1, okLb_im ok hq (hz q hq z)⟩) z2, w.1, z4, z5⟩
def rP (h : am_H) (L : am_Lb) (N a : Nat) (S : am_G) : Prop := nd h L a 111 N 3 0 0 ∧ am_ln h a = 100 ∧ ∀ p, 0 ≤ p → p < 100 → (¬ isP S p → am_ar h a p = 0) ∧ (isP S p → rPt h L N S p (am_ar h a p))
theorem rP_fx {X : Nat → Prop} {h h' : am_H} {L L' : am_Lb} {N : Nat} (a : fx X h h') (le : leL h L L') (ok : okLb h L) (c0 : am_ty h (am_cs h 0) = 134) (hz : ∀ q, q ≤ am_sz h → X q → zf L N 3 q) {r : Nat} {S S' : am_G} (e0 : S' 0 0 1 = S 0 0 1) (e2 : S' 2 = S 2) (e3 : S' 3 = S 3) (x : rP h L N r S) : rP h' L' N r S' := by
  obtain ⟨x1, x2, x3⟩ := x
  have y := nd_fx a le x1 (fun z => nd_zf x1 (hz _ x1.2.1 z))
  refine ⟨y.1, y.2.1.trans x2, fun p p1 p2 => ?_⟩
  obtain ⟨w1, w2⟩ := x3 p p1 p2
  unfold isP at w1 w2 ⊢
  rw [y.2.2.2.2.2, e0, e2]
  exact ⟨w1, fun c => rPt_fx a le ok c0 hz e2 e3 (w2 c)⟩
/-- what is behind the last line of a job -/
def bhd (S : am_G) (k i : Int) : Int := if S 5 k (37 + 5 * i) = 0 then S 5 k (35 + 5 * i) else if S 3 (S 5 k (33 + 5 * i)) 3 = 0 then -1 else S 3 (S 5 k (33 + 5 * i)) 4
def rJ (h : am_H) (L : am_Lb) (N : Nat) (S : am_G) (k i : Int) (j : Nat) : Prop := nd h L j 22 N 5 5 k ∧ am_fi h 151 j = S 5 k (33 + 5 * i) ∧ am_fi h 152 j = S 5 k (36 + 5 * i) ∧ am_fi h 153 j = S 5 k (34 + 5 * i) ∧ am_fi h 154 j = bhd S k i
def rQ (h : am_H) (L : am_Lb) (N : Nat) (S : am_G) (k : Int) (q : Nat) (B : Int) : Prop := rL h L q N 5 3 k (S 5 k 29) B ∧ (∀ i, 0 ≤ i → i < S 5 k 29 → rJ h L N S k i (am_ar h (am_fr h 194 q) i)) ∧ ∀ i j, 0 ≤ i → i < j → j < S 5 k 29 → am_ar h (am_fr h 194 q) i ≠ am_ar h (am_fr h 194 q) j
def rMc (h : am_H) (L : am_Lb) (N : Nat) (S : am_G) (k : Int) (m : Nat) (B : Int) : Prop := nd h L m 21 N 5 1 k ∧ nd h L (am_fr h 144 m) 101 N 5 2 k ∧ am_ln h (am_fr h 144 m) = 27 ∧ (∀ c, 0 ≤ c → c < 27 → am_ai h (am_fr h 144 m) c = S 5 k c) ∧ am_fi h 145 m = S 5 k 27 ∧ am_fi h 146 m = S 5 k 28 ∧ am_fi h 148 m = S 5 k 30 ∧ am_fi h 149 m = S 5 k 31 ∧ am_fi h 150 m = S 5 k 32 ∧ rQ h L N S k (am_fr h 147 m) B
def rM (h : am_H) (L : am_Lb) (N a : Nat) (S : am_G) (B : Int) : Prop := nd h L a 112 N 5 0 0 ∧ am_ln h a = 4 ∧ ∀ k, 0 ≤ k → k < S 0 0 3 → rMc h L N S k (am_ar h a k) B
/-- a job's cell is left, its numbers are the same -/
theorem rJ_fx {X : Nat → Prop} {h h' : am_H} {L L' : am_Lb} {N : Nat} (a : fx X h h') (le : leL h L L') {k i : Int} {j : Nat} {S S' : am_G} (e5 : ∀ o, 33 + 5 * i ≤ o → o ≤ 37 + 5 * i → S' 5 k o = S 5 k o) (eb : bhd S' k i = bhd S k i) (x : rJ h L N S k i j) (n1 : ¬ X j) : rJ h' L' N S' k i j := by
  obtain ⟨x1, x2⟩ := x
  have y := nd_fx a le x1 n1
  refine ⟨y.1, ?_⟩
  rw [y.2.2.1, y.2.2.1, y.2.2.1, y.2.2.1, e5 _ (by omega) (by omega), e5 _ (by omega) (by omega), e5 _ (by omega) (by omega), eb]
  exact x2
theorem rMc_fx {X : Nat → Prop} {h h' : am_H} {L L' : am_Lb} {N : Nat} (a : fx X h h') (le : leL h L L') (ok : okLb h L) (c0 : am_ty h (am_cs h 0) = 134) {m : Nat} {k B B' : Int} (hB : B ≤ B') {S S' : am_G} (e5 : S' 5 k = S 5 k) (eb : ∀ i, 0 ≤ i → i < S 5 k 29 → bhd S' k i = bhd S k i) (hz : ∀ q, q ≤ am_sz h → X q → (L q).1 ≠ 0 ∧ ¬ ((L q).1 = N ∧ (L q).2.1 = 5 ∧ (L q).2.2.2 = k)) (x : rMc h L N S k m B) : rMc h' L' N S' k m B' := by
  obtain ⟨x1, x2, x3, x4, x5, x6, x7, x8, x9, x10, x11, x12⟩ := x
  have nn : ∀ q t kd, nd h L q t N 5 kd k → ¬ X q := fun q t kd x z => (hz q x.2.1 z).2 (by rw [x.2.2.2]; exact ⟨rfl, rfl, rfl⟩)
  have y := nd_fx a le x1 (nn _ _ _ x1)
  have w := nd_fx a le x2 (nn _ _ _ x2)
  have l1 : ¬ X (am_fr h 147 m) := fun z => (hz _ x10.1.1.2.2.2.2.1 z).2 (by rw [x10.2.2.1]; exact ⟨rfl, rfl, rfl⟩)
  have l2 : ¬ X (am_fr h 194 (am_fr h 147 m)) := fun z => by
    have zz := hz _ x10.1.1.2.2.2.2.2 z
    by_cases c : 0 < am_ln h (am_fr h 194 (am_fr h 147 m))
    · exact zz.2 (by rw [x10.2.2.2.1 c]; exact ⟨rfl, rfl, rfl⟩)
    · have e := x10.1.2.2.1 (by have := x10.1.1.2.2.1; omega)
      have e2 := x10.1.1.2.2.2.2.2
      rw [e] at zz e2
      exact zz.1 (ok.2.1 _ e2 (by unfold imT; omega))
  have r := rL_fx a le hB x10 l1 l2
  unfold rMc rQ
  rw [y.2.2.1, y.2.2.1, y.2.2.1, y.2.2.1, y.2.2.1, y.2.2.2.1, y.2.2.2.1, w.2.1, w.2.2.2.2.1, e5, r.2.1, r.2.2]
  refine ⟨y.1, w.1, x3, x4, x5, x6, x7, x8, x9, r.1, fun i i1 i2 => ?_, x12⟩
  have xj := x11 i i1 i2
  exact rJ_fx a le (fun o _ _ => by rw [e5]) (eb i i1 i2) xj (nn _ _ _ xj.1)
theorem rM_fx {X : Nat → Prop} {h h' : am_H} {L L' : am_Lb} {N : Nat} (a : fx X h h') (le : leL h L L') (ok : okLb h L) (c0 : am_ty h (am_cs h 0) = 134) (hz : ∀ q, q ≤ am_sz h → X q → zf L N 5 q) {r : Nat} {B B' : Int} (hB : B ≤ B') {S S' : am_G} (e0 : S' 0 0 3 = S 0 0 3) (e5 : S' 5 = S 5) (eb : ∀ k i, 0 ≤ k → k < S 0 0 3 → 0 ≤ i → i < S 5 k 29 → bhd S' k i = bhd S k i) (x : rM h L N r S B) : rM h' L' N r S' B' := by
  obtain ⟨x1, x2, x3⟩ := x
  have y := nd_fx a le x1 (fun z => nd_zf x1 (hz _ x1.2.1 z))
  refine ⟨y.1, y.2.1.trans x2, fun k k1 k2 => ?_⟩
  rw [e0] at k2
  rw [y.2.2.2.2.2]
  exact rMc_fx a le ok c0 hB (by rw [e5]) (fun i i1 i2 => eb k i k1 k2 i1 i2) (fun q hq z => ⟨(hz q hq z).1, fun w => (hz q hq z).2 ⟨w.1, w.2.1⟩⟩) (x3 k k1 k2)
/-- a slug -/
def rSg (h : am_H) (L : am_Lb) (N : Nat) (S : am_G) (s : Int) (g : Nat) : Prop := nd h L g (if S 4 s 7 = 1 then 24 else 23) N 4 2 s ∧ am_fi h 155 g = S 4 s 0 ∧ am_fi h 156 g = S 4 s 1 ∧ am_fi h 157 g = S 4 s 2 ∧ am_fi h 158 g = S 4 s 8 ∧ am_fi h 159 g = S 2 0 (S 4 s 0 / 5) ∧ iSc h L (am_fr h 160 g) (S 4 s 9) (fun j => S 4 s (12 + j)) ∧ am_fi h 161 g = S 4 s 6 ∧ am_fi h 162 g = S 4 s 5 ∧ am_fi h 163 g = S 4 s 4 ∧ iSc h L (am_fr h 164 g) (S 4 s 9) (fun j => S 4 s (432 + j)) ∧ am_fi h 165 g = S 4 s 10 + 2 * S 4 s 11
theorem rSg_fx {X : Nat → Prop} {h h' : am_H} {L L' : am_Lb} {N : Nat} (a : fx X h h') (le : leL h L L') (ok : okLb h L) (hz : ∀ q, q ≤ am_sz h → X q → (L q).1 ≠ 0) {g : Nat} {s : Int} {S S' : am_G} (e2 : S' 2 0 (S 4 s 0 / 5) = S 2 0 (S 4 s 0 / 5)) (e4 : S' 4 s = S 4 s) (x : rSg h L N S s g) (n1 : ¬ X g) : rSg h' L' N S' s g := by
  obtain ⟨x1, x2, x3, x4, x5, x6, x7, x8, x9, x10, x11, x12⟩ := x
  have y := nd_fx a le x1 n1
  have im : ∀ q, q ≤ am_sz h → X q → (L q).1 ≠ 0 ∧ ¬ imT (am_ty h q) := fun q hq z => ⟨hz q hq z, fun t => hz q hq z (ok.2.1 q hq t)⟩
  unfold rSg
  rw [y.2.2.1, y.2.2.1, y.2.2.1, y.2.2.1, y.2.2.1, y.2.2.1, y.2.2.1, y.2.2.1, y.2.2.1, y.2.2.2.1, y.2.2.2.1, e4, e2]
  exact ⟨y.1, x2, x3, x4, x5, x6, iSc_fx a le im x7, x8, x9, x10, iSc_fx a le im x11, x12⟩
def rG (h : am_H) (L : am_Lb) (N l : Nat) (S : am_G) (B : Int) : Prop := rL h L l N 4 0 0 (S 0 0 4) B ∧ ∀ s, 0 ≤ s → s < S 0 0 4 → rSg h L N S s (am_ar h (am_fr h 194 l) s)
theorem rG_fx {X : Nat → Prop} {h h' : am_H} {L L' : am_Lb} {N : Nat} (a : fx X h h') (le : leL h L L') (ok : okLb h L) (c0 : am_ty h (am_cs h 0) = 134) (hz : ∀ q, q ≤ am_sz h → X q → zf L N 4 q) {l : Nat} {B B' : Int} (hB : B ≤ B') {S S' : am_G} (e0 : S' 0 0 4 = S 0 0 4) (e2 : ∀ s, 0 ≤ s → s < S 0 0 4 → S' 2 0 (S 4 s 0 / 5) = S 2 0 (S 4 s 0 / 5)) (e4 : S' 4 = S 4) (x : rG h L N l S B) : rG h' L' N l S' B' := by
  obtain ⟨x1, x2⟩ := x
  have n := rL_nz ok c0 x1
  have r := rL_fx a le hB x1 (fun z => n.1 (hz _ x1.1.1.2.2.2.2.1 z)) (fun z => n.2 (hz _ x1.1.1.2.2.2.2.2 z))
  unfold rG
  rw [r.2.1, r.2.2, e0]
  refine ⟨r.1, fun s s1 s2 => ?_⟩
  have xs := x2 s s1 s2
  exact rSg_fx a le ok (fun q hq z => (hz q hq z).1) (e2 s s1 s2) (by rw [e4]) xs (fun z => nd_zf xs.1 (hz _ xs.1.2.1 z))
def rY (h : am_H) (L : am_Lb) (N l : Nat) (S : am_G) (B : Int) : Prop := rL h L l N 6 0 0 (S 0 0 2) B ∧ ∀ k, 0 ≤ k → k < S 0 0 2 → iSt h L (am_ar h (am_fr h 194 l) k) (S 6 k)
theorem rY_fx {X : Nat → Prop} {h h' : am_H} {L L' : am_Lb} {N : Nat} (a : fx X h h') (le : leL h L L') (ok : okLb h L) (c0 : am_ty h (am_cs h 0) = 134) (hz : ∀ q, q ≤ am_sz h → X q → zf L N 6 q) {l : Nat} {B B' : Int} (hB : B ≤ B') {S S' : am_G} (e0 : S' 0 0 2 = S 0 0 2) (e6 : S' 6 = S 6) (x : rY h L N l S B) : rY h' L' N l S' B' := by
  obtain ⟨x1, x2⟩ := x
  have n := rL_nz ok c0 x1
  have r := rL_fx a le hB x1 (fun z => n.1 (hz _ x1.1.1.2.2.2.2.1 z)) (fun z => n.2 (hz _ x1.1.1.2.2.2.2.2 z))
  unfold rY
  rw [r.2.1, r.2.2, e0, e6]
  exact ⟨r.1, fun s s1 s2 => iSt_fx a le (fun q hq z => ⟨(hz q hq z).1, okLb_im ok hq (hz q hq z)⟩) (x2 s s1 s2)⟩
/-- a telling -/
def iTe (h : am_H) (t : Nat) (v : Int → Int) : Prop := am_ty h t = 25 ∧ t ≤ am_sz h ∧ t ≠ 0 ∧ am_fi h 166 t = v 0 ∧ am_fi h 167 t = v 1 ∧ am_fi h 168 t = v 2 ∧ am_fi h 169 t = v 3
theorem iTe_fx {X : Nat → Prop} {h h' : am_H} (a : fx X h h') (hX : ∀ q, q ≤ am_sz h → X q → ¬ imT (am_ty h q)) {t : Nat} {v : Int → Int} (x : iTe h t v) : iTe h' t v := by
  obtain ⟨x1, x2, x3, x4⟩ := x
  obtain ⟨a1, a2, a3⟩ := a.2.2.2 t x2
  obtain ⟨c1, c2, c3, c4⟩ := a3 (fun z => hX t x2 z (by unfold imT; omega))
  unfold iTe
  rw [a1, c1, c1, c1, c1]
  exact ⟨x1, Nat.le_trans x2 a.1, x3, x4⟩
def rT (h : am_H) (L : am_Lb) (N l : Nat) (S : am_G) (B : Int) : Prop := rL h L l N 7 0 0 (S 0 0 5) B ∧ ∀ k, 0 ≤ k → k < S 0 0 5 → iTe h (am_ar h (am_fr h 194 l) k) (S 7 k)
theorem rT_fx {X : Nat → Prop} {h h' : am_H} {L L' : am_Lb} {N : Nat} (a : fx X h h') (le : leL h L L') (ok : okLb h L) (c0 : am_ty h (am_cs h 0) = 134) (hz : ∀ q, q ≤ am_sz h → X q → zf L N 7 q) {l : Nat} {B B' : Int} (hB : B ≤ B') {S S' : am_G} (e0 : S' 0 0 5 = S 0 0 5) (e6 : S' 7 = S 7) (x : rT h L N l S B) : rT h' L' N l S' B' := by
  obtain ⟨x1, x2⟩ := x
  have n := rL_nz ok c0 x1
  have r := rL_fx a le hB x1 (fun z => n.1 (hz _ x1.1.1.2.2.2.2.1 z)) (fun z => n.2 (hz _ x1.1.1.2.2.2.2.2 z))
  unfold rT
  rw [r.2.1, r.2.2, e0, e6]
  exact ⟨r.1, fun s s1 s2 => iTe_fx a (fun q hq z => okLb_im ok hq (hz q hq z)) (x2 s s1 s2)⟩
/-- a page -/
def rPg (h : am_H) (L : am_Lb) (N : Nat) (S : am_G) (p : Int) (t : Nat) : Prop := nd h L t 4 N 8 1 p ∧ am_fi h 33 t = S 8 p 0 ∧ am_fi h 34 t = S 8 p 1 ∧ am_fi h 35 t = S 8 p 3 ∧ am_fi h 36 t = S 8 p 4 ∧ iA h L (am_fr h 37 t) (S 8 p 2) (fun i => S 8 p (5 + i))
theorem rPg_fx {X : Nat → Prop} {h h' : am_H} {L L' : am_Lb} {N : Nat} (a : fx X h h') (le : leL h L L') (hz : ∀ q, q ≤ am_sz h → X q → (L q).1 ≠ 0) {t : Nat} {p : Int} {S S' : am_G} (e8 : S' 8 p = S 8 p) (x : rPg h L N S p t) (n1 : ¬ X t) : rPg h' L' N S' p t := by
  obtain ⟨x1, x2, x3, x4, x5, x6⟩ := x
  have y := nd_fx a le x1 n1
  unfold rPg
  rw [y.2.2.1, y.2.2.1, y.2.2.1, y.2.2.1, y.2.2.2.1, e8]
  exact ⟨y.1, x2, x3, x4, x5, iA_fx a le hz x6⟩
def rH (h : am_H) (L : am_Lb) (N a : Nat) (S : am_G) : Prop := nd h L a 113 N 8 0 0 ∧ am_ln h a = 6 ∧ ∀ p, 0 ≤ p → p < 6 → rPg h L N S p (am_ar h a p)
theorem rH_fx {X : Nat → Prop} {h h' : am_H} {L L' : am_Lb} {N : Nat} (a : fx X h h') (le : leL h L L') (ok : okLb h L) (c0 : am_ty h (am_cs h 0) = 134) (hz : ∀ q, q ≤ am_sz h → X q → zf L N 8 q) {r : Nat} {S S' : am_G} (e8 : S' 8 = S 8) (x : rH h L N r S) : rH h' L' N r S' := by
  obtain ⟨x1, x2, x3⟩ := x
  have y := nd_fx a le x1 (fun z => nd_zf x1 (hz _ x1.2.1 z))
  refine ⟨y.1, y.2.1.trans x2, fun p p1 p2 => ?_⟩
  have xp := x3 p p1 p2
  rw [y.2.2.2.2.2]
  exact rPg_fx a le (fun q hq z => (hz q hq z).1) (by rw [e8]) xp (fun z => nd_zf xp.1 (hz _ xp.1.2.1 z))
/-- an edition -/
def iEd (h : am_H) (L : am_Lb) (t : Nat) (S : am_G) (e : Int) : Prop := am_ty h t = 27 ∧ t ≤ am_sz h ∧ t ≠ 0 ∧ am_ty h (am_fr h 178 t) = 110 ∧ am_fr h 178 t ≤ am_sz h ∧ (L (am_fr h 178 t)).1 = 0 ∧ am_ln h (am_fr h 178 t) = 6 ∧ ∀ p, 0 ≤ p → p < 6 → iA h L (am_ar h (am_fr h 178 t) p) (S 9 (6 * e + p) 0) (fun i => S 9 (6 * e + p) (1 + i))
theorem iEd_fx {X : Nat → Prop} {h h' : am_H} {L L' : am_Lb} (a : fx X h h') (le : leL h L L') (hX : ∀ q, q ≤ am_sz h → X q → (L q).1 ≠ 0 ∧ ¬ imT (am_ty h q)) {t : Nat} {e : Int} {S S' : am_G} (e9 : S' 9 = S 9) (x : iEd h L t S e) : iEd h' L' t S' e := by
  obtain ⟨x1, x2, x3, x4, x5, x6, x7, x8⟩ := x
  obtain ⟨a1, a2, a3⟩ := a.2.2.2 t x2
  obtain ⟨c1, c2, c3, c4⟩ := a3 (fun z => (hX t x2 z).2 (by unfold imT; omega))
  obtain ⟨b1, b2, b3⟩ := a.2.2.2 _ x5
  obtain ⟨d1, d2, d3, d4⟩ := b3 (fun z => (hX _ x5 z).1 x6)
  unfold iEd
  rw [a1, c2, b1, b2, d4, le _ x5, e9]
  exact ⟨x1, Nat.le_trans x2 a.1, x3, x4, Nat.le_trans x5 a.1, x6, x7, fun p p1 p2 => iA_fx a le (fun q hq z => (hX q hq z).1) (x8 p p1 p2)⟩
def rE (h : am_H) (L : am_Lb) (N l : Nat) (S : am_G) (B : Int) : Prop := rL h L l N 9 0 0 (S 0 0 6) B ∧ ∀ k, 0 ≤ k → k < S 0 0 6 → iEd h L (am_ar h (am_fr h 194 l) k) S k
theorem rE_fx {X : Nat → Prop} {h h' : am_H} {L L' : am_Lb} {N : Nat} (a : fx X h h') (le : leL h L L') (ok : okLb h L) (c0 : am_ty h (am_cs h 0) = 134) (hz : ∀ q, q ≤ am_sz h → X q → zf L N 9 q) {l : Nat} {B B' : Int} (hB : B ≤ B') {S S' : am_G} (e0 : S' 0 0 6 = S 0 0 6) (e9 : S' 9 = S 9) (x : rE h L N l S B) : rE h' L' N l S' B' := by
  obtain ⟨x1, x2⟩ := x
  have n := rL_nz ok c0 x1
  have r := rL_fx a le hB x1 (fun z => n.1 (hz _ x1.1.1.2.2.2.2.1 z)) (fun z => n.2 (hz _ x1.1.1.2.2.2.2.2 z))
  unfold rE
  rw [r.2.1, r.2.2, e0]
  exact ⟨r.1, fun s s1 s2 => iEd_fx a le (fun q hq z => ⟨(hz q hq z).1, okLb_im ok hq (hz q hq z)⟩) e9 (x2 s s1 s2)⟩
/-- the rows: as told, as they were -/
def rR (h : am_H) (L : am_Lb) (N t w : Nat) (S : am_G) : Prop := nd h L t 101 N 10 0 0 ∧ nd h L w 101 N 10 1 0 ∧ am_ln h t = 32 ∧ am_ln h w = 32 ∧ (∀ i k, 0 ≤ i → i < S 0 0 7 → 0 ≤ k → k < 4 → am_ai h t (4 * i + k) = S 10 0 (1 + 5 * i + k) ∧ am_ai h w (4 * i + k) = lsG S k (S 10 0 (5 * i)) (S 0 0 4).toNat)
theorem rR_fx {X : Nat → Prop} {h h' : am_H} {L L' : am_Lb} {N : Nat} (a : fx X h h') (le : leL h L L') (ok : okLb h L) (c0 : am_ty h (am_cs h 0) = 134) (hz : ∀ q, q ≤ am_sz h → X q → zf L N 10 q) {t w : Nat} {S S' : am_G} (e0 : S' 0 0 7 = S 0 0 7) (e10 : S' 10 = S 10) (eg : ∀ i k, 0 ≤ i → i < S 0 0 7 → 0 ≤ k → k < 4 → lsG S' k (S 10 0 (5 * i)) (S' 0 0 4).toNat = lsG S k (S 10 0 (5 * i)) (S 0 0 4).toNat) (x : rR h L N t w S) : rR h' L' N t w S' := by
  obtain ⟨x1, x2, x3, x4, x5⟩ := x
  have y := nd_fx a le x1 (fun z => nd_zf x1 (hz _ x1.2.1 z))
  have y2 := nd_fx a le x2 (fun z => nd_zf x2 (hz _ x2.2.1 z))
  unfold rR
  rw [y.2.1, y.2.2.2.2.1, y2.2.1, y2.2.2.2.2.1, e0, e10]
  refine ⟨y.1, y2.1, x3, x4, fun i k i1 i2 k1 k2 => ?_⟩
  rw [eg i k i1 i2 k1 k2]
  exact x5 i k i1 i2 k1 k2
/-- THE NIGHT: paper P, state S -/
def Rep (h : am_H) (L : am_Lb) (N P : Nat) (S : am_G) (B : Int) : Prop := rN h L N P S ∧ rW h L N (am_fr h 19 N) S ∧ rP h L N (am_fr h 20 N) S ∧ rY h L N (am_fr h 22 N) S B ∧ rM h L N (am_fr h 23 N) S B ∧ rG h L N (am_fr h 25 N) S B ∧ rT h L N (am_fr h 26 N) S B ∧ rH h L N (am_fr h 27 N) S ∧ rE h L N (am_fr h 28 N) S B ∧ rR h L N (am_fr h 30 N) (am_fr h 31 N) S
theorem Rep_fx {X : Nat → Prop} {h h' : am_H} {L L' : am_Lb} {N P : Nat} {S : am_G} {B B' : Int} (hB : B ≤ B') (a : fx X h h') (le : leL h L L') (ok : okLb h L) (c0 : am_ty h (am_cs h 0) = 134) (hz : ∀ q, q ≤ am_sz h → X q → (L q).1 ≠ 0 ∧ (L q).1 ≠ N) (x : Rep h L N P S B) : Rep h' L' N P S B' := by
  obtain ⟨x1, x2, x3, x4, x5, x6, x7, x8, x9, x10⟩ := x
  have z : ∀ g q, q ≤ am_sz h → X q → zf L N g q := fun g q hq z => ⟨(hz q hq z).1, fun w => (hz q hq z).2 w.1⟩
  have y := nd_fx a le x1.1 (fun w => nd_zf x1.1 (z 0 _ x1.1.2.1 w))
  unfold Rep
  rw [y.2.2.2.1, y.2.2.2.1, y.2.2.2.1, y.2.2.2.1, y.2.2.2.1, y.2.2.2.1, y.2.2.2.1, y.2.2.2.1, y.2.2.2.1, y.2.2.2.1]
  exact ⟨rN_fx a le ok c0 (z 0) rfl rfl x1, rW_fx a le ok c0 (z 1) rfl x2, rP_fx a le ok c0 (z 3) rfl rfl rfl x3, rY_fx a le ok c0 (z 6) hB rfl rfl x4, rM_fx a le ok c0 (z 5) hB rfl rfl (fun _ _ _ _ _ _ => rfl) x5, rG_fx a le ok c0 (z 4) hB rfl (fun _ _ _ => rfl) rfl x6, rT_fx a le ok c0 (z 7) hB rfl rfl x7, rH_fx a le ok c0 (z 8) rfl x8, rE_fx a le ok c0 (z 9) hB rfl rfl x9, rR_fx a le ok c0 (z 10) rfl rfl (fun _ _ _ _ _ _ => rfl) x10⟩
