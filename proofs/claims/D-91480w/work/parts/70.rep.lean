set_option maxRecDepth 100000
/-! THE COMPONENT'S STATE: labels of cells (owner, group, kind, index); owner 0: never changed -/
abbrev am_Lb : Type := Nat → Nat × Nat × Nat × Int
/-- tags of what is never changed -/
def imT (t : Nat) : Prop := t = 8 ∨ (11 ≤ t ∧ t ≤ 20) ∨ t = 25 ∨ t = 27 ∨ t = 30 ∨ t = 90 ∨ t = 115 ∨ t = 116 ∨ 121 ≤ t
def okLb (h : am_H) (L : am_Lb) : Prop := am_ty h 0 = 0 ∧ (∀ q, q ≤ am_sz h → imT (am_ty h q) → (L q).1 = 0) ∧ ∀ q, am_sz h < q → (L q).1 = 0
def leL (h : am_H) (L L' : am_Lb) : Prop := ∀ q, q ≤ am_sz h → L' q = L q
/-- what may be changed beside group g of owner o -/
def zf (L : am_Lb) (o g : Nat) (q : Nat) : Prop := (L q).1 ≠ 0 ∧ ¬ ((L q).1 = o ∧ (L q).2.1 = g)
theorem leL_refl {h : am_H} {L : am_Lb} : leL h L L := fun _ _ => rfl
theorem okLb_im {h : am_H} {L : am_Lb} (ok : okLb h L) {q : Nat} (hq : q ≤ am_sz h) {o g : Nat} (z : zf L o g q) : ¬ imT (am_ty h q) := fun t => z.1 (ok.2.1 q hq t)
/-- a cell: tag, label -/
def nd (h : am_H) (L : am_Lb) (q t : Nat) (o g k : Nat) (i : Int) : Prop := am_ty h q = t ∧ q ≤ am_sz h ∧ q ≠ 0 ∧ L q = (o, g, k, i)
theorem nd_fx {X : Nat → Prop} {h h' : am_H} {L L' : am_Lb} (a : fx X h h') (le : leL h L L') {q t o g k : Nat} {i : Int} (n : nd h L q t o g k i) (hX : ¬ X q) : nd h' L' q t o g k i ∧ am_ln h' q = am_ln h q ∧ (∀ f, am_fi h' f q = am_fi h f q) ∧ (∀ f, am_fr h' f q = am_fr h f q) ∧ am_ai h' q = am_ai h q ∧ am_ar h' q = am_ar h q := by
  obtain ⟨n1, n2, n3, n4⟩ := n
  obtain ⟨a1, a2, a3⟩ := a.2.2.2 q n2
  obtain ⟨c1, c2, c3, c4⟩ := a3 hX
  exact ⟨⟨a1.trans n1, Nat.le_trans n2 a.1, n3, (le q n2).trans n4⟩, a2, c1, c2, c3, c4⟩
theorem nd_zf {h : am_H} {L : am_Lb} {q t o g k : Nat} {i : Int} (n : nd h L q t o g k i) : ¬ zf L o g q := fun z => z.2 (by rw [n.2.2.2]; exact ⟨rfl, rfl⟩)
theorem z0 {L : am_Lb} {o g q : Nat} (e : (L q).1 = 0) : ¬ zf L o g q := fun z => z.1 e
/-! what is never changed -/
theorem xCd_fi {X : Nat → Prop} {h h' : am_H} {L L' : am_Lb} (a : fx X h h') (hX : ∀ q, q ≤ am_sz h → X q → ¬ imT (am_ty h q)) : ∀ (n c : Nat) (val : (Int → Int) → (Int → Int) → Int), xCd h n c val → xCd h' n c val
  | 0, _, _, x => x.elim
  | n + 1, c, val, x => by
    have ih := xCd_fi a hX n (L := L) (L' := L')
    obtain ⟨a1, a2, a3⟩ := a.2.2.2 c x.1
    have hn : ¬ X c := fun z => hX c x.1 z (by
      unfold imT
      rcases x.2 with ⟨t, _⟩ | ⟨t, _⟩ | ⟨t, _⟩ | ⟨t, _⟩ | ⟨t, _⟩ | ⟨t, _⟩ | ⟨t, _⟩ <;> omega)
    obtain ⟨c1, c2, c3, c4⟩ := a3 hn
    refine ⟨Nat.le_trans x.1 a.1, ?_⟩
    rw [a1, c2, c1, c1, c1, c2, c2, c2, c2]
    rcases x.2 with ⟨t, v1, x1, e⟩ | x2 | x2 | x2 | x2 | ⟨t, v1, v2, x1, x2, e⟩ | ⟨t, v1, v2, x1, x2, e⟩
    · exact Or.inl ⟨t, v1, ih _ _ x1, e⟩
    · exact Or.inr (Or.inl x2)
    · exact Or.inr (Or.inr (Or.inl x2))
    · exact Or.inr (Or.inr (Or.inr (Or.inl x2)))
    · exact Or.inr (Or.inr (Or.inr (Or.inr (Or.inl x2))))
    · exact Or.inr (Or.inr (Or.inr (Or.inr (Or.inr (Or.inl ⟨t, v1, v2, ih _ _ x1, ih _ _ x2, e⟩)))))
    · exact Or.inr (Or.inr (Or.inr (Or.inr (Or.inr (Or.inr ⟨t, v1, v2, ih _ _ x1, ih _ _ x2, e⟩)))))
theorem xRl_fi {X : Nat → Prop} {h h' : am_H} {L L' : am_Lb} (a : fx X h h') (hX : ∀ q, q ≤ am_sz h → X q → ¬ imT (am_ty h q)) {r n : Nat} {val : (Int → Int) → (Int → Int) → Int} (x : xRl h r n val) : xRl h' r n val := by
  obtain ⟨x1, x2, x3, x4⟩ := x
  obtain ⟨a1, a2, a3⟩ := a.2.2.2 r x2
  obtain ⟨c1, c2, c3, c4⟩ := a3 (fun z => hX r x2 z (by unfold imT; omega))
  unfold xRl
  rw [a1, c2]
  exact ⟨x1, Nat.le_trans x2 a.1, x3, x4.elim Or.inl (fun y => Or.inr ⟨y.1, xCd_fi (L := L) (L' := L') a hX n _ _ y.2⟩)⟩
/-- a style, its list and row never changed -/
def iSt (h : am_H) (L : am_Lb) (s : Nat) (y : Int → Int) : Prop := xSt h s y ∧ (L (am_fr h 134 s)).1 = 0 ∧ (L (am_fr h 194 (am_fr h 134 s))).1 = 0 ∧ ∀ i j, 0 ≤ i → i < j → j < y 1 → am_ar h (am_fr h 194 (am_fr h 134 s)) i ≠ am_ar h (am_fr h 194 (am_fr h 134 s)) j
theorem iSt_fx {X : Nat → Prop} {h h' : am_H} {L L' : am_Lb} (a : fx X h h') (le : leL h L L') (hX : ∀ q, q ≤ am_sz h → X q → (L q).1 ≠ 0 ∧ ¬ imT (am_ty h q)) {s : Nat} {y : Int → Int} (x : iSt h L s y) : iSt h' L' s y := by
  obtain ⟨⟨x1, x2, x3, x4, x5, x6, x7, x8⟩, l1, l2, l3⟩ := x
  obtain ⟨a1, a2, a3⟩ := a.2.2.2 s x2
  obtain ⟨c1, c2, c3, c4⟩ := a3 (fun z => (hX s x2 z).2 (by unfold imT; omega))
  obtain ⟨b1, b2, b3⟩ := a.2.2.2 _ x5.2.2.2.2.1
  obtain ⟨d1, d2, d3, d4⟩ := b3 (fun z => (hX _ x5.2.2.2.2.1 z).1 l1)
  have hA := x5.2.2.2.2.2
  obtain ⟨e1, e2, e3⟩ := a.2.2.2 _ hA
  obtain ⟨f1, f2, f3, f4⟩ := e3 (fun z => (hX _ hA z).1 l2)
  have xl := xL_fx a (fun z => (hX _ x5.2.2.2.2.1 z).1 l1) x5
  unfold iSt xSt
  rw [a1, c1, c2, d1, d2, e1, f4, le _ x5.2.2.2.2.1, le _ hA]
  refine ⟨⟨x1, Nat.le_trans x2 a.1, x3, x4, xl.1, x6, x7, fun q q1 q2 => ?_⟩, l1, l2, l3⟩
  obtain ⟨y1, y2, y3, n, val, y4, y5, y6⟩ := x8 q q1 q2
  have yr := y5.2.1
  obtain ⟨g1, g2, g3⟩ := a.2.2.2 _ yr
  obtain ⟨k1, k2, k3, k4⟩ := g3 (fun z => (hX _ yr z).2 (by unfold imT; have := y5.1; omega))
  rw [k1, k1, k1]
  exact ⟨y1, y2, y3, n, val, y4, xRl_fi (L := L) (L' := L') a (fun q hq z => (hX q hq z).2) y5, y6⟩
def iSc (h : am_H) (L : am_Lb) (s : Nat) (n : Int) (f : Int → Int) : Prop := xSc h s n f ∧ (L (am_fr h 189 s)).1 = 0
theorem iSc_fx {X : Nat → Prop} {h h' : am_H} {L L' : am_Lb} (a : fx X h h') (le : leL h L L') (hX : ∀ q, q ≤ am_sz h → X q → (L q).1 ≠ 0 ∧ ¬ imT (am_ty h q)) {s : Nat} {n : Int} {f : Int → Int} (x : iSc h L s n f) : iSc h' L' s n f := by
  obtain ⟨⟨x1, x2, x3⟩, l1⟩ := x
  have s1 := x1.2.2.2.2.1
  have y := xS_fx a x1 (fun z => (hX _ s1.1 z).2 (by unfold imT; have := x1.1; omega)) (fun z => (hX _ s1.2 z).1 l1)
  unfold iSc xSc
  rw [y.2.1, y.2.2.1, y.2.2.2, le _ s1.2]
  exact ⟨⟨y.1, x2, x3⟩, l1⟩
def iSl (h : am_H) (L : am_Lb) (s : Nat) (m : List Int) : Prop := xSl h s m ∧ (L (am_fr h 189 s)).1 = 0
theorem iSl_fx {X : Nat → Prop} {h h' : am_H} {L L' : am_Lb} (a : fx X h h') (le : leL h L L') (hX : ∀ q, q ≤ am_sz h → X q → (L q).1 ≠ 0 ∧ ¬ imT (am_ty h q)) {s : Nat} {m : List Int} (x : iSl h L s m) : iSl h' L' s m := by
  obtain ⟨⟨x1, x2, x3⟩, l1⟩ := x
  have s1 := x1.2.2.2.2.1
  have y := xS_fx a x1 (fun z => (hX _ s1.1 z).2 (by unfold imT; have := x1.1; omega)) (fun z => (hX _ s1.2 z).1 l1)
  unfold iSl xSl
  rw [y.2.1, y.2.2.1, y.2.2.2, le _ s1.2]
  exact ⟨⟨y.1, x2, x3⟩, l1⟩
def iPc (h : am_H) (L : am_Lb) (a : Nat) (v : Int → Int) : Prop := xPc h a v ∧ a ≠ 0 ∧ ∀ k, 0 ≤ k → k < v 1 → (L (am_fr h 189 (am_fr h 108 (am_ar h a k)))).1 = 0
theorem iPc_fx {X : Nat → Prop} {h h' : am_H} {L L' : am_Lb} (a : fx X h h') (le : leL h L L') (hX : ∀ q, q ≤ am_sz h → X q → (L q).1 ≠ 0 ∧ ¬ imT (am_ty h q)) {r : Nat} {v : Int → Int} (x : iPc h L r v) : iPc h' L' r v := by
  obtain ⟨x, x0, l⟩ := x
  have a' : fx (fun q => q ≤ am_sz h ∧ X q) h h' := fx_sub a (fun q hq z => ⟨hq, z⟩)
  have y := xPc_fx2 a' (fun q z => by have := (hX q z.1 z.2).2; unfold imT at this; omega) x (fun k k1 k2 z => (hX _ z.1 z.2).1 (l k k1 k2))
  refine ⟨y.1, x0, fun k k1 k2 => ?_⟩
  rw [y.2.1, (y.2.2 k k1 k2).1, (y.2.2 k k1 k2).2, le _ (x.2.2.1 k k1 k2).2.2.1.1.2.2.2.2.1.2]
  exact l k k1 k2
/-- a row of numbers that is never changed -/
def iA (h : am_H) (L : am_Lb) (a : Nat) (n : Int) (f : Int → Int) : Prop := am_ty h a = 101 ∧ a ≤ am_sz h ∧ a ≠ 0 ∧ (L a).1 = 0 ∧ am_ln h a = n ∧ ∀ l, 0 ≤ l → l < n → am_ai h a l = f l
theorem iA_fx {X : Nat → Prop} {h h' : am_H} {L L' : am_Lb} (a : fx X h h') (le : leL h L L') (hX : ∀ q, q ≤ am_sz h → X q → (L q).1 ≠ 0) {r : Nat} {n : Int} {f : Int → Int} (x : iA h L r n f) : iA h' L' r n f := by
  obtain ⟨x1, x2, x3, x4, x5, x6⟩ := x
  obtain ⟨a1, a2, a3⟩ := a.2.2.2 r x2
  obtain ⟨c1, c2, c3, c4⟩ := a3 (fun z => hX r x2 z x4)
  unfold iA
  rw [a1, a2, c3, le r x2]
  exact ⟨x1, Nat.le_trans x2 a.1, x3, x4, x5, x6⟩
/-- the lines' strings -/
def iLi (h : am_H) (L : am_Lb) (a : Nat) (v : Int → Int) : Prop := am_ty h a = 116 ∧ a ≤ am_sz h ∧ a ≠ 0 ∧ am_ln h a = v 4 ∧ ∀ l, 0 ≤ l → l < v 4 → iSl h L (am_ar h a l) (lnS v l)
theorem iLi_fx {X : Nat → Prop} {h h' : am_H} {L L' : am_Lb} (a : fx X h h') (le : leL h L L') (hX : ∀ q, q ≤ am_sz h → X q → (L q).1 ≠ 0 ∧ ¬ imT (am_ty h q)) {r : Nat} {v : Int → Int} (x : iLi h L r v) : iLi h' L' r v := by
  obtain ⟨x1, x2, x3, x4, x5⟩ := x
  obtain ⟨a1, a2, a3⟩ := a.2.2.2 r x2
  obtain ⟨c1, c2, c3, c4⟩ := a3 (fun z => (hX r x2 z).2 (by unfold imT; omega))
  unfold iLi
  rw [a1, a2, c4]
  exact ⟨x1, Nat.le_trans x2 a.1, x3, x4, fun l l1 l2 => iSl_fx a le hX (x5 l l1 l2)⟩
/-- a list that grows: its label, that of its row, its length, bound of its changes -/
def rL (h : am_H) (L : am_Lb) (l o g k : Nat) (i n : Int) (B : Int) : Prop := xLm h l ∧ l ≠ 0 ∧ L l = (o, g, k, i) ∧ (0 < am_ln h (am_fr h 194 l) → L (am_fr h 194 l) = (o, g, k + 1, i)) ∧ am_fi h 195 l = n ∧ (0 ≤ am_fi h 193 l ∧ am_fi h 193 l ≤ B)
theorem rL_nz {h : am_H} {L : am_Lb} {l o g k : Nat} {i n B : Int} (ok : okLb h L) (c0 : am_ty h (am_cs h 0) = 134) (x : rL h L l o g k i n B) : ¬ zf L o g l ∧ ¬ zf L o g (am_fr h 194 l) := by
  obtain ⟨x1, x2, x3, x4, x5, x6⟩ := x
  refine ⟨fun z => z.2 (by rw [x3]; exact ⟨rfl, rfl⟩), fun z => ?_⟩
  by_cases c : 0 < am_ln h (am_fr h 194 l)
  · exact z.2 (by rw [x4 c]; exact ⟨rfl, rfl⟩)
  · have e := x1.2.2.1 (by have := x1.1.2.2.1; omega)
    have e2 := x1.1.2.2.2.2.2
    rw [e] at z e2
    exact z.1 (ok.2.1 _ e2 (by unfold imT; omega))
theorem rL_fx {X : Nat → Prop} {h h' : am_H} {L L' : am_Lb} (a : fx X h h') (le : leL h L L') {l o g k : Nat} {i n B B' : Int} (hB : B ≤ B') (x : rL h L l o g k i n B) (n1 : ¬ X l) (n2 : ¬ X (am_fr h 194 l)) : rL h' L' l o g k i n B' ∧ am_fr h' 194 l = am_fr h 194 l ∧ am_ar h' (am_fr h 194 l) = am_ar h (am_fr h 194 l) := by
  obtain ⟨⟨x1, x7, x8, x9⟩, x2, x3, x4, x5, x6⟩ := x
  have y := xL_fx a n1 x1
  obtain ⟨v1, v2, v3, v4, v5, v6⟩ := x1
  obtain ⟨a1, a2, a3⟩ := a.2.2.2 l v5
  obtain ⟨c1, c2, c3, c4⟩ := a3 n1
  obtain ⟨b1, b2, b3⟩ := a.2.2.2 _ v6
  obtain ⟨d1, d2, d3, d4⟩ := b3 n2
  unfold rL xLm
  rw [y.2.1, y.2.2, b1, b2, a.2.2.1, c1 193, le l v5, le _ v6]
  exact ⟨⟨⟨y.1, x7, x8, x9⟩, x2, x3, x4, x5, x6.1, Int.le_trans x6.2 hB⟩, rfl, d4⟩
