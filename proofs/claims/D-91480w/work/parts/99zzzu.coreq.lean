set_option maxRecDepth 100000
/-! rows that differ behind the ends of pieces alone -/
def eqR (v v' : Int → Int) : Prop := (∀ j, j < 165 ∨ 645 ≤ j → v' j = v j) ∧ ∀ k i, 0 ≤ k → k < 40 → 0 ≤ i → i < v (125 + k) → v' (165 + 12 * k + i) = v (165 + 12 * k + i)
section
variable {v v' w : Int → Int} {me le mo co n i : Int} {B L : Int → Int}
theorem eq_ew (E : eqR v v') {z : Int} (hz : z < 40) : ew v' z ↔ ew v z := by
  unfold ew
  rw [E.1 1 (by omega), E.1 (85 + z) (by omega), E.1 (86 + z) (by omega)]
theorem eq_pwd (E : eqR v v') {k : Int} (hk : 0 ≤ k ∧ k < 40) : pwd v' w k = pwd v w k := by
  unfold pwd
  rw [E.1 (125 + k) (by omega)]
  refine sg_ext _ _ (fun j a b => ?_)
  show w (v' (165 + 12 * k + j)) = w (v (165 + 12 * k + j))
  rw [E.2 k j hk.1 hk.2 a (by omega)]
theorem eq_wd (E : eqR v v') {a z : Int} (ha : 0 ≤ a) (hz : z < 40) : wd v' w a z = wd v w a z := by
  have e : (if ew v' z then (0 : Int) else w 26) = if ew v z then 0 else w 26 := by
    by_cases c : ew v z
    · rw [if_pos c, if_pos ((eq_ew E hz).2 c)]
    · rw [if_neg c, if_neg (fun y => c ((eq_ew E hz).1 y))]
  unfold wd
  rw [e]
  congr 1
  exact sg_ext _ _ (fun j a' b => eq_pwd E ⟨by omega, by omega⟩)
theorem eq_tgt (E : eqR v v') {a z : Int} (ha : 0 ≤ a) (haz : a ≤ z) (hz : z < 40) : tgt v' w le a z = tgt v w le a z := by
  unfold tgt
  rw [eq_wd E ha hz, E.1 (85 + z) (by omega), E.1 (85 + a) (by omega)]
theorem eq_stn (E : eqR v v') {a z : Int} (ha : 0 ≤ a) (haz : a ≤ z) (hz : z < 40) : stn v' w me le mo a z ↔ stn v w me le mo a z := by
  unfold stn
  rw [eq_tgt E ha haz hz, eq_wd E ha hz, E.1 1 (by omega), E.1 (85 + z) (by omega), E.1 (85 + a) (by omega)]
theorem eq_bdn (E : eqR v v') {a z : Int} (ha : 0 ≤ a) (haz : a ≤ z) (hz : z < 40) : bdn v' w me le co a z = bdn v w me le co a z := by
  have e : (if ew v' z then (0 : Int) else co) = if ew v z then 0 else co := by
    by_cases c : ew v z
    · rw [if_pos c, if_pos ((eq_ew E hz).2 c)]
    · rw [if_neg c, if_neg (fun y => c ((eq_ew E hz).1 y))]
  unfold bdn
  rw [eq_tgt E ha haz hz, e]
  have e1 := E.1 1 (by omega)
  by_cases c : z = v 1 - 1
  · rw [if_pos c, if_pos (show z = v' 1 - 1 by omega)]
  · rw [if_neg c, if_neg (show ¬ z = v' 1 - 1 by omega)]
theorem eq_stp (E : eqR v v') (hi : 0 ≤ i) (hn : n ≤ 40) : ∀ t : Nat, i + t ≤ n → stp v' w me le mo co B L n i t = stp v w me le mo co B L n i t
  | 0, _ => rfl
  | t + 1, ht => by
    have ih := eq_stp E hi hn t (by omega)
    have es := eq_stn (w := w) (me := me) (le := le) (mo := mo) E hi (z := n - t - 1) (by omega) (by omega)
    have eb := eq_bdn (w := w) (me := me) (le := le) (co := co) E hi (z := n - t - 1) (by omega) (by omega)
    show (if B (n - t) = -1 ∨ ¬ stn v' w me le mo i (n - t - 1) then stp v' w me le mo co B L n i t else if (stp v' w me le mo co B L n i t).1 ≠ -1 ∧ ((stp v' w me le mo co B L n i t).1 < B (n - t) + bdn v' w me le co i (n - t - 1) ∨ B (n - t) + bdn v' w me le co i (n - t - 1) = (stp v' w me le mo co B L n i t).1 ∧ (stp v' w me le mo co B L n i t).2.1 ≤ L (n - t) + 1) then stp v' w me le mo co B L n i t else (B (n - t) + bdn v' w me le co i (n - t - 1), L (n - t) + 1, n - t)) = (if B (n - t) = -1 ∨ ¬ stn v w me le mo i (n - t - 1) then stp v w me le mo co B L n i t else if (stp v w me le mo co B L n i t).1 ≠ -1 ∧ ((stp v w me le mo co B L n i t).1 < B (n - t) + bdn v w me le co i (n - t - 1) ∨ B (n - t) + bdn v w me le co i (n - t - 1) = (stp v w me le mo co B L n i t).1 ∧ (stp v w me le mo co B L n i t).2.1 ≤ L (n - t) + 1) then stp v w me le mo co B L n i t else (B (n - t) + bdn v w me le co i (n - t - 1), L (n - t) + 1, n - t))
    rw [ih, eb]
    by_cases c : B (n - t) = -1 ∨ ¬ stn v w me le mo i (n - t - 1)
    · rw [if_pos c, if_pos (c.elim Or.inl (fun y => Or.inr (fun q => y (es.1 q))))]
    · rw [if_neg c, if_neg (fun y => c (y.elim Or.inl (fun q => Or.inr (fun u => q (es.2 u)))))]
theorem eq_tb (E : eqR v v') (hn : n ≤ 40) : ∀ r : Nat, (r : Int) ≤ n → tb v' w me le mo co n r = tb v w me le mo co n r
  | 0, _ => rfl
  | r + 1, hr => by
    have ih := eq_tb E hn r (by omega)
    show am_uz (tb v' w me le mo co n r) (n - (r + 1)) (stp v' w me le mo co (fun j => (tb v' w me le mo co n r j).1) (fun j => (tb v' w me le mo co n r j).2.1) n (n - (r + 1)) (r + 1)) = am_uz (tb v w me le mo co n r) (n - (r + 1)) (stp v w me le mo co (fun j => (tb v w me le mo co n r j).1) (fun j => (tb v w me le mo co n r j).2.1) n (n - (r + 1)) (r + 1))
    rw [ih, eq_stp E (by omega) hn (r + 1) (by omega)]
theorem eq_pcp (E : eqR v v') {k : Int} (hk : 0 ≤ k ∧ k < 40) : ∀ m : Nat, (m : Int) ≤ v (125 + k) → pcp v' k m = pcp v k m
  | 0, _ => rfl
  | m + 1, hm => by
    show pcp v' k m ++ [97 + v' (165 + 12 * k + (m : Int))] = pcp v k m ++ [97 + v (165 + 12 * k + (m : Int))]
    rw [eq_pcp E hk m (by omega), E.2 k m hk.1 hk.2 (by omega) (by omega)]
theorem eq_sayN (E : eqR v v') (ho : okP v) {a : Int} (ha : 0 ≤ a) : ∀ m : Nat, a + m ≤ 40 → sayN v' a m = sayN v a m
  | 0, _ => rfl
  | m + 1, hm => by
    have k0 := (ho.2.1 (a + m) (by omega) (by omega)).1
    show sayN v' a m ++ sep v' a (a + (m : Int)) ++ pcp v' (a + (m : Int)) (v' (125 + (a + (m : Int)))).toNat = sayN v a m ++ sep v a (a + (m : Int)) ++ pcp v (a + (m : Int)) (v (125 + (a + (m : Int)))).toNat
    have e : sep v' a (a + (m : Int)) = sep v a (a + (m : Int)) := by
      unfold sep
      rw [E.1 (85 + (a + m)) (by omega), E.1 (84 + (a + m)) (by omega)]
    rw [eq_sayN E ho ha m (by omega), e, E.1 (125 + (a + m)) (by omega), eq_pcp E ⟨by omega, by omega⟩ _ (by omega)]
theorem eq_say (E : eqR v v') (ho : okP v) {a z : Int} (ha : 0 ≤ a) (haz : a ≤ z + 1) (hz : z < 40) : say v' a z = say v a z := by
  unfold say
  rw [eq_sayN E ho ha _ (by omega)]
  congr 1
  by_cases c : ew v z
  · rw [if_pos c, if_pos ((eq_ew E hz).2 c)]
  · rw [if_neg c, if_neg (fun y => c ((eq_ew E hz).1 y))]
theorem eq_lnS (E : eqR v v') (ho : okP v) {l : Int} (hl : 0 ≤ l ∧ l < 40) (hb : 0 ≤ bg v l ∧ bg v l ≤ v (5 + l)) (he : v (5 + l) < 40) : lnS v' l = lnS v l := by
  have e : bg v' l = bg v l := by
    unfold bg
    rw [E.1 (4 + l) (by omega)]
  unfold lnS
  rw [e, E.1 (5 + l) (by omega)]
  exact eq_say E ho hb.1 (by omega) he
theorem eq_iPc {h : am_H} {Lb : am_Lb} {a : Nat} (E : eqR v v') (ho : okP v) (x : iPc h Lb a v) : iPc h Lb a v' := by
  obtain ⟨⟨x1, x2, x3, x4⟩, x5, x6⟩ := x
  have o1 := ho.1
  have e1 := E.1 1 (by omega)
  refine ⟨⟨x1, by rw [e1]; exact x2, fun k k0 k1 => ?_, x4⟩, x5, fun k k0 k1 => x6 k k0 (by rw [← e1]; exact k1)⟩
  rw [e1] at k1
  obtain ⟨y1, y2, y3, y4⟩ := x3 k k0 k1
  refine ⟨y1, ?_, ⟨y3.1, by rw [E.1 (125 + k) (by omega)]; exact y3.2.1, fun i i0 i1 => ?_⟩, y4⟩
  · rw [y2]
    unfold am_b
    by_cases c : ew v k
    · rw [if_pos c, if_pos ((eq_ew E (by omega)).2 c)]
    · rw [if_neg c, if_neg (fun y => c ((eq_ew E (by omega)).1 y))]
  · rw [E.1 (125 + k) (by omega)] at i1
    have q := y3.2.2 i i0 i1
    show am_ai h (am_fr h 189 (am_fr h 108 (am_ar h a k))) i = 97 + v' (165 + 12 * k + i)
    rw [E.2 k i k0 (by omega) i0 i1]
    exact q
end
/-- states that differ so at one part -/
def eqS (S S' : am_G) (p : Int) : Prop := (∀ c, c ≠ 3 → S' c = S c) ∧ (∀ q, q ≠ p → S' 3 q = S 3 q) ∧ eqR (S 3 p) (S' 3 p)
theorem Nt_eqS {h : am_H} {L : am_Lb} {x P N : Nat} {S S' : am_G} {B p : Int} (e : eqS S S' p) (pb : 0 ≤ p ∧ p < 100) (ho : isP S p → okP (S 3 p)) (hl : isP S p → S 3 p 3 ≠ 0 → 0 ≤ S 3 p 4 ∧ S 3 p 4 ≤ 40 ∧ ∀ l, 0 ≤ l → l < S 3 p 4 → (0 ≤ bg (S 3 p) l ∧ bg (S 3 p) l ≤ S 3 p (5 + l)) ∧ S 3 p (5 + l) < 40) (t : Nt h L x P N S B) : Nt h L x P N S' B := by
  obtain ⟨e1, e3, E⟩ := e
  have x3 := t.2.2.2.1.2.2.1
  have e0 := e1 0 (by decide)
  have e2 := e1 2 (by decide)
  have e5 := e1 5 (by decide)
  refine Nt_3 (X := fun _ => False) t (Int.le_refl _) fx_refl leL_refl t.1 (fun _ _ z => z.elim) (fun c c3 _ => e1 c c3) (fun j => by rw [e0]) e2 (fun k i _ _ _ _ => ?_) ⟨x3.1, x3.2.1, fun q q0 q1 => ?_⟩
  · unfold bhd
    rw [e5]
    by_cases c : S 5 k (33 + 5 * i) = p
    · rw [c, E.1 3 (by omega), E.1 4 (by omega)]
    · rw [e3 _ c]
  · have y := x3.2.2 q q0 q1
    have iP : isP S' q ↔ isP S q := by
      unfold isP
      rw [e0, e2]
    refine ⟨fun z => y.1 (fun u => z (iP.2 u)), fun z => ?_⟩
    have yq := y.2 (iP.1 z)
    by_cases c : q = p
    · have ip := iP.1 z
      rw [c] at yq ip ⊢
      obtain ⟨g1, g2, g3, g4, g5, g6, g7, g8, g9⟩ := yq
      unfold rPt
      rw [e2, E.1 0 (by omega), E.1 2 (by omega), E.1 3 (by omega), E.1 4 (by omega)]
      refine ⟨g1, g2, g3, g4, g5, g6, eq_iPc E (ho ip) g7, g8, fun s3 => ?_⟩
      obtain ⟨z1, z2, z3, z4, z5⟩ := g9 s3
      obtain ⟨l0, l1, l2⟩ := hl ip s3
      refine ⟨⟨z1.1, z1.2.1, z1.2.2.1, z1.2.2.2.1, z1.2.2.2.2.1, fun l a b => ?_⟩, ⟨z2.1, z2.2.1, z2.2.2.1, ?_, fun l a b => ?_⟩, z3, z4, fun l a b => ?_⟩
      · show _ = S' 3 p (5 + l)
        rw [E.1 (5 + l) (by omega)]
        exact z1.2.2.2.2.2 l a b
      · rw [E.1 4 (by omega)]
        exact z2.2.2.2.1
      · rw [E.1 4 (by omega)] at b
        have q := l2 l a b
        rw [eq_lnS E (ho ip) ⟨a, by omega⟩ q.1 q.2]
        exact z2.2.2.2.2 l a b
      · rw [E.1 (45 + l) (by omega)]
        exact z5 l a b
    · unfold rPt at yq ⊢
      rw [e2, e3 q c]
      exact yq
