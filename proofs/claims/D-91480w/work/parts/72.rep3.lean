set_option maxRecDepth 100000
/-- the paper, of owner x -/
def rPap (h : am_H) (L : am_Lb) (x P : Nat) : Prop := nd h L P 2 x 1 0 0 ∧ (nd h L (am_fr h 12 P) 101 x 1 1 0 ∧ am_ln h (am_fr h 12 P) = 41) ∧ (nd h L (am_fr h 13 P) 101 x 1 2 0 ∧ am_ln h (am_fr h 13 P) = 41) ∧ (nd h L (am_fr h 14 P) 101 x 1 3 0 ∧ am_ln h (am_fr h 14 P) = 41) ∧ nd h L (am_fr h 15 P) 29 x 1 4 0 ∧ nd h L (am_fr h 185 (am_fr h 15 P)) 102 x 1 5 0 ∧ am_ln h (am_fr h 185 (am_fr h 15 P)) ≤ 1000 ∧ ∃ l, xB h (am_fr h 15 P) l ∧ (l.length : Int) ≤ 1000
theorem rPap_fx {X : Nat → Prop} {h h' : am_H} {L L' : am_Lb} {x P : Nat} (a : fx X h h') (le : leL h L L') (hz : ∀ q, q ≤ am_sz h → X q → ¬ ((L q).1 = x ∧ (L q).2.1 = 1)) (y : rPap h L x P) : rPap h' L' x P := by
  obtain ⟨y1, y2, y3, y4, y5, y6, y7, l, y8, y9⟩ := y
  have nn : ∀ q t k, nd h L q t x 1 k 0 → ¬ X q := fun q t k n z => hz q n.2.1 z (by rw [n.2.2.2]; exact ⟨rfl, rfl⟩)
  have w1 := nd_fx a le y1 (nn _ _ _ y1)
  have w2 := nd_fx a le y2.1 (nn _ _ _ y2.1)
  have w3 := nd_fx a le y3.1 (nn _ _ _ y3.1)
  have w4 := nd_fx a le y4.1 (nn _ _ _ y4.1)
  have w5 := nd_fx a le y5 (nn _ _ _ y5)
  have w6 := nd_fx a le y6 (nn _ _ _ y6)
  unfold rPap
  rw [w1.2.2.2.1, w1.2.2.2.1, w1.2.2.2.1, w1.2.2.2.1, w5.2.2.2.1, w2.2.1, w3.2.1, w4.2.1, w6.2.1]
  refine ⟨w1.1, ⟨w2.1, y2.2⟩, ⟨w3.1, y3.2⟩, ⟨w4.1, y4.2⟩, w5.1, w6.1, y7, l, ?_, y9⟩
  unfold xB at y8 ⊢
  rw [w5.1.1, w5.2.2.2.1, w6.1.1, w5.2.2.1, w5.2.2.1, w6.2.1, w6.2.2.2.2.1]
  exact ⟨rfl, rfl, y8.2.2.1, y8.2.2.2.1, y8.2.2.2.2.1, ⟨w5.1.2.1, w6.1.2.1⟩, y8.2.2.2.2.2.2⟩
theorem okLb_fx {X : Nat → Prop} {h h' : am_H} {L : am_Lb} (a : fx X h h') (ok : okLb h L) : okLb h' L := by
  obtain ⟨o1, o2, o3⟩ := ok
  refine ⟨(a.2.2.2 0 (Nat.zero_le _)).1.trans o1, fun q hq t => ?_, fun q hq => o3 q (Nat.lt_of_le_of_lt a.1 hq)⟩
  by_cases c : q ≤ am_sz h
  · rw [(a.2.2.2 q c).1] at t
    exact o2 q c t
  · exact o3 q (by omega)
/-- A NIGHT N of the room x, on the paper P, in state S -/
def Nt (h : am_H) (L : am_Lb) (x P N : Nat) (S : am_G) (B : Int) : Prop := okLb h L ∧ (am_ty h (am_cs h 0) = 134 ∧ am_cs h 0 ≤ am_sz h ∧ am_ln h (am_cs h 0) = 0) ∧ rPap h L x P ∧ Rep h L N P S B ∧ (x ≠ N ∧ x ≠ 0 ∧ N ≠ 0)
/-- what a call leaves: cells of the night and the paper may be others, dz cells and du slots are new -/
def Out (h : am_H) (L : am_Lb) (x N : Nat) (h' : am_H) (L' : am_Lb) (dz du : Nat) : Prop := fx (fun q => (L q).1 = N ∨ ((L q).1 = x ∧ (L q).2.1 = 1)) h h' ∧ leL h L L' ∧ (am_sz h' ≤ am_sz h + dz ∧ am_us h' ≤ am_us h + du) ∧ ∀ q, am_sz h < q → (L' q).1 = 0 ∨ (L' q).1 = N ∨ (L' q).1 = x
theorem cs_fx {X : Nat → Prop} {h h' : am_H} (a : fx X h h') (c : am_ty h (am_cs h 0) = 134 ∧ am_cs h 0 ≤ am_sz h ∧ am_ln h (am_cs h 0) = 0) : am_ty h' (am_cs h' 0) = 134 ∧ am_cs h' 0 ≤ am_sz h' ∧ am_ln h' (am_cs h' 0) = 0 := by
  rw [a.2.2.1]
  exact ⟨(a.2.2.2 _ c.2.1).1.trans c.1, Nat.le_trans c.2.1 a.1, (a.2.2.2 _ c.2.1).2.1.trans c.2.2⟩
/-- nothing old is changed -/
theorem Nt_fx0 {h h' : am_H} {L : am_Lb} {x P N : Nat} {S : am_G} {B : Int} (a : fx (fun _ => False) h h') (t : Nt h L x P N S B) : Nt h' L x P N S B := by
  obtain ⟨t1, t2, t3, t4, t5⟩ := t
  exact ⟨okLb_fx a t1, cs_fx a t2, rPap_fx a leL_refl (fun _ _ z => z.elim) t3, Rep_fx (Int.le_refl _) a leL_refl t1 t2.1 (fun _ _ z => z.elim) t4, t5⟩
theorem Out_fx0 {h h' : am_H} {L : am_Lb} {x N dz du : Nat} (ok : okLb h L) (a : fx (fun _ => False) h h') (z : am_sz h' ≤ am_sz h + dz) (u : am_us h' ≤ am_us h + du) : Out h L x N h' L dz du := ⟨fx_sub a (fun _ _ z => z.elim), leL_refl, ⟨z, u⟩, fun q hq => Or.inl (ok.2.2 q hq)⟩
theorem Out_X {X : Nat → Prop} {h h' : am_H} {L : am_Lb} {x N dz du : Nat} (ok : okLb h L) (a : fx X h h') (hX : ∀ q, q ≤ am_sz h → X q → (L q).1 = N ∨ ((L q).1 = x ∧ (L q).2.1 = 1)) (z : am_sz h' ≤ am_sz h + dz) (u : am_us h' ≤ am_us h + du) : Out h L x N h' L dz du := ⟨fx_sub a hX, leL_refl, ⟨z, u⟩, fun q hq => Or.inl (ok.2.2 q hq)⟩
theorem fx0_new {h : am_H} {t n : Nat} : fx (fun _ => False) h (am_new h t n) := fx_new fx_refl
theorem Rep_mk {h h' : am_H} {L' : am_Lb} {N P : Nat} {S' : am_G} {B' : Int} (hN : ∀ f, am_fr h' f N = am_fr h f N) (y : rN h' L' N P S' ∧ rW h' L' N (am_fr h 19 N) S' ∧ rP h' L' N (am_fr h 20 N) S' ∧ rY h' L' N (am_fr h 22 N) S' B' ∧ rM h' L' N (am_fr h 23 N) S' B' ∧ rG h' L' N (am_fr h 25 N) S' B' ∧ rT h' L' N (am_fr h 26 N) S' B' ∧ rH h' L' N (am_fr h 27 N) S' ∧ rE h' L' N (am_fr h 28 N) S' B' ∧ rR h' L' N (am_fr h 30 N) (am_fr h 31 N) S') : Rep h' L' N P S' B' := by
  unfold Rep
  rw [hN, hN, hN, hN, hN, hN, hN, hN, hN, hN]
  exact y
/-- cells of one group alone are changed -/
theorem zfg {X : Nat → Prop} {h : am_H} {L : am_Lb} {N G : Nat} (n0 : N ≠ 0) (hX : ∀ q, q ≤ am_sz h → X q → (L q).1 = N ∧ (L q).2.1 = G) : ∀ g, g ≠ G → ∀ q, q ≤ am_sz h → X q → zf L N g q := fun g ng q hq z => ⟨by rw [(hX q hq z).1]; exact n0, fun w => ng (w.2.symm.trans (hX q hq z).2)⟩
theorem Nt_mk {X : Nat → Prop} {h h' : am_H} {L : am_Lb} {x P N G : Nat} {S S' : am_G} {B B' : Int} (t : Nt h L x P N S B) (a : fx X h h') (hX : ∀ q, q ≤ am_sz h → X q → (L q).1 = N ∧ (L q).2.1 = G) (r : Rep h' L N P S' B') : Nt h' L x P N S' B' := by
  obtain ⟨t1, t2, t3, t4, t5⟩ := t
  exact ⟨okLb_fx a t1, cs_fx a t2, rPap_fx a leL_refl (fun q hq z w => t5.1 (w.1.symm.trans (hX q hq z).1)) t3, r, t5⟩
theorem Out_G {X : Nat → Prop} {h h' : am_H} {L : am_Lb} {x N G dz du : Nat} (ok : okLb h L) (a : fx X h h') (hX : ∀ q, q ≤ am_sz h → X q → (L q).1 = N ∧ (L q).2.1 = G) (z : am_sz h' ≤ am_sz h + dz) (u : am_us h' ≤ am_us h + du) : Out h L x N h' L dz du := Out_X ok a (fun q hq z => Or.inl (hX q hq z).1) z u
theorem u3_r {S : am_G} {c c' : Nat} {p i v : Int} (h : c' ≠ c) : u3 S c p i v c' = S c' := by
  funext p' i'
  exact u3_nc h
theorem u3_rp {S : am_G} {c c' : Nat} {p i v p' : Int} (h : p' ≠ p) : u3 S c p i v c' p' = S c' p' := by
  funext i'
  exact u3_np h
/-- one cell -/
theorem nd_one {h : am_H} {L : am_Lb} {q t N g k : Nat} {i : Int} (n : nd h L q t N g k i) : ∀ c, c ≤ am_sz h → c = q → (L c).1 = N ∧ (L c).2.1 = g := fun c _ e => by
  rw [e, n.2.2.2]
  exact ⟨rfl, rfl⟩
