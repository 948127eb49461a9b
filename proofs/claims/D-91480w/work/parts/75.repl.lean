set_option maxRecDepth 100000
/-! changes of one slug, of the places of one part, of one machine, as laws of Nt -/
theorem sg_c {f g : Int → Int} {i : Int} : ∀ n : Nat, (∀ k, i ≤ k → k < i + n → f k = g k) → sg f i n = sg g i n
  | 0, _ => rfl
  | n + 1, h => by
    show f i + sg f (i + 1) n = g i + sg g (i + 1) n
    rw [sg_c n (fun k a b => h k (by omega) (by omega)), h i (by omega) (by omega)]
theorem lsG_c2 {S S' : am_G} (e1 : ∀ s, S' 4 s 1 = S 4 s 1) (e2 : ∀ s, S' 4 s 2 = S 4 s 2) {k mi : Int} : ∀ n : Nat, lsG S' k mi n = lsG S k mi n
  | 0 => rfl
  | n + 1 => by
    unfold lsG
    rw [e1, e2, lsG_c2 e1 e2 n]
theorem crN_c2 {S S' : am_G} (e : ∀ s, S' 4 s 7 = S 4 s 7) (e0 : S' 0 0 4 = S 0 0 4) : crN S' = crN S := by
  unfold crN
  rw [e0]
  exact sg_c _ (fun k _ _ => by show am_b (S' 4 k 7 = 1) = am_b (S 4 k 7 = 1); rw [e])
theorem pcp_c {v v' : Int → Int} (e : ∀ o, 85 ≤ o → v' o = v o) {k : Int} (hk : 0 ≤ k) : ∀ n : Nat, pcp v' k n = pcp v k n
  | 0 => rfl
  | n + 1 => by
    show pcp v' k n ++ [97 + v' (165 + 12 * k + (n : Int))] = pcp v k n ++ [97 + v (165 + 12 * k + (n : Int))]
    rw [pcp_c e hk n, e _ (by omega)]
theorem sep_c {v v' : Int → Int} (e : ∀ o, 85 ≤ o → v' o = v o) {a k : Int} (ha : 0 ≤ a) : sep v' a k = sep v a k := by
  unfold sep
  by_cases c : a < k
  · rw [e (85 + k) (by omega), e (84 + k) (by omega)]
  · rw [if_neg (fun z => c z.1), if_neg (fun z => c z.1)]
theorem sayN_c {v v' : Int → Int} (e : ∀ o, 85 ≤ o → v' o = v o) {a : Int} (ha : 0 ≤ a) : ∀ n : Nat, sayN v' a n = sayN v a n
  | 0 => rfl
  | n + 1 => by
    show sayN v' a n ++ sep v' a (a + (n : Int)) ++ pcp v' (a + (n : Int)) (v' (125 + (a + (n : Int)))).toNat = sayN v a n ++ sep v a (a + (n : Int)) ++ pcp v (a + (n : Int)) (v (125 + (a + (n : Int)))).toNat
    rw [sayN_c e ha n, sep_c e ha, e (125 + (a + (n : Int))) (by omega), pcp_c e (by omega)]
theorem ew_c {v v' : Int → Int} (e : ∀ o, 85 ≤ o → v' o = v o) (e1 : v' 1 = v 1) {z : Int} (hz : 0 ≤ z) : ew v' z ↔ ew v z := by
  unfold ew
  rw [e1, e _ (by omega), e _ (by omega)]
theorem say_c {v v' : Int → Int} (e : ∀ o, 85 ≤ o → v' o = v o) (e1 : v' 1 = v 1) {a z : Int} (ha : 0 ≤ a) (hz : 0 ≤ z) : say v' a z = say v a z := by
  unfold say
  rw [sayN_c e ha]
  by_cases c : ew v z
  · rw [if_pos c, if_pos ((ew_c e e1 hz).mpr c)]
  · rw [if_neg c, if_neg (fun q => c ((ew_c e e1 hz).mp q))]
theorem lnS_c {v v' : Int → Int} (e : ∀ o, o < 45 ∨ 85 ≤ o → v' o = v o) {l : Int} (hl : 0 ≤ l ∧ l < 40) (ha : 0 ≤ bg v l) (hz : 0 ≤ v (5 + l)) : lnS v' l = lnS v l := by
  have b : bg v' l = bg v l := by
    unfold bg
    rw [e (4 + l) (by omega)]
  unfold lnS
  rw [b, e (5 + l) (by omega)]
  exact say_c (fun o ho => e o (Or.inr ho)) (e 1 (by omega)) ha hz
theorem iPc_c {h : am_H} {L : am_Lb} {a : Nat} {v v' : Int → Int} (e : ∀ o, o < 45 ∨ 85 ≤ o → v' o = v o) (x : iPc h L a v) : iPc h L a v' := by
  obtain ⟨⟨x1, x2, x3, x4⟩, x5, x6⟩ := x
  have e1 := e 1 (by omega)
  unfold iPc xPc
  refine ⟨⟨x1, x2.trans e1.symm, fun k k1 k2 => ?_, x4⟩, x5, fun k k1 k2 => x6 k k1 (by omega)⟩
  rw [e1] at k2
  obtain ⟨y1, y2, ⟨y3, y4, y5⟩, y6⟩ := x3 k k1 k2
  rw [e (125 + k) (by omega)]
  refine ⟨y1, y2.trans (am_bc (ew_c (fun o ho => e o (Or.inr ho)) e1 k1).symm), ⟨y3, y4, fun i i1 i2 => ?_⟩, y6⟩
  rw [y5 i i1 i2]
  show 97 + v (165 + 12 * k + i) = 97 + v' (165 + 12 * k + i)
  rw [e (165 + 12 * k + i) (by omega)]
theorem iLi_c {h : am_H} {L : am_Lb} {a : Nat} {v v' : Int → Int} (e : ∀ o, o < 45 ∨ 85 ≤ o → v' o = v o) (hl : v 4 ≤ 40) (hb : ∀ l, 0 ≤ l → l < v 4 → 0 ≤ bg v l ∧ 0 ≤ v (5 + l)) (x : iLi h L a v) : iLi h L a v' := by
  obtain ⟨x1, x2, x3, x4, x5⟩ := x
  unfold iLi
  rw [e 4 (by omega)]
  refine ⟨x1, x2, x3, x4, fun l l1 l2 => ?_⟩
  rw [lnS_c e (by omega) (hb l l1 l2).1 (hb l l1 l2).2]
  exact x5 l l1 l2
/-- numbers of a slug are others -/
theorem Nt_sg {h h' : am_H} {L : am_Lb} {x P N : Nat} {S S' : am_G} {B : Int} {s : Int} {g : Nat} (t : Nt h L x P N S B) (hs : 0 ≤ s ∧ s < S 0 0 4) (hg : g = am_ar h (am_fr h 194 (am_fr h 25 N)) s) (a : fx (fun q => q = g) h h') (hr : ∀ f, am_fr h' f g = am_fr h f g) (hi : ∀ f, f < 161 → am_fi h' f g = am_fi h f g) (eS : ∀ c, c ≠ 4 → S' c = S c) (e4 : ∀ q, q ≠ s → S' 4 q = S 4 q) (e4s : ∀ o, o < 4 ∨ (6 < o ∧ o < 10) ∨ 11 < o → S' 4 s o = S 4 s o) (v1 : am_fi h' 161 g = S' 4 s 6) (v2 : am_fi h' 162 g = S' 4 s 5) (v3 : am_fi h' 163 g = S' 4 s 4) (v4 : am_fi h' 165 g = S' 4 s 10 + 2 * S' 4 s 11) : Nt h' L x P N S' B := by
  have x6 := t.2.2.2.1.2.2.2.2.2.1
  have xs := x6.2 s hs.1 hs.2
  rw [← hg] at xs
  have ea : ∀ o, o < 4 ∨ (6 < o ∧ o < 10) ∨ 11 < o → ∀ q, S' 4 q o = S 4 q o := fun o ho q => by
    by_cases e : q = s
    · rw [e]
      exact e4s o ho
    · rw [e4 q e]
  refine Nt_4 t (Int.le_refl _) a leL_refl (okLb_fx a t.1) (nd_one xs.1) (fun c c1 _ => eS c c1) (fun j _ => by rw [eS 0 (by decide)]) (crN_c2 (ea 7 (by omega)) (by rw [eS 0 (by decide)])) (fun i k _ _ _ _ => by rw [eS 0 (by decide)]; exact lsG_c2 (ea 1 (by omega)) (ea 2 (by omega)) _) ?_
  refine rG_one a leL_refl t.1 t.2.2.2.2.2.2 t.2.1.1 (s := s) (Int.le_refl _) (fun q hq e => ?_) (by rw [eS 0 (by decide)]) (eS 2 (by decide)) e4 x6 (fun _ _ => ?_)
  · rw [e, xs.1.2.2.2]
    exact ⟨rfl, rfl, rfl, rfl⟩
  · rw [← hg]
    exact rSg_i a t.1 t.2.2.2.2.2.2 xs hr (eS 2 (by decide)) e4s hi v1 v2 v3 v4
/-- places of a part are others -/
theorem Nt_pl {h h' : am_H} {L : am_Lb} {x P N : Nat} {S S' : am_G} {B : Int} {p : Int} {g : Nat} (t : Nt h L x P N S B) (hp : isP S p) (hp2 : 0 ≤ p ∧ p < 100) (c3 : S 3 p 3 ≠ 0) (hl : S 3 p 4 ≤ 40) (hb : ∀ l, 0 ≤ l → l < S 3 p 4 → 0 ≤ bg (S 3 p) l ∧ 0 ≤ S 3 p (5 + l)) (hg : g = am_fr h 118 (am_ar h (am_fr h 20 N) p)) (a : fx (fun q => q = g) h h') (eS : ∀ c, c ≠ 3 → S' c = S c) (e3 : ∀ q, q ≠ p → S' 3 q = S 3 q) (e3p : ∀ o, o < 45 ∨ 85 ≤ o → S' 3 p o = S 3 p o) (v : ∀ l, 0 ≤ l → l < S 3 p 4 → am_ai h' g l = S' 3 p (45 + l) - 1) : Nt h' L x P N S' B := by
  have x3 := t.2.2.2.1.2.2.1
  have xp := (x3.2.2 p hp2.1 hp2.2).2 hp
  have xl := (xp.2.2.2.2.2.2.2.2 c3).2.2.1
  rw [← hg] at xl
  have eb : ∀ o, o < 45 → ∀ q, S' 3 q o = S 3 q o := fun o ho q => by
    by_cases e : q = p
    · rw [e]
      exact e3p o (Or.inl ho)
    · rw [e3 q e]
  refine Nt_3 t (Int.le_refl _) a leL_refl (okLb_fx a t.1) (nd_one xl) (fun c c1 _ => eS c c1) (fun j => by rw [eS 0 (by decide)]) (eS 2 (by decide)) (fun k i _ _ _ _ => ?_) ?_
  · unfold bhd
    rw [eS 5 (by decide), eb 3 (by omega), eb 4 (by omega)]
  refine rP_one a leL_refl t.1 t.2.2.2.2.2.2 t.2.1.1 (p := p) (fun q hq e => ?_) (by rw [eS 0 (by decide)]) (eS 2 (by decide)) e3 x3 (fun _ => ?_)
  · rw [e, xl.2.2.2]
    exact ⟨rfl, rfl, by show (2 : Nat) ≠ 0; decide, rfl⟩
  · rw [hg] at a v
    exact rPt_pl a t.1 t.2.2.2.2.2.2 xp c3 (eS 2 (by decide)) e3p v (iPc_c e3p xp.2.2.2.2.2.2.1) (iLi_c e3p hl hb (xp.2.2.2.2.2.2.2.2 c3).2.1) hl
/-- numbers of a machine are others -/
theorem Nt_mn {h h' : am_H} {L : am_Lb} {x P N : Nat} {S S' : am_G} {B : Int} {k : Int} {m : Nat} (t : Nt h L x P N S B) (hk : 0 ≤ k ∧ k < S 0 0 3) (hm : m = am_ar h (am_fr h 23 N) k) (a : fx (fun q => q = m) h h') (hr : ∀ f, am_fr h' f m = am_fr h f m) (eS : ∀ c, c ≠ 5 → S' c = S c) (e5 : ∀ q, q ≠ k → S' 5 q = S 5 q) (e5k : ∀ o, o < 28 ∨ o = 29 ∨ 32 < o → S' 5 k o = S 5 k o) (v1 : am_fi h' 145 m = am_fi h 145 m) (v2 : am_fi h' 146 m = S' 5 k 28) (v3 : am_fi h' 148 m = S' 5 k 30) (v4 : am_fi h' 149 m = S' 5 k 31) (v5 : am_fi h' 150 m = S' 5 k 32) : Nt h' L x P N S' B := by
  have x5 := t.2.2.2.1.2.2.2.2.1
  have xm := x5.2.2 k hk.1 hk.2
  rw [← hm] at xm
  refine Nt_5 t (Int.le_refl _) a leL_refl (okLb_fx a t.1) (nd_one xm.1) (fun c c1 _ => eS c c1) (fun j => by rw [eS 0 (by decide)]) ?_
  refine rM_one a leL_refl t.1 t.2.2.2.2.2.2 t.2.1.1 (k := k) (Int.le_refl _) (fun q hq e => ?_) (by rw [eS 0 (by decide)]) e5 (fun q i e _ _ _ _ => ?_) x5 ?_
  · rw [e, xm.1.2.2.2]
    exact ⟨rfl, rfl, by show (1 : Nat) ≠ 0; decide, rfl⟩
  · unfold bhd
    rw [e5 q e, eS 3 (by decide)]
  · rw [← hm]
    refine rMc_m a t.1 t.2.1.1 xm hr ?_ v2 v3 v4 v5 (fun c c1 c2 => e5k c (by omega)) (e5k 29 (by omega)) (fun o ho => e5k o (by omega)) (fun i i1 i2 => ?_)
    · rw [v1, e5k 27 (by omega)]
      exact xm.2.2.2.2.1
    · unfold bhd
      rw [e5k _ (by omega), e5k _ (by omega), e5k _ (by omega), eS 3 (by decide)]
/-- a brass -/
theorem Nt_br {h h' : am_H} {L : am_Lb} {x P N : Nat} {S S' : am_G} {B : Int} {k : Int} {g : Nat} (t : Nt h L x P N S B) (hk : 0 ≤ k ∧ k < S 0 0 3) (hg : g = am_fr h 144 (am_ar h (am_fr h 23 N) k)) (a : fx (fun q => q = g) h h') (eS : ∀ c, c ≠ 5 → S' c = S c) (e5 : ∀ q, q ≠ k → S' 5 q = S 5 q) (e5k : ∀ o, 27 ≤ o → S' 5 k o = S 5 k o) (v1 : ∀ c, 0 ≤ c → c < 27 → am_ai h' g c = S' 5 k c) : Nt h' L x P N S' B := by
  have x5 := t.2.2.2.1.2.2.2.2.1
  have xm := x5.2.2 k hk.1 hk.2
  have xb := xm.2.1
  rw [← hg] at xb
  refine Nt_5 t (Int.le_refl _) a leL_refl (okLb_fx a t.1) (nd_one xb) (fun c c1 _ => eS c c1) (fun j => by rw [eS 0 (by decide)]) ?_
  refine rM_one a leL_refl t.1 t.2.2.2.2.2.2 t.2.1.1 (k := k) (Int.le_refl _) (fun q hq e => ?_) (by rw [eS 0 (by decide)]) e5 (fun q i e _ _ _ _ => ?_) x5 ?_
  · rw [e, xb.2.2.2]
    exact ⟨rfl, rfl, by show (2 : Nat) ≠ 0; decide, rfl⟩
  · unfold bhd
    rw [e5 q e, eS 3 (by decide)]
  · rw [hg] at a v1
    refine rMc_b a t.1 t.2.1.1 xm v1 e5k (fun i i1 i2 => ?_)
    unfold bhd
    rw [e5k _ (by omega), e5k _ (by omega), e5k _ (by omega), eS 3 (by decide)]
