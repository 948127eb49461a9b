set_option maxRecDepth 100000
/-! a corrected word: some row there is, and two of them say the same -/
def pcX (l : List am_Pz) : Int → Int := fun k => if 0 ≤ k ∧ k < l.length then (gP l k.toNat).2.2.1 else 0
def pcY (t : Int → Int) (l : List am_Pz) : Int → Int := fun i => if (0 ≤ i ∧ i / 12 < l.length) ∧ i % 12 < (gP l (i / 12).toNat).2.2.1 then t ((gP l (i / 12).toNat).2.1 + i % 12) - 97 else 0
/-- one column of the pieces: before f, the new ones, those behind, the rest -/
def rwK (a b : Int → Int) (f o d n k : Int) : Int := if k < f then a k else if k < f + d then b (k - f) else if k < n + (d - o) then a (k - (d - o)) else a k
def rwX (v x y : Int → Int) (w f o d : Int) : Int → Int := fun j => if j = 1 then v 1 + (d - o) else if 85 ≤ j ∧ j < 125 then rwK (fun k => v (85 + k)) (fun _ => w) f o d (v 1) (j - 85) else if 125 ≤ j ∧ j < 165 then rwK (fun k => v (125 + k)) x f o d (v 1) (j - 125) else if 165 ≤ j ∧ j < 645 then rwK (fun k => v (165 + 12 * k + (j - 165) % 12)) (fun k => y (12 * k + (j - 165) % 12)) f o d (v 1) ((j - 165) / 12) else v j
theorem rwX_1 {v x y : Int → Int} {w f o d : Int} : rwX v x y w f o d 1 = v 1 + (d - o) := if_pos rfl
theorem rwX_85 {v x y : Int → Int} {w f o d k : Int} (h : 0 ≤ k ∧ k < 40) : rwX v x y w f o d (85 + k) = rwK (fun k => v (85 + k)) (fun _ => w) f o d (v 1) k := by
  unfold rwX
  have e : 85 + k - 85 = k := by omega
  rw [if_neg (by omega), if_pos (by omega), e]
theorem rwX_125 {v x y : Int → Int} {w f o d k : Int} (h : 0 ≤ k ∧ k < 40) : rwX v x y w f o d (125 + k) = rwK (fun k => v (125 + k)) x f o d (v 1) k := by
  unfold rwX
  have e : 125 + k - 125 = k := by omega
  rw [if_neg (by omega), if_neg (by omega), if_pos (by omega), e]
theorem rwX_165 {v x y : Int → Int} {w f o d k i : Int} (h : 0 ≤ k ∧ k < 40) (hi : 0 ≤ i ∧ i < 12) : rwX v x y w f o d (165 + 12 * k + i) = rwK (fun k => v (165 + 12 * k + i)) (fun k => y (12 * k + i)) f o d (v 1) k := by
  unfold rwX
  have e : (165 + 12 * k + i - 165) / 12 = k := by omega
  have e2 : (165 + 12 * k + i - 165) % 12 = i := by omega
  rw [if_neg (by omega), if_neg (by omega), if_neg (by omega), if_pos (by omega), e, e2]
theorem rwX_o {v x y : Int → Int} {w f o d j : Int} (h1 : j ≠ 1) (h : j < 85 ∨ 645 ≤ j) : rwX v x y w f o d j = v j := by
  unfold rwX
  rw [if_neg h1, if_neg (by omega), if_neg (by omega), if_neg (by omega)]
theorem rwX_c {v x y : Int → Int} {w f o d : Int} (hf : 0 ≤ f ∧ 1 ≤ o ∧ f + o ≤ v 1) (hv : v 1 ≤ 40) (hd : 1 ≤ d ∧ v 1 - o + d ≤ 40) : chg v (rwX v x y w f o d) x y w f o d := by
  refine ⟨rwX_o (by decide) (by decide), fun j a b => rwX_o (by omega) (by omega), rwX_1, fun k a b => ?_, fun k a b => ?_, fun k a b => ?_, fun k a b => ?_, fun j a => rwX_o (by omega) (by omega)⟩
  · have e : ∀ A B : Int → Int, rwK A B f o d (v 1) k = A k := fun A B => if_pos b
    rw [rwX_85 (by omega), rwX_125 (by omega), e, e]
    refine ⟨rfl, rfl, fun i i0 i1 => ?_⟩
    rw [rwX_165 (by omega) ⟨i0, i1⟩, e]
  · have e : ∀ A B : Int → Int, rwK A B f o d (v 1) (f + k) = B k := fun A B => by
      unfold rwK
      have q : f + k - f = k := by omega
      rw [if_neg (by omega), if_pos (by omega), q]
    have e1 : 85 + f + k = 85 + (f + k) := by omega
    have e2 : 125 + f + k = 125 + (f + k) := by omega
    rw [e1, e2, rwX_85 (by omega), rwX_125 (by omega), e, e]
    refine ⟨rfl, rfl, fun i i0 i1 => ?_⟩
    rw [rwX_165 (by omega) ⟨i0, i1⟩, e]
  · have e : ∀ A B : Int → Int, rwK A B f o d (v 1) (k + (d - o)) = A k := fun A B => by
      unfold rwK
      have q : k + (d - o) - (d - o) = k := by omega
      rw [if_neg (by omega), if_neg (by omega), if_pos (by omega), q]
    have e1 : 85 + k + (d - o) = 85 + (k + (d - o)) := by omega
    have e2 : 125 + k + (d - o) = 125 + (k + (d - o)) := by omega
    rw [e1, e2, rwX_85 (by omega), rwX_125 (by omega), e, e]
    refine ⟨rfl, rfl, fun i i0 i1 => ?_⟩
    rw [rwX_165 (by omega) ⟨i0, i1⟩, e]
  · have e : ∀ A B : Int → Int, rwK A B f o d (v 1) k = A k := fun A B => by
      unfold rwK
      rw [if_neg (by omega), if_neg (by omega), if_neg (by omega)]
    rw [rwX_85 (by omega), rwX_125 (by omega), e, e]
    refine ⟨rfl, rfl, fun i i0 i1 => ?_⟩
    rw [rwX_165 (by omega) ⟨i0, i1⟩, e]
theorem chW_ex {t v : Int → Int} {w : Int} {l : List am_Pz} (hc : chP t 0 l 1) (wf : wfV v w (wfR v w (v 1).toNat).1 (wfR v w (v 1).toNat).2) (hv : v 1 ≤ 40) (hd : 1 ≤ (l.length : Int) ∧ v 1 - (wfR v w (v 1).toNat).2 + l.length ≤ 40) : ∃ row, chW t v w l row := by
  refine ⟨_, pcX l, pcY t l, rwX_c wf.1 hv hd, fun k hk => ⟨?_, fun i i0 i1 => ?_⟩, fun k k0 k1 => ?_, fun i i0 i1 => ?_⟩
  · have e : ((k : Int)).toNat = k := by omega
    unfold pcX
    rw [if_pos (by omega), e]
  · have g := (chP_g l 0 1 hc k hk).1
    have e1 : (12 * (k : Int) + i) / 12 = k := by omega
    have e2 : (12 * (k : Int) + i) % 12 = i := by omega
    have e : ((k : Int)).toNat = k := by omega
    unfold pcY
    rw [e1, e2, e, if_pos ⟨⟨by omega, by omega⟩, i1⟩]
  · unfold pcX
    split
    · next c =>
      have g := (chP_g l 0 1 hc k.toNat (by omega)).1
      omega
    · omega
  · unfold pcY
    split
    · next c =>
      have g := (chP_g l 0 1 hc (i / 12).toNat (by omega)).2.2.1 (i % 12) (by omega) c.2
      omega
    · omega
/-- two rows of the same word say the same -/
theorem chW_eq {t v : Int → Int} {w : Int} {l : List am_Pz} {r1 r2 : Int → Int} (wf : wfV v w (wfR v w (v 1).toNat).1 (wfR v w (v 1).toNat).2) (hv : v 1 ≤ 40) (hd : 1 ≤ (l.length : Int) ∧ v 1 - (wfR v w (v 1).toNat).2 + l.length ≤ 40) (ho : okP r1) (c : chW t v w l r1) (c' : chW t v w l r2) : eqR r1 r2 := by
  obtain ⟨x, y, ⟨a0, a1, a2, a3, a4, a5, a6, a7⟩, rd, _, _⟩ := c
  obtain ⟨x', y', ⟨b0, b1, b2, b3, b4, b5, b6, b7⟩, rd', _, _⟩ := c'
  have w1 := wf.1
  generalize (wfR v w (v 1).toNat).1 = f at *
  generalize (wfR v w (v 1).toNat).2 = o at *
  have pc : ∀ k, 0 ≤ k → k < 40 → r2 (85 + k) = r1 (85 + k) ∧ r2 (125 + k) = r1 (125 + k) ∧ ∀ i, 0 ≤ i → i < r1 (125 + k) → r2 (165 + 12 * k + i) = r1 (165 + 12 * k + i) := by
    intro k k0 k1
    have o12 := (ho.2.1 k k0 k1).1
    by_cases c1 : k < f
    · have p := a3 k k0 c1
      have q := b3 k k0 c1
      exact ⟨q.1.trans p.1.symm, q.2.1.trans p.2.1.symm, fun i i0 i1 => (q.2.2 i i0 (by omega)).trans (p.2.2 i i0 (by omega)).symm⟩
    · by_cases c2 : k < f + l.length
      · have p := a4 (k - f) (by omega) (by omega)
        have q := b4 (k - f) (by omega) (by omega)
        have e1 : 85 + f + (k - f) = 85 + k := by omega
        have e2 : 125 + f + (k - f) = 125 + k := by omega
        have e3 : f + (k - f) = k := by omega
        rw [e1, e2, e3] at p q
        have kk : (((k - f).toNat : Nat) : Int) = k - f := by omega
        have u := rd (k - f).toNat (by omega)
        have u' := rd' (k - f).toNat (by omega)
        rw [kk] at u u'
        have ex : x' (k - f) = x (k - f) := u'.1.trans u.1.symm
        refine ⟨q.1.trans p.1.symm, (q.2.1.trans ex).trans p.2.1.symm, fun i i0 i1 => ?_⟩
        have il : i < (gP l (k - f).toNat).2.2.1 := by
          rw [← u.1, ← p.2.1]
          exact i1
        exact ((q.2.2 i i0 (by omega)).trans ((u'.2 i i0 il).trans (u.2 i i0 il).symm)).trans (p.2.2 i i0 (by omega)).symm
      · by_cases c3 : k < v 1 + (l.length - o)
        · have p := a5 (k - (l.length - o)) (by omega) (by omega)
          have q := b5 (k - (l.length - o)) (by omega) (by omega)
          have e1 : 85 + (k - (l.length - o)) + (l.length - o) = 85 + k := by omega
          have e2 : 125 + (k - (l.length - o)) + (l.length - o) = 125 + k := by omega
          have e3 : k - (l.length - o) + (l.length - o) = k := by omega
          rw [e1, e2, e3] at p q
          exact ⟨q.1.trans p.1.symm, q.2.1.trans p.2.1.symm, fun i i0 i1 => (q.2.2 i i0 (by omega)).trans (p.2.2 i i0 (by omega)).symm⟩
        · have p := a6 k (by omega) k1
          have q := b6 k (by omega) k1
          exact ⟨q.1.trans p.1.symm, q.2.1.trans p.2.1.symm, fun i i0 i1 => (q.2.2 i i0 (by omega)).trans (p.2.2 i i0 (by omega)).symm⟩
  refine ⟨fun j hj => ?_, fun k i k0 k1 i0 i1 => (pc k k0 k1).2.2 i i0 i1⟩
  by_cases c0 : j < 0 ∨ 645 ≤ j
  · exact (b7 j c0).trans (a7 j c0).symm
  · by_cases j0 : j = 0
    · rw [j0]
      exact b0.trans a0.symm
    · by_cases j1 : j = 1
      · rw [j1]
        exact b2.trans a2.symm
      · by_cases j2 : j < 85
        · exact (b1 j (by omega) j2).trans (a1 j (by omega) j2).symm
        · by_cases j3 : j < 125
          · have q := (pc (j - 85) (by omega) (by omega)).1
            have e : 85 + (j - 85) = j := by omega
            rw [e] at q
            exact q
          · have q := (pc (j - 125) (by omega) (by omega)).2.1
            have e : 125 + (j - 125) = j := by omega
            rw [e] at q
            exact q
/-- what a part is told by, where its row says the same -/
theorem tells_eq {S S' : am_G} {p mi : Int} (e : eqS S S' p) : meS S' p mi = meS S p mi ∧ leS S' p mi = leS S p mi ∧ moS S' p mi = moS S p mi ∧ coS S' p mi = coS S p mi := by
  obtain ⟨e1, e3, E⟩ := e
  have e2 : tgs S' p mi 0 = tgs S p mi 0 := by
    unfold tgs
    rw [e1 2 (by decide)]
  have e4 : fcs S' p mi 0 99 = fcs S p mi 0 99 := by
    unfold fcs
    rw [e1 2 (by decide), E.1 0 (by omega), E.1 1 (by omega)]
  have e5 : sty S' mi = sty S mi := by
    unfold sty
    rw [e1 6 (by decide), e1 0 (by decide)]
  unfold meS leS moS coS sdd lrl
  rw [e2, e4, e5, e1 6 (by decide)]
  exact ⟨rfl, rfl, rfl, rfl⟩
theorem tbS_eq {S S' : am_G} {p mi : Int} (e : eqS S S' p) (h : 0 ≤ S 3 p 1 ∧ S 3 p 1 ≤ 40) : tbS S' p mi = tbS S p mi := by
  obtain ⟨t1, t2, t3, t4⟩ := tells_eq (mi := mi) e
  unfold tbS
  rw [t1, t2, t3, t4, e.1 1 (by decide), e.1 2 (by decide), e.2.2.1 1 (by omega)]
  exact eq_tb e.2.2 h.2 _ (by omega)
theorem setR_eq {S : am_G} {p : Int} {r1 r2 : Int → Int} (E : eqR r1 r2) : eqS (setR S p r1) (setR S p r2) p := ⟨fun c h => by rw [setR_c h, setR_c h], fun q h => by rw [setR_q h, setR_q h], by rw [setR_p, setR_p]; exact E⟩
theorem coE_eq {r1 r2 : Int → Int} {T : Int → Int × Int × Int} {a l0 : Int} (E : eqR r1 r2) (h : 0 ≤ l0 ∧ l0 + (T a).2.1 ≤ 40) : eqR (coE r1 T a l0) (coE r2 T a l0) := by
  refine ⟨fun j hj => ?_, fun k i k0 k1 i0 i1 => ?_⟩
  · unfold coE
    rw [E.1 j hj]
  · have n5 : ∀ j, 125 ≤ j → ∀ r : Int → Int, coE r T a l0 j = r j := fun j hj r => coE_o (by omega) (by omega) (by omega)
    rw [n5 _ (by omega)] at i1
    rw [n5 _ (by omega), n5 _ (by omega)]
    exact E.2 k i k0 k1 i0 i1
theorem smN_eq {v u u' : Int → Int} {n m l0 : Int} (h : ∀ j, l0 ≤ j → j < m → lnS u' j = lnS u j) : ∀ (k : Nat) (s : Int), 0 ≤ s → smN v u' n m l0 k s = smN v u n m l0 k s
  | 0, s, _ => rfl
  | k + 1, s, h0 => by
    have ih := smN_eq (v := v) (n := n) h k (s + 1) (by omega)
    show (if (s < n - l0 ∧ s < m - l0) ∧ lnS v (n - 1 - s) = lnS u' (m - 1 - s) then smN v u' n m l0 k (s + 1) else s) = if (s < n - l0 ∧ s < m - l0) ∧ lnS v (n - 1 - s) = lnS u (m - 1 - s) then smN v u n m l0 k (s + 1) else s
    rw [ih]
    by_cases c : s < n - l0 ∧ s < m - l0
    · rw [h (m - 1 - s) (by omega) (by omega)]
    · rw [if_neg (fun z => c z.1), if_neg (fun z => c z.1)]
theorem eqS_refl {S : am_G} {p : Int} : eqS S S p := ⟨fun _ _ => rfl, fun _ _ => rfl, fun _ _ => rfl, fun _ _ _ _ _ _ => rfl⟩
theorem eqS_u4 {S S' : am_G} {p : Int} (e : eqS S S' p) {c : Nat} {a b x : Int} (hc : c ≠ 3) : eqS (u3 S c a b x) (u3 S' c a b x) p := by
  refine ⟨fun d hd => ?_, fun q hq => ?_, ?_⟩
  · by_cases h : d = c
    · rw [h]
      funext i j
      have := e.1 c hc
      unfold u3
      rw [this]
    · rw [u3_r h, u3_r h]
      exact e.1 d hd
  · rw [u3_r (fun z => hc z.symm), u3_r (fun z => hc z.symm)]
    exact e.2.1 q hq
  · rw [u3_r (fun z => hc z.symm), u3_r (fun z => hc z.symm)]
    exact e.2.2
theorem eqS_u3 {S S' : am_G} {p : Int} (e : eqS S S' p) {b x : Int} (hb : b < 125) : eqS (u3 S 3 p b x) (u3 S' 3 p b x) p := by
  refine ⟨fun d hd => ?_, fun q hq => ?_, fun j hj => ?_, fun k i k0 k1 i0 i1 => ?_⟩
  · rw [u3_r hd, u3_r hd]
    exact e.1 d hd
  · rw [u3_rp hq, u3_rp hq]
    exact e.2.1 q hq
  · by_cases h : j = b
    · rw [h, u3_eq, u3_eq]
    · rw [u3_no h, u3_no h]
      exact e.2.2.1 j hj
  · rw [u3_no (by omega)] at i1
    rw [u3_no (by omega), u3_no (by omega)]
    exact e.2.2.2 k i k0 k1 i0 i1
theorem pkS_eq {S S' : am_G} {v : Int → Int} {p l0 n m s : Int} (e : eqS S S' p) (h0 : 0 ≤ l0) (hm : m ≤ 40) : ∀ j : Nat, l0 + j ≤ n → eqS (pkS S v p l0 n m s j) (pkS S' v p l0 n m s j) p
  | 0, _ => e
  | j + 1, hj => by
    have ih := pkS_eq (v := v) (n := n) (s := s) e h0 hm j (by omega)
    show eqS (if v (45 + (l0 + (j : Int))) = 0 then pkS S v p l0 n m s j else if n - s ≤ l0 + (j : Int) then u3 (u3 (u3 (pkS S v p l0 n m s j) 4 (v (45 + (l0 + (j : Int))) - 1) 5 (l0 + (j : Int) - n + m)) 4 (v (45 + (l0 + (j : Int))) - 1) 6 p) 3 p (45 + (l0 + (j : Int) - n + m)) (v (45 + (l0 + (j : Int)))) else u3 (u3 (u3 (pkS S v p l0 n m s j) 4 (v (45 + (l0 + (j : Int))) - 1) 4 2) 4 (v (45 + (l0 + (j : Int))) - 1) 5 (-1)) 4 (v (45 + (l0 + (j : Int))) - 1) 6 (-1)) (if v (45 + (l0 + (j : Int))) = 0 then pkS S' v p l0 n m s j else if n - s ≤ l0 + (j : Int) then u3 (u3 (u3 (pkS S' v p l0 n m s j) 4 (v (45 + (l0 + (j : Int))) - 1) 5 (l0 + (j : Int) - n + m)) 4 (v (45 + (l0 + (j : Int))) - 1) 6 p) 3 p (45 + (l0 + (j : Int) - n + m)) (v (45 + (l0 + (j : Int)))) else u3 (u3 (u3 (pkS S' v p l0 n m s j) 4 (v (45 + (l0 + (j : Int))) - 1) 4 2) 4 (v (45 + (l0 + (j : Int))) - 1) 5 (-1)) 4 (v (45 + (l0 + (j : Int))) - 1) 6 (-1)) p
    by_cases c : v (45 + (l0 + (j : Int))) = 0
    · rw [if_pos c, if_pos c]
      exact ih
    · rw [if_neg c, if_neg c]
      by_cases c2 : n - s ≤ l0 + (j : Int)
      · rw [if_pos c2, if_pos c2]
        refine eqS_u3 (eqS_u4 (c := 4) (eqS_u4 (c := 4) ih (by decide)) (by decide)) ?_
        omega
      · rw [if_neg c2, if_neg c2]
        exact eqS_u4 (c := 4) (eqS_u4 (c := 4) (eqS_u4 (c := 4) ih (by decide)) (by decide)) (by decide)
theorem jbS_eq {S S' : am_G} {p k q nx bh co wh : Int} (e : eqS S S' p) : eqS (jbS S k q nx bh co wh) (jbS S' k q nx bh co wh) p := by
  unfold jbS
  rw [e.1 5 (by decide)]
  exact eqS_u4 (c := 5) (eqS_u4 (c := 5) (eqS_u4 (c := 5) (eqS_u4 (c := 5) (eqS_u4 (c := 5) (eqS_u4 (c := 5) e (by decide)) (by decide)) (by decide)) (by decide)) (by decide)) (by decide)
