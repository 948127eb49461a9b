set_option maxRecDepth 100000
/-! the first job of a machine goes -/
def awy (S : am_G) (k : Int) : am_G := fun c q i => if c = 5 ∧ q = k then (if i = 29 then S 5 k 29 - 1 else if 33 ≤ i ∧ i < 178 then S 5 k (i + 5) else S 5 k i) else S c q i
theorem awy_c {S : am_G} {k : Int} : (∀ c, c ≠ 5 → awy S k c = S c) ∧ (∀ q, q ≠ k → awy S k 5 q = S 5 q) ∧ awy S k 5 k 29 = (S 5 k 29) - 1 ∧ (∀ o, o ≠ 29 → o < 33 → awy S k 5 k o = S 5 k o) ∧ (∀ o, 33 ≤ o → o < 178 → awy S k 5 k o = S 5 k (o + 5)) := by
  refine ⟨fun c c1 => ?_, fun q q1 => ?_, ?_, fun o o1 o2 => ?_, fun o o1 o2 => ?_⟩
  · funext q i
    exact if_neg (fun z => c1 z.1)
  · funext i
    exact if_neg (fun z => q1 z.2)
  · exact (if_pos ⟨rfl, rfl⟩).trans (if_pos rfl)
  · exact (if_pos ⟨rfl, rfl⟩).trans ((if_neg o1).trans (if_neg (by omega)))
  · exact (if_pos ⟨rfl, rfl⟩).trans ((if_neg (by omega)).trans (if_pos (by omega)))
/-- spiked -/
def spk (S : am_G) (k : Int) : am_G := awy (u3 S 5 k 32 (S 5 k 32 + 1)) k
theorem spk_e {S : am_G} {k : Int} : spk S k = u3 (awy S k) 5 k 32 (awy S k 5 k 32 + 1) := by
  funext c q i
  unfold spk awy u3
  by_cases c1 : c = 5 ∧ q = k
  · obtain ⟨rfl, rfl⟩ := c1
    by_cases i1 : i = 32
    · subst i1
      simp
    · by_cases i2 : i = 29
      · subst i2
        simp
      · by_cases i3 : 33 ≤ i ∧ i < 178
        · simp [i1, i2, i3]
          omega
        · simp [i1, i2, i3]
  · have c2 : ¬ (c = 5 ∧ q = k ∧ i = 32) := fun z => c1 ⟨z.1, z.2.1⟩
    simp only [if_neg c1, if_neg c2]
theorem Nt_rm {h h' : am_H} {L : am_Lb} {x P N : Nat} {S : am_G} {B : Int} {k : Int} (t : Nt h L x P N S B) (hk : 0 ≤ k ∧ k < S 0 0 3) (hn : 0 < (S 5 k 29) ∧ (S 5 k 29) ≤ 30) (fr : fx (fun q => q = (am_fr h 147 (am_ar h (am_fr h 23 N) k)) ∨ q = am_fr h 194 (am_fr h 147 (am_ar h (am_fr h 23 N) k))) h h') (xm : xLm h' (am_fr h 147 (am_ar h (am_fr h 23 N) k))) (e4 : am_fr h' 194 (am_fr h 147 (am_ar h (am_fr h 23 N) k)) = am_fr h 194 (am_fr h 147 (am_ar h (am_fr h 23 N) k))) (e5 : am_fi h' 195 (am_fr h 147 (am_ar h (am_fr h 23 N) k)) = (S 5 k 29) - 1) (e3 : am_fi h' 193 (am_fr h 147 (am_ar h (am_fr h 23 N) k)) = am_fi h 193 (am_fr h 147 (am_ar h (am_fr h 23 N) k)) + 1) (el : ∀ j, 0 ≤ j → j < (S 5 k 29) - 1 → am_ar h' (am_fr h 194 (am_fr h 147 (am_ar h (am_fr h 23 N) k))) j = am_ar h (am_fr h 194 (am_fr h 147 (am_ar h (am_fr h 23 N) k))) (j + 1)) : Nt h' L x P N (awy S k) (B + 1) ∧ ∀ q, q ≤ am_sz h → (q = (am_fr h 147 (am_ar h (am_fr h 23 N) k)) ∨ q = am_fr h 194 (am_fr h 147 (am_ar h (am_fr h 23 N) k))) → (L q).1 = N ∧ (L q).2.1 = 5 ∧ ((L q).2.2.1 = 3 ∨ (L q).2.2.1 = 4) ∧ (L q).2.2.2 = k := by
  have x5 := t.2.2.2.1.2.2.2.2.1
  have mk := x5.2.2 k hk.1 hk.2
  obtain ⟨m1, m2, m3, m4, m5, m6, m7, m8, m9, rl, m11, m12⟩ := mk
  have rl5 := rl.2.2.2.2.1
  have rl6 := rl.2.2.2.2.2
  obtain ⟨w1, w2, w3, w4, w5⟩ := awy_c (S := S) (k := k)
  have pos : 0 < am_ln h (am_fr h 194 (am_fr h 147 (am_ar h (am_fr h 23 N) k))) := by
    have := rl.1.1.2.2.1
    omega
  have f27 : ∀ q, q ≤ am_sz h → (q = (am_fr h 147 (am_ar h (am_fr h 23 N) k)) ∨ q = am_fr h 194 (am_fr h 147 (am_ar h (am_fr h 23 N) k))) → (L q).1 = N ∧ (L q).2.1 = 5 ∧ ((L q).2.2.1 = 3 ∨ (L q).2.2.1 = 4) ∧ (L q).2.2.2 = k := fun q hq z => by
    rcases z with e | e
    · rw [e, rl.2.2.1]
      exact ⟨rfl, rfl, Or.inl rfl, rfl⟩
    · rw [e, rl.2.2.2.1 pos]
      exact ⟨rfl, rfl, Or.inr rfl, rfl⟩
  refine ⟨?_, f27⟩
  have kn : ∀ q t kd, nd h L q t N 5 kd k → kd ≠ 3 → kd ≠ 4 → ¬ (q = (am_fr h 147 (am_ar h (am_fr h 23 N) k)) ∨ q = am_fr h 194 (am_fr h 147 (am_ar h (am_fr h 23 N) k))) := fun q t kd nn k3 k4 z => by
    have := (f27 q nn.2.1 z).2.2.1
    rw [nn.2.2.2] at this
    exact this.elim k3 k4
  have v1 := nd_fx fr (leL_refl (L := L)) m1 (kn _ _ _ m1 (by decide) (by decide))
  have v2 := nd_fx fr (leL_refl (L := L)) m2 (kn _ _ _ m2 (by decide) (by decide))
  have lA := fr.2.2.2 _ rl.1.1.2.2.2.2.2
  refine Nt_5 t (by omega) fr leL_refl (okLb_fx fr t.1) (fun q hq z => ⟨(f27 q hq z).1, (f27 q hq z).2.1⟩) (fun c c1 _ => w1 c c1) (fun j => by rw [w1 0 (by decide)]) ?_
  refine rM_one fr leL_refl t.1 t.2.2.2.2.2.2 t.2.1.1 (k := k) (by omega) (fun q hq z => ?_) (by rw [w1 0 (by decide)]) w2 (fun q i nq _ _ _ _ => ?_) x5 ?_
  · have := f27 q hq z
    exact ⟨this.1, this.2.1, by have := this.2.2.1; omega, this.2.2.2⟩
  · unfold bhd
    rw [w2 q nq, w1 3 (by decide)]
  · unfold rMc rQ
    rw [v1.2.2.1, v1.2.2.1, v1.2.2.1, v1.2.2.1, v1.2.2.1, v1.2.2.2.1, v1.2.2.2.1, v2.2.1, v2.2.2.2.2.1, w3, e4]
    refine ⟨v1.1, v2.1, m3, fun c c1 c2 => ?_, ?_, ?_, ?_, ?_, ?_, ⟨xm, rl.2.1, rl.2.2.1, fun _ => ?_, e5, by omega⟩, fun i i1 i2 => ?_, fun i j i1 i2 i3 => ?_⟩
    · rw [w4 c (by omega) (by omega)]
      exact m4 c c1 c2
    · rw [w4 27 (by omega) (by omega)]
      exact m5
    · rw [w4 28 (by omega) (by omega)]
      exact m6
    · rw [w4 30 (by omega) (by omega)]
      exact m7
    · rw [w4 31 (by omega) (by omega)]
      exact m8
    · rw [w4 32 (by omega) (by omega)]
      exact m9
    · rw [e4]
      exact rl.2.2.2.1 pos
    · rw [el i i1 i2]
      have xj := m11 (i + 1) (by omega) (by omega)
      have y := nd_fx fr (leL_refl (L := L)) xj.1 (kn _ _ _ xj.1 (by decide) (by decide))
      have ei : ∀ o, 33 ≤ o → o ≤ 37 → awy S k 5 k (o + 5 * i) = S 5 k (o + 5 * (i + 1)) := fun o o1 o2 => by
        rw [w5 _ (by omega) (by omega)]
        congr 1
        omega
      unfold rJ
      rw [y.2.2.1, y.2.2.1, y.2.2.1, y.2.2.1, ei 33 (by omega) (by omega), ei 36 (by omega) (by omega), ei 34 (by omega) (by omega)]
      refine ⟨y.1, xj.2.1, xj.2.2.1, xj.2.2.2.1, ?_⟩
      rw [xj.2.2.2.2]
      unfold bhd
      rw [ei 37 (by omega) (by omega), ei 35 (by omega) (by omega), ei 33 (by omega) (by omega), w1 3 (by decide)]
    · rw [el i i1 (by omega), el j (by omega) i3]
      exact m12 (i + 1) (j + 1) (by omega) (by omega) (by omega)
/-- cells of the night but itself and the list of the slugs -/
def nG (L : am_Lb) (N q : Nat) : Prop := (L q).1 = N ∧ (L q).2.1 ≠ 0 ∧ ¬ ((L q).2.1 = 4 ∧ (L q).2.2.1 ≠ 2) ∧ (L q).2.1 ≠ 10
theorem Out_nG {h h' : am_H} {L : am_Lb} {x N : Nat} (ok : okLb h L) (a : fx (nG L N) h h') (z : am_sz h' = am_sz h) (u : am_us h' = am_us h) : Out h L x N h' L 0 0 := Out_X ok a (fun q hq w => Or.inl w.1) (by omega) (by omega)
/-- slugs and places -/
def pG (L : am_Lb) (N q : Nat) : Prop := (L q).1 = N ∧ (L q).2.2.1 = 2 ∧ ((L q).2.1 = 3 ∨ (L q).2.1 = 4)
theorem pG_n {L : am_Lb} {N q : Nat} (z : pG L N q) : nG L N q := ⟨z.1, by have := z.2.2; omega, fun w => w.2 z.2.1, by have := z.2.2; omega⟩
/-- the capacity of the list of slugs -/
def capG (h : am_H) (N : Nat) : Int := am_ln h (am_fr h 194 (am_fr h 25 N))
theorem nG_cap {h h' : am_H} {L : am_Lb} {x P N : Nat} {S : am_G} {B : Int} (t : Nt h L x P N S B) (a : fx (nG L N) h h') : capG h' N = capG h N ∧ ∀ f, am_fr h' f N = am_fr h f N := by
  have x1 := t.2.2.2.1.1
  have x6 := t.2.2.2.1.2.2.2.2.2.1
  have nN : ¬ nG L N N := fun z => z.2.1 (by rw [x1.1.2.2.2])
  have nl : ¬ nG L N (am_fr h 25 N) := fun z => z.2.2.1 (by rw [x6.1.2.2.1]; exact ⟨rfl, by show (0 : Nat) ≠ 2; decide⟩)
  have b1 := (a.2.2.2 N x1.1.2.1).2.2 nN
  have b2 := (a.2.2.2 _ x6.1.1.1.2.2.2.2.1).2.2 nl
  have b3 := (a.2.2.2 _ x6.1.1.1.2.2.2.2.2).2.1
  refine ⟨?_, b1.2.1⟩
  unfold capG
  rw [b1.2.1 25, b2.2.1 194, b3]
section
variable {K : am_K} {h : am_H}
/-- the first job goes: the call -/
theorem x_rm {L : am_Lb} {x P N : Nat} {S : am_G} {B : Int} {k : Int} {d : Nat} (t : Nt h L x P N S B) (hB : B ≤ 1000000) (hk : 0 ≤ k ∧ k < S 0 0 3) (hn : 0 < (S 5 k 29) ∧ (S 5 k 29) ≤ 30) (H : ∀ h', Nt h' L x P N (awy S k) (B + 1) → fx (nG L N) h h' → am_sz h' = am_sz h → am_us h' = am_us h → (∀ f, am_fr h' f N = am_fr h f N) → am_ar h' (am_fr h 23 N) = am_ar h (am_fr h 23 N) → am_ty h' (am_ar h (am_fr h 23 N) k) = 21 → (∀ f, am_fi h' f (am_ar h (am_fr h 23 N) k) = am_fi h f (am_ar h (am_fr h 23 N) k)) → K (.inl (some (.inr (.inl (am_ar h (am_fr h 194 (am_fr h 147 (am_ar h (am_fr h 23 N) k))) 0))))) h') : am_ev am_prog (d + 6) 349 [.inr (.inl (am_fr h 147 (am_ar h (am_fr h 23 N) k))), .inl 0] h K := by
  have x1 := t.2.2.2.1.1
  have x5 := t.2.2.2.1.2.2.2.2.1
  have mk := x5.2.2 k hk.1 hk.2
  have rl := mk.2.2.2.2.2.2.2.2.2.1
  have rl5 := rl.2.2.2.2.1
  have rl6 := rl.2.2.2.2.2
  refine c_rem0 rl.1 (by rw [rl5]; exact hn.1) (by omega) (fun h' fr z u xm e4 e5 e3 el => ?_)
  rw [rl5] at e5 el
  obtain ⟨t', f27⟩ := Nt_rm t hk hn fr xm e4 e5 e3 el
  have nN : ¬ (N = (am_fr h 147 (am_ar h (am_fr h 23 N) k)) ∨ N = am_fr h 194 (am_fr h 147 (am_ar h (am_fr h 23 N) k))) := fun z => by
    have e := (f27 N x1.1.2.1 z).2.1
    rw [x1.1.2.2.2] at e
    exact absurd e (by simp)
  have nA : ¬ (am_fr h 23 N = (am_fr h 147 (am_ar h (am_fr h 23 N) k)) ∨ am_fr h 23 N = am_fr h 194 (am_fr h 147 (am_ar h (am_fr h 23 N) k))) := fun z => by
    have e := (f27 _ x5.1.2.1 z).2.2.1
    rw [x5.1.2.2.2] at e
    rcases e with e | e
    · exact absurd e (by simp)
    · exact absurd e (by simp)
  have nm : ¬ ((am_ar h (am_fr h 23 N) k) = (am_fr h 147 (am_ar h (am_fr h 23 N) k)) ∨ (am_ar h (am_fr h 23 N) k) = am_fr h 194 (am_fr h 147 (am_ar h (am_fr h 23 N) k))) := fun z => by
    have e := (f27 _ mk.1.2.1 z).2.2.1
    rw [mk.1.2.2.2] at e
    rcases e with e | e
    · exact absurd e (by simp)
    · exact absurd e (by simp)
  have bN := fr.2.2.2 N x1.1.2.1
  have bA := fr.2.2.2 _ x5.1.2.1
  have bm := fr.2.2.2 _ mk.1.2.1
  exact H h' t' (fx_sub fr (fun q hq z => ⟨(f27 q hq z).1, by rw [(f27 q hq z).2.1]; decide, fun w => absurd ((f27 q hq z).2.1.symm.trans w.1) (by decide), by rw [(f27 q hq z).2.1]; decide⟩)) z u (bN.2.2 nN).2.1 (bA.2.2 nA).2.2.2 (bm.1.trans mk.1.1) (bm.2.2 nm).1
theorem x_spike {L : am_Lb} {x P N : Nat} {S : am_G} {B : Int} {k : Int} {D : Nat} (hD : 13 ≤ D) (t : Nt h L x P N S B) (hB : B ≤ 1000000) (hk : 0 ≤ k ∧ k < S 0 0 3) (hn : 0 < (S 5 k 29) ∧ (S 5 k 29) ≤ 30) (h32 : 0 ≤ S 5 k 32 ∧ S 5 k 32 ≤ 100000) (H : ∀ h', Nt h' L x P N (spk S k) (B + 1) → fx (nG L N) h h' → am_sz h' = am_sz h → am_us h' = am_us h → K (.inl none) h') : am_ev am_prog D 347 [.inr (.inl (am_ar h (am_fr h 23 N) k))] h K := by
  have x5 := t.2.2.2.1.2.2.2.2.1
  have mk := x5.2.2 k hk.1 hk.2
  obtain ⟨d, rfl⟩ : ∃ d, D = d + 13 := ⟨D - 13, by omega⟩
  refine am_en p_X22_spike rfl rfl ?_
  refine v_X22_spike_0 ⟨mk.1.1, mk.2.2.2.2.2.2.2.2.2.1.1.1.1, x_rm t hB hk hn (fun h' t' o oz ou hr ha ht hi => am_av (v_X22_spike_4 ?_))⟩
  rw [hi 150, mk.2.2.2.2.2.2.2.2.1]
  refine ⟨⟨ht, by omega⟩, ?_⟩
  have y5 := t'.2.2.2.1.2.2.2.2.1
  rw [hr 23] at y5
  obtain ⟨w1, w2, w3, w4, w5⟩ := awy_c (S := S) (k := k)
  have hk' : 0 ≤ k ∧ k < awy S k 0 0 3 := by
    rw [w1 0 (by decide)]
    exact hk
  have yk := y5.2.2 k hk'.1 hk'.2
  rw [ha] at yk
  have a : fx (fun q => q = (am_ar h (am_fr h 23 N) k)) h' (am_sfi h' 150 (am_ar h (am_fr h 23 N) k) (S 5 k 32 + 1)) := fx_sfi fx_refl (Or.inr rfl)
  have e32 : awy S k 5 k 32 = S 5 k 32 := w4 32 (by decide) (by decide)
  refine H _ ?_ (fx_trans2 o a (fun q hq z => by rw [z]; unfold nG; rw [mk.1.2.2.2]; exact ⟨rfl, by show (5 : Nat) ≠ 0; decide, fun w => absurd w.1 (by simp), by show (5 : Nat) ≠ 10; decide⟩)) oz ou
  rw [spk_e, e32]
  refine Nt_mn t' (k := k) hk' (by rw [hr 23, ha]) a (fun f => rfl) (fun c c1 => u3_r c1) (fun q e => u3_rp e) (fun o ho => u3_no (by omega)) ?_ ?_ ?_ ?_ ?_
  · exact x_fif (by decide)
  · rw [u3_no (by decide), x_fif (by decide)]
    exact yk.2.2.2.2.2.1
  · rw [u3_no (by decide), x_fif (by decide)]
    exact yk.2.2.2.2.2.2.1
  · rw [u3_no (by decide), x_fif (by decide)]
    exact yk.2.2.2.2.2.2.2.1
  · rw [u3_eq]
    exact x_fie
/-- a slug is put at a place; what lay there goes into the pot -/
def ptS (S : am_G) (s p l : Int) : am_G := u3 (u3 (u3 (if S 3 p (45 + l) = 0 then S else u3 (u3 (u3 S 4 (S 3 p (45 + l) - 1) 4 2) 4 (S 3 p (45 + l) - 1) 5 (-1)) 4 (S 3 p (45 + l) - 1) 6 (-1)) 4 s 5 l) 4 s 6 p) 3 p (45 + l) (s + 1)
theorem x_put {L : am_Lb} {x P N : Nat} {S : am_G} {B : Int} {s p l : Int} {D : Nat} (hD : 13 ≤ D) (t : Nt h L x P N S B) (o : okPl S p) (hl : 0 ≤ l ∧ l < S 3 p 4) (hs : 0 ≤ s ∧ s < S 0 0 4) (h45 : 0 ≤ S 3 p (45 + l) ∧ S 3 p (45 + l) ≤ S 0 0 4) (hne : S 3 p (45 + l) ≠ s + 1) (H : ∀ h', Nt h' L x P N (ptS S s p l) B → fx (pG L N) h h' → am_sz h' = am_sz h → am_us h' = am_us h → K (.inl none) h') : am_ev am_prog D 348 [.inr (.inl N), .inl s, .inr (.inl (am_ar h (am_fr h 20 N) p)), .inl l] h K := by
  obtain ⟨g1, g2, g3, g4⟩ := G_fc t
  obtain ⟨k1, k2, k3, k4⟩ := P_fc t
  have pt := (k4 p o.2.1.1 o.2.1.2).2 o.1
  obtain ⟨z1, z2, z3, z4, z5⟩ := pt.2.2.2.2.2.2.2.2 o.2.2.1
  have q := g4 s hs.1 hs.2
  have g3' : ∀ q', nd h L q' 101 N 3 2 p → pG L N q' := fun q' w => by
    unfold pG
    rw [w.2.2.2]
    exact ⟨rfl, rfl, Or.inl rfl⟩
  have g2' : ∀ {s' g'}, rSg h L N S s' g' → pG L N g' := fun w => by
    unfold pG
    rw [w.1.2.2.2]
    exact ⟨rfl, rfl, Or.inr rfl⟩
  -- what is written last: the place, then the slug
  have last : ∀ h1 S1, Nt h1 L x P N S1 B → okPl S1 p → S1 3 p 4 = S 3 p 4 → S1 0 0 4 = S 0 0 4 → am_fr h1 118 (am_ar h (am_fr h 20 N) p) = am_fr h 118 (am_ar h (am_fr h 20 N) p) → am_fr h1 25 N = am_fr h 25 N → am_fr h1 194 (am_fr h 25 N) = am_fr h 194 (am_fr h 25 N) → am_ar h1 (am_fr h 194 (am_fr h 25 N)) = am_ar h (am_fr h 194 (am_fr h 25 N)) → am_fr h1 20 N = am_fr h 20 N → am_ar h1 (am_fr h 20 N) = am_ar h (am_fr h 20 N) → Nt (am_sfi (am_sfi (am_sai h1 (am_fr h 118 (am_ar h (am_fr h 20 N) p)) l s) 161 (am_ar h (am_fr h 194 (am_fr h 25 N)) s) p) 162 (am_ar h (am_fr h 194 (am_fr h 25 N)) s) l) L x P N (u3 (u3 (u3 S1 4 s 5 l) 4 s 6 p) 3 p (45 + l) (s + 1)) B := by
    intro h1 S1 t1 o1 e4 e04 f118 f25 f194 a194 f20 a20
    have t2 := Nt_p1 (v := s) (g := am_fr h 118 (am_ar h (am_fr h 20 N) p)) t1 o1 (l := l) (by omega) (by rw [f20, a20, f118])
    have e04' : u3 S1 3 p (45 + l) (s + 1) 0 0 4 = S 0 0 4 := by rw [u3_nc (by decide), e04]
    have w := (G_fc t2).2.2.2 s hs.1 (by omega)
    have hg : (am_ar h (am_fr h 194 (am_fr h 25 N)) s) = am_ar (am_sai h1 (am_fr h 118 (am_ar h (am_fr h 20 N) p)) l s) (am_fr (am_sai h1 (am_fr h 118 (am_ar h (am_fr h 20 N) p)) l s) 194 (am_fr (am_sai h1 (am_fr h 118 (am_ar h (am_fr h 20 N) p)) l s) 25 N)) s := by
      show _ = am_ar h1 (am_fr h1 194 (am_fr h1 25 N)) s
      rw [f25, f194, a194]
    rw [← hg] at w
    rw [← u3_34]
    refine Nt_sg t2 (s := s) (by omega) hg (fx_sfi (fx_sfi fx_refl (Or.inr rfl)) (Or.inr rfl)) (fun _ => rfl) (fun f hf => by rw [x_fif (by omega), x_fif (by omega)]) (fun c c1 => by rw [u3_r c1, u3_r c1]) (fun q e => by rw [u3_rp e, u3_rp e]) (fun o ho => by rw [u3_no (by omega), u3_no (by omega)]) ?_ ?_ ?_ ?_
    · rw [x_fif (by decide), x_fie, u3_eq]
    · rw [x_fie, u3_no (by decide), u3_eq]
    · rw [x_fif (by decide), x_fif (by decide), u3_no (by decide), u3_no (by decide)]
      exact w.2.2.2.2.2.2.2.2.2.1
    · rw [x_fif (by decide), x_fif (by decide), u3_56 (i := 10) (by decide) (by decide), u3_56 (i := 11) (by decide) (by decide)]
      exact w.2.2.2.2.2.2.2.2.2.2.2
  obtain ⟨d, rfl⟩ : ∃ d, D = d + 13 := ⟨D - 13, by omega⟩
  refine am_en p_X3_put rfl rfl ?_
  refine v_X3_put_0 ?_
  rw [z5 l hl.1 hl.2, z4, pt.2.1, g2]
  refine ⟨⟨pt.1.1, Or.inl z3.1, hl⟩, fun c => ?_, fun c => ?_⟩
  · have e0 : S 3 p (45 + l) = 0 := by omega
    have L1 := last h S t o rfl rfl rfl rfl rfl rfl rfl rfl
    have eP : ptS S s p l = u3 (u3 (u3 S 4 s 5 l) 4 s 6 p) 3 p (45 + l) (s + 1) := by
      unfold ptS
      rw [if_pos e0]
    rw [← eP] at L1
    refine ⟨z3.1, g3, g1.1, ⟨g1, by show 0 ≤ s ∧ s < am_fi h 195 (am_fr h 25 N); rw [g2]; exact hs⟩, Or.inr (G_ty q), G_ty q, H _ L1 (fx_sub (fx_sfi (fx_sfi (fx_sai fx_refl (Or.inr (Or.inl rfl))) (Or.inr (Or.inr rfl))) (Or.inr (Or.inr rfl)) : fx (fun c => c = am_fr h 118 (am_ar h (am_fr h 20 N) p) ∨ c = (am_ar h (am_fr h 194 (am_fr h 25 N)) s)) _ _) (fun c hc e => ?_)) rfl rfl⟩
    rcases e with e | e
    · rw [e]
      exact g3' _ z3
    · rw [e]
      exact g2' q
  · have s0 : 0 ≤ S 3 p (45 + l) - 1 ∧ S 3 p (45 + l) - 1 < S 0 0 4 := by omega
    have v := g4 _ s0.1 s0.2
    have n0 : ¬ S 3 p (45 + l) = 0 := by omega
    have eP : ptS S s p l = u3 (u3 (u3 (u3 (u3 (u3 S 4 (S 3 p (45 + l) - 1) 4 2) 4 (S 3 p (45 + l) - 1) 5 (-1)) 4 (S 3 p (45 + l) - 1) 6 (-1)) 4 s 5 l) 4 s 6 p) 3 p (45 + l) (s + 1) := by
      unfold ptS
      rw [if_neg n0]
    generalize hs0 : S 3 p (45 + l) - 1 = r at *
    have t1 : Nt (am_sfi (am_sfi (am_sfi h 163 (am_ar h (am_fr h 194 (am_fr h 25 N)) r) 2) 161 (am_ar h (am_fr h 194 (am_fr h 25 N)) r) (-1)) 162 (am_ar h (am_fr h 194 (am_fr h 25 N)) r) (-1)) L x P N (u3 (u3 (u3 S 4 r 4 2) 4 r 5 (-1)) 4 r 6 (-1)) B := by
      refine Nt_sg t (s := r) s0 rfl (fx_sfi (fx_sfi (fx_sfi fx_refl (Or.inr rfl)) (Or.inr rfl)) (Or.inr rfl)) (fun _ => rfl) (fun f hf => by rw [x_fif (by omega), x_fif (by omega), x_fif (by omega)]) (fun c c1 => by rw [u3_r c1, u3_r c1, u3_r c1]) (fun q e => by rw [u3_rp e, u3_rp e, u3_rp e]) (fun o ho => by rw [u3_no (by omega), u3_no (by omega), u3_no (by omega)]) ?_ ?_ ?_ ?_
      · rw [x_fif (by decide), x_fie, u3_eq]
      · rw [x_fie, u3_no (by decide), u3_eq]
      · rw [x_fif (by decide), x_fif (by decide), x_fie, u3_no (by decide), u3_no (by decide), u3_eq]
      · rw [x_fif (by decide), x_fif (by decide), x_fif (by decide), u3_no (by decide), u3_no (by decide), u3_no (by decide), u3_no (by decide), u3_no (by decide), u3_no (by decide)]
        exact v.2.2.2.2.2.2.2.2.2.2.2
    have r0 : ∀ c, c ≠ 4 → u3 (u3 (u3 S 4 r 4 2) 4 r 5 (-1)) 4 r 6 (-1) c = S c := fun c c1 => by rw [u3_r c1, u3_r c1, u3_r c1]
    have L1 := last _ _ t1 (okPl_c (r0 0 (by decide)) (r0 2 (by decide)) (fun o _ => by rw [r0 3 (by decide)]) o) (by rw [r0 3 (by decide)]) (by rw [r0 0 (by decide)]) rfl rfl rfl rfl rfl rfl
    rw [← eP] at L1
    refine ⟨g3, g1.1, ⟨g1, s0⟩, Or.inr (G_ty v), G_ty v, z3.1, ⟨⟨g1.1, g1.2.1, ?_, g1.2.2.2⟩, ?_⟩, Or.inr (G_ty q), G_ty q, H _ L1 (fx_sub (fx_sfi (fx_sfi (fx_sai (fx_sfi (fx_sfi (fx_sfi fx_refl (Or.inr (Or.inl rfl))) (Or.inr (Or.inl rfl))) (Or.inr (Or.inl rfl))) (Or.inr (Or.inr (Or.inl rfl)))) (Or.inr (Or.inr (Or.inr rfl)))) (Or.inr (Or.inr (Or.inr rfl))) : fx (fun c => c = (am_ar h (am_fr h 194 (am_fr h 25 N)) r) ∨ c = am_fr h 118 (am_ar h (am_fr h 20 N) p) ∨ c = (am_ar h (am_fr h 194 (am_fr h 25 N)) s)) _ _) (fun c hc e => ?_)) rfl rfl⟩
    · show 0 ≤ am_fi (am_sfi (am_sfi (am_sfi h 163 (am_ar h (am_fr h 194 (am_fr h 25 N)) r) 2) 161 (am_ar h (am_fr h 194 (am_fr h 25 N)) r) (-1)) 162 (am_ar h (am_fr h 194 (am_fr h 25 N)) r) (-1)) 195 (am_fr h 25 N) ∧ am_fi (am_sfi (am_sfi (am_sfi h 163 (am_ar h (am_fr h 194 (am_fr h 25 N)) r) 2) 161 (am_ar h (am_fr h 194 (am_fr h 25 N)) r) (-1)) 162 (am_ar h (am_fr h 194 (am_fr h 25 N)) r) (-1)) 195 (am_fr h 25 N) ≤ _
      rw [x_fif (by decide), x_fif (by decide), x_fif (by decide)]
      exact g1.2.2.1
    · show 0 ≤ s ∧ s < am_fi (am_sfi (am_sfi (am_sfi h 163 (am_ar h (am_fr h 194 (am_fr h 25 N)) r) 2) 161 (am_ar h (am_fr h 194 (am_fr h 25 N)) r) (-1)) 162 (am_ar h (am_fr h 194 (am_fr h 25 N)) r) (-1)) 195 (am_fr h 25 N)
      rw [x_fif (by decide), x_fif (by decide), x_fif (by decide), g2]
      exact hs
    · rcases e with e | e | e
      · rw [e]
        exact g2' v
      · rw [e]
        exact g3' _ z3
      · rw [e]
        exact g2' q
end
