set_option maxRecDepth 100000
/-! a slug is cast -/
/-- letters of a line that are no blanks -/
def nbl : List Int → Int
  | [] => 0
  | x :: l => (if x = 32 then 0 else 1) + nbl l
/-- the numbers of a new slug -/
def nsl (S : am_G) (m : List Int) (p k l co : Int) : Int → Int := fun i => if i = 0 then p else if i = 1 then k else if i = 2 then S 0 0 0 else if i = 3 then nbl m else if i = 4 then 0 else if i = 7 then co else if i = 8 then l else if i = 9 then (m.length : Int) else if i = 10 ∨ i = 11 then 0 else if 12 ≤ i ∧ i < 12 + (m.length : Int) then gt m (i - 12).toNat else if 432 ≤ i ∧ i < 432 + (m.length : Int) then gt m (i - 432).toNat else S 4 (S 0 0 4) i
def cs1 (S : am_G) (m : List Int) (p k l co : Int) : am_G := fun c q i => if c = 4 ∧ q = (S 0 0 4) then nsl S m p k l co i else S c q i
/-- as the component makes it, not yet at its place -/
def csA (S : am_G) (m : List Int) (p k l co : Int) : am_G := u3 (u3 (u3 (cs1 S m p k l co) 4 (S 0 0 4) 5 0) 4 (S 0 0 4) 6 0) 0 0 4 ((S 0 0 4) + 1)
theorem csA_v {S : am_G} {m : List Int} {p k l co : Int} (hm : (m.length : Int) ≤ 420) : (∀ c, c ≠ 4 → c ≠ 0 → csA S m p k l co c = S c) ∧ (∀ j, j ≠ 4 → csA S m p k l co 0 0 j = S 0 0 j) ∧ csA S m p k l co 0 0 4 = (S 0 0 4) + 1 ∧ (∀ q, q ≠ (S 0 0 4) → csA S m p k l co 4 q = S 4 q) ∧ csA S m p k l co 4 (S 0 0 4) 0 = p ∧ csA S m p k l co 4 (S 0 0 4) 1 = k ∧ csA S m p k l co 4 (S 0 0 4) 2 = S 0 0 0 ∧ csA S m p k l co 4 (S 0 0 4) 3 = nbl m ∧ csA S m p k l co 4 (S 0 0 4) 4 = 0 ∧ csA S m p k l co 4 (S 0 0 4) 5 = 0 ∧ csA S m p k l co 4 (S 0 0 4) 6 = 0 ∧ csA S m p k l co 4 (S 0 0 4) 7 = co ∧ csA S m p k l co 4 (S 0 0 4) 8 = l ∧ csA S m p k l co 4 (S 0 0 4) 9 = (m.length : Int) ∧ csA S m p k l co 4 (S 0 0 4) 10 = 0 ∧ csA S m p k l co 4 (S 0 0 4) 11 = 0 ∧ (∀ j : Nat, j < m.length → csA S m p k l co 4 (S 0 0 4) (12 + (j : Int)) = gt m j ∧ csA S m p k l co 4 (S 0 0 4) (432 + (j : Int)) = gt m j) := by
  have e1 : ∀ i, cs1 S m p k l co 4 (S 0 0 4) i = nsl S m p k l co i := fun i => if_pos ⟨rfl, rfl⟩
  have ei : ∀ i, i ≠ 5 → i ≠ 6 → csA S m p k l co 4 (S 0 0 4) i = nsl S m p k l co i := fun i i5 i6 => by
    unfold csA
    rw [u3_nc (by decide), u3_no i6, u3_no i5, e1]
  refine ⟨fun c c4 c0 => ?_, fun j j4 => ?_, u3_eq, fun q hq => ?_, ei 0 (by decide) (by decide), ei 1 (by decide) (by decide), ei 2 (by decide) (by decide), ei 3 (by decide) (by decide), ei 4 (by decide) (by decide), ?_, ?_, ei 7 (by decide) (by decide), ei 8 (by decide) (by decide), ei 9 (by decide) (by decide), ei 10 (by decide) (by decide), ei 11 (by decide) (by decide), fun j hj => ⟨?_, ?_⟩⟩
  · unfold csA
    rw [u3_r c0, u3_r c4, u3_r c4]
    funext q i
    exact if_neg (fun z => c4 z.1)
  · unfold csA
    rw [u3_no j4, u3_nc (by decide), u3_nc (by decide)]
    exact if_neg (fun z => absurd z.1 (by decide))
  · unfold csA
    rw [u3_r (by decide), u3_rp hq, u3_rp hq]
    funext i
    exact if_neg (fun z => hq z.2)
  · unfold csA
    rw [u3_nc (by decide), u3_no (by decide), u3_eq]
  · unfold csA
    rw [u3_nc (by decide), u3_eq]
  · rw [ei _ (by omega) (by omega)]
    unfold nsl
    rw [if_neg (by omega), if_neg (by omega), if_neg (by omega), if_neg (by omega), if_neg (by omega), if_neg (by omega), if_neg (by omega), if_neg (by omega), if_neg (by omega), if_pos (by omega)]
    congr 1
    omega
  · rw [ei _ (by omega) (by omega)]
    unfold nsl
    rw [if_neg (by omega), if_neg (by omega), if_neg (by omega), if_neg (by omega), if_neg (by omega), if_neg (by omega), if_neg (by omega), if_neg (by omega), if_neg (by omega), if_neg (by omega), if_pos (by omega)]
    congr 1
    omega
theorem lsG_n {S S' : am_G} {k mi : Int} (e : ∀ q, 0 ≤ q → q < (S 0 0 4) → S' 4 q = S 4 q) (h0 : 0 ≤ (S 0 0 4)) (e4 : S' 0 0 4 = (S 0 0 4) + 1) (hm : S' 4 (S 0 0 4) 2 ≠ mi) : lsG S' k mi (S' 0 0 4).toNat = lsG S k mi ((S 0 0 4)).toNat := by
  have e1 : (S' 0 0 4).toNat = ((S 0 0 4)).toNat + 1 := by omega
  have e2 : ((((S 0 0 4)).toNat : Nat) : Int) = (S 0 0 4) := by omega
  have st : ∀ m : Nat, (m : Int) ≤ (S 0 0 4) → lsG S' k mi m = lsG S k mi m := by
    intro m
    induction m with
    | zero => intro _; rfl
    | succ m ih =>
      intro hm
      unfold lsG
      rw [e m (by omega) (by omega), ih (by omega)]
  rw [e1]
  show (if S' 4 ((((S 0 0 4)).toNat : Nat) : Int) 1 = k ∧ S' 4 ((((S 0 0 4)).toNat : Nat) : Int) 2 = mi then ((((S 0 0 4)).toNat : Nat) : Int) else lsG S' k mi ((S 0 0 4)).toNat) = _
  rw [e2, if_neg (fun z => hm z.2), st _ (by omega)]
theorem crN_n {S S' : am_G} (e : ∀ q, 0 ≤ q → q < (S 0 0 4) → S' 4 q = S 4 q) (h0 : 0 ≤ (S 0 0 4)) (e4 : S' 0 0 4 = (S 0 0 4) + 1) : crN S' = crN S + am_b (S' 4 (S 0 0 4) 7 = 1) := by
  unfold crN
  rw [e4, sg_s h0]
  congr 1
  exact sg_c _ (fun j j1 j2 => by
    show am_b (S' 4 j 7 = 1) = am_b (S 4 j 7 = 1)
    rw [e j j1 (by omega)])
/-- a string of letters as a list is one as numbers -/
theorem iSl_c {h : am_H} {L : am_Lb} {s : Nat} {m : List Int} {f : Int → Int} (x : iSl h L s m) (e : ∀ j : Nat, j < m.length → f (j : Int) = gt m j) : iSc h L s (m.length : Int) f := by
  obtain ⟨⟨x1, x2, x3⟩, x4⟩ := x
  refine ⟨⟨x1, x2, fun k k1 k2 => ?_⟩, x4⟩
  have ek : ((k.toNat : Nat) : Int) = k := by omega
  have a := x3 k.toNat (by omega)
  have b := e k.toNat (by omega)
  rw [ek] at a b
  rw [a, b]
section
variable {K : am_K} {h : am_H}
/-- the slug is made and put behind the slugs, the night's count of corrected ones is new: the relation -/
theorem Nt_cast {L : am_Lb} {x P N : Nat} {S : am_G} {B : Int} {h1 h2 h3 : am_H} {m : List Int} {p k l co : Int} {tx : Nat} (t : Nt h L x P N S B) (hC : okC S) (hF : okF S) (hx : am_ty h x = 1) {Rn : Nat} (hN : am_fr h 1 x = Rn) (hz : x ≤ am_sz h) (hl : L x = (x, 0, 0, 0)) (hB : B ≤ 1000000) (h04 : 0 ≤ (S 0 0 4) ∧ (S 0 0 4) < 300) (hk : 0 ≤ k ∧ k < S 0 0 3) (ip : isP S p) (hco : co = 0 ∨ co = 1) (hm : (m.length : Int) ≤ 420) (hr : ∀ i, 0 ≤ i → i < S 0 0 7 → S 10 0 (5 * i) < S 0 0 0) (ht : iSl h L tx m)
    (a : fx (fun _ => False) h h1) (z1 : am_sz h1 = am_sz h + 1) (ty : am_ty h1 (am_sz h + 1) = if co = 1 then 24 else 23) (i1 : am_fi h1 155 (am_sz h + 1) = p ∧ am_fi h1 156 (am_sz h + 1) = k ∧ am_fi h1 157 (am_sz h + 1) = S 0 0 0 ∧ am_fi h1 158 (am_sz h + 1) = l ∧ am_fi h1 159 (am_sz h + 1) = S 2 0 (p / 5)) (i2 : am_fr h1 160 (am_sz h + 1) = tx ∧ am_fr h1 164 (am_sz h + 1) = tx) (i3 : am_fi h1 161 (am_sz h + 1) = 0 ∧ am_fi h1 162 (am_sz h + 1) = 0 ∧ am_fi h1 163 (am_sz h + 1) = 0 ∧ am_fi h1 165 (am_sz h + 1) = 0)
    (fr : fx (fun q => q = am_fr h 25 N ∨ (q = am_fr h1 194 (am_fr h 25 N) ∧ am_fi h1 195 (am_fr h 25 N) < am_ln h1 (am_fr h1 194 (am_fr h 25 N)))) h1 h2) (xm : xLm h2 (am_fr h 25 N)) (e5 : am_fi h2 195 (am_fr h 25 N) = am_fi h1 195 (am_fr h 25 N) + 1) (e3 : am_fi h2 193 (am_fr h 25 N) = am_fi h1 193 (am_fr h 25 N) + 1) (el : ∀ j, 0 ≤ j → j < am_fi h1 195 (am_fr h 25 N) → am_ar h2 (am_fr h2 194 (am_fr h 25 N)) j = am_ar h1 (am_fr h1 194 (am_fr h 25 N)) j) (en : am_ar h2 (am_fr h2 194 (am_fr h 25 N)) (am_fi h1 195 (am_fr h 25 N)) = (am_sz h + 1)) (hA : am_fr h2 194 (am_fr h 25 N) = am_fr h1 194 (am_fr h 25 N) ∨ am_sz h1 < am_fr h2 194 (am_fr h 25 N)) (hg : am_ln h2 (am_fr h2 194 (am_fr h 25 N)) = am_ln h1 (am_fr h1 194 (am_fr h 25 N)) ∨ (am_fi h1 195 (am_fr h 25 N) = am_ln h1 (am_fr h1 194 (am_fr h 25 N)) ∧ am_ln h1 (am_fr h1 194 (am_fr h 25 N)) < am_ln h2 (am_fr h2 194 (am_fr h 25 N)))) (h3e : h3 = am_sfi h2 29 N (crN S + co)) :
    ∃ L3, Nt h3 L3 x P N (csA S m p k l co) (B + 1) ∧ leL h L L3 ∧ fx (fun q => (L q).1 = N ∧ ((L q).2.1 = 0 ∨ ((L q).2.1 = 4 ∧ (L q).2.2.1 ≠ 2))) h h3 ∧ (∀ q, am_sz h < q → (L3 q).1 = 0 ∨ (L3 q).1 = N) ∧ (∀ f, am_fr h3 f N = am_fr h f N) ∧ am_fi h2 29 N = crN S := by
  obtain ⟨x1, x2, x3, x4, x5, x6, x7, x8, x9, x10⟩ := t.2.2.2.1
  obtain ⟨v1, v2, v3, v4, v5, v6, v7, v8, v9, v10, v11, v12, v13, v14, v15, v16, v17⟩ := csA_v (S := S) (m := m) (p := p) (k := k) (l := l) (co := co) hm
  have sN := x1.1.2.1
  -- the slug's label
  have le1 : leL h L (lbA L h (am_sz h + 1) (N, 4, 2, (S 0 0 4))) := fun q hq => if_neg (fun z => absurd z.2 (by omega))
  have lj : lbA L h (am_sz h + 1) (N, 4, 2, (S 0 0 4)) (am_sz h + 1) = (N, 4, 2, (S 0 0 4)) := if_pos ⟨rfl, by omega⟩
  have tyn : ¬ imT (am_ty h1 (am_sz h + 1)) := by
    rw [ty]
    unfold imT
    split <;> omega
  have ok1 : okLb h1 (lbA L h (am_sz h + 1) (N, 4, 2, (S 0 0 4))) := by
    refine ⟨(a.2.2.2 0 (Nat.zero_le _)).1.trans t.1.1, fun q hq y => ?_, fun q hq => ?_⟩
    · by_cases c : q = (am_sz h + 1)
      · rw [c] at y
        exact absurd y tyn
      · rw [le1 q (by omega)]
        rw [(a.2.2.2 q (by omega)).1] at y
        exact t.1.2.1 q (by omega) y
    · have e : lbA L h (am_sz h + 1) (N, 4, 2, (S 0 0 4)) q = L q := if_neg (fun z => absurd z.1 (by omega))
      rw [e]
      exact t.1.2.2 q (by omega)
  have lE0 : ∀ q, am_sz h < q → q ≠ (am_sz h + 1) → (lbA L h (am_sz h + 1) (N, 4, 2, (S 0 0 4)) q).1 = 0 := fun q hq qE => by
    have e : lbA L h (am_sz h + 1) (N, 4, 2, (S 0 0 4)) q = L q := if_neg (fun z => qE z.1)
    rw [e]
    exact t.1.2.2 q hq
  generalize lbA L h (am_sz h + 1) (N, 4, 2, (S 0 0 4)) = L1 at le1 lj ok1 lE0
  have t1 := Nt_fxL a le1 ok1 t
  have eN : ∀ f, am_fr h1 f N = am_fr h f N := ((a.2.2.2 N sN).2.2 id).2.1
  obtain ⟨y1, y2, y3, y4, y5, y6, y7, y8, y9, y10⟩ := t1.2.2.2.1
  rw [eN 25] at y6
  have rl := y6.1
  have rl5 := rl.2.2.2.2.1
  obtain ⟨le, ok2, rl2⟩ := rL_add t1.1 rl fr xm e5 e3 hA hg
  have f26 := rL_X rl
  rw [rl5] at el en
  have lN : ∀ q, am_sz h1 < q → (lbA L1 h1 (am_fr h2 194 (am_fr h 25 N)) (N, 4, 0 + 1, 0) q).1 = 0 ∨ (lbA L1 h1 (am_fr h2 194 (am_fr h 25 N)) (N, 4, 0 + 1, 0) q).1 = N := lbA_n (h' := h2) t1.1
  generalize lbA L1 h1 (am_fr h2 194 (am_fr h 25 N)) (N, 4, 0 + 1, 0) = L2 at le ok2 rl2 lN
  have b3 : fx (fun q => (q = am_fr h 25 N ∨ (q = am_fr h1 194 (am_fr h 25 N) ∧ am_fi h1 195 (am_fr h 25 N) < am_ln h1 (am_fr h1 194 (am_fr h 25 N)))) ∨ q = N) h1 h3 := by
    rw [h3e]
    exact fx_sfi (fx_sub fr (fun q _ z => Or.inl z)) (Or.inr (Or.inr rfl))
  have hX : ∀ q, q ≤ am_sz h1 → ((q = am_fr h 25 N ∨ (q = am_fr h1 194 (am_fr h 25 N) ∧ am_fi h1 195 (am_fr h 25 N) < am_ln h1 (am_fr h1 194 (am_fr h 25 N)))) ∨ q = N) → (L1 q).1 = N ∧ (((L1 q).2.1 = 4 ∧ (L1 q).2.2.1 ≠ 2) ∨ (L1 q).2.1 = 0) := fun q hq z => by
    rcases z with (e | e) | e
    · rw [e, rl.2.2.1]
      exact ⟨rfl, Or.inl ⟨rfl, by show (0 : Nat) ≠ 2; decide⟩⟩
    · rw [e.1, rl.2.2.2.1 (by have := rl.1.1.2.2.1; omega)]
      exact ⟨rfl, Or.inl ⟨rfl, by show (1 : Nat) ≠ 2; decide⟩⟩
    · rw [e, y1.1.2.2.2]
      exact ⟨rfl, Or.inr rfl⟩
  have zf' : ∀ g, g ≠ 0 → g ≠ 4 → ∀ q, q ≤ am_sz h1 → ((q = am_fr h 25 N ∨ (q = am_fr h1 194 (am_fr h 25 N) ∧ am_fi h1 195 (am_fr h 25 N) < am_ln h1 (am_fr h1 194 (am_fr h 25 N)))) ∨ q = N) → zf L1 N g q := fun g g0 g4 q hq w => ⟨by rw [(hX q hq w).1]; exact t.2.2.2.2.2.2, fun u => by
    have := (hX q hq w).2
    rw [u.2] at this
    omega⟩
  have fi3 : ∀ f q, ¬ (f = 29 ∧ q = N) → am_fi h3 f q = am_fi h2 f q := fun f q hq => by
    rw [h3e]
    by_cases f29 : f = 29
    · rw [f29, x_fir (fun z => hq ⟨f29, z⟩)]
    · rw [x_fif f29]
  have nN : ¬ (N = am_fr h 25 N ∨ (N = am_fr h1 194 (am_fr h 25 N) ∧ am_fi h1 195 (am_fr h 25 N) < am_ln h1 (am_fr h1 194 (am_fr h 25 N)))) := fun z => by
    have e := (f26 N y1.1.2.1 z).2
    rw [y1.1.2.2.2] at e
    exact absurd e (by simp)
  have bN := (fr.2.2.2 N y1.1.2.1).2.2 nN
  have hrN : ∀ f, am_fr h3 f N = am_fr h1 f N := fun f => by
    rw [h3e]
    exact bN.2.1 f
  have e29 : am_fi h2 29 N = crN S := (bN.1 29).trans y1.2.2.2.2.2.2
  have es4 : ∀ q, 0 ≤ q → q < (S 0 0 4) → csA S m p k l co 4 q = S 4 q := fun q _ q2 => v4 q (by omega)
  have nsE : ¬ (((am_sz h + 1) = am_fr h 25 N ∨ ((am_sz h + 1) = am_fr h1 194 (am_fr h 25 N) ∧ am_fi h1 195 (am_fr h 25 N) < am_ln h1 (am_fr h1 194 (am_fr h 25 N)))) ∨ (am_sz h + 1) = N) := fun z => by
    have e := (hX (am_sz h + 1) (by omega) z).2
    rw [lj] at e
    rcases e with e | e
    · exact e.2 rfl
    · exact absurd e (by simp)
  have t3 : Nt h3 L2 x P N (csA S m p k l co) (B + 1) := by
    refine Nt_all t1 (by omega) b3 le ?_ (fun q hq z => ⟨(hX q hq z).1, by have := (hX q hq z).2; omega⟩) hrN ⟨v1 1 (by decide) (by decide), v1 6 (by decide) (by decide), v1 7 (by decide) (by decide), v1 8 (by decide) (by decide), v1 9 (by decide) (by decide)⟩ ⟨v2 2 (by decide), v2 5 (by decide), v2 6 (by decide)⟩ ?_ ?_ ?_ ?_ ?_
    · rw [h3e]
      exact ok2
    · refine ⟨(nd_fy b3 le y1.1).1, (hrN 17).trans y1.2.1, ?_, ?_, ?_, ?_, ?_⟩
      · rw [fi3 18 N (by omega), bN.1 18, v2 0 (by decide)]
        exact y1.2.2.1
      · rw [fi3 21 N (by omega), bN.1 21, v2 1 (by decide)]
        exact y1.2.2.2.1
      · rw [fi3 24 N (by omega), bN.1 24, v2 3 (by decide)]
        exact y1.2.2.2.2.1
      · rw [fi3 32 N (by omega), bN.1 32, v2 7 (by decide)]
        exact y1.2.2.2.2.2.1
      · rw [h3e, x_fie, crN_n es4 h04.1 v3, v12]
        congr 1
        rcases hco with e | e <;> rw [e] <;> rfl
    · exact rP_fx b3 le t1.1 t1.2.1.1 (zf' 3 (by decide) (by decide)) (v2 1 (by decide)) (v1 2 (by decide) (by decide)) (v1 3 (by decide) (by decide)) y3
    · refine rM_fx b3 le t1.1 t1.2.1.1 (zf' 5 (by decide) (by decide)) (by omega) (v2 3 (by decide)) (v1 5 (by decide) (by decide)) (fun k i _ _ _ _ => ?_) y5
      unfold bhd
      rw [v1 5 (by decide) (by decide), v1 3 (by decide) (by decide)]
    · rw [eN 25]
      have rl3 : rL h3 L2 (am_fr h 25 N) N 4 0 0 ((S 0 0 4) + 1) (B + 1) := by
        rw [h3e]
        obtain ⟨⟨⟨w1, w2, w3, w4⟩, w5, w6⟩, w7, w8, w9, w10, w11⟩ := rl2
        refine ⟨⟨⟨w1, w2, ?_, w4⟩, w5, w6⟩, w7, w8, w9, ?_, ?_⟩
        · rw [x_fif (by decide)]
          exact w3
        · rw [x_fif (by decide)]
          exact w10
        · rw [x_fif (by decide)]
          exact w11
      unfold rG
      rw [v3]
      refine ⟨rl3, fun s s1 s2 => ?_⟩
      have ea : am_ar h3 (am_fr h3 194 (am_fr h 25 N)) = am_ar h2 (am_fr h2 194 (am_fr h 25 N)) := by
        rw [h3e]
        rfl
      rw [ea]
      have hzz : ∀ q, q ≤ am_sz h1 → ((q = am_fr h 25 N ∨ (q = am_fr h1 194 (am_fr h 25 N) ∧ am_fi h1 195 (am_fr h 25 N) < am_ln h1 (am_fr h1 194 (am_fr h 25 N)))) ∨ q = N) → (L1 q).1 ≠ 0 := fun q hq z => by
        rw [(hX q hq z).1]
        exact t.2.2.2.2.2.2
      by_cases es : s = (S 0 0 4)
      · rw [es, en]
        have nE : nd h1 L1 (am_sz h + 1) (if co = 1 then 24 else 23) N 4 2 (S 0 0 4) := ⟨ty, by omega, by omega, lj⟩
        have wE := nd_fx b3 le nE nsE
        have im : ∀ q, q ≤ am_sz h1 → _ → (L1 q).1 ≠ 0 ∧ ¬ imT (am_ty h1 q) := fun q hq z => ⟨hzz q hq z, fun y => hzz q hq z (t1.1.2.1 q hq y)⟩
        have st := iSl_fx b3 le im (iSl_fx a le1 (fun _ _ z => z.elim) ht)
        unfold rSg
        rw [wE.2.2.1, wE.2.2.1, wE.2.2.1, wE.2.2.1, wE.2.2.1, wE.2.2.1, wE.2.2.1, wE.2.2.1, wE.2.2.1, wE.2.2.2.1, wE.2.2.2.1, v5, v6, v7, v9, v10, v11, v12, v13, v14, v15, v16, i2.1, i2.2, v1 2 (by decide) (by decide)]
        refine ⟨wE.1, i1.1, i1.2.1, i1.2.2.1, i1.2.2.2.1, i1.2.2.2.2, iSl_c st (fun j hj => (v17 j hj).1), i3.1, i3.2.1, i3.2.2.1, iSl_c st (fun j hj => (v17 j hj).2), i3.2.2.2⟩
      · rw [el s s1 (by omega)]
        have xs := y6.2 s s1 (by omega)
        refine rSg_fx b3 le t1.1 hzz ?_ (v4 s es) xs (fun z => ?_)
        · rw [v1 2 (by decide) (by decide)]
        · have e := (hX _ xs.1.2.1 z).2
          rw [xs.1.2.2.2] at e
          rcases e with e | e
          · exact e.2 rfl
          · exact absurd e (by simp)
    · refine rR_fx b3 le t1.1 t1.2.1.1 (zf' 10 (by decide) (by decide)) (v2 7 (by decide)) (v1 10 (by decide) (by decide)) (fun i q i1' i2' _ _ => ?_) y10
      refine lsG_n es4 h04.1 v3 ?_
      rw [v7]
      have := hr i i1' i2'
      omega
  refine ⟨L2, t3, fun q hq => (le q (by omega)).trans (le1 q hq), ⟨?_, ?_, ?_, fun q hq => ?_⟩, fun q hq => ?_, fun f => (hrN f).trans (eN f), e29⟩
  · exact Nat.le_trans a.1 b3.1
  · exact Nat.le_trans a.2.1 b3.2.1
  · exact b3.2.2.1.trans a.2.2.1
  · obtain ⟨p1, p2, p3⟩ := a.2.2.2 q hq
    obtain ⟨r1, r2, r3⟩ := b3.2.2.2 q (by omega)
    refine ⟨r1.trans p1, r2.trans p2, fun nq => ?_⟩
    have o := p3 id
    have o2 := r3 (fun z => nq (by show (L q).1 = N ∧ ((L q).2.1 = 0 ∨ ((L q).2.1 = 4 ∧ (L q).2.2.1 ≠ 2)); rw [← le1 q hq]; have w := hX q (by omega) z; exact ⟨w.1, w.2.symm⟩))
    exact ⟨fun f => (o2.1 f).trans (o.1 f), fun f => (o2.2.1 f).trans (o.2.1 f), o2.2.2.1.trans o.2.2.1, o2.2.2.2.trans o.2.2.2⟩
  · by_cases c : q ≤ am_sz h1
    · rw [le q c]
      have : q = (am_sz h + 1) := by omega
      rw [this, lj]
      exact Or.inr rfl
    · exact lN q (by omega)
end
