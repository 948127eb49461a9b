set_option maxRecDepth 100000
/-! a job begins: its part is set -/
/-- the lines of part p are set as the table says -/
def stL (S : am_G) (p : Int) (T : Int → Int × Int × Int) : am_G := fun c q i => if c = 3 ∧ q = p then (if i = 3 then 1 else if i = 4 then (T 0).2.1 else if 5 ≤ i ∧ i < 5 + (T 0).2.1 then nx T ((i - 5).toNat + 1) 0 - 1 else if 45 ≤ i ∧ i < 45 + (T 0).2.1 then 0 else S 3 p i) else S c q i
theorem stL_v {S : am_G} {p : Int} {T : Int → Int × Int × Int} (h40 : (T 0).2.1 ≤ 40) : (∀ c, c ≠ 3 → stL S p T c = S c) ∧ (∀ q, q ≠ p → stL S p T 3 q = S 3 q) ∧ stL S p T 3 p 3 = 1 ∧ stL S p T 3 p 4 = (T 0).2.1 ∧ (∀ l, 0 ≤ l → l < (T 0).2.1 → stL S p T 3 p (5 + l) = nx T (l.toNat + 1) 0 - 1 ∧ stL S p T 3 p (45 + l) = 0) ∧ (∀ o, o < 3 ∨ 85 ≤ o → stL S p T 3 p o = S 3 p o) := by
  refine ⟨fun c c3 => ?_, fun q hq => ?_, ?_, ?_, fun l l1 l2 => ⟨?_, ?_⟩, fun o ho => ?_⟩
  · funext q i
    exact if_neg (fun z => c3 z.1)
  · funext i
    exact if_neg (fun z => hq z.2)
  · exact (if_pos ⟨rfl, rfl⟩).trans (if_pos rfl)
  · exact (if_pos ⟨rfl, rfl⟩).trans ((if_neg (by decide)).trans (if_pos rfl))
  · refine (if_pos ⟨rfl, rfl⟩).trans ((if_neg (by omega)).trans ((if_neg (by omega)).trans ((if_pos (by omega)).trans ?_)))
    have e : (5 + l - 5).toNat = l.toNat := by omega
    rw [e]
  · exact (if_pos ⟨rfl, rfl⟩).trans ((if_neg (by omega)).trans ((if_neg (by omega)).trans ((if_neg (by omega)).trans (if_pos (by omega)))))
  · exact (if_pos ⟨rfl, rfl⟩).trans ((if_neg (by omega)).trans ((if_neg (by omega)).trans ((if_neg (by omega)).trans (if_neg (by omega)))))
/-- cells of the night and of the paper are others -/
theorem Nt_all2 {X : Nat → Prop} {h h' : am_H} {L L' : am_Lb} {x P N : Nat} {S S' : am_G} {B B' : Int} (t : Nt h L x P N S B) (hB : B ≤ B') (a : fx X h h') (le : leL h L L') (ok2 : okLb h' L') (hX : ∀ q, q ≤ am_sz h → X q → ((L q).1 = N ∧ ((L q).2.1 = 0 ∨ (L q).2.1 = 3 ∨ (L q).2.1 = 4 ∨ (L q).2.1 = 5 ∨ (L q).2.1 = 10)) ∨ ((L q).1 = x ∧ (L q).2.1 = 1)) (hp : rPap h' L' x P) (hr : ∀ f, am_fr h' f N = am_fr h f N) (eS : S' 1 = S 1 ∧ S' 6 = S 6 ∧ S' 7 = S 7 ∧ S' 8 = S 8 ∧ S' 9 = S 9) (e0 : S' 0 0 2 = S 0 0 2 ∧ S' 0 0 5 = S 0 0 5 ∧ S' 0 0 6 = S 0 0 6) (y0 : rN h' L' N P S') (y3 : rP h' L' N (am_fr h 20 N) S') (y5 : rM h' L' N (am_fr h 23 N) S' B') (y4 : rG h' L' N (am_fr h 25 N) S' B') (y10 : rR h' L' N (am_fr h 30 N) (am_fr h 31 N) S') : Nt h' L' x P N S' B' := by
  obtain ⟨t1, t2, t3, ⟨x1, x2, x3, x4, x5, x6, x7, x8, x9, x10⟩, t5⟩ := t
  have z : ∀ g, g ≠ 0 → g ≠ 3 → g ≠ 4 → g ≠ 5 → g ≠ 10 → ∀ q, q ≤ am_sz h → X q → zf L N g q := fun g g0 g3 g4 g5 g10 q hq w => by
    rcases hX q hq w with u | u
    · refine ⟨by rw [u.1]; exact t5.2.2, fun v => ?_⟩
      have := u.2
      rw [v.2] at this
      omega
    · refine ⟨by rw [u.1]; exact t5.2.1, fun v => ?_⟩
      rw [u.1] at v
      exact t5.1 v.1
  exact ⟨ok2, cs_fx a t2, hp, Rep_mk (h := h) hr ⟨y0, rW_fx a le t1 t2.1 (z 1 (by decide) (by decide) (by decide) (by decide) (by decide)) eS.1 x2, y3, rY_fx a le t1 t2.1 (z 6 (by decide) (by decide) (by decide) (by decide) (by decide)) hB e0.1 eS.2.1 x4, y5, y4, rT_fx a le t1 t2.1 (z 7 (by decide) (by decide) (by decide) (by decide) (by decide)) hB e0.2.1 eS.2.2.1 x7, rH_fx a le t1 t2.1 (z 8 (by decide) (by decide) (by decide) (by decide) (by decide)) eS.2.2.2.1 x8, rE_fx a le t1 t2.1 (z 9 (by decide) (by decide) (by decide) (by decide) (by decide)) hB e0.2.2 eS.2.2.2.2 x9, y10⟩, t5⟩
/-- a part that is left -/
theorem rPt_fz {X : Nat → Prop} {h h' : am_H} {L L' : am_Lb} {N : Nat} (a : fx X h h') (le : leL h L L') (ok : okLb h L) (h0 : ∀ q, q ≤ am_sz h → X q → (L q).1 ≠ 0) {t : Nat} {p : Int} {S S' : am_G} (e2 : S' 2 = S 2) (e3 : S' 3 p = S 3 p) (x : rPt h L N S p t) (n1 : ¬ X t) (n2 : S 3 p 3 ≠ 0 → ¬ X (am_fr h 118 t)) : rPt h' L' N S' p t := by
  obtain ⟨x1, x2, x3, x4, x5, x6, x7, x8, x9⟩ := x
  have y := nd_fx a le x1 n1
  have im : ∀ q, q ≤ am_sz h → X q → (L q).1 ≠ 0 ∧ ¬ imT (am_ty h q) := fun q hq z => ⟨h0 q hq z, fun w => h0 q hq z (ok.2.1 q hq w)⟩
  unfold rPt
  rw [y.2.2.1, y.2.2.1, y.2.2.1, y.2.2.1, y.2.2.1, y.2.2.2.1, y.2.2.2.1, y.2.2.2.1, y.2.2.2.1, e2, e3]
  refine ⟨y.1, x2, x3, x4, x5, x6, iPc_fx a le im x7, x8, fun c => ?_⟩
  obtain ⟨z1, z2, z3, z4, z5⟩ := x9 c
  have w := nd_fx a le z3 (n2 c)
  rw [w.2.1, w.2.2.2.2.1]
  exact ⟨iA_fx a le h0 z1, iLi_fx a le im z2, w.1, z4, z5⟩
section
variable {K : am_K} {h : am_H}
/-- the part is set, the job has begun: the relation -/
theorem Nt_set {L : am_Lb} {x P N : Nat} {S : am_G} {B : Int} {k p n1 : Int} {r1 : Nat} {T : Int → Int × Int × Int} {e : Int → Int} {hk hB h2 : am_H} {Lk : am_Lb} {J : Nat} (t : Nt h L x P N S B) (hC : okC S) (hF : okF S) (ip : isP S p) (s3 : S 3 p 3 = 0) (hkk : 0 ≤ k ∧ k < S 0 0 3) (hn : 0 < S 5 k 29) (hJ : J = (am_ar h (am_fr h 194 (am_fr h 147 (am_ar h (am_fr h 23 N) k))) 0)) (hw : S 5 k 37 ≠ 0) (hpk : S 5 k 33 = p) (hu : ∀ k' i, 0 ≤ k' → k' < S 0 0 3 → 0 ≤ i → i < S 5 k' 29 → S 5 k' (37 + 5 * i) ≠ 0 → S 5 k' (33 + 5 * i) = p → k' = k ∧ i = 0) (hn1 : n1 = (T 0).2.1 ∧ n1 ≤ 40) (he : ∀ l, 0 ≤ l → l < n1 → e l = nx T (l.toNat + 1) 0 - 1) (hb : ∀ l, 0 ≤ l → l < n1 → 0 ≤ bgE e l ∧ 0 ≤ e l) (hr1 : iA h L r1 n1 e) (i : stI1 h L x P (am_ar h (am_fr h 20 N) p) r1 (S 3 p) e n1 n1 hk Lk)
    (a2 : fx (fun q => q = (am_ar h (am_fr h 20 N) p)) hk hB) (z2 : am_sz hB = am_sz hk + 1) (f118 : am_fr hB 118 (am_ar h (am_fr h 20 N) p) = am_sz hk + 1) (frT : ∀ f, f ≠ 118 → am_fr hB f (am_ar h (am_fr h 20 N) p) = am_fr hk f (am_ar h (am_fr h 20 N) p)) (fiT : ∀ f, am_fi hB f (am_ar h (am_fr h 20 N) p) = am_fi hk f (am_ar h (am_fr h 20 N) p)) (ty2 : am_ty hB (am_sz hk + 1) = 101) (ln2 : am_ln hB (am_sz hk + 1) = n1) (ai2 : ∀ l, 0 ≤ l → l < n1 → am_ai hB (am_sz hk + 1) l = -1) (h2e : h2 = am_sfi hB 154 J n1) :
    Nt h2 (lbA Lk hk (am_sz hk + 1) (N, 3, 2, p)) x P N (stL S p T) B ∧ leL h L (lbA Lk hk (am_sz hk + 1) (N, 3, 2, p)) ∧ fx (fun q => ((L q).1 = N ∧ (L q).2.1 ≠ 10) ∨ ((L q).1 = x ∧ (L q).2.1 = 1)) h h2 ∧ (∀ q, am_sz h < q → (lbA Lk hk (am_sz hk + 1) (N, 3, 2, p) q).1 = 0 ∨ (lbA Lk hk (am_sz hk + 1) (N, 3, 2, p) q).1 = N ∨ (lbA Lk hk (am_sz hk + 1) (N, 3, 2, p) q).1 = x) ∧ (∀ f, am_fr h2 f N = am_fr h f N) := by
  obtain ⟨x1, x2, x3, x4, x5, x6, x7, x8, x9, x10⟩ := t.2.2.2.1
  obtain ⟨v1, v2, v3, v4, v5, v6⟩ := stL_v (S := S) (p := p) (T := T) (by omega)
  have pb := isP_bd hC hF ip
  have pt := (x3.2.2 p pb.1.1 pb.1.2).2 ip
  have mk := x5.2.2 k hkk.1 hkk.2
  have j0 := mk.2.2.2.2.2.2.2.2.2.2.1 0 (by omega) hn
  rw [← hJ] at j0
  obtain ⟨i1, i2, i3, i4, i5, i6, i7, i8, i9, i10, i11, i12, i13⟩ := i
  obtain ⟨y1, y2, y3, y4, y5, y6, y7⟩ := t.2.2.1
  have sT := pt.1.2.1
  have sJ := j0.1.2.1
  have sN := x1.1.2.1
  have z1 := i1.1
  -- labels
  have le2 : leL hk Lk (lbA Lk hk (am_sz hk + 1) (N, 3, 2, p)) := fun q hq => if_neg (fun z => absurd z.2 (by omega))
  have le : leL h L (lbA Lk hk (am_sz hk + 1) (N, 3, 2, p)) := fun q hq => (le2 q (Nat.le_trans hq z1)).trans (i2 q hq)
  have lp : lbA Lk hk (am_sz hk + 1) (N, 3, 2, p) (am_sz hk + 1) = (N, 3, 2, p) := if_pos ⟨rfl, by omega⟩
  have lbn : ∀ q, am_sz h < q → (lbA Lk hk (am_sz hk + 1) (N, 3, 2, p) q).1 = 0 ∨ (lbA Lk hk (am_sz hk + 1) (N, 3, 2, p) q).1 = N ∨ (lbA Lk hk (am_sz hk + 1) (N, 3, 2, p) q).1 = x := fun q hq => by
    by_cases c : q = am_sz hk + 1
    · rw [c, lp]
      exact Or.inr (Or.inl rfl)
    · have e : lbA Lk hk (am_sz hk + 1) (N, 3, 2, p) q = Lk q := if_neg (fun z => c z.1)
      rw [e]
      exact (i5 q hq).elim Or.inl (fun w => Or.inr (Or.inr w))
  have okB : okLb hB (lbA Lk hk (am_sz hk + 1) (N, 3, 2, p)) := by
    refine ⟨(a2.2.2.2 0 (Nat.zero_le _)).1.trans i3.1, fun q hq y => ?_, fun q hq => ?_⟩
    · by_cases c : q = am_sz hk + 1
      · rw [c, ty2] at y
        unfold imT at y
        omega
      · have e : lbA Lk hk (am_sz hk + 1) (N, 3, 2, p) q = Lk q := if_neg (fun z => c z.1)
        rw [e]
        rw [(a2.2.2.2 q (by omega)).1] at y
        exact i3.2.1 q (by omega) y
    · have e : lbA Lk hk (am_sz hk + 1) (N, 3, 2, p) q = Lk q := if_neg (fun z => absurd z.1 (by omega))
      rw [e]
      exact i3.2.2 q (by omega)
  generalize lbA Lk hk (am_sz hk + 1) (N, 3, 2, p) = L2 at le2 le lp lbn okB ⊢
  -- frames
  have aB : fx (fun q => q = (am_ar h (am_fr h 20 N) p) ∨ q = (am_fr h 15 P) ∨ q = (am_fr h 185 (am_fr h 15 P))) h hB := fx_trans2 i1 a2 (fun q _ z => Or.inl z)
  have a : fx (fun q => (q = (am_ar h (am_fr h 20 N) p) ∨ q = (am_fr h 15 P) ∨ q = (am_fr h 185 (am_fr h 15 P))) ∨ q = J) h h2 := by
    rw [h2e]
    exact fx_sfi (fx_sub aB (fun q _ z => Or.inl z)) (Or.inr (Or.inr rfl))
  have lT := pt.1.2.2.2
  have lB := y5.2.2.2
  have lR := y6.2.2.2
  have lJ := j0.1.2.2.2
  have hxN := t.2.2.2.2.1
  have hx0 := t.2.2.2.2.2.1
  have hN0 := t.2.2.2.2.2.2
  have hX : ∀ q, (q = (am_ar h (am_fr h 20 N) p) ∨ q = (am_fr h 15 P) ∨ q = (am_fr h 185 (am_fr h 15 P))) ∨ q = J → ((L q).1 = N ∧ ((L q).2.1 = 3 ∧ (L q).2.2.1 = 1 ∧ (L q).2.2.2 = p ∨ (L q).2.1 = 5)) ∨ ((L q).1 = x ∧ (L q).2.1 = 1) := fun q z => by
    rcases z with (z | z | z) | z
    · rw [z, lT]
      exact Or.inl ⟨rfl, Or.inl ⟨rfl, rfl, rfl⟩⟩
    · rw [z, lB]
      exact Or.inr ⟨rfl, rfl⟩
    · rw [z, lR]
      exact Or.inr ⟨rfl, rfl⟩
    · rw [z, lJ]
      exact Or.inl ⟨rfl, Or.inr rfl⟩
  have h0 : ∀ q, q ≤ am_sz h → ((q = (am_ar h (am_fr h 20 N) p) ∨ q = (am_fr h 15 P) ∨ q = (am_fr h 185 (am_fr h 15 P))) ∨ q = J) → (L q).1 ≠ 0 := fun q _ z => by
    rcases hX q z with u | u
    · rw [u.1]
      exact hN0
    · rw [u.1]
      exact hx0
  have zf' : ∀ g, g ≠ 3 → g ≠ 5 → ∀ q, q ≤ am_sz h → ((q = (am_ar h (am_fr h 20 N) p) ∨ q = (am_fr h 15 P) ∨ q = (am_fr h 185 (am_fr h 15 P))) ∨ q = J) → zf L N g q := fun g g3 g5 q hq w => ⟨h0 q hq w, fun u => by
    rcases hX q w with v | v
    · have := v.2
      rw [u.2] at this
      omega
    · rw [u.1] at v
      exact hxN v.1.symm⟩
  have nN : ¬ ((N = (am_ar h (am_fr h 20 N) p) ∨ N = (am_fr h 15 P) ∨ N = (am_fr h 185 (am_fr h 15 P))) ∨ N = J) := fun z => nd_zf x1.1 (zf' 0 (by decide) (by decide) N sN z)
  have hrN : ∀ f, am_fr h2 f N = am_fr h f N := ((a.2.2.2 N sN).2.2 nN).2.1
  have TJ : (am_ar h (am_fr h 20 N) p) ≠ J := fun z => by
    have w := pt.1.1
    rw [z, j0.1.1] at w
    exact absurd w (by decide)
  -- what the part has now
  have im : ∀ q, q ≤ am_sz h → ((q = (am_ar h (am_fr h 20 N) p) ∨ q = (am_fr h 15 P) ∨ q = (am_fr h 185 (am_fr h 15 P))) ∨ q = J) → (L q).1 ≠ 0 ∧ ¬ imT (am_ty h q) := fun q hq z => ⟨h0 q hq z, fun w => h0 q hq z (t.1.2.1 q hq w)⟩
  have fr2 : ∀ f, am_fr h2 f (am_ar h (am_fr h 20 N) p) = am_fr hB f (am_ar h (am_fr h 20 N) p) := fun f => by rw [h2e]; rfl
  have fi2 : ∀ f, am_fi h2 f (am_ar h (am_fr h 20 N) p) = am_fi h f (am_ar h (am_fr h 20 N) p) := fun f => by
    rw [h2e]
    by_cases c : f = 154
    · rw [c, x_fir TJ, fiT, i9.2]
    · rw [x_fif c, fiT, i9.2]
  have aT2 := a2.2.2.2
  have ry : rP h2 L2 N (am_fr h 20 N) (stL S p T) := by
    have nA : ¬ ((am_fr h 20 N = (am_ar h (am_fr h 20 N) p) ∨ am_fr h 20 N = (am_fr h 15 P) ∨ am_fr h 20 N = (am_fr h 185 (am_fr h 15 P))) ∨ am_fr h 20 N = J) := fun z => by
      have w := hX _ z
      rw [x3.1.2.2.2] at w
      rcases w with w | w
      · rcases w.2 with w | w
        · exact absurd w.2.1 (by simp)
        · exact absurd w (by simp)
      · exact hxN w.1.symm
    have y := nd_fx a le x3.1 nA
    refine ⟨y.1, y.2.1.trans x3.2.1, fun q q1 q2 => ?_⟩
    obtain ⟨w1, w2⟩ := x3.2.2 q q1 q2
    have ei : isP (stL S p T) q ↔ isP S q := by
      unfold isP
      rw [v1 0 (by decide), v1 2 (by decide)]
    rw [y.2.2.2.2.2]
    refine ⟨fun c => w1 (fun z => c (ei.mpr z)), fun c => ?_⟩
    have xq := w2 (ei.mp c)
    by_cases eq : q = p
    · subst eq
      obtain ⟨q1', q2', q3, q4, q5, q6, q7, q8, q9⟩ := xq
      unfold rPt
      rw [fi2, fi2, fi2, fi2, fi2, fr2, fr2, fr2, fr2, f118, frT 113 (by decide), frT 116 (by decide), frT 117 (by decide), i8.1, i8.2, i9.1 113 (by decide) (by decide), v1 2 (by decide), v6 0 (by omega), v6 2 (by omega), v3, v4]
      have rk : iA h2 L2 r1 n1 e := iA_fx a le h0 hr1
      have Ak : am_sz h + 1 ≤ am_sz hB := Nat.le_trans i10.2.1 a2.1
      have nTA : ¬ (am_sz h + 1 = am_ar h (am_fr h 20 N) q) := by omega
      have bA := a2.2.2.2 _ i10.2.1
      refine ⟨(nd_fy a le q1').1, q2', q3, q4, q5, q6, iPc_d (v6 1 (by omega)) (fun o ho => v6 o (Or.inr ho)) (iPc_fx a le im q7), fun z => absurd z (by decide), fun _ => ⟨?_, ?_, ⟨?_, ?_, ?_, ?_⟩, ?_, ?_⟩⟩
      · refine ⟨rk.1, rk.2.1, rk.2.2.1, rk.2.2.2.1, by rw [← hn1.1]; exact rk.2.2.2.2.1, fun l l1 l2 => ?_⟩
        rw [rk.2.2.2.2.2 l l1 (by omega), he l l1 (by omega)]
        exact ((v5 l l1 l2).1).symm
      · refine ⟨by rw [h2e]; exact bA.1.trans i10.1, by rw [h2e]; exact Ak, by omega, by rw [h2e, v4, ← hn1.1]; exact bA.2.1.trans i10.2.2.1, fun l l1 l2 => ?_⟩
        rw [v4] at l2
        have e5 : ∀ l, 0 ≤ l → l < n1 → stL S q T 3 q (5 + l) = e l := fun l l1 l2 => by rw [(v5 l l1 (by omega)).1, he l l1 l2]
        have ebg : bg (stL S q T 3 q) l = bgE e l := by
          unfold bg bgE
          by_cases c0 : l = 0
          · rw [if_pos c0, if_pos c0]
          · rw [if_neg c0, if_neg c0]
            have e4 := e5 (l - 1) (by omega) (by omega)
            have e4' : (5 + (l - 1) : Int) = 4 + l := by omega
            rw [e4'] at e4
            rw [e4]
        have hbb := hb l l1 (by omega)
        have eln : lnS (stL S q T 3 q) l = say (S 3 q) (bgE e l) (e l) := by
          unfold lnS
          rw [ebg, e5 l l1 (by omega)]
          exact say_c (fun o ho => v6 o (Or.inr ho)) (v6 1 (by omega)) hbb.1 hbb.2
        rw [eln]
        have ear : am_ar h2 (am_sz h + 1) = am_ar hk (am_sz h + 1) := by
          rw [h2e]
          exact (bA.2.2 nTA).2.2.2
        rw [ear]
        have st := i11 l l1 (by omega)
        have imk : ∀ q', q' ≤ am_sz hk → (q' = am_ar h (am_fr h 20 N) q ∨ q' = J) → (Lk q').1 ≠ 0 ∧ ¬ imT (am_ty hk q') := fun q' hq z => by
          have w : (Lk q').1 ≠ 0 := by
            rcases z with z | z
            · rw [z, i2 _ sT, lT]
              exact hN0
            · rw [z, i2 _ sJ, lJ]
              exact hN0
          exact ⟨w, fun u => w (i3.2.1 q' hq u)⟩
        have ak : fx (fun q' => q' = am_ar h (am_fr h 20 N) q ∨ q' = J) hk h2 := by
          rw [h2e]
          exact fx_sfi (fx_sub a2 (fun _ _ z => Or.inl z)) (Or.inr (Or.inr rfl))
        exact iSl_fx ak le2 imk st
      · rw [h2e]
        exact ty2
      · rw [h2e]
        show am_sz hk + 1 ≤ am_sz hB
        omega
      · omega
      · exact lp
      · rw [h2e, ← hn1.1]
        exact ln2
      · intro l l1 l2
        rw [(v5 l l1 l2).2, h2e]
        exact ai2 l l1 (by omega)
    · refine rPt_fz a le t.1 h0 (v1 2 (by decide)) (v2 q eq) xq (fun z => ?_) (fun c3 z => ?_)
      · have w := hX _ z
        rw [xq.1.2.2.2] at w
        rcases w with w | w
        · rcases w.2 with w | w
          · exact eq w.2.2
          · exact absurd w (by simp)
        · exact hxN w.1.symm
      · have w := hX _ z
        rw [(xq.2.2.2.2.2.2.2.2 c3).2.2.1.2.2.2] at w
        rcases w with w | w
        · rcases w.2 with w | w
          · exact absurd w.2.1 (by simp)
          · exact absurd w (by simp)
        · exact hxN w.1.symm
  -- the machines
  have ebo : ∀ k' i, 0 ≤ k' → k' < S 0 0 3 → 0 ≤ i → i < S 5 k' 29 → ¬ (k' = k ∧ i = 0) → bhd (stL S p T) k' i = bhd S k' i := fun k' i g1 g2 g3 g4 ne => by
    unfold bhd
    rw [v1 5 (by decide)]
    by_cases c : S 5 k' (37 + 5 * i) = 0
    · rw [if_pos c, if_pos c]
    · rw [if_neg c, if_neg c, v2 _ (fun z => ne (hu k' i g1 g2 g3 g4 c z))]
  have rmB : rM hB L2 N (am_fr h 23 N) S B := rM_fx aB le t.1 t.2.1.1 (fun q hq z => ⟨h0 q hq (Or.inl z), fun u => by
    rcases z with z | z | z
    · rw [z, lT] at u
      exact absurd u.2 (by simp)
    · rw [z, lB] at u
      exact hxN u.1
    · rw [z, lR] at u
      exact hxN u.1⟩) (Int.le_refl _) rfl rfl (fun _ _ _ _ _ _ => rfl) x5
  have rm2 : rM h2 L2 N (am_fr h 23 N) (stL S p T) B := by
    have aJ : fx (fun q => q = J) hB h2 := by
      rw [h2e]
      exact fx_sfi fx_refl (Or.inr rfl)
    have mB := rmB.2.2 k hkk.1 hkk.2
    -- the machine, its list and job are the same cells
    have nMA : ¬ (am_fr h 23 N = (am_ar h (am_fr h 20 N) p) ∨ am_fr h 23 N = (am_fr h 15 P) ∨ am_fr h 23 N = (am_fr h 185 (am_fr h 15 P))) := fun z => by
      rcases z with z | z | z
      · exact absurd (z ▸ x5.1.1 : am_ty h (am_ar h (am_fr h 20 N) p) = 112) (by rw [pt.1.1]; decide)
      · exact absurd (z ▸ x5.1.1 : am_ty h (am_fr h 15 P) = 112) (by rw [y5.1]; decide)
      · exact absurd (z ▸ x5.1.1 : am_ty h (am_fr h 185 (am_fr h 15 P)) = 112) (by rw [y6.1]; decide)
    have eMA : am_ar hB (am_fr h 23 N) = am_ar h (am_fr h 23 N) := ((aB.2.2.2 _ x5.1.2.1).2.2 nMA).2.2.2
    have g5 : ∀ q, q ≤ am_sz h → (L q).1 = N → (L q).2.1 = 5 → ¬ (q = (am_ar h (am_fr h 20 N) p) ∨ q = (am_fr h 15 P) ∨ q = (am_fr h 185 (am_fr h 15 P))) := fun q hq qN q5 z => by
      rcases z with z | z | z
      · rw [z, lT] at q5
        exact absurd q5 (by simp)
      · rw [z, lB] at qN
        exact hxN qN
      · rw [z, lR] at qN
        exact hxN qN
    have bMK := (aB.2.2.2 _ mk.1.2.1).2.2 (g5 _ mk.1.2.1 (by rw [mk.1.2.2.2]) (by rw [mk.1.2.2.2]))
    have rl := mk.2.2.2.2.2.2.2.2.2.1
    have pos : 0 < am_ln h (am_fr h 194 (am_fr h 147 (am_ar h (am_fr h 23 N) k))) := by
      have := rl.1.1.2.2.1
      rw [rl.2.2.2.2.1] at this
      omega
    have bLQ := (aB.2.2.2 _ rl.1.1.2.2.2.2.1).2.2 (g5 _ rl.1.1.2.2.2.2.1 (by rw [rl.2.2.1]) (by rw [rl.2.2.1]))
    have bA := (aB.2.2.2 _ rl.1.1.2.2.2.2.2).2.2 (g5 _ rl.1.1.2.2.2.2.2 (by rw [rl.2.2.2.1 pos]) (by rw [rl.2.2.2.1 pos]))
    have eJB : am_ar hB (am_fr hB 194 (am_fr hB 147 (am_ar hB (am_fr h 23 N) k))) 0 = J := by
      rw [eMA, bMK.2.1 147, bLQ.2.1 194, bA.2.2.2, hJ]
    obtain ⟨m1, m2, m3, m4, m5, m6, m7, m8, m9, rlB, m11, m12⟩ := mB
    have jB := m11 0 (by omega) hn
    rw [eJB] at jB
    have kn : ∀ q t kd, nd hB L2 q t N 5 kd k → t ≠ 22 → q ≠ J := fun q t kd nn k5 z => by
      have w := nn.1
      rw [z, jB.1.1] at w
      exact k5 w.symm
    have w1 := nd_fx aJ (leL_refl (L := L2)) m1 (kn _ _ _ m1 (by decide))
    have w2 := nd_fx aJ (leL_refl (L := L2)) m2 (kn _ _ _ m2 (by decide))
    have nl : am_fr hB 147 (am_ar hB (am_fr h 23 N) k) ≠ J := fun z => by
      have := rlB.1.1.1
      rw [z, jB.1.1] at this
      exact absurd this (by decide)
    have na : am_fr hB 194 (am_fr hB 147 (am_ar hB (am_fr h 23 N) k)) ≠ J := fun z => by
      have := rlB.1.1.2.1
      rw [z, jB.1.1] at this
      omega
    have r := rL_fx aJ (leL_refl (L := L2)) (Int.le_refl _) rlB nl na
    refine rM_one aJ leL_refl okB hN0 (cs_fx aB t.2.1).1 (k := k) (Int.le_refl _) (fun q hq z => ?_) (by rw [v1 0 (by decide)]) (fun q _ => by rw [v1 5 (by decide)]) (fun q i nq g1 g2 g3 g4 => ebo q i g1 g2 g3 g4 (fun z => nq z.1)) rmB ?_
    · rw [z, jB.1.2.2.2]
      exact ⟨rfl, rfl, by show (5 : Nat) ≠ 0; decide, rfl⟩
    · unfold rMc rQ
      rw [w1.2.2.1, w1.2.2.1, w1.2.2.1, w1.2.2.1, w1.2.2.1, w1.2.2.2.1, w1.2.2.2.1, w2.2.1, w2.2.2.2.2.1, r.2.1, r.2.2, v1 5 (by decide)]
      refine ⟨w1.1, w2.1, m3, m4, m5, m6, m7, m8, m9, r.1, fun i g1 g2 => ?_, m12⟩
      by_cases ei : i = 0
      · subst ei
        rw [eJB]
        have b0 : bhd (stL S p T) k 0 = n1 := by
          unfold bhd
          rw [v1 5 (by decide), show (37 + 5 * 0 : Int) = 37 by decide, show (33 + 5 * 0 : Int) = 33 by decide, if_neg hw, hpk, v3, if_neg (by decide), v4, hn1.1]
        refine ⟨⟨by rw [h2e]; exact jB.1.1, by rw [h2e]; exact jB.1.2.1, jB.1.2.2.1, jB.1.2.2.2⟩, ?_, ?_, ?_, ?_⟩
        · rw [h2e, x_fif (by decide), v1 5 (by decide)]
          exact jB.2.1
        · rw [h2e, x_fif (by decide), v1 5 (by decide)]
          exact jB.2.2.1
        · rw [h2e, x_fif (by decide), v1 5 (by decide)]
          exact jB.2.2.2.1
        · rw [h2e, x_fie, b0]
      · have xj := m11 i g1 g2
        exact rJ_fx aJ leL_refl (fun o _ _ => by rw [v1 5 (by decide)]) (ebo k i hkk.1 hkk.2 g1 g2 (fun z => ei z.2)) xj (fun z => m12 0 i (by omega) (by omega) g2 (eJB.trans z.symm))
  have rpB : rPap h2 L2 x P := by
    have r1 : rPap hB L2 x P := rPap_fx a2 le2 (fun q hq z w => by
      rw [z, i2 _ sT, lT] at w
      exact hxN w.1.symm) i4
    rw [h2e]
    exact rPap_fx (fx_sfi fx_refl (Or.inr rfl) : fx (fun q => q = J) hB (am_sfi hB 154 J n1)) leL_refl (fun q hq z w => by
      rw [z, le _ sJ, lJ] at w
      exact hxN w.1.symm) r1
  refine ⟨?_, le, fx_sub a (fun q _ z => (hX q z).elim (fun w => Or.inl ⟨w.1, by have := w.2; omega⟩) Or.inr), lbn, hrN⟩
  refine Nt_all2 t (Int.le_refl _) a le (by rw [h2e]; exact okB) (fun q hq z => (hX q z).elim (fun w => Or.inl ⟨w.1, by have := w.2; omega⟩) Or.inr) rpB hrN ⟨v1 1 (by decide), v1 6 (by decide), v1 7 (by decide), v1 8 (by decide), v1 9 (by decide)⟩ ⟨by rw [v1 0 (by decide)], by rw [v1 0 (by decide)], by rw [v1 0 (by decide)]⟩ ?_ ry rm2 ?_ ?_
  · exact rN_fx a le t.1 t.2.1.1 (zf' 0 (by decide) (by decide)) (v1 0 (by decide)) (v1 4 (by decide)) x1
  · exact rG_fx a le t.1 t.2.1.1 (zf' 4 (by decide) (by decide)) (Int.le_refl _) (by rw [v1 0 (by decide)]) (fun _ _ _ => by rw [v1 2 (by decide)]) (v1 4 (by decide)) x6
  · exact rR_fx a le t.1 t.2.1.1 (zf' 10 (by decide) (by decide)) (by rw [v1 0 (by decide)]) (v1 10 (by decide)) (fun i q _ _ _ _ => by rw [v1 0 (by decide)]; exact lsG_c (v1 4 (by decide)) _) x10
end
