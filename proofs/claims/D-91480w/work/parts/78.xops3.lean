set_option maxRecDepth 100000
/-- a page is another -/
theorem Nt_pg {h h' : am_H} {L : am_Lb} {x P N : Nat} {S S' : am_G} {B : Int} {p : Int} {g : Nat} (t : Nt h L x P N S B) (hp : 0 ≤ p ∧ p < 6) (hg : g = am_ar h (am_fr h 27 N) p) (a : fx (fun q => q = g) h h') (eS : ∀ c, c ≠ 8 → S' c = S c) (e8 : ∀ q, q ≠ p → S' 8 q = S 8 q) (y : rPg h' L N S' p g) : Nt h' L x P N S' B := by
  have x8 := t.2.2.2.1.2.2.2.2.2.2.2.1
  have xp := x8.2.2 p hp.1 hp.2
  rw [← hg] at xp
  refine Nt_8 t (Int.le_refl _) a leL_refl (okLb_fx a t.1) (nd_one xp.1) (fun c c1 _ => eS c c1) (fun j => by rw [eS 0 (by decide)]) ?_
  have n0 : am_fr h 27 N ≠ g := fun e => by
    have e2 := xp.1.1
    rw [← e, x8.1.1] at e2
    exact absurd e2 (by decide)
  have w := nd_fx a leL_refl x8.1 n0
  refine ⟨w.1, w.2.1.trans x8.2.1, fun q q1 q2 => ?_⟩
  rw [w.2.2.2.2.2]
  by_cases e : q = p
  · rw [e, ← hg]
    exact y
  · have xq := x8.2.2 q q1 q2
    have nq : am_ar h (am_fr h 27 N) q ≠ g := fun e2 => by
      have e3 := xq.1.2.2.2
      rw [e2, xp.1.2.2.2] at e3
      injection e3 with _ e3
      injection e3 with _ e3
      injection e3 with _ e3
      exact e e3.symm
    exact rPg_fx a leL_refl (fun c hc e4 => by rw [e4, xp.1.2.2.2]; exact t.2.2.2.2.2.2) (e8 q e) xq nq
theorem okG_c {S S' : am_G} (e0 : S' 0 = S 0) (e4 : S' 4 = S 4) (h : okG S) : okG S' := by
  unfold okG
  rw [e0, e4]
  exact h
theorem u3_cm {S : am_G} {c c' : Nat} {p i v p' i' v' : Int} (n : c ≠ c' ∨ p ≠ p' ∨ i ≠ i') : u3 (u3 S c p i v) c' p' i' v' = u3 (u3 S c' p' i' v') c p i v := by
  funext a b d
  unfold u3
  by_cases h1 : a = c ∧ b = p ∧ d = i
  · by_cases h2 : a = c' ∧ b = p' ∧ d = i'
    · omega
    · rw [if_neg h2, if_pos h1, if_pos h1]
  · by_cases h2 : a = c' ∧ b = p' ∧ d = i'
    · rw [if_pos h2, if_neg h1, if_pos h2]
    · rw [if_neg h2, if_neg h1, if_neg h1, if_neg h2]
/-- a part whose lines are set -/
def okPl (S : am_G) (p : Int) : Prop := isP S p ∧ (0 ≤ p ∧ p < 100) ∧ S 3 p 3 ≠ 0 ∧ S 3 p 4 ≤ 40 ∧ ∀ l, 0 ≤ l → l < S 3 p 4 → 0 ≤ bg (S 3 p) l ∧ 0 ≤ S 3 p (5 + l)
theorem isP_c {S S' : am_G} (e0 : S' 0 = S 0) (e2 : S' 2 = S 2) {p : Int} : isP S' p ↔ isP S p := by
  unfold isP
  rw [e0, e2]
theorem okPl_c {S S' : am_G} {p : Int} (e0 : S' 0 = S 0) (e2 : S' 2 = S 2) (e3 : ∀ o, o < 45 → S' 3 p o = S 3 p o) (x : okPl S p) : okPl S' p := by
  obtain ⟨x1, x2, x3, x4, x5⟩ := x
  refine ⟨(isP_c e0 e2).mpr x1, x2, by rw [e3 3 (by omega)]; exact x3, by rw [e3 4 (by omega)]; exact x4, fun l l1 l2 => ?_⟩
  rw [e3 4 (by omega)] at l2
  have y := x5 l l1 l2
  unfold bg at y ⊢
  rw [e3 (4 + l) (by omega), e3 (5 + l) (by omega)]
  exact y
theorem okPl_A {S : am_G} {p : Int} (hC : okC S) (hF : okF S) (hA : okA S) (ip : isP S p) (c : S 3 p 3 ≠ 0) : okPl S p := by
  have ap := hA p ip
  have al := ap.2.2.2.2.2.2.1 (by have := ap.2.2.2.2.1; omega)
  refine ⟨ip, (isP_bd hC hF ip).1, c, ap.2.2.2.2.2.2.2.2, fun l l1 l2 => ?_⟩
  have := (al.2.2 l l1 l2).1
  omega
/-- one place of a part -/
theorem Nt_p1 {h : am_H} {L : am_Lb} {x P N : Nat} {S : am_G} {B : Int} {p l v : Int} {g : Nat} (t : Nt h L x P N S B) (o : okPl S p) (hl : 0 ≤ l ∧ l < S 3 p 4) (hg : g = am_fr h 118 (am_ar h (am_fr h 20 N) p)) : Nt (am_sai h g l v) L x P N (u3 S 3 p (45 + l) (v + 1)) B := by
  obtain ⟨o1, o2, o3, o4, o5⟩ := o
  have pt := (t.2.2.2.1.2.2.1.2.2 p o2.1 o2.2).2 o1
  obtain ⟨z1, z2, z3, z4, z5⟩ := pt.2.2.2.2.2.2.2.2 o3
  refine Nt_pl t o1 o2 o3 o4 o5 hg (fx_sai fx_refl (Or.inr rfl)) (fun c c1 => u3_r c1) (fun q e => u3_rp e) (fun o ho => u3_no (by omega)) (fun j j1 j2 => ?_)
  rw [x_aise]
  by_cases z : j = l
  · rw [z, am_uz_eq, u3_eq]
    omega
  · rw [am_uz_ne z, u3_no (by omega), hg]
    exact z5 j j1 j2
theorem u3_56 {S : am_G} {s a b q i : Int} (h5 : i ≠ 5) (h6 : i ≠ 6) : u3 (u3 S 4 s 5 a) 4 s 6 b 4 q i = S 4 q i := by
  rw [u3_no h6, u3_no h5]
theorem u3_34 {S : am_G} {p i v s a b : Int} : u3 (u3 (u3 S 3 p i v) 4 s 5 a) 4 s 6 b = u3 (u3 (u3 S 4 s 5 a) 4 s 6 b) 3 p i v := by
  rw [u3_cm (c := 3) (c' := 4) (Or.inl (by decide)), u3_cm (c := 3) (c' := 4) (Or.inl (by decide))]
section
variable {K : am_K} {h : am_H}
/-- a page is laid out -/
theorem X_page {L : am_Lb} {x P N : Nat} {S : am_G} {B : Int} {p c l : Int} {D : Nat} (hD : 14 ≤ D) (t : Nt h L x P N S B) (hx : am_ty h x = 1) (hN : am_fr h 1 x = N) (hC : okC S) (H0 : ¬ (0 ≤ p ∧ p < 6) → XT h L x P N S B K 33) (H2 : 0 ≤ p ∧ p < 6 → ¬ ((1 ≤ c ∧ c ≤ 3) ∧ (1 ≤ l ∧ l ≤ 60)) → XT h L x P N S B K 35) (H1 : 0 ≤ p ∧ p < 6 → (1 ≤ c ∧ c ≤ 3) ∧ (1 ≤ l ∧ l ≤ 60) → XN h L x P N (u3 (u3 S 8 p 0 c) 8 p 1 l) B K 0 0) : am_ev am_prog D 154 [.inr (.inl x), .inl p, .inl c, .inl l] h K := by
  obtain ⟨x1, x2, x3, x4, x5, x6, x7, x8, x9, x10⟩ := t.2.2.2.1
  obtain ⟨d, rfl⟩ : ∃ d, D = d + 13 := ⟨D - 13, by omega⟩
  refine am_en p_X1_page rfl rfl ?_
  refine v_X1_page_0 ?_
  rw [hN, x8.2.1]
  refine ⟨hx, fun e => ⟨⟨x1.1.1, x8.1.1, by omega⟩, fun f => XT_go t (H2 (by omega) (by omega)), fun f => ⟨fun g => XT_go t (H2 (by omega) (by omega)), fun g => ?_⟩⟩, fun e => XT_go t (H0 (by omega))⟩
  obtain ⟨m1, m2, m3, m4, m5, m6⟩ := x8.2.2 p e.1 (by omega)
  refine ⟨m1.1, ?_⟩
  have a : fx (fun q => q = am_ar h (am_fr h 27 N) p) h (am_sfi (am_sfi h 33 (am_ar h (am_fr h 27 N) p) c) 34 (am_ar h (am_fr h 27 N) p) l) := fx_sfi (fx_sfi fx_refl (Or.inr rfl)) (Or.inr rfl)
  refine H1 (by omega) (by omega) _ L (Nt_pg t (p := p) (by omega) rfl a (fun c c1 => by rw [u3_r c1, u3_r c1]) (fun q e => by rw [u3_rp e, u3_rp e]) ?_) (Out_G t.1 a (nd_one m1) (Nat.le_refl _) (Nat.le_refl _))
  refine ⟨⟨m1.1, m1.2.1, m1.2.2⟩, ?_, ?_, ?_, ?_, m6.1, m6.2.1, m6.2.2.1, m6.2.2.2.1, ?_, fun i i1 i2 => ?_⟩
  · rw [x_fif (by decide), x_fie, u3_no (by decide), u3_eq]
  · rw [x_fie, u3_eq]
  · rw [x_fif (by decide), x_fif (by decide), u3_no (by decide), u3_no (by decide)]
    exact m4
  · rw [x_fif (by decide), x_fif (by decide), u3_no (by decide), u3_no (by decide)]
    exact m5
  · rw [u3_no (by decide), u3_no (by decide)]
    exact m6.2.2.2.2.1
  · rw [u3_no (by decide), u3_no (by decide)] at i2
    show am_ai h (am_fr h 37 (am_ar h (am_fr h 27 N) p)) i = u3 (u3 S 8 p 0 c) 8 p 1 l 8 p (5 + i)
    rw [u3_no (by omega), u3_no (by omega)]
    exact m6.2.2.2.2.2 i i1 i2
/-- brasses of a kind -/
theorem X_brass {L : am_Lb} {x P N : Nat} {S : am_G} {B : Int} {k c v : Int} {D : Nat} (hD : 90 ≤ D) (t : Nt h L x P N S B) (hx : am_ty h x = 1) (hN : am_fr h 1 x = N) (hC : okC S) (hG : okG S) (hM : okM S) (H0 : ¬ ((0 ≤ k ∧ k < S 0 0 3) ∧ (0 ≤ c ∧ c ≤ 26)) → XT h L x P N S B K 33) (H2 : (0 ≤ k ∧ k < S 0 0 3) ∧ (0 ≤ c ∧ c ≤ 26) → ¬ (0 ≤ v ∧ v ≤ 40) → XT h L x P N S B K 35) (H1 : (0 ≤ k ∧ k < S 0 0 3) ∧ (0 ≤ c ∧ c ≤ 26) → 0 ≤ v ∧ v ≤ 40 → XA h L x P N (u3 S 5 k c v) B K (thr (u3 S 5 k c v) k c (S 0 0 0 + 1)) 0 0) : am_ev am_prog D 156 [.inr (.inl x), .inl k, .inl c, .inl v] h K := by
  obtain ⟨x1, x2, x3, x4, x5, x6, x7, x8, x9, x10⟩ := t.2.2.2.1
  have c3 := hC.2.2.1
  have c0 := hC.1
  obtain ⟨d, rfl⟩ : ∃ d, D = d + 13 := ⟨D - 13, by omega⟩
  refine am_en p_X1_brass rfl rfl ?_
  refine v_X1_brass_0 ?_
  rw [hN, x1.2.2.2.2.1, x5.2.1]
  refine ⟨hx, ⟨x1.1.1, by omega⟩, fun e => ⟨⟨x5.1.1, by omega⟩, fun f => ⟨fun g => ?_, fun g => XT_go t (H2 (by omega) (by omega))⟩, fun f => XT_go t (H0 (by omega))⟩, fun e => XT_go t (H0 (by omega))⟩
  obtain ⟨m1, m2, m3, m4, m5, m6, m7, m8, m9, m10⟩ := x5.2.2 k e.1 (by omega)
  have mm := (hM k e.1 (by omega)).2.1
  rw [x1.2.2.1, m5, m3]
  refine ⟨⟨m1.1, m2.1, by omega⟩, by omega, ?_⟩
  have a : fx (fun q => q = am_fr h 144 (am_ar h (am_fr h 23 N) k)) h (am_sai h (am_fr h 144 (am_ar h (am_fr h 23 N) k)) c v) := fx_sai fx_refl (Or.inr rfl)
  have t' : Nt (am_sai h (am_fr h 144 (am_ar h (am_fr h 23 N) k)) c v) L x P N (u3 S 5 k c v) B := by
    refine Nt_br t (k := k) (by omega) rfl a (fun c c1 => u3_r c1) (fun q e => u3_rp e) (fun o ho => u3_no (by omega)) (fun i i1 i2 => ?_)
    rw [x_aise]
    by_cases z : i = c
    · rw [z, am_uz_eq, u3_eq]
    · rw [am_uz_ne z, u3_no z]
      exact m4 i i1 i2
  have hG' := okG_c (S' := u3 S 5 k c v) (u3_r (by decide)) (u3_r (by decide)) hG
  have fin := H1 (by omega) g _ L t' (Out_G t.1 a (nd_one m2) (Nat.le_refl _) (Nat.le_refl _))
  obtain ⟨g1, g2, g3, g4⟩ := G_fc t'
  obtain ⟨mi, hmi⟩ : ∃ mi, mi - 1 = S 0 0 0 := ⟨S 0 0 0 + 1, by omega⟩
  have e1 : S 0 0 0 + 1 = mi := by omega
  rw [e1] at fin
  rw [← hmi]
  refine x_out (mi := mi) (S := u3 S 5 k c v) (by omega) hG' (by omega) g3 rfl g1 g2 (fun s s1 s2 => ?_) (am_av (v_X1_brass_37 ?_))
  · have q := g4 s s1 s2
    exact ⟨G_ty q, q.2.2.1, q.2.2.2.1, q.2.2.2.2.2.2.1.1⟩
  · have ef : mi - 1 - S 5 k 27 + 1 = mi - u3 S 5 k c v 5 k 27 := by
      rw [u3_no (by omega)]
      omega
    rw [ef]
    have bd := outN_bd (k := k) (c := c) (f := mi - u3 S 5 k c v 5 k 27) (mi := mi) hG' (u3 S 5 k c v 0 0 4).toNat (by have := hG'.1; omega)
    have h4 := hG'.1
    unfold thr at fin
    rw [u3_eq (S := S)] at fin
    refine ⟨by omega, fun z => ?_, fun z => ?_⟩
    · rw [if_pos (by omega)] at fin
      exact fin
    · by_cases z2 : v - outN (u3 S 5 k c v) k c (mi - u3 S 5 k c v 5 k 27) mi (u3 S 5 k c v 0 0 4).toNat = 0
      · rw [if_pos (by omega), z2] at fin
        exact fin
      · rw [if_neg (by omega)] at fin
        exact fin
/-- a slug is pied -/
theorem X_pie {L : am_Lb} {x P N : Nat} {S : am_G} {B : Int} {s : Int} {D : Nat} (hD : 14 ≤ D) (t : Nt h L x P N S B) (hx : am_ty h x = 1) (hN : am_fr h 1 x = N) (hC : okC S) (hF : okF S) (hG : okG S) (hg : okg S) (hA : okA S) (H0 : ¬ (0 ≤ s ∧ s < S 0 0 4) → XT h L x P N S B K 33) (H2 : 0 ≤ s ∧ s < S 0 0 4 → S 4 s 4 ≠ 0 → XA h L x P N S B K (0) 0 0) (H1 : 0 ≤ s ∧ s < S 0 0 4 → S 4 s 4 = 0 → XA h L x P N (u3 (u3 (u3 (u3 S 3 (S 4 s 6) (45 + S 4 s 5) 0) 4 s 4 1) 4 s 5 (-1)) 4 s 6 (-1)) B K (1) 0 0) : am_ev am_prog D 119 [.inr (.inl x), .inl s] h K := by
  obtain ⟨g1, g2, g3, g4⟩ := G_fc t
  obtain ⟨k1, k2, k3, k4⟩ := P_fc t
  have c4 := hG.1
  obtain ⟨d, rfl⟩ : ∃ d, D = d + 13 := ⟨D - 13, by omega⟩
  refine am_en p_X1_pie rfl rfl ?_
  refine v_X1_pie_0 ?_
  rw [hN, g2]
  refine ⟨hx, g3, g1.1, by omega, fun c => ?_, fun c => XT_go t (H0 (by omega))⟩
  have q := g4 s c.1 (by omega)
  obtain ⟨q1, q2, q3, q4, q5, q6, q7, q8, q9, q10, q11, q12⟩ := q
  have q := g4 s c.1 (by omega)
  rw [q10, q8, q9, k3]
  refine ⟨⟨g1, by omega⟩, Or.inr (G_ty q), G_ty q, fun d => XA_id t (H2 (by omega) d), fun d => ?_⟩
  obtain ⟨o1, o2, o3, o4⟩ := (hg s c.1 (by omega)).2.2.2.2.2 d
  have pb := isP_bd hC hF o1
  have pt := (k4 _ pb.1.1 pb.1.2).2 o1
  have e3 : S 3 (S 4 s 6) 3 ≠ 0 := by omega
  obtain ⟨z1, z2, z3, z4, z5⟩ := pt.2.2.2.2.2.2.2.2 e3
  have ap := hA _ o1
  have al := ap.2.2.2.2.2.2.1 o2
  rw [z4]
  refine ⟨⟨k2, by omega, pt.1.1, z3.1, o3⟩, ?_⟩
  have t1 : Nt (am_sai h (am_fr h 118 (am_ar h (am_fr h 20 N) (S 4 s 6))) (S 4 s 5) (-1)) L x P N (u3 S 3 (S 4 s 6) (45 + S 4 s 5) 0) B := Nt_p1 (v := -1) t (okPl_A hC hF hA o1 e3) o3 rfl
  have a2 : fx (fun c => c = (am_ar h (am_fr h 194 (am_fr h 25 N)) s)) (am_sai h (am_fr h 118 (am_ar h (am_fr h 20 N) (S 4 s 6))) (S 4 s 5) (-1)) (am_sfi (am_sfi (am_sfi (am_sai h (am_fr h 118 (am_ar h (am_fr h 20 N) (S 4 s 6))) (S 4 s 5) (-1)) 163 (am_ar h (am_fr h 194 (am_fr h 25 N)) s) 1) 161 (am_ar h (am_fr h 194 (am_fr h 25 N)) s) (-1)) 162 (am_ar h (am_fr h 194 (am_fr h 25 N)) s) (-1)) := fx_sfi (fx_sfi (fx_sfi fx_refl (Or.inr rfl)) (Or.inr rfl)) (Or.inr rfl)
  have e4 : u3 S 3 (S 4 s 6) (45 + S 4 s 5) 0 0 0 4 = S 0 0 4 := u3_nc (by decide)
  refine H1 (by omega) d _ L (Nt_sg t1 (s := s) (g := (am_ar h (am_fr h 194 (am_fr h 25 N)) s)) (by omega) rfl a2 (fun _ => rfl) (fun f hf => ?_) (fun c c1 => by rw [u3_r c1, u3_r c1, u3_r c1]) (fun q e => by rw [u3_rp e, u3_rp e, u3_rp e]) (fun o ho => by rw [u3_no (by omega), u3_no (by omega), u3_no (by omega)]) ?_ ?_ ?_ ?_) (Out_X t.1 (fx_sfi (fx_sfi (fx_sfi (fx_sai fx_refl (Or.inr (Or.inl rfl))) (Or.inr (Or.inr rfl))) (Or.inr (Or.inr rfl))) (Or.inr (Or.inr rfl)) : fx (fun c => c = am_fr h 118 (am_ar h (am_fr h 20 N) (S 4 s 6)) ∨ c = (am_ar h (am_fr h 194 (am_fr h 25 N)) s)) _ _) (fun q hq e => Or.inl ?_) (Nat.le_refl _) (Nat.le_refl _))
  · rw [x_fif (by omega), x_fif (by omega), x_fif (by omega)]
  · rw [x_fif (by decide), x_fie, u3_eq]
  · rw [x_fie, u3_no (by decide), u3_eq]
  · rw [x_fif (by decide), x_fif (by decide), x_fie, u3_no (by decide), u3_no (by decide), u3_eq]
  · rw [x_fif (by decide), x_fif (by decide), x_fif (by decide), u3_no (by decide), u3_no (by decide), u3_no (by decide), u3_nc (by decide), u3_no (by decide), u3_no (by decide), u3_no (by decide), u3_nc (by decide)]
    exact q12
  · rcases e with e | e
    · rw [e, z3.2.2.2]
    · rw [e, q1.2.2.2]
/-- two slugs change places -/
theorem X_change {L : am_Lb} {x P N : Nat} {S : am_G} {B : Int} {s r : Int} {D : Nat} (hD : 14 ≤ D) (t : Nt h L x P N S B) (hx : am_ty h x = 1) (hN : am_fr h 1 x = N) (hC : okC S) (hF : okF S) (hG : okG S) (hg : okg S) (hA : okA S) (H0 : ¬ ((0 ≤ s ∧ s < S 0 0 4) ∧ (0 ≤ r ∧ r < S 0 0 4)) → XT h L x P N S B K 33) (H2 : (0 ≤ s ∧ s < S 0 0 4) ∧ (0 ≤ r ∧ r < S 0 0 4) → ¬ (S 4 s 4 = 0 ∧ S 4 r 4 = 0) → XA h L x P N S B K (0) 0 0) (H1 : (0 ≤ s ∧ s < S 0 0 4) ∧ (0 ≤ r ∧ r < S 0 0 4) → S 4 s 4 = 0 ∧ S 4 r 4 = 0 → XA h L x P N (u3 (u3 (u3 (u3 (u3 (u3 S 4 s 5 (S 4 r 5)) 4 s 6 (S 4 r 6)) 3 (S 4 r 6) (45 + S 4 r 5) (s + 1)) 4 r 5 (S 4 s 5)) 4 r 6 (S 4 s 6)) 3 (S 4 s 6) (45 + S 4 s 5) (r + 1)) B K (1) 0 0) : am_ev am_prog D 131 [.inr (.inl x), .inl s, .inl r] h K := by
  obtain ⟨g1, g2, g3, g4⟩ := G_fc t
  obtain ⟨k1, k2, k3, k4⟩ := P_fc t
  have c4 := hG.1
  obtain ⟨d, rfl⟩ : ∃ d, D = d + 13 := ⟨D - 13, by omega⟩
  refine am_en p_X1_change rfl rfl ?_
  refine v_X1_change_0 ?_
  rw [hN, g2]
  refine ⟨hx, g3, g1.1, by omega, fun c => ⟨⟨g1, by omega⟩, Or.inr (G_ty (g4 s c.1 (by omega))), fun d => ?_, fun d => XT_go t (H0 (by omega))⟩, fun c => XT_go t (H0 (by omega))⟩
  have q := g4 s c.1 (by omega)
  have w := g4 r d.1 (by omega)
  obtain ⟨q1, q2, q3, q4, q5, q6, q7, q8, q9, q10, q11, q12⟩ := q
  obtain ⟨w1, w2, w3, w4, w5, w6, w7, w8, w9, w10, w11, w12⟩ := w
  have q := g4 s c.1 (by omega)
  have w := g4 r d.1 (by omega)
  rw [q10, q8, q9, w10, w8, w9, k3]
  refine ⟨by omega, Or.inr (G_ty w), G_ty q, fun e => XA_id t (H2 (by omega) (fun z => e z.1)), fun e => ⟨G_ty w, fun f => XA_id t (H2 (by omega) (fun z => f z.2)), fun f => ?_⟩⟩
  obtain ⟨o1, o2, o3, o4⟩ := (hg s c.1 (by omega)).2.2.2.2.2 e
  obtain ⟨u1, u2, u3', u4⟩ := (hg r d.1 (by omega)).2.2.2.2.2 f
  have pb := isP_bd hC hF o1
  have ub := isP_bd hC hF u1
  have pt := (k4 _ pb.1.1 pb.1.2).2 o1
  have ut := (k4 _ ub.1.1 ub.1.2).2 u1
  have ps := okPl_A hC hF hA o1 (by omega)
  have us := okPl_A hC hF hA u1 (by omega)
  obtain ⟨z1, z2, z3, z4, z5⟩ := pt.2.2.2.2.2.2.2.2 ps.2.2.1
  obtain ⟨y1, y2, y3, y4, y5⟩ := ut.2.2.2.2.2.2.2.2 us.2.2.1
  have H := H1 (by omega) ⟨e, f⟩
  rw [u3_34] at H
  generalize hga : am_ar h (am_fr h 194 (am_fr h 25 N)) s = ga at *
  generalize hgb : am_ar h (am_fr h 194 (am_fr h 25 N)) r = gb at *
  have same : ga = gb → S 4 r 6 = S 4 s 6 ∧ S 4 r 5 = S 4 s 5 := fun z => by
    have l1 := q1.2.2.2
    rw [z, w1.2.2.2] at l1
    injection l1 with _ l1
    injection l1 with _ l1
    injection l1 with _ l1
    rw [l1]
    exact ⟨rfl, rfl⟩
  have R1 : am_fi (am_sfi (am_sfi (am_sfi h 161 ga (S 4 r 6)) 162 ga (S 4 r 5)) 161 gb (S 4 s 6)) 161 ga = S 4 r 6 := by
    by_cases z : ga = gb
    · rw [z, x_fie, (same z).1]
    · rw [x_fir z, x_fif (by decide), x_fie]
  have R2 : am_fi (am_sfi (am_sfi (am_sfi (am_sfi h 161 ga (S 4 r 6)) 162 ga (S 4 r 5)) 161 gb (S 4 s 6)) 162 gb (S 4 s 5)) 162 ga = S 4 r 5 := by
    by_cases z : ga = gb
    · rw [z, x_fie, (same z).2]
    · rw [x_fir z, x_fif (by decide), x_fie]
  rw [R1, R2, y4, z4]
  refine ⟨⟨k2, by omega, ut.1.1, y3.1, u3'⟩, ⟨by omega, pt.1.1, z3.1, o3⟩, ?_⟩
  have t1 : Nt (am_sfi (am_sfi h 161 ga (S 4 r 6)) 162 ga (S 4 r 5)) L x P N (u3 (u3 S 4 s 5 (S 4 r 5)) 4 s 6 (S 4 r 6)) B := by
    refine Nt_sg t (s := s) (by omega) hga.symm (fx_sfi (fx_sfi fx_refl (Or.inr rfl)) (Or.inr rfl)) (fun _ => rfl) (fun f hf => by rw [x_fif (by omega), x_fif (by omega)]) (fun c c1 => by rw [u3_r c1, u3_r c1]) (fun q e => by rw [u3_rp e, u3_rp e]) (fun o ho => by rw [u3_no (by omega), u3_no (by omega)]) ?_ ?_ ?_ ?_
    · rw [x_fif (by decide), x_fie, u3_eq]
    · rw [x_fie, u3_no (by decide), u3_eq]
    · rw [x_fif (by decide), x_fif (by decide), u3_no (by decide), u3_no (by decide)]
      exact q10
    · rw [x_fif (by decide), x_fif (by decide), u3_56 (i := 10) (by decide) (by decide), u3_56 (i := 11) (by decide) (by decide)]
      exact q12
  have t2 : Nt (am_sfi (am_sfi (am_sfi (am_sfi h 161 ga (S 4 r 6)) 162 ga (S 4 r 5)) 161 gb (S 4 s 6)) 162 gb (S 4 s 5)) L x P N (u3 (u3 (u3 (u3 S 4 s 5 (S 4 r 5)) 4 s 6 (S 4 r 6)) 4 r 5 (S 4 s 5)) 4 r 6 (S 4 s 6)) B := by
    have e0 : u3 (u3 S 4 s 5 (S 4 r 5)) 4 s 6 (S 4 r 6) 0 0 4 = S 0 0 4 := by rw [u3_nc (by decide), u3_nc (by decide)]
    have w' := (G_fc t1).2.2.2 r d.1 (by omega)
    have hgb' : gb = am_ar (am_sfi (am_sfi h 161 ga (S 4 r 6)) 162 ga (S 4 r 5)) (am_fr (am_sfi (am_sfi h 161 ga (S 4 r 6)) 162 ga (S 4 r 5)) 194 (am_fr (am_sfi (am_sfi h 161 ga (S 4 r 6)) 162 ga (S 4 r 5)) 25 N)) r := hgb.symm
    rw [← hgb'] at w'
    refine Nt_sg t1 (s := r) (by omega) hgb' (fx_sfi (fx_sfi fx_refl (Or.inr rfl)) (Or.inr rfl)) (fun _ => rfl) (fun f hf => by rw [x_fif (by omega), x_fif (by omega)]) (fun c c1 => by rw [u3_r c1, u3_r c1]) (fun q e => by rw [u3_rp e, u3_rp e]) (fun o ho => by rw [u3_no (by omega), u3_no (by omega)]) ?_ ?_ ?_ ?_
    · rw [x_fif (by decide), x_fie, u3_eq]
    · rw [x_fie, u3_no (by decide), u3_eq]
    · rw [x_fif (by decide), x_fif (by decide), u3_no (by decide), u3_no (by decide)]
      exact w'.2.2.2.2.2.2.2.2.2.1
    · rw [x_fif (by decide), x_fif (by decide), u3_56 (i := 10) (by decide) (by decide), u3_56 (i := 11) (by decide) (by decide)]
      exact w'.2.2.2.2.2.2.2.2.2.2.2
  generalize hS2 : u3 (u3 (u3 (u3 S 4 s 5 (S 4 r 5)) 4 s 6 (S 4 r 6)) 4 r 5 (S 4 s 5)) 4 r 6 (S 4 s 6) = S2 at t2 H
  have r0 : ∀ c, c ≠ 4 → S2 c = S c := fun c c1 => by rw [← hS2, u3_r c1, u3_r c1, u3_r c1, u3_r c1]
  have t3 := Nt_p1 (v := s) t2 (okPl_c (r0 0 (by decide)) (r0 2 (by decide)) (fun o _ => by rw [r0 3 (by decide)]) us) (l := S 4 r 5) (by rw [r0 3 (by decide)]; exact u3') rfl
  have t4 := Nt_p1 (v := r) t3 (p := S 4 s 6) (okPl_c (S := S) (by rw [u3_r (by decide), r0 0 (by decide)]) (by rw [u3_r (by decide), r0 2 (by decide)]) (fun o ho => by rw [u3_no (by omega), r0 3 (by decide)]) ps) (l := S 4 s 5) (by rw [u3_no (by omega), r0 3 (by decide)]; exact o3) rfl
  refine H _ L t4 (Out_X t.1 (fx_sai (fx_sai (fx_sfi (fx_sfi (fx_sfi (fx_sfi fx_refl (Or.inr (Or.inl rfl))) (Or.inr (Or.inl rfl))) (Or.inr (Or.inr (Or.inl rfl)))) (Or.inr (Or.inr (Or.inl rfl)))) (Or.inr (Or.inr (Or.inr (Or.inl rfl))))) (Or.inr (Or.inr (Or.inr (Or.inr rfl)))) : fx (fun c => c = ga ∨ c = gb ∨ c = am_fr h 118 (am_ar h (am_fr h 20 N) (S 4 r 6)) ∨ c = am_fr h 118 (am_ar h (am_fr h 20 N) (S 4 s 6))) _ _) (fun c hc e => Or.inl ?_) (Nat.le_refl _) (Nat.le_refl _))
  rcases e with e | e | e | e
  · rw [e, q1.2.2.2]
  · rw [e, w1.2.2.2]
  · rw [e, y3.2.2.2]
  · rw [e, z3.2.2.2]
end
