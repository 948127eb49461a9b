set_option maxRecDepth 100000
/-! what must hold of slugs, places, pages, editions -/
def okg (S : am_G) : Prop := ∀ s, 0 ≤ s → s < S 0 0 4 → isP S (S 4 s 0) ∧ (S 4 s 7 = 0 ∨ S 4 s 7 = 1) ∧ (S 4 s 10 = 0 ∨ S 4 s 10 = 1) ∧ (S 4 s 11 = 0 ∨ S 4 s 11 = 1) ∧ S 4 s 3 = sg (fun k => am_b (S 4 s (12 + k) ≠ 32)) 0 (S 4 s 9).toNat ∧ (S 4 s 4 = 0 → isP S (S 4 s 6) ∧ S 3 (S 4 s 6) 3 = 1 ∧ (0 ≤ S 4 s 5 ∧ S 4 s 5 < S 3 (S 4 s 6) 4) ∧ S 3 (S 4 s 6) (45 + S 4 s 5) = s + 1)
def okH (S : am_G) : Prop := ∀ p, 0 ≤ p → p < 6 → (0 ≤ S 8 p 0 ∧ S 8 p 0 ≤ 3) ∧ (0 ≤ S 8 p 1 ∧ S 8 p 1 ≤ 60) ∧ (0 ≤ S 8 p 2 ∧ S 8 p 2 ≤ 180)
def okE (S : am_G) : Prop := ∀ e p, 0 ≤ e → e < S 0 0 6 → 0 ≤ p → p < 6 → 0 ≤ S 9 (6 * e + p) 0 ∧ S 9 (6 * e + p) 0 ≤ 180
theorem rd_a {a b k : Int} (ha : a = 0 ∨ a = 1) (hb : b = 0 ∨ b = 1) (hk : k = 0 ∨ k = 1) : am_andz (am_shrz (a + 2 * b) k) 1 = (if k = 0 then a else b) ∧ am_orz (a + 2 * b) (am_shlz 1 k) = (if k = 0 then 1 else a) + 2 * (if k = 0 then b else 1) := by
  rcases ha with rfl | rfl <;> rcases hb with rfl | rfl <;> rcases hk with rfl | rfl <;> decide
theorem G_ty {h : am_H} {L : am_Lb} {N g : Nat} {S : am_G} {s : Int} (x : rSg h L N S s g) : am_ty h g = 23 ∨ am_ty h g = 24 := by
  have e := x.1.1
  by_cases c : S 4 s 7 = 1
  · rw [if_pos c] at e
    exact Or.inr e
  · rw [if_neg c] at e
    exact Or.inl e
section
variable {K : am_K} {h : am_H}
theorem G_fc {L : am_Lb} {x P N : Nat} {S : am_G} {B : Int} (t : Nt h L x P N S B) : xL h (am_fr h 25 N) ∧ am_fi h 195 (am_fr h 25 N) = S 0 0 4 ∧ am_ty h N = 3 ∧ ∀ s, 0 ≤ s → s < S 0 0 4 → rSg h L N S s (am_ar h (am_fr h 194 (am_fr h 25 N)) s) := by
  obtain ⟨x1, x2, x3, x4, x5, x6, x7, x8, x9, x10⟩ := t.2.2.2.1
  exact ⟨x6.1.1.1, x6.1.2.2.2.2.1, x1.1.1, x6.2⟩
/-- whether a slug is wrong -/
theorem x_wrong {L : am_Lb} {N g : Nat} {S : am_G} {s : Int} {D : Nat} (hD : 13 ≤ D) (q : rSg h L N S s g) (H1 : wrg S s → K (.inl (some (.inl (1)))) h) (H0 : ¬ wrg S s → K (.inl (some (.inl (0)))) h) : am_ev am_prog D 214 [.inr (.inl g)] h K := by
  have y := q.2.2.2.2.2.2.1.1
  have z := q.2.2.2.2.2.2.2.2.2.2.1.1
  obtain ⟨d, rfl⟩ : ∃ d, D = d + 13 := ⟨D - 13, by omega⟩
  refine am_en p_X25_wrong rfl rfl ?_
  refine v_X25_wrong_0 ⟨G_ty q, z.1.1, c_equals z.1 y.1 (fun e => am_av (v_X25_wrong_5 ⟨fun _ => H0 (fun w => ?_), fun c => absurd c (by decide)⟩)) (fun e => am_av (v_X25_wrong_5 ⟨fun c => absurd rfl c, fun _ => H1 ?_⟩))⟩
  · obtain ⟨k, k1, k2⟩ := w
    have w1 := e.2 k (by omega) (by rw [z.2.1]; exact k1)
    rw [z.2.2 k (by omega) k1, y.2.2 k (by omega) k1] at w1
    exact k2 w1.symm
  · refine Classical.byContradiction fun w => e ⟨by rw [z.2.1, y.2.1], fun k k1 k2 => ?_⟩
    rw [z.2.1] at k2
    rw [z.2.2 k k1 k2, y.2.2 k k1 k2]
    refine Classical.byContradiction fun u => w ⟨k.toNat, by omega, ?_⟩
    have ek : ((k.toNat : Nat) : Int) = k := by omega
    rw [ek]
    exact fun v => u v.symm
/-- what a slug says -/
theorem X_says {L : am_Lb} {x P N : Nat} {S : am_G} {B : Int} {s j : Int} {D : Nat} (hD : 14 ≤ D) (t : Nt h L x P N S B) (hx : am_ty h x = 1) (hN : am_fr h 1 x = N) (hC : okC S) (hG : okG S) (H0 : ¬ (0 ≤ s ∧ s < S 0 0 4) → XT h L x P N S B K 33) (H1 : 0 ≤ s ∧ s < S 0 0 4 → XA h L x P N S B K (if 0 ≤ j ∧ j < S 4 s 9 then S 4 s (432 + j) else -1) 0 0) : am_ev am_prog D 128 [.inr (.inl x), .inl s, .inl j] h K := by
  obtain ⟨g1, g2, g3, g4⟩ := G_fc t
  have c4 := hG.1
  obtain ⟨d, rfl⟩ : ∃ d, D = d + 13 := ⟨D - 13, by omega⟩
  refine am_en p_X1_says rfl rfl ?_
  refine v_X1_says_0 ?_
  rw [hN, g2]
  refine ⟨hx, g3, g1.1, by omega, fun c => ?_, fun c => XT_go t (H0 (by omega))⟩
  have q := g4 s c.1 (by omega)
  have y := q.2.2.2.2.2.2.2.2.2.2.1
  have c9 := (hG.2 s c.1 (by omega)).2.2.2
  rw [y.1.2.1]
  refine ⟨⟨g1, by omega⟩, Or.inr (G_ty q), G_ty q, y.1.1.1, y.1.1, by omega, fun d => ?_, fun d => ⟨by omega, ?_⟩⟩
  · exact XA_id t (XA_v (H1 (by omega)) (if_neg (by omega)))
  · rw [y.1.2.2 j (by omega) (by omega)]
    exact XA_id t (XA_v (H1 (by omega)) (if_pos (by omega)))
/-- what is asked of a slug -/
def slR (S : am_G) (s w a : Int) : Prop := (w ≠ 8 → a = S 4 s (if w = 9 then 8 else w)) ∧ (w = 8 → (wrg S s ∧ a = 1) ∨ (¬ wrg S s ∧ a = 0))
theorem X_slug {L : am_Lb} {x P N : Nat} {S : am_G} {B : Int} {s w : Int} {D : Nat} (hD : 14 ≤ D) (t : Nt h L x P N S B) (hx : am_ty h x = 1) (hN : am_fr h 1 x = N) (hC : okC S) (hG : okG S) (hg : okg S) (H0 : ¬ (0 ≤ s ∧ s < S 0 0 4) → XT h L x P N S B K 33) (H2 : 0 ≤ s ∧ s < S 0 0 4 → ¬ (0 ≤ w ∧ w ≤ 9) → XT h L x P N S B K 39) (H1 : 0 ≤ s ∧ s < S 0 0 4 → 0 ≤ w ∧ w ≤ 9 → ∀ a, slR S s w a → XA h L x P N S B K (a) 0 0) : am_ev am_prog D 137 [.inr (.inl x), .inl s, .inl w] h K := by
  obtain ⟨g1, g2, g3, g4⟩ := G_fc t
  have c4 := hG.1
  obtain ⟨d, rfl⟩ : ∃ d, D = d + 13 := ⟨D - 13, by omega⟩
  refine am_en p_X1_slug rfl rfl ?_
  refine v_X1_slug_0 ?_
  rw [hN, g2]
  refine ⟨hx, g3, g1.1, by omega, fun c => ?_, fun c => XT_go t (H0 (by omega))⟩
  have q := g4 s c.1 (by omega)
  have o := hg s c.1 (by omega)
  obtain ⟨q1, q2, q3, q4, q5, q6, q7, q8, q9, q10, q11, q12⟩ := q
  have q := g4 s c.1 (by omega)
  have go : ∀ a, w ≠ 8 → 0 ≤ w → w ≤ 9 → a = S 4 s (if w = 9 then 8 else w) → K (.inl (some (.inl (a)))) h := fun a w1 w2 w3 e => XA_id t (H1 (by omega) (by omega) a ⟨fun _ => e, fun z => absurd z w1⟩)
  refine ⟨⟨g1, by omega⟩, Or.inr (G_ty q), fun e => ⟨G_ty q, go _ (by omega) (by omega) (by omega) ?_⟩, fun e => ⟨G_ty q, go _ (by omega) (by omega) (by omega) ?_⟩, fun e => ⟨G_ty q, go _ (by omega) (by omega) (by omega) ?_⟩, fun e => ⟨G_ty q, x_letters (by omega) (G_ty q) rfl q7.1.1 (am_av (v_X1_slug_17 (go _ (by omega) (by omega) (by omega) ?_)))⟩, fun e => ⟨G_ty q, go _ (by omega) (by omega) (by omega) ?_⟩, fun e => ⟨G_ty q, go _ (by omega) (by omega) (by omega) ?_⟩, fun e => ⟨G_ty q, go _ (by omega) (by omega) (by omega) ?_⟩, fun e => ?_, fun e => ⟨G_ty q, x_wrong (by omega) q (fun v => am_av (v_X1_slug_36 ⟨fun z => absurd z (by decide), fun _ => ?_⟩)) (fun v => am_av (v_X1_slug_36 ⟨fun _ => ?_, fun z => absurd rfl z⟩))⟩, fun e => ⟨G_ty q, go _ (by omega) (by omega) (by omega) ?_⟩, fun e => XT_go t (H2 (by omega) (by omega))⟩
  · rw [e, q2]; rfl
  · rw [e, q3]; rfl
  · rw [e, q4]; rfl
  · rw [e, if_neg (by decide), o.2.2.2.2.1, q7.1.2.1]
    have c9 := (hG.2 s c.1 (by omega)).2.2.2
    exact sg_c _ (fun k k1 k2 => by
      show am_b _ = am_b _
      rw [q7.1.2.2 k k1 (by omega)])
  · rw [e, q10]; rfl
  · rw [e, q9]; rfl
  · rw [e, q8]; rfl
  · have e1 := q1.1
    rcases o.2.1 with o7 | o7
    · rw [if_neg (by omega)] at e1
      exact Or.inl ⟨e1, go _ (by omega) (by omega) (by omega) (by rw [e, if_neg (by decide), o7])⟩
    · rw [if_pos o7] at e1
      exact Or.inr ⟨e1, go _ (by omega) (by omega) (by omega) (by rw [e, if_neg (by decide), o7])⟩
  · exact XA_id t (H1 (by omega) (by omega) 1 ⟨fun z => absurd e z, fun _ => Or.inl ⟨v, rfl⟩⟩)
  · exact XA_id t (H1 (by omega) (by omega) 0 ⟨fun z => absurd e z, fun _ => Or.inr ⟨v, rfl⟩⟩)
  · rw [e, q5]; rfl
/-- a slug is read -/
theorem X_read {L : am_Lb} {x P N : Nat} {S : am_G} {B : Int} {f s : Int} {D : Nat} (hD : 14 ≤ D) (t : Nt h L x P N S B) (hx : am_ty h x = 1) (hN : am_fr h 1 x = N) (hC : okC S) (hG : okG S) (hg : okg S) (H0 : ¬ ((0 ≤ f ∧ f ≤ 1) ∧ (0 ≤ s ∧ s < S 0 0 4)) → XT h L x P N S B K 33) (H1 : (0 ≤ f ∧ f ≤ 1) ∧ (0 ≤ s ∧ s < S 0 0 4) → XA h L x P N (u3 S 4 s (10 + f) 1) B K (am_b (S 4 s (10 + f) ≠ 1)) 0 0) : am_ev am_prog D 127 [.inr (.inl x), .inl f, .inl s] h K := by
  obtain ⟨g1, g2, g3, g4⟩ := G_fc t
  have c4 := hG.1
  obtain ⟨d, rfl⟩ : ∃ d, D = d + 13 := ⟨D - 13, by omega⟩
  refine am_en p_X1_read rfl rfl ?_
  refine v_X1_read_0 ?_
  rw [hN, g2]
  refine ⟨fun cf => ⟨hx, g3, g1.1, by omega, fun c => ?_, fun c => XT_go t (H0 (by omega))⟩, fun c => XT_go t (H0 (by omega))⟩
  have q := g4 s c.1 (by omega)
  have o := hg s c.1 (by omega)
  have m := rd_a o.2.2.1 o.2.2.2.1 (show f = 0 ∨ f = 1 by omega)
  have q12 := q.2.2.2.2.2.2.2.2.2.2.2
  rw [q12, m.1, m.2]
  have ef : (if f = 0 then S 4 s 10 else S 4 s 11) = S 4 s (10 + f) := by
    rcases (show f = 0 ∨ f = 1 by omega) with rfl | rfl <;> rfl
  rw [ef]
  refine ⟨⟨g1, by omega⟩, Or.inr (G_ty q), G_ty q, fun d => ?_, fun d => ?_⟩
  · have a : fx (fun c => c = am_ar h (am_fr h 194 (am_fr h 25 N)) s) h (am_sfi h 165 (am_ar h (am_fr h 194 (am_fr h 25 N)) s) ((if f = 0 then 1 else S 4 s 10) + 2 * (if f = 0 then S 4 s 11 else 1))) := fx_sfi fx_refl (Or.inr rfl)
    have go := H1 (by omega) _ L (Nt_sg t (s := s) (by omega) rfl a (fun _ => rfl) (fun i hi => x_fif (by omega)) (fun c c1 => u3_r c1) (fun q e => u3_rp e) (fun o ho => u3_no (by omega)) ?_ ?_ ?_ ?_) (Out_G t.1 a (nd_one q.1) (Nat.le_refl _) (Nat.le_refl _))
    · rw [am_bt d] at go
      exact go
    · rw [u3_no (by omega), x_fif (by decide)]
      exact q.2.2.2.2.2.2.2.1
    · rw [u3_no (by omega), x_fif (by decide)]
      exact q.2.2.2.2.2.2.2.2.1
    · rw [u3_no (by omega), x_fif (by decide)]
      exact q.2.2.2.2.2.2.2.2.2.1
    · rw [x_fie]
      rcases (show f = 0 ∨ f = 1 by omega) with rfl | rfl
      · rw [show (10 + 0 : Int) = 10 by decide, u3_eq, u3_no (by decide), if_pos rfl, if_pos rfl]
      · rw [show (10 + 1 : Int) = 11 by decide, u3_eq, u3_no (by decide), if_neg (by decide), if_neg (by decide)]
  · have go := H1 (by omega)
    rw [u3_id d, am_bf (fun z => z d)] at go
    exact XA_id t go
/-- parts -/
theorem P_fc {L : am_Lb} {x P N : Nat} {S : am_G} {B : Int} (t : Nt h L x P N S B) : am_ty h N = 3 ∧ am_ty h (am_fr h 20 N) = 111 ∧ am_ln h (am_fr h 20 N) = 100 ∧ ∀ p, 0 ≤ p → p < 100 → (¬ isP S p → am_ar h (am_fr h 20 N) p = 0) ∧ (isP S p → rPt h L N S p (am_ar h (am_fr h 20 N) p)) := by
  obtain ⟨x1, x2, x3, x4, x5, x6, x7, x8, x9, x10⟩ := t.2.2.2.1
  exact ⟨x1.1.1, x3.1.1, x3.2.1, x3.2.2⟩
theorem P_st {h : am_H} {L : am_Lb} {N g : Nat} {S : am_G} {p : Int} (q : rPt h L N S p g) : am_fr h 116 g = 0 ↔ S 3 p 3 = 0 := ⟨fun e => Classical.byContradiction fun c => (q.2.2.2.2.2.2.2.2 c).1.2.2.1 e, fun e => (q.2.2.2.2.2.2.2.1 e).1⟩
/-- what lies at a place -/
theorem X_lies {L : am_Lb} {x P N : Nat} {S : am_G} {B : Int} {p l : Int} {D : Nat} (hD : 14 ≤ D) (t : Nt h L x P N S B) (hx : am_ty h x = 1) (hN : am_fr h 1 x = N) (hC : okC S) (hF : okF S) (hA : okA S) (H0 : ¬ isP S p → XT h L x P N S B K 33) (H2 : isP S p → S 3 p 3 = 0 → XT h L x P N S B K 40) (H3 : isP S p → S 3 p 3 ≠ 0 → ¬ (0 ≤ l ∧ l < S 3 p 4) → XT h L x P N S B K 33) (H1 : isP S p → S 3 p 3 ≠ 0 → 0 ≤ l ∧ l < S 3 p 4 → XA h L x P N S B K (S 3 p (45 + l) - 1) 0 0) : am_ev am_prog D 134 [.inr (.inl x), .inl p, .inl l] h K := by
  obtain ⟨g1, g2, g3, g4⟩ := P_fc t
  obtain ⟨d, rfl⟩ : ∃ d, D = d + 13 := ⟨D - 13, by omega⟩
  refine am_en p_X1_lies rfl rfl ?_
  refine v_X1_lies_0 ?_
  rw [hN, g3]
  refine ⟨hx, fun c => XT_go t (H0 (fun z => c (by have := isP_bd hC hF z; omega))), fun c => ⟨⟨g1, g2, by omega⟩, fun d => ?_, fun d => ?_⟩⟩
  · refine XT_go t (H0 (fun z => ?_))
    exact ((g4 p c.1 (by omega)).2 z).1.2.2.1 d
  · have ip : isP S p := Classical.byContradiction fun z => d ((g4 p c.1 (by omega)).1 z)
    have q := (g4 p c.1 (by omega)).2 ip
    have a4 := (hA p ip).2.2.2.2.2.2.2
    refine ⟨q.1.1, fun e => XT_go t (H2 ip ((P_st q).mp e)), fun e => ?_⟩
    have e3 : S 3 p 3 ≠ 0 := fun z => e ((P_st q).mpr z)
    obtain ⟨z1, z2, z3, z4, z5⟩ := q.2.2.2.2.2.2.2.2 e3
    rw [z4]
    refine ⟨⟨Or.inl z3.1, by omega⟩, fun f => ⟨by omega, ?_⟩, fun f => XT_go t (H3 ip e3 (by omega))⟩
    rw [z5 l (by omega) (by omega)]
    exact XA_id t (H1 ip e3 (by omega))
/-- the first line that does not lie right -/
def jdR (S : am_G) (p a : Int) : Prop := (a = -1 ∧ ∀ l, 0 ≤ l → l < S 3 p 4 → rgt S p l) ∨ ((0 ≤ a ∧ a < S 3 p 4) ∧ ¬ rgt S p a ∧ ∀ l, 0 ≤ l → l < a → rgt S p l)
theorem X_judge {L : am_Lb} {x P N : Nat} {S : am_G} {B : Int} {p : Int} {D : Nat} (hD : 14 ≤ D) (t : Nt h L x P N S B) (hx : am_ty h x = 1) (hN : am_fr h 1 x = N) (hC : okC S) (hF : okF S) (hA : okA S) (H0 : ¬ isP S p → XT h L x P N S B K 33) (H2 : isP S p → S 3 p 3 = 0 → XT h L x P N S B K 40) (H1 : isP S p → S 3 p 3 ≠ 0 → ∀ a, jdR S p a → XA h L x P N S B K (a) 0 0) : am_ev am_prog D 124 [.inr (.inl x), .inl p] h K := by
  obtain ⟨g1, g2, g3, g4⟩ := P_fc t
  obtain ⟨k1, k2, k3, k4⟩ := G_fc t
  obtain ⟨d, rfl⟩ : ∃ d, D = d + 13 := ⟨D - 13, by omega⟩
  refine am_en p_X1_judge rfl rfl ?_
  refine v_X1_judge_0 ?_
  rw [hN, g3]
  refine ⟨hx, fun c => XT_go t (H0 (fun z => c (by have := isP_bd hC hF z; omega))), fun c => ⟨⟨g1, g2, by omega⟩, fun dd => ?_, fun dd => ?_⟩⟩
  · refine XT_go t (H0 (fun z => ?_))
    exact ((g4 p c.1 (by omega)).2 z).1.2.2.1 dd
  · have ip : isP S p := Classical.byContradiction fun z => dd ((g4 p c.1 (by omega)).1 z)
    have q := (g4 p c.1 (by omega)).2 ip
    have ap := hA p ip
    refine ⟨q.1.1, fun e => XT_go t (H2 ip ((P_st q).mp e)), fun e => ?_⟩
    have e3 : S 3 p 3 ≠ 0 := fun z => e ((P_st q).mpr z)
    obtain ⟨z1, z2, z3, z4, z5⟩ := q.2.2.2.2.2.2.2.2 e3
    have al := ap.2.2.2.2.2.2.1 (by have := ap.2.2.2.2.1; omega)
    have main : ∀ l, 0 ≤ l → l ≤ S 3 p 4 → (∀ j, 0 ≤ j → j < l → rgt S p j) → am_W m_X1_judge (am_ev am_prog (d + 12)) K 6 [some (.inr (.inl (x))), some (.inl (p)), some (.inr (.inl (am_ar h (am_fr h 20 N) p))), some (.inl (l))] [] h := by
      refine lp_z ?_ ?_
      · intro l l1 l2 hL hl
        refine v_X1_judge_6 ?_
        rw [hN, z4]
        have all := (al.2.2 l (by omega) (by omega)).2.2
        refine ⟨⟨q.1.1, Or.inl z3.1⟩, fun z => absurd z (by omega), fun _ => ⟨hx, g1, ?_⟩⟩
        refine x_isRight (by omega) g1 rfl k1 k2 q.1.1 q.2.2.1 ⟨z3.1, z4, z5 l (by omega) (by omega)⟩ ⟨z2.1, z2.2.2.2.1, (z2.2.2.2.2 l (by omega) (by omega)).1⟩ (by omega) all (fun s s1 s2 => ?_) (fun w => ?_) (fun w => ?_)
        · have u := k4 s s1 s2
          exact ⟨G_ty u, u.2.2.2.2.2.1, u.2.2.2.2.2.2.2.2.2.2.1.1⟩
        · refine am_av (v_X1_judge_16 ⟨fun _ => ⟨by omega, hL (fun j j1 j2 => ?_)⟩, fun z => absurd z (by decide)⟩)
          by_cases f : j = l
          · rw [f]
            exact w
          · exact hl j j1 (by omega)
        · exact am_av (v_X1_judge_16 ⟨fun z => absurd rfl z, fun _ => XA_id t (H1 ip e3 l (Or.inr ⟨by omega, w, hl⟩))⟩)
      · intro hl
        refine v_X1_judge_6 ?_
        rw [z4]
        exact ⟨⟨q.1.1, Or.inl z3.1⟩, fun _ => XA_id t (H1 ip e3 (-1) (Or.inl ⟨rfl, hl⟩)), fun z => absurd z (by omega)⟩
    exact main 0 (by omega) (by have := al.1; omega) (fun j j1 j2 => absurd j2 (by omega))
/-- machines -/
def rnR (S : am_G) (k w : Int) : Int := if w = 0 then S 5 k 29 else if w = 4 then S 5 k 28 else if w = 5 then (if S 5 k 29 = 0 then -1 else S 5 k 33) else S 5 k (29 + w)
theorem X_runs {L : am_Lb} {x P N : Nat} {S : am_G} {B : Int} {k w : Int} {D : Nat} (hD : 14 ≤ D) (t : Nt h L x P N S B) (hx : am_ty h x = 1) (hN : am_fr h 1 x = N) (hC : okC S) (hM : okM S) (H0 : ¬ (0 ≤ k ∧ k < S 0 0 3) → XT h L x P N S B K 33) (H2 : 0 ≤ k ∧ k < S 0 0 3 → ¬ (0 ≤ w ∧ w ≤ 5) → XT h L x P N S B K 39) (H1 : 0 ≤ k ∧ k < S 0 0 3 → 0 ≤ w ∧ w ≤ 5 → XA h L x P N S B K (rnR S k w) 0 0) : am_ev am_prog D 132 [.inr (.inl x), .inl k, .inl w] h K := by
  obtain ⟨x1, x2, x3, x4, x5, x6, x7, x8, x9, x10⟩ := t.2.2.2.1
  have c3 := hC.2.2.1
  obtain ⟨d, rfl⟩ : ∃ d, D = d + 13 := ⟨D - 13, by omega⟩
  refine am_en p_X1_runs rfl rfl ?_
  refine v_X1_runs_0 ?_
  rw [hN, x1.2.2.2.2.1, x5.2.1]
  refine ⟨hx, ⟨x1.1.1, by omega⟩, fun c => ⟨⟨x5.1.1, by omega⟩, ?_⟩, fun c => XT_go t (H0 (by omega))⟩
  obtain ⟨m1, m2, m3, m4, m5, m6, m7, m8, m9, m10, m11, m12⟩ := x5.2.2 k c.1 (by omega)
  have mm := hM k c.1 (by omega)
  have go : ∀ a, 0 ≤ w → w ≤ 5 → a = rnR S k w → K (.inl (some (.inl (a)))) h := fun a w2 w3 e => XA_id t (XA_v (H1 (by omega) (by omega)) e.symm)
  rw [m6, m7, m8, m9, m10.2.2.2.2.1]
  refine ⟨fun e => ⟨m1.1, m10.1.1.1, go _ (by omega) (by omega) (by rw [e]; rfl)⟩, fun e => ⟨m1.1, go _ (by omega) (by omega) (by rw [e]; rfl)⟩, fun e => ⟨m1.1, go _ (by omega) (by omega) (by rw [e]; rfl)⟩, fun e => ⟨m1.1, go _ (by omega) (by omega) (by rw [e]; rfl)⟩, fun e => ⟨m1.1, fun z => go _ (by omega) (by omega) (by rw [e, ← z]; rfl), fun z => go _ (by omega) (by omega) (by rw [e]; show 1 = S 5 k 28; omega)⟩, fun e => ⟨m1.1, m10.1.1.1, fun z => ?_, fun z => go _ (by omega) (by omega) (by rw [e]; show -1 = if S 5 k 29 = 0 then -1 else S 5 k 33; rw [if_pos z])⟩, fun e => XT_go t (H2 (by omega) (by omega))⟩
  have j := m11 0 (by omega) (by omega)
  refine ⟨⟨m10.1.1, by omega⟩, ⟨Or.inr j.1.1, j.1.1⟩, go _ (by omega) (by omega) ?_⟩
  rw [e, j.2.1]
  show S 5 k (33 + 5 * 0) = if S 5 k 29 = 0 then -1 else S 5 k 33
  rw [if_neg z]
  rfl
/-- pages -/
def lkR (S : am_G) (p w : Int) : Int := if w = 0 then S 8 p 2 else if w = 1 then S 8 p 3 else if w = 2 then S 8 p 4 else S 8 p (w - 3)
theorem X_locked {L : am_Lb} {x P N : Nat} {S : am_G} {B : Int} {p w : Int} {D : Nat} (hD : 14 ≤ D) (t : Nt h L x P N S B) (hx : am_ty h x = 1) (hN : am_fr h 1 x = N) (hC : okC S) (H0 : ¬ (0 ≤ p ∧ p < 6) → XT h L x P N S B K 33) (H2 : 0 ≤ p ∧ p < 6 → ¬ (0 ≤ w ∧ w ≤ 4) → XT h L x P N S B K 39) (H1 : 0 ≤ p ∧ p < 6 → 0 ≤ w ∧ w ≤ 4 → XA h L x P N S B K (lkR S p w) 0 0) : am_ev am_prog D 129 [.inr (.inl x), .inl p, .inl w] h K := by
  obtain ⟨x1, x2, x3, x4, x5, x6, x7, x8, x9, x10⟩ := t.2.2.2.1
  obtain ⟨d, rfl⟩ : ∃ d, D = d + 13 := ⟨D - 13, by omega⟩
  refine am_en p_X1_locked rfl rfl ?_
  refine v_X1_locked_0 ?_
  rw [hN, x8.2.1]
  refine ⟨hx, fun c => ⟨⟨x1.1.1, x8.1.1, by omega⟩, ?_⟩, fun c => XT_go t (H0 (by omega))⟩
  obtain ⟨m1, m2, m3, m4, m5, m6⟩ := x8.2.2 p c.1 (by omega)
  have go : ∀ a, 0 ≤ w → w ≤ 4 → a = lkR S p w → K (.inl (some (.inl (a)))) h := fun a w2 w3 e => XA_id t (XA_v (H1 (by omega) (by omega)) e.symm)
  rw [m2, m3, m4, m5, m6.2.2.2.2.1]
  exact ⟨fun e => ⟨⟨m1.1, Or.inl m6.1⟩, go _ (by omega) (by omega) (by rw [e]; rfl)⟩, fun e => ⟨m1.1, go _ (by omega) (by omega) (by rw [e]; rfl)⟩, fun e => ⟨m1.1, go _ (by omega) (by omega) (by rw [e]; rfl)⟩, fun e => ⟨m1.1, go _ (by omega) (by omega) (by rw [e]; rfl)⟩, fun e => ⟨m1.1, go _ (by omega) (by omega) (by rw [e]; rfl)⟩, fun e => XT_go t (H2 (by omega) (by omega))⟩
/-- what stands on a page, now or in an edition -/
def sdR (S : am_G) (p e j : Int) : Int := if e = -1 then (if 0 ≤ j ∧ j < S 8 p 2 then S 8 p (5 + j) else -1) else if 0 ≤ j ∧ j < S 9 (6 * e + p) 0 then S 9 (6 * e + p) (1 + j) else -1
theorem X_stands {L : am_Lb} {x P N : Nat} {S : am_G} {B : Int} {p e j : Int} {D : Nat} (hD : 14 ≤ D) (t : Nt h L x P N S B) (hx : am_ty h x = 1) (hN : am_fr h 1 x = N) (hC : okC S) (hH : okH S) (hE : okE S) (H0 : ¬ ((0 ≤ p ∧ p < 6) ∧ (-1 ≤ e ∧ e < S 0 0 6)) → XT h L x P N S B K 33) (H1 : (0 ≤ p ∧ p < 6) ∧ (-1 ≤ e ∧ e < S 0 0 6) → XA h L x P N S B K (sdR S p e j) 0 0) : am_ev am_prog D 162 [.inr (.inl x), .inl p, .inl e, .inl j] h K := by
  obtain ⟨x1, x2, x3, x4, x5, x6, x7, x8, x9, x10⟩ := t.2.2.2.1
  have c6 := hC.2.2.2.2.1
  have y1 := x9.1.1.1
  have y2 := x9.1.2.2.2.2.1
  obtain ⟨d, rfl⟩ : ∃ d, D = d + 13 := ⟨D - 13, by omega⟩
  refine am_en p_X1_stands rfl rfl ?_
  refine v_X1_stands_0 ?_
  rw [hN, x8.2.1, y2]
  refine ⟨hx, fun c => ⟨⟨x1.1.1, x8.1.1, by omega⟩, y1.1, by omega, fun d => ?_, fun d => XT_go t (H0 (by omega))⟩, fun c => XT_go t (H0 (by omega))⟩
  have go : ∀ a, a = sdR S p e j → K (.inl (some (.inl (a)))) h := fun a z => XA_id t (XA_v (H1 (by omega)) z.symm)
  refine ⟨fun f => ?_, fun f => ⟨fun _ => ?_, fun z => absurd z (by omega)⟩⟩
  · obtain ⟨e1, e2, e3, e4, e5, e6, e7, e8⟩ := x9.2 e f (by omega)
    have e9 := e8 p (by omega) (by omega)
    have b := hE e p f (by omega) (by omega) (by omega)
    rw [e7, e9.2.2.2.2.1]
    have ne : e ≠ -1 := by omega
    refine ⟨⟨y1, by omega⟩, Or.inr e1, e1, ⟨e4, by omega⟩, ⟨Or.inl e9.1, by omega⟩, fun z => go _ ?_, fun z => ⟨by omega, go _ ?_⟩⟩
    · unfold sdR
      rw [if_neg ne, if_neg (by omega)]
    · unfold sdR
      rw [if_neg ne, if_pos (by omega)]
      exact e9.2.2.2.2.2 j (by omega) (by omega)
  · obtain ⟨m1, m2, m3, m4, m5, m6⟩ := x8.2.2 p c.1 (by omega)
    have b := (hH p (by omega) (by omega)).2.2
    have ee : e = -1 := by omega
    rw [m6.2.2.2.2.1]
    refine ⟨m1.1, ⟨Or.inl m6.1, by omega⟩, fun z => go _ ?_, fun z => ⟨by omega, go _ ?_⟩⟩
    · unfold sdR
      rw [if_pos ee, if_neg (by omega)]
    · unfold sdR
      rw [if_pos ee, if_pos (by omega)]
      exact m6.2.2.2.2.2 j (by omega) (by omega)
end
