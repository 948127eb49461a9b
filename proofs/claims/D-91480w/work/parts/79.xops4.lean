set_option maxRecDepth 100000
theorem sg_s {f : Int → Int} {k : Int} (h : 0 ≤ k) : sg f 0 (k + 1).toNat = sg f 0 k.toNat + f k := by
  have e1 : (k + 1).toNat = k.toNat + 1 := by omega
  have e2 : (0 : Int) + (k.toNat : Int) = k := by omega
  rw [e1, sg_last, e2]
/-- 1 if the slug is wrong, else 0 -/
noncomputable def wb (S : am_G) (s : Int) : Int := @ite Int (wrg S s) (Classical.propDecidable _) 1 0
theorem wb_t {S : am_G} {s : Int} (h : wrg S s) : wb S s = 1 := @if_pos _ (Classical.propDecidable _) h _ _ _
theorem wb_f {S : am_G} {s : Int} (h : ¬ wrg S s) : wb S s = 0 := @if_neg _ (Classical.propDecidable _) h _ _ _
theorem wb_01 {S : am_G} {s : Int} : wb S s = 0 ∨ wb S s = 1 := by
  by_cases c : wrg S s
  · exact Or.inr (wb_t c)
  · exact Or.inl (wb_f c)
/-- 1 if the line lies right, else 0 -/
noncomputable def rb (S : am_G) (p l : Int) : Int := @ite Int (rgt S p l) (Classical.propDecidable _) 1 0
theorem rb_t {S : am_G} {p l : Int} (h : rgt S p l) : rb S p l = 1 := @if_pos _ (Classical.propDecidable _) h _ _ _
theorem rb_f {S : am_G} {p l : Int} (h : ¬ rgt S p l) : rb S p l = 0 := @if_neg _ (Classical.propDecidable _) h _ _ _
theorem rb_01 {S : am_G} {p l : Int} : rb S p l = 0 ∨ rb S p l = 1 := by
  by_cases c : rgt S p l
  · exact Or.inr (rb_t c)
  · exact Or.inl (rb_f c)
noncomputable def lyf (S : am_G) (st w s : Int) : Int := if S 4 s 4 = st then (if w = 0 then 1 else wb S s) else 0
theorem lyf_01 {S : am_G} {st w s : Int} : 0 ≤ lyf S st w s ∧ lyf S st w s ≤ 1 := by
  unfold lyf
  have := wb_01 (S := S) (s := s)
  split
  · split <;> omega
  · omega
noncomputable def lyN (S : am_G) (st w : Int) : Int := sg (lyf S st w) 0 (S 0 0 4).toNat
section
variable {K : am_K} {h : am_H}
theorem XA_j {L : am_Lb} {x P N : Nat} {S : am_G} {B : Int} {a : Int} {dz du : Nat} (t : Nt h L x P N S B) (H : XA h L x P N S B K (a) dz du) : K (.inl (some (.inl (a)))) h := H h L t (Out_fx0 t.1 fx_refl (Nat.le_add_right _ _) (Nat.le_add_right _ _))
theorem XA_f {L : am_Lb} {x P N : Nat} {S : am_G} {B : Int} {a : Int} {dz du : Nat} {h' : am_H} (t : Nt h L x P N S B) (H : XA h L x P N S B K (a) dz du) (f : fx (fun _ => False) h h') (z : am_sz h' ≤ am_sz h + dz) (u : am_us h' ≤ am_us h + du) : K (.inl (some (.inl (a)))) h' := H h' L (Nt_fx0 f t) (Out_fx0 t.1 f z u)
/-- going through the slugs -/
theorem IT_G {L : am_Lb} {x P N : Nat} {S : am_G} {B : Int} (t : Nt h L x P N S B) {k z : Int} : am_ty (itH h (am_fr h 25 N) k z) (am_sz h + 1) = 38 ∧ am_fr (itH h (am_fr h 25 N) k z) 199 (am_sz h + 1) = (am_fr h 25 N) ∧ am_fi (itH h (am_fr h 25 N) k z) 196 (am_sz h + 1) = k ∧ am_ty (itH h (am_fr h 25 N) k z) (am_fr h 25 N) = 31 ∧ am_fi (itH h (am_fr h 25 N) k z) 195 (am_fr h 25 N) = S 0 0 4 ∧ (0 ≤ k → k < S 0 0 4 → xI (itH h (am_fr h 25 N) k z) (am_sz h + 1)) ∧ ∀ s, 0 ≤ s → s < S 0 0 4 → rSg (itH h (am_fr h 25 N) k z) L N S s (am_ar (itH h (am_fr h 25 N) k z) (am_fr (itH h (am_fr h 25 N) k z) 194 (am_fr h 25 N)) s) := by
  have t' := Nt_fx0 (it_fx (h := h) (l := (am_fr h 25 N)) (k := k) (z := z)) t
  have e := (it_old (h := h) (l := (am_fr h 25 N)) (k := k) (z := z) t.2.2.2.1.1.1.2.1).2.2.2.1 25
  obtain ⟨g1, g2, g3, g4⟩ := G_fc t'
  obtain ⟨u1, u2, u3, u4⟩ := G_fc t
  rw [e] at g1 g2 g4
  exact ⟨it_ty, it_199, it_196, g1.1, g2, fun k1 k2 => it_xI u1 ⟨k1, by rw [u2]; exact k2⟩, g4⟩
/-- slugs in a state -/
theorem x_lying {L : am_Lb} {x P N : Nat} {S : am_G} {B : Int} {st w : Int} {D : Nat} (hD : 14 ≤ D) (t : Nt h L x P N S B) (hx : am_ty h x = 1) (hN : am_fr h 1 x = N) (hG : okG S) (H : XA h L x P N S B K (lyN S st w) 1 4) : am_ev am_prog D 116 [.inr (.inl x), .inl st, .inl w] h K := by
  obtain ⟨g1, g2, g3, g4⟩ := G_fc t
  have c4 := hG.1
  obtain ⟨d, rfl⟩ : ∃ d, D = d + 13 := ⟨D - 13, by omega⟩
  refine am_en p_X1_lying rfl rfl ?_
  refine v_X1_lying_0 ?_
  rw [hN]
  refine ⟨⟨hx, g3⟩, g1.1, c_iterator g1.1 g1.2.2.2.2.1 (am_av (v_X1_lying_6 ?_))⟩
  have main : ∀ k, 0 ≤ k → k ≤ S 0 0 4 → ∀ z o5, am_W m_X1_lying (am_ev am_prog (d + 12)) K 7 [some (.inr (.inl (x))), some (.inl (st)), some (.inl (w)), some (.inl (sg (lyf S st w) 0 k.toNat)), some (.inr (.inl ((am_sz h + 1)))), o5] [] (itH h (am_fr h 25 N) k z) := by
    refine lp_z ?_ ?_
    · intro k k1 k2 hL z o5
      obtain ⟨i1, i2, i3, i4, i5, i6, i7⟩ := IT_G t (k := k) (z := z)
      have q := i7 k k1 k2
      have bd := sg_bd (c := 1) (f := lyf S st w) k.toNat 0 (fun j _ _ => lyf_01)
      rw [sg_s k1] at hL
      refine v_X1_lying_7 ?_
      rw [i2, i3, i5, it_next, q.2.2.2.2.2.2.2.2.2.1]
      refine ⟨i1, i4, fun c => absurd c (by omega), fun _ => ⟨i6 k1 k2, ⟨Or.inr (G_ty q), G_ty q⟩, fun c => ⟨by omega, ?_⟩, fun c => ⟨fun d => ⟨by omega, ?_⟩, fun d => ?_⟩⟩⟩
      · have e : lyf S st w k = 0 := if_neg c
        rw [e] at hL
        exact hL _ _
      · have e : lyf S st w k = 1 := (if_pos c).trans (if_pos d)
        rw [e] at hL
        exact hL _ _
      · have e : lyf S st w k = wb S k := (if_pos c).trans (if_neg d)
        rw [e] at hL
        have q' := (IT_G t (k := k + 1) (z := k)).2.2.2.2.2.2 k k1 k2
        refine x_wrong (by omega) q' (fun v => am_av (v_X1_lying_23 ⟨fun f => absurd f (by decide), fun _ => ⟨by omega, ?_⟩⟩)) (fun v => am_av (v_X1_lying_23 ⟨fun _ => ⟨by omega, ?_⟩, fun f => absurd rfl f⟩))
        · rw [wb_t v] at hL
          exact hL _ _
        · rw [wb_f v] at hL
          exact hL _ _
    · intro z o5
      obtain ⟨i1, i2, i3, i4, i5, i6, i7⟩ := IT_G t (k := S 0 0 4) (z := z)
      refine v_X1_lying_7 ?_
      rw [i2, i3, i5]
      exact ⟨i1, i4, fun _ => XA_f t H it_fx (Nat.le_refl _) (Nat.le_refl _), fun c => absurd rfl c⟩
  exact main 0 (by omega) c4.1 _ _
/-- what is asked of a part -/
noncomputable def ptR (S : am_G) (p w : Int) : Int := if w = 0 then S 3 p 0 else if w = 1 then S 3 p 1 else if w = 2 then S 2 0 (p / 5) else if w = 3 then S 2 1 (p / 5) else if w = 4 then S 3 p 2 else if w = 5 then (if S 3 p 3 = 1 then S 3 p 4 else -1) else if w = 6 then (if S 3 p 3 = 1 then sg (rb S p) 0 (S 3 p 4).toNat else 0) else sg (fun s => if S 4 s 0 = p then am_b (S 4 s 4 ≠ 0) else 0) 0 (S 0 0 4).toNat
theorem X_part {L : am_Lb} {x P N : Nat} {S : am_G} {B : Int} {p w : Int} {D : Nat} (hD : 90 ≤ D) (t : Nt h L x P N S B) (hx : am_ty h x = 1) (hN : am_fr h 1 x = N) (hC : okC S) (hF : okF S) (hA : okA S) (hG : okG S) (H0 : ¬ isP S p → XT h L x P N S B K 33) (H2 : isP S p → ¬ (0 ≤ w ∧ w ≤ 7) → XT h L x P N S B K 39) (H1 : isP S p → 0 ≤ w ∧ w ≤ 7 → XA h L x P N S B K (ptR S p w) 1 4) : am_ev am_prog D 136 [.inr (.inl x), .inl p, .inl w] h K := by
  obtain ⟨g1, g2, g3, g4⟩ := P_fc t
  obtain ⟨k1, k2, k3, k4⟩ := G_fc t
  have c4 := hG.1
  obtain ⟨d, rfl⟩ : ∃ d, D = d + 13 := ⟨D - 13, by omega⟩
  refine am_en p_X1_part rfl rfl ?_
  refine v_X1_part_0 ?_
  rw [hN, g3]
  refine ⟨hx, fun c => XT_go t (H0 (fun z => c (by have := isP_bd hC hF z; omega))), fun c => ⟨⟨g1, g2, by omega⟩, fun dd => ?_, fun dd => ?_⟩⟩
  · refine XT_go t (H0 (fun z => ?_))
    exact ((g4 p c.1 (by omega)).2 z).1.2.2.1 dd
  have ip : isP S p := Classical.byContradiction fun z => dd ((g4 p c.1 (by omega)).1 z)
  have q := (g4 p c.1 (by omega)).2 ip
  have ap := hA p ip
  have a3 := ap.2.2.2.2.1
  have a2 := ap.2.2.2.1
  obtain ⟨q1, q2, q3, q4, q5, q6, q7, q8, q9⟩ := q
  have q := (g4 p c.1 (by omega)).2 ip
  have st := P_st q
  have go : ∀ a, 0 ≤ w → w ≤ 7 → a = ptR S p w → K (.inl (some (.inl (a)))) h := fun a w2 w3 e => XA_j t (XA_v (H1 ip (by omega)) e.symm)
  rw [q3, q4, q5, q6, q7.1.2.1]
  refine ⟨fun e => ⟨q1.1, go _ (by omega) (by omega) (by rw [e]; rfl)⟩, fun e => ⟨⟨q1.1, q7.1.1⟩, go _ (by omega) (by omega) (by rw [e]; rfl)⟩, fun e => ⟨q1.1, go _ (by omega) (by omega) (by rw [e]; rfl)⟩, fun e => ⟨q1.1, go _ (by omega) (by omega) (by rw [e]; rfl)⟩, fun e => ⟨q1.1, fun z => go _ (by omega) (by omega) (by rw [e]; show 0 = S 3 p 2; omega), fun z => go _ (by omega) (by omega) (by rw [e]; show 1 = S 3 p 2; omega)⟩, fun e => ⟨q1.1, fun z => ?_, fun z => go _ (by omega) (by omega) ?_⟩, fun e => ?_, fun e => ?_, fun e => XT_go t (H2 ip (by omega))⟩
  · have e3 : S 3 p 3 ≠ 0 := fun y => z (st.mpr y)
    have y := (q9 e3).1
    rw [y.2.2.2.2.1]
    refine ⟨Or.inl y.1, go _ (by omega) (by omega) ?_⟩
    rw [e]
    show S 3 p 4 = if S 3 p 3 = 1 then S 3 p 4 else -1
    rw [if_pos (by omega)]
  · rw [e]
    show -1 = if S 3 p 3 = 1 then S 3 p 4 else -1
    rw [if_neg (by have := st.mp z; omega)]
  · have e6 : ptR S p w = if S 3 p 3 = 1 then sg (rb S p) 0 (S 3 p 4).toNat else 0 := by
      rw [e]
      rfl
    by_cases e3 : S 3 p 3 = 0
    · refine v_X1_part_39 ⟨q1.1, fun _ => go _ (by omega) (by omega) ?_, fun z => absurd (st.mpr e3) z⟩
      rw [e6, if_neg (by omega)]
    · rw [if_pos (by omega)] at e6
      obtain ⟨z1, z2, z3, z4, z5⟩ := q9 e3
      have al := ap.2.2.2.2.2.2.1 (by omega)
      have main : ∀ l, 0 ≤ l → l ≤ S 3 p 4 → am_W m_X1_part (am_ev am_prog (d + 12)) K 39 [some (.inr (.inl (x))), some (.inl (p)), some (.inl (w)), some (.inr (.inl (am_ar h (am_fr h 20 N) p))), some (.inl (sg (rb S p) 0 l.toNat)), some (.inl (l)), none] [] h := by
        refine lp_z ?_ ?_
        · intro l l1 l2 hL
          have bd := sg_bd (c := 1) (f := rb S p) l.toNat 0 (fun j _ _ => by have := rb_01 (S := S) (p := p) (l := j); omega)
          rw [sg_s l1] at hL
          refine v_X1_part_39 ?_
          rw [hN, z1.2.2.2.2.1]
          have all := (al.2.2 l (by omega) (by omega)).2.2
          refine ⟨q1.1, fun z => absurd (st.mp z) e3, fun _ => ⟨Or.inl z1.1, fun z => absurd z (by omega), fun _ => ⟨hx, g1, ?_⟩⟩⟩
          refine x_isRight (by omega) g1 rfl k1 k2 q1.1 q3 ⟨z3.1, z4, z5 l (by omega) (by omega)⟩ ⟨z2.1, z2.2.2.2.1, (z2.2.2.2.2 l (by omega) (by omega)).1⟩ (by omega) all (fun s s1 s2 => ?_) (fun v => am_av (v_X1_part_53 ⟨fun f => absurd f (by decide), fun _ => ⟨by omega, ?_⟩⟩)) (fun v => am_av (v_X1_part_53 ⟨fun _ => ⟨by omega, ?_⟩, fun f => absurd rfl f⟩))
          · have u := k4 s s1 s2
            exact ⟨G_ty u, u.2.2.2.2.2.1, u.2.2.2.2.2.2.2.2.2.2.1.1⟩
          · rw [rb_t v] at hL
            exact hL
          · rw [rb_f v] at hL
            exact hL
        · refine v_X1_part_39 ?_
          rw [z1.2.2.2.2.1]
          exact ⟨q1.1, fun z => absurd (st.mp z) e3, fun _ => ⟨Or.inl z1.1, fun _ => go _ (by omega) (by omega) e6.symm, fun z => absurd z (by omega)⟩⟩
      exact main 0 (by omega) (by have := al.1; omega)
  · refine ⟨k1.1, c_iterator k1.1 k1.2.2.2.2.1 (am_av (v_X1_part_67 ?_))⟩
    have main : ∀ k, 0 ≤ k → k ≤ S 0 0 4 → ∀ z o6, am_W m_X1_part (am_ev am_prog (d + 12)) K 68 [some (.inr (.inl (x))), some (.inl (p)), some (.inl (w)), some (.inr (.inl (am_ar h (am_fr h 20 N) p))), some (.inl (sg (fun s => if S 4 s 0 = p then am_b (S 4 s 4 ≠ 0) else 0) 0 k.toNat)), some (.inr (.inl ((am_sz h + 1)))), o6] [] (itH h (am_fr h 25 N) k z) := by
      refine lp_z ?_ ?_
      · intro k k1 k2 hL z o5
        obtain ⟨i1, i2, i3, i4, i5, i6, i7⟩ := IT_G t (k := k) (z := z)
        have q := i7 k k1 k2
        have bd := sg_bd (c := 1) (f := fun s => if S 4 s 0 = p then am_b (S 4 s 4 ≠ 0) else 0) k.toNat 0 (fun j _ _ => by
          show 0 ≤ (if S 4 j 0 = p then am_b (S 4 j 4 ≠ 0) else 0) ∧ (if S 4 j 0 = p then am_b (S 4 j 4 ≠ 0) else 0) ≤ 1
          unfold am_b
          split
          · split <;> omega
          · omega)
        rw [sg_s k1] at hL
        refine v_X1_part_68 ?_
        rw [i2, i3, i5, it_next, q.2.2.2.2.2.2.2.2.2.1, q.2.1]
        refine ⟨i1, i4, fun c => absurd c (by omega), fun _ => ⟨i6 k1 k2, ⟨Or.inr (G_ty q), G_ty q⟩, fun c => ⟨by omega, ?_⟩, fun c => ⟨fun d => ⟨by omega, ?_⟩, fun d => ⟨by omega, ?_⟩⟩⟩⟩
        · rw [if_neg c] at hL
          exact hL _ _
        · rw [if_pos c, am_bt d] at hL
          exact hL _ _
        · rw [if_pos c, am_bf (fun f => f d)] at hL
          exact hL _ _
      · intro z o5
        obtain ⟨i1, i2, i3, i4, i5, i6, i7⟩ := IT_G t (k := S 0 0 4) (z := z)
        refine v_X1_part_68 ?_
        rw [i2, i3, i5]
        refine ⟨i1, i4, fun _ => XA_f t (XA_v (H1 ip (by omega)) ?_) it_fx (Nat.le_refl _) (Nat.le_refl _), fun c => absurd rfl c⟩
        rw [e]
        rfl
    exact main 0 (by omega) c4.1 _ _
/-- styles -/
theorem Y_fc {L : am_Lb} {x P N : Nat} {S : am_G} {B : Int} (t : Nt h L x P N S B) : xL h (am_fr h 22 N) ∧ am_fi h 195 (am_fr h 22 N) = S 0 0 2 ∧ ∀ k, 0 ≤ k → k < S 0 0 2 → iSt h L (am_ar h (am_fr h 194 (am_fr h 22 N)) k) (S 6 k) := by
  obtain ⟨x1, x2, x3, x4, x5, x6, x7, x8, x9, x10⟩ := t.2.2.2.1
  exact ⟨x4.1.1.1, x4.1.2.2.2.2.1, x4.2⟩
theorem sum_M {S : am_G} (hC : okC S) (hM : okM S) {k : Int} (hk : 0 ≤ k ∧ k ≤ S 0 0 3) : 0 ≤ sg (fun k => S 5 k 29) 0 k.toNat ∧ sg (fun k => S 5 k 29) 0 k.toNat ≤ 120 := by
  have c3 := hC.2.2.1
  have bd := sg_bd (c := 30) (f := fun k => S 5 k 29) k.toNat 0 (fun j j1 j2 => (hM j j1 (by omega)).2.2.2.1)
  omega
/-- counts -/
noncomputable def cuR (S : am_G) (w : Int) : Int := if w = 2 then (if sty S (S 0 0 0) = -1 then 0 else S 6 (sty S (S 0 0 0)) 1) else if w = 8 then crN S else if w = 12 then jbs S else if w = 9 then lyN S 0 1 else if w = 5 ∨ w = 6 ∨ w = 7 then lyN S (w - 5) 0 else if w = 0 then S 0 0 0 else if w = 1 then S 0 0 1 else if w = 3 then S 0 0 3 else if w = 4 then S 0 0 4 else if w = 10 then S 0 0 5 else if w = 11 then S 0 0 6 else if w = 13 then S 0 0 2 else if w = 14 then S 0 0 7 else -1
theorem X_count {L : am_Lb} {x P N : Nat} {S : am_G} {B : Int} {w : Int} {D : Nat} (hD : 90 ≤ D) (t : Nt h L x P N S B) (hx : am_ty h x = 1) (hN : am_fr h 1 x = N) (hC : okC S) (hG : okG S) (hM : okM S) (H : XA h L x P N S B K (cuR S w) 1 4) : am_ev am_prog D 15 [.inr (.inl x), .inl w] h K := by
  obtain ⟨x1, x2, x3, x4, x5, x6, x7, x8, x9, x10⟩ := t.2.2.2.1
  have c3 := hC.2.2.1
  have n3 := x1.1.1
  have go : ∀ a, a = cuR S w → K (.inl (some (.inl (a)))) h := fun a e => XA_j t (XA_v H e.symm)
  obtain ⟨d, rfl⟩ : ∃ d, D = d + 13 := ⟨D - 13, by omega⟩
  refine am_en p_X1_count rfl rfl ?_
  refine v_X1_count_0 ?_
  rw [hN, x1.2.2.1, x1.2.2.2.1, x1.2.2.2.2.1, x1.2.2.2.2.2.1, x1.2.2.2.2.2.2, x4.1.2.2.2.2.1, x6.1.2.2.2.2.1, x7.1.2.2.2.2.1, x9.1.2.2.2.2.1]
  refine ⟨fun e => ⟨⟨hx, n3⟩, go _ (by rw [e]; rfl)⟩, fun e => ⟨⟨hx, n3⟩, go _ (by rw [e]; rfl)⟩, fun e => ⟨⟨hx, n3⟩, ?_⟩, fun e => ⟨⟨hx, n3⟩, go _ (by rw [e]; rfl)⟩, fun e => ⟨⟨hx, n3⟩, x6.1.1.1.1, go _ (by rw [e]; rfl)⟩, fun e => ⟨hx, x_lying (by omega) t hx hN hG ?_⟩, fun e => ⟨hx, x_lying (by omega) t hx hN hG ?_⟩, fun e => ⟨hx, x_lying (by omega) t hx hN hG ?_⟩, fun e => ⟨⟨hx, n3⟩, go _ (by rw [e]; rfl)⟩, fun e => ⟨hx, x_lying (by omega) t hx hN hG ?_⟩, fun e => ⟨⟨hx, n3⟩, x7.1.1.1.1, go _ (by rw [e]; rfl)⟩, fun e => ⟨⟨hx, n3⟩, x9.1.1.1.1, go _ (by rw [e]; rfl)⟩, fun e => ?_, fun e => ⟨⟨hx, n3⟩, x4.1.1.1.1, go _ (by rw [e]; rfl)⟩, fun e => ⟨⟨hx, n3⟩, go _ (by rw [e]; rfl)⟩, fun e => go _ ?_⟩
  · have e6 : cuR S w = if sty S (S 0 0 0) = -1 then 0 else S 6 (sty S (S 0 0 0)) 1 := by
      rw [e]
      rfl
    obtain ⟨y1, y2, y3⟩ := Y_fc t
    refine x_style (g := fun k => S 6 k 0) (l := am_fr h 22 N) (by omega) n3 x1.1.2.1 rfl y1 (fun k k1 k2 => ?_) (fun h' a z u => am_av (v_X1_count_18 ?_))
    · rw [y2] at k2
      have y := (y3 k k1 k2).1
      exact ⟨y.1, y.2.2.1, y.2.1, y.2.2.2.1⟩
    · have bd := stI_bd (g := fun k => S 6 k 0) (mi := S 0 0 0) (S 0 0 2).toNat
      rw [y2]
      have es : stI (fun k => S 6 k 0) (S 0 0 0) (S 0 0 2).toNat = sty S (S 0 0 0) := rfl
      rw [es] at bd ⊢
      by_cases c : sty S (S 0 0 0) = -1
      · rw [if_pos c] at e6 ⊢
        exact ⟨fun f => absurd rfl f, fun _ => XA_f t (XA_v H e6) a (by omega) (by omega)⟩
      · rw [if_neg c] at e6 ⊢
        have y := iSt_fx a (leL_refl (L := L)) (fun q hq z => z.elim) (y3 (sty S (S 0 0 0)) (by omega) (by omega))
        rw [y.1.2.2.2.2.2.1]
        exact ⟨fun _ => ⟨y.1.1, y.1.2.2.2.2.1.1, XA_f t (XA_v H e6) a (by omega) (by omega)⟩, fun f => absurd f y.1.2.2.1⟩
  · exact fun h' L' t' o => am_av (v_X1_count_40 ((XA_v H (show cuR S w = lyN S 0 0 by rw [e]; rfl)) h' L' t' o))
  · exact fun h' L' t' o => am_av (v_X1_count_45 ((XA_v H (show cuR S w = lyN S 1 0 by rw [e]; rfl)) h' L' t' o))
  · exact fun h' L' t' o => am_av (v_X1_count_50 ((XA_v H (show cuR S w = lyN S 2 0 by rw [e]; rfl)) h' L' t' o))
  · exact fun h' L' t' o => am_av (v_X1_count_59 ((XA_v H (show cuR S w = lyN S 0 1 by rw [e]; rfl)) h' L' t' o))
  · have main : ∀ k, 0 ≤ k → k ≤ S 0 0 3 → am_W m_X1_count (am_ev am_prog (d + 12)) K 72 [some (.inr (.inl (x))), some (.inl (w)), some (.inl (sg (fun k => S 5 k 29) 0 k.toNat)), none, some (.inl (k))] [] h := by
      refine lp_z ?_ ?_
      · intro k k1 k2 hL
        have bd := sum_M hC hM (k := k) (by omega)
        have m := x5.2.2 k k1 k2
        have b29 := (hM k k1 (by omega)).2.2.2.1
        rw [sg_s k1] at hL
        refine v_X1_count_72 ?_
        rw [hN, x1.2.2.2.2.1, x5.2.1, m.2.2.2.2.2.2.2.2.2.1.2.2.2.2.1]
        exact ⟨⟨hx, n3⟩, fun f => absurd f (by omega), fun _ => ⟨⟨x5.1.1, by omega, m.1.1⟩, m.2.2.2.2.2.2.2.2.2.1.1.1.1, by omega, hL⟩⟩
      · refine v_X1_count_72 ?_
        rw [hN, x1.2.2.2.2.1]
        exact ⟨⟨hx, n3⟩, fun _ => go _ (by rw [e]; rfl), fun f => absurd f (by omega)⟩
    exact main 0 (by omega) (by omega)
  · unfold cuR
    rw [if_neg (by omega), if_neg (by omega), if_neg (by omega), if_neg (by omega), if_neg (by omega), if_neg (by omega), if_neg (by omega), if_neg (by omega), if_neg (by omega), if_neg (by omega), if_neg (by omega), if_neg (by omega), if_neg (by omega)]
/-- where a slug was, as it was known -/
def whS (S : am_G) (s m n : Int) : Nat → Int × Int
  | 0 => (-1, -1)
  | k + 1 => if S 7 (k : Int) 0 = s ∧ S 7 (k : Int) 3 ≤ n ∧ S 7 (k : Int) 2 ≤ m ∧ (whS S s m n k).2 ≤ S 7 (k : Int) 2 then (if (whS S s m n k).2 < S 7 (k : Int) 2 ∨ (whS S s m n k).1 = S 7 (k : Int) 1 then S 7 (k : Int) 1 else -2, S 7 (k : Int) 2) else whS S s m n k
def pos0 (a : Int) : Int := if 0 ≤ a then a else -1
def okTe (S : am_G) : Prop := ∀ k, 0 ≤ k → k < S 0 0 5 → 0 ≤ S 7 k 1 ∧ S 7 k 1 ≤ 9
theorem T_fc {L : am_Lb} {x P N : Nat} {S : am_G} {B : Int} (t : Nt h L x P N S B) : xL h (am_fr h 26 N) ∧ am_fi h 195 (am_fr h 26 N) = S 0 0 5 ∧ ∀ k, 0 ≤ k → k < S 0 0 5 → iTe h (am_ar h (am_fr h 194 (am_fr h 26 N)) k) (S 7 k) := by
  obtain ⟨x1, x2, x3, x4, x5, x6, x7, x8, x9, x10⟩ := t.2.2.2.1
  exact ⟨x7.1.1.1, x7.1.2.2.2.2.1, x7.2⟩
theorem IT_T {L : am_Lb} {x P N : Nat} {S : am_G} {B : Int} (t : Nt h L x P N S B) {k z : Int} : am_ty (itH h (am_fr h 26 N) k z) (am_sz h + 1) = 38 ∧ am_fr (itH h (am_fr h 26 N) k z) 199 (am_sz h + 1) = (am_fr h 26 N) ∧ am_fi (itH h (am_fr h 26 N) k z) 196 (am_sz h + 1) = k ∧ am_ty (itH h (am_fr h 26 N) k z) (am_fr h 26 N) = 31 ∧ am_fi (itH h (am_fr h 26 N) k z) 195 (am_fr h 26 N) = S 0 0 5 ∧ (0 ≤ k → k < S 0 0 5 → xI (itH h (am_fr h 26 N) k z) (am_sz h + 1)) ∧ ∀ s, 0 ≤ s → s < S 0 0 5 → iTe (itH h (am_fr h 26 N) k z) (am_ar (itH h (am_fr h 26 N) k z) (am_fr (itH h (am_fr h 26 N) k z) 194 (am_fr h 26 N)) s) (S 7 s) := by
  have t' := Nt_fx0 (it_fx (h := h) (l := (am_fr h 26 N)) (k := k) (z := z)) t
  have e := (it_old (h := h) (l := (am_fr h 26 N)) (k := k) (z := z) t.2.2.2.1.1.1.2.1).2.2.2.1 26
  obtain ⟨g1, g2, g4⟩ := T_fc t'
  obtain ⟨u1, u2, u4⟩ := T_fc t
  rw [e] at g1 g2 g4
  exact ⟨it_ty, it_199, it_196, g1.1, g2, fun k1 k2 => it_xI u1 ⟨k1, by rw [u2]; exact k2⟩, g4⟩
theorem X_where {L : am_Lb} {x P N : Nat} {S : am_G} {B : Int} {s m n : Int} {D : Nat} (hD : 90 ≤ D) (t : Nt h L x P N S B) (hx : am_ty h x = 1) (hN : am_fr h 1 x = N) (hC : okC S) (hG : okG S) (hT : okTe S) (H0 : ¬ (0 ≤ s ∧ s < S 0 0 4) → XT h L x P N S B K 33) (H1 : 0 ≤ s ∧ s < S 0 0 4 → XA h L x P N S B K (pos0 (whS S s m n (S 0 0 5).toNat).1) 1 4) : am_ev am_prog D 159 [.inr (.inl x), .inl s, .inl m, .inl n] h K := by
  obtain ⟨g1, g2, g3, g4⟩ := G_fc t
  obtain ⟨u1, u2, u4⟩ := T_fc t
  have c4 := hG.1
  have c5 := hC.2.2.2.1
  obtain ⟨d, rfl⟩ : ∃ d, D = d + 13 := ⟨D - 13, by omega⟩
  refine am_en p_X1_where rfl rfl ?_
  refine v_X1_where_0 ?_
  rw [hN, g2]
  refine ⟨hx, g3, g1.1, by omega, fun c => ⟨⟨g1, by omega⟩, Or.inr (G_ty (g4 s c.1 (by omega))), u1.1, c_iterator u1.1 u1.2.2.2.2.1 (am_av (v_X1_where_12 ?_))⟩, fun c => XT_go t (H0 (by omega))⟩
  have main : ∀ k, 0 ≤ k → k ≤ S 0 0 5 → ∀ z o7, am_W m_X1_where (am_ev am_prog (d + 12)) K 13 [some (.inr (.inl (x))), some (.inl (s)), some (.inl (m)), some (.inl (n)), some (.inl (pos0 (whS S s m n k.toNat).1)), some (.inl ((whS S s m n k.toNat).2)), some (.inr (.inl ((am_sz h + 1)))), o7] [] (itH h (am_fr h 26 N) k z) := by
    refine lp_z ?_ ?_
    · intro k k1 k2 hL z o5
      obtain ⟨i1, i2, i3, i4, i5, i6, i7⟩ := IT_T t (k := k) (z := z)
      have q := i7 k k1 k2
      have b := hT k k1 k2
      have e1 : (k + 1).toNat = k.toNat + 1 := by omega
      have e2 : ((k.toNat : Nat) : Int) = k := by omega
      have es : whS S s m n (k.toNat + 1) = if S 7 k 0 = s ∧ S 7 k 3 ≤ n ∧ S 7 k 2 ≤ m ∧ (whS S s m n k.toNat).2 ≤ S 7 k 2 then (if (whS S s m n k.toNat).2 < S 7 k 2 ∨ (whS S s m n k.toNat).1 = S 7 k 1 then S 7 k 1 else -2, S 7 k 2) else whS S s m n k.toNat := by
        show (if S 7 ((k.toNat : Nat) : Int) 0 = s ∧ _ then _ else _) = _
        rw [e2]
      rw [e1, es] at hL
      generalize whS S s m n k.toNat = w at hL ⊢
      refine v_X1_where_13 ?_
      rw [i2, i3, i5, it_next, q.2.2.2.1, q.2.2.2.2.1, q.2.2.2.2.2.1, q.2.2.2.2.2.2]
      refine ⟨i1, i4, fun c => absurd c (by omega), fun _ => ⟨i6 k1 k2, Or.inr q.1, q.1, fun c => ?_, fun c => ⟨fun d => ?_, fun d => ⟨fun e => ?_, fun e => ⟨fun f => ⟨fun g => ?_, fun g => ⟨fun u => ?_, fun u => ?_⟩⟩, fun f => ?_⟩⟩⟩⟩⟩
      · rw [if_neg (fun y => c y.1)] at hL
        exact hL _ _
      · rw [if_neg (fun y => absurd y.2.1 (by omega))] at hL
        exact hL _ _
      · rw [if_neg (fun y => absurd y.2.2.1 (by omega))] at hL
        exact hL _ _
      · rw [if_pos ⟨c, d, e, f⟩, if_pos (Or.inl g)] at hL
        have ep : pos0 (S 7 k 1) = S 7 k 1 := if_pos b.1
        rw [ep] at hL
        exact hL _ _
      · have nu : w.1 ≠ S 7 k 1 := fun y => u (by unfold pos0; rw [if_pos (by omega)]; exact y)
        rw [if_pos ⟨c, d, e, f⟩, if_neg (fun y => y.elim (fun y => absurd y (by omega)) nu)] at hL
        exact hL _ _
      · have nu : w.1 = S 7 k 1 := by
          unfold pos0 at u
          by_cases y : 0 ≤ w.1
          · rw [if_pos y] at u
            exact u
          · rw [if_neg y] at u
            omega
        rw [if_pos ⟨c, d, e, f⟩, if_pos (Or.inr nu)] at hL
        have ep : pos0 (S 7 k 1) = S 7 k 1 := if_pos b.1
        rw [ep] at hL
        exact hL _ _
      · rw [if_neg (fun y => absurd y.2.2.2 (by omega))] at hL
        exact hL _ _
    · intro z o5
      obtain ⟨i1, i2, i3, i4, i5, i6, i7⟩ := IT_T t (k := S 0 0 5) (z := z)
      refine v_X1_where_13 ?_
      rw [i2, i3, i5]
      exact ⟨i1, i4, fun _ => XA_f t (H1 (by omega)) it_fx (Nat.le_refl _) (Nat.le_refl _), fun c => absurd rfl c⟩
  exact main 0 (by omega) c5.1 _ _
end
