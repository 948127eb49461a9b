set_option maxRecDepth 100000
def okWs (S : am_G) : Prop := ∀ f, 0 ≤ f → f < 2 → okW (S 1 f)
theorem nd_kne {h : am_H} {L : am_Lb} {q t o g k q' t' o' g' k' : Nat} {i i' : Int} (n : nd h L q t o g k i) (n' : nd h L q' t' o' g' k' i') (hk : k ≠ k') : q ≠ q' := fun e => by
  have e1 := n.2.2.2
  rw [e, n'.2.2.2] at e1
  injection e1 with _ e1
  injection e1 with _ e1
  injection e1 with e1 _
  exact hk e1.symm
theorem nd_one_ne {h : am_H} {L : am_Lb} {q t o g k q' t' o' g' k' : Nat} {i i' : Int} (n : nd h L q t o g k i) (n' : nd h L q' t' o' g' k' i') (hk : o ≠ o') : q ≠ q' := fun e => by
  have e1 := n.2.2.2
  rw [e, n'.2.2.2] at e1
  injection e1 with e1 _
  exact hk e1.symm
theorem nd_fy {X : Nat → Prop} {h h' : am_H} {L L' : am_Lb} (a : fx X h h') (le : leL h L L') {q t o g k : Nat} {i : Int} (n : nd h L q t o g k i) : nd h' L' q t o g k i ∧ am_ln h' q = am_ln h q := by
  obtain ⟨n1, n2, n3, n4⟩ := n
  obtain ⟨a1, a2, a3⟩ := a.2.2.2 q n2
  exact ⟨⟨a1.trans n1, Nat.le_trans n2 a.1, n3, (le q n2).trans n4⟩, a2⟩
theorem Nt_pp {X : Nat → Prop} {h h' : am_H} {L L' : am_Lb} {x P N : Nat} {S : am_G} {B : Int} (t : Nt h L x P N S B) (a : fx X h h') (le : leL h L L') (ok2 : okLb h' L') (hX : ∀ q, q ≤ am_sz h → X q → (L q).1 = x ∧ (L q).2.1 = 1) (r : rPap h' L' x P) : Nt h' L' x P N S B := by
  obtain ⟨t1, t2, t3, t4, t5⟩ := t
  exact ⟨ok2, cs_fx a t2, r, Rep_fx (Int.le_refl _) a le t1 t2.1 (fun q hq z => by rw [(hX q hq z).1]; exact ⟨t5.2.1, t5.1⟩) t4, t5⟩
/-- the paper and its rows of numbers are others -/
theorem sc_lb {h : am_H} {L : am_Lb} {x P : Nat} (y : rPap h L x P) {q : Nat} (e : q = P ∨ q = am_fr h 12 P ∨ q = am_fr h 13 P ∨ q = am_fr h 14 P) : (L q).1 = x ∧ (L q).2.1 = 1 := by
  rcases e with e | e | e | e
  · rw [e, y.1.2.2.2]
    exact ⟨rfl, rfl⟩
  · rw [e, y.2.1.1.2.2.2]
    exact ⟨rfl, rfl⟩
  · rw [e, y.2.2.1.1.2.2.2]
    exact ⟨rfl, rfl⟩
  · rw [e, y.2.2.2.1.1.2.2.2]
    exact ⟨rfl, rfl⟩
theorem Nt_sc {X : Nat → Prop} {h h' : am_H} {L : am_Lb} {x P N : Nat} {S : am_G} {B : Int} (t : Nt h L x P N S B) (a : fx X h h') (hX : ∀ q, X q → q = P ∨ q = am_fr h 12 P ∨ q = am_fr h 13 P ∨ q = am_fr h 14 P) (hr : ∀ f, f ≠ 6 → f ≠ 7 → am_fr h' f P = am_fr h f P) : Nt h' L x P N S B := by
  refine Nt_pp t a leL_refl (okLb_fx a t.1) (fun q hq z => sc_lb t.2.2.1 (hX q z)) ?_
  obtain ⟨y1, y2, y3, y4, y5, y6, y7, l, y8, y9⟩ := t.2.2.1
  have k5 : ¬ X (am_fr h 15 P) := fun z => by
    rcases hX _ z with e | e | e | e
    · exact nd_kne y5 y1 (by decide) e
    · exact nd_kne y5 y2.1 (by decide) e
    · exact nd_kne y5 y3.1 (by decide) e
    · exact nd_kne y5 y4.1 (by decide) e
  have k6 : ¬ X (am_fr h 185 (am_fr h 15 P)) := fun z => by
    rcases hX _ z with e | e | e | e
    · exact nd_kne y6 y1 (by decide) e
    · exact nd_kne y6 y2.1 (by decide) e
    · exact nd_kne y6 y3.1 (by decide) e
    · exact nd_kne y6 y4.1 (by decide) e
  have w5 := nd_fx a (leL_refl (L := L)) y5 k5
  have w6 := nd_fx a (leL_refl (L := L)) y6 k6
  have w1 := nd_fy a (leL_refl (L := L)) y1
  have w2 := nd_fy a (leL_refl (L := L)) y2.1
  have w3 := nd_fy a (leL_refl (L := L)) y3.1
  have w4 := nd_fy a (leL_refl (L := L)) y4.1
  unfold rPap
  rw [hr 12 (by decide) (by decide), hr 13 (by decide) (by decide), hr 14 (by decide) (by decide), hr 15 (by decide) (by decide), w5.2.2.2.1, w2.2, w3.2, w4.2, w6.2.1]
  refine ⟨w1.1, ⟨w2.1, y2.2⟩, ⟨w3.1, y3.2⟩, ⟨w4.1, y4.2⟩, w5.1, w6.1, y7, l, ?_, y9⟩
  unfold xB at y8 ⊢
  rw [w5.1.1, w5.2.2.2.1, w6.1.1, w5.2.2.1, w5.2.2.1, w6.2.1, w6.2.2.2.2.1]
  exact ⟨rfl, rfl, y8.2.2.1, y8.2.2.2.1, y8.2.2.2.2.1, ⟨w5.1.2.1, w6.1.2.1⟩, y8.2.2.2.2.2.2⟩
theorem sc_P {h : am_H} {L : am_Lb} {x P N : Nat} {f : Int} (y : rPap h L x P) (hx : x ≠ N) (n : nd h L (am_fr h 7 P) 101 N 1 1 f) : xScr h P := by
  obtain ⟨y1, y2, y3, y4, y5⟩ := y
  exact ⟨⟨y2.1.1, y2.2, y2.1.2.1⟩, ⟨y3.1.1, y3.2, y3.1.2.1⟩, ⟨y4.1.1, y4.2, y4.1.2.1⟩, ⟨nd_kne y2.1 y3.1 (by decide), nd_kne y2.1 y4.1 (by decide), nd_kne y3.1 y4.1 (by decide)⟩, nd_one_ne y2.1 n hx, nd_one_ne y3.1 n hx, nd_one_ne y4.1 n hx⟩
theorem Out_tr {h h1 h2 : am_H} {L L1 L2 : am_Lb} {x N d1 u1 d2 u2 : Nat} (a : Out h L x N h1 L1 d1 u1) (b : Out h1 L1 x N h2 L2 d2 u2) : Out h L x N h2 L2 (d1 + d2) (u1 + u2) := by
  obtain ⟨a1, a2, a3, a4⟩ := a
  obtain ⟨b1, b2, b3, b4⟩ := b
  refine ⟨⟨Nat.le_trans a1.1 b1.1, Nat.le_trans a1.2.1 b1.2.1, b1.2.2.1.trans a1.2.2.1, fun q hq => ?_⟩, fun q hq => (b2 q (Nat.le_trans hq a1.1)).trans (a2 q hq), ⟨by omega, by omega⟩, fun q hq => ?_⟩
  · obtain ⟨p1, p2, p3⟩ := a1.2.2.2 q hq
    obtain ⟨r1, r2, r3⟩ := b1.2.2.2 q (Nat.le_trans hq a1.1)
    refine ⟨r1.trans p1, r2.trans p2, fun n => ?_⟩
    have m := p3 n
    have o := r3 (fun z => n (by
      have z' : (L1 q).1 = N ∨ ((L1 q).1 = x ∧ (L1 q).2.1 = 1) := z
      rw [a2 q hq] at z'
      exact z'))
    exact ⟨fun f => (o.1 f).trans (m.1 f), fun f => (o.2.1 f).trans (m.2.1 f), o.2.2.1.trans m.2.2.1, o.2.2.2.trans m.2.2.2⟩
  · by_cases c : q ≤ am_sz h1
    · rw [b2 q c]
      exact a4 q hq
    · exact b4 q (by omega)
theorem Out_le {h h1 : am_H} {L L1 : am_Lb} {x N d1 u1 d2 u2 : Nat} (a : Out h L x N h1 L1 d1 u1) (hd : d1 ≤ d2) (hu : u1 ≤ u2) : Out h L x N h1 L1 d2 u2 := ⟨a.1, a.2.1, ⟨by have := a.2.2.1; omega, by have := a.2.2.1; omega⟩, a.2.2.2⟩
section
variable {K : am_K} {h : am_H}
theorem PT_x {L : am_Lb} {N t : Nat} {S : am_G} {p : Int} (q : rPt h L N S p t) : xPt h t S p := ⟨q.1.1, q.1.2.1, q.2.2.1, q.2.2.2.1, q.2.2.2.2.1, q.2.2.2.2.2.2.1.1⟩
/-- the paper for a part, of a night -/
theorem x_paperN {L : am_Lb} {x P N : Nat} {S : am_G} {B : Int} {p mi : Int} {D : Nat} (hD : 78 ≤ D) (t : Nt h L x P N S B) (hC : okC S) (hF : okF S) (hY : okY S) (ip : isP S p) (H : ∀ h', Nt h' L x P N S B → Out h L x N h' L 6 33 → xPp h' P (S 3 p) (S 1 (S 2 0 (p / 5))) (meS S p mi) (leS S p mi) (moS S p mi) (coS S p mi) → xScr h' P → K (.inl (some (.inr (.inl (P))))) h') : am_ev am_prog D 207 [.inr (.inl N), .inr (.inl (am_ar h (am_fr h 20 N) p)), .inl mi] h K := by
  obtain ⟨y1, y2, y3⟩ := Y_fc t
  have pb := isP_bd hC hF ip
  have q := (t.2.2.2.1.2.2.1.2.2 p pb.1.1 pb.1.2).2 ip
  have x1 := t.2.2.2.1.1
  have x2 := t.2.2.2.1.2.1
  have xw := x2.2.2 (S 2 0 (p / 5)) pb.2.2.1.1 pb.2.2.1.2
  refine x_paper hD hY pb.2.2.1 x1.1.1 x1.1.2.1 rfl x1.2.1 rfl ⟨t.2.2.1.1.1, t.2.2.1.1.2.1⟩ ⟨x2.1.1, x2.2.1, x2.1.2.1⟩ xw.2 y1 y2 (fun k k1 k2 => (y3 k k1 k2).1) (PT_x q) (fun h' a z u xp hi hr h67 => ?_)
  have t' := Nt_sc t a (fun q e => Or.inl e) hr
  refine H h' t' (Out_X t.1 a (fun q hq e => Or.inr ?_) z u) xp (sc_P t'.2.2.1 t.2.2.2.2.1 (f := (S 2 0 (p / 5))) ?_)
  · exact sc_lb t.2.2.1 (Or.inl e)
  · rw [h67.2]
    have ne : am_ar h (am_fr h 19 N) (S 2 0 (p / 5)) ≠ P := nd_one_ne xw.1 t.2.2.1.1 (fun e => t.2.2.2.2.1 e.symm)
    exact (nd_fx a (leL_refl (L := L)) xw.1 ne).1
/-- a part by hand -/
def hdR (S : am_G) (p w : Int) : Int := match hnd (S 3 p) (S 1 (S 2 0 (p / 5))) (meS S p (S 0 0 0)) (leS S p (S 0 0 0)) (moS S p (S 0 0 0)) 41 0 0 0 with | some q => if w = 0 then q.1 else q.2 | none => -1
theorem X_hand {L : am_Lb} {x P N : Nat} {S : am_G} {B : Int} {p w : Int} {D : Nat} (hD : 90 ≤ D) (t : Nt h L x P N S B) (hx : am_ty h x = 1) (hN : am_fr h 1 x = N) (hC : okC S) (hF : okF S) (hA : okA S) (hY : okY S) (hW : okWs S) (H0 : ¬ isP S p → XT h L x P N S B K 33) (H1 : isP S p → XA h L x P N S B K (hdR S p w) 6 33) : am_ev am_prog D 145 [.inr (.inl x), .inl p, .inl w] h K := by
  obtain ⟨g1, g2, g3, g4⟩ := P_fc t
  obtain ⟨d, rfl⟩ : ∃ d, D = d + 13 := ⟨D - 13, by omega⟩
  refine am_en p_X1_hand rfl rfl ?_
  refine v_X1_hand_0 ?_
  rw [hN, g3]
  refine ⟨hx, fun c => XT_go t (H0 (fun z => c (by have := isP_bd hC hF z; omega))), fun c => ⟨⟨g1, g2, by omega⟩, fun dd => XT_go t (H0 (fun z => ((g4 p c.1 (by omega)).2 z).1.2.2.1 dd)), fun dd => ?_⟩⟩
  have ip : isP S p := Classical.byContradiction fun z => dd ((g4 p c.1 (by omega)).1 z)
  have q := (g4 p c.1 (by omega)).2 ip
  have ap := hA p ip
  have pb := isP_bd hC hF ip
  have tl := tells_bd (p := p) (mi := S 0 0 0) hY
  rw [t.2.2.2.1.1.2.2.1]
  refine x_paperN (by omega) t hC hF hY ip (fun h' t' o xp sc => am_av (v_X1_hand_9 ⟨t'.2.2.1.1.1, ?_⟩))
  refine x_hand (by omega) ap.1 (hW _ pb.2.2.1.1 pb.2.2.1.2) ap.2.1 xp tl.1 tl.2.1 tl.2.2.1 (am_av (v_X1_hand_11 ?_))
  exact H1 ip h' L t' o
/-- the best lines of a part -/
def bsR (S : am_G) (p w : Int) : Int := if w = 2 then frR (S 3 p) (S 1 (S 2 0 (p / 5))) (meS S p (S 0 0 0)) (leS S p (S 0 0 0)) (moS S p (S 0 0 0)) (S 3 p 1).toNat else if ((tbS S p (S 0 0 0)) 0).1 = -1 then -1 else if w = 0 then ((tbS S p (S 0 0 0)) 0).2.1 else ((tbS S p (S 0 0 0)) 0).1
theorem X_best {L : am_Lb} {x P N : Nat} {S : am_G} {B : Int} {p w : Int} {D : Nat} (hD : 90 ≤ D) (t : Nt h L x P N S B) (hx : am_ty h x = 1) (hN : am_fr h 1 x = N) (hC : okC S) (hF : okF S) (hA : okA S) (hY : okY S) (hW : okWs S) (H0 : ¬ isP S p → XT h L x P N S B K 33) (H2 : isP S p → ¬ (0 ≤ w ∧ w ≤ 2) → XT h L x P N S B K 39) (H1 : isP S p → 0 ≤ w ∧ w ≤ 2 → XA h L x P N S B K (bsR S p w) 7 73) : am_ev am_prog D 133 [.inr (.inl x), .inl p, .inl w] h K := by
  obtain ⟨g1, g2, g3, g4⟩ := P_fc t
  obtain ⟨d, rfl⟩ : ∃ d, D = d + 13 := ⟨D - 13, by omega⟩
  refine am_en p_X1_best rfl rfl ?_
  refine v_X1_best_0 ?_
  rw [hN, g3]
  refine ⟨hx, fun c => XT_go t (H0 (fun z => c (by have := isP_bd hC hF z; omega))), fun c => ⟨⟨g1, g2, by omega⟩, fun dd => XT_go t (H0 (fun z => ((g4 p c.1 (by omega)).2 z).1.2.2.1 dd)), fun dd => ?_⟩⟩
  have ip : isP S p := Classical.byContradiction fun z => dd ((g4 p c.1 (by omega)).1 z)
  have q := (g4 p c.1 (by omega)).2 ip
  have ap := hA p ip
  have pb := isP_bd hC hF ip
  have tl := tells_bd (p := p) (mi := S 0 0 0) hY
  refine ⟨fun e => ?_, fun e => XT_go t (H2 ip e)⟩
  rw [t.2.2.2.1.1.2.2.1]
  have okw := hW _ pb.2.2.1.1 pb.2.2.1.2
  have a1 := ap.1.1
  have bT := tb_bd ap.1 okw (mo := moS S p (S 0 0 0)) tl.1 tl.2.1 tl.2.2.2.1 (n := S 3 p 1) (by omega) (S 3 p 1).toNat (by omega) 0 (by omega) (by omega)
  have HH := H1 ip e
  refine x_paperN (by omega) t hC hF hY ip (fun h' t' o xp sc => am_av (v_X1_best_16 ⟨fun f => ⟨t'.2.2.1.1.1, ?_⟩, fun f => ⟨t'.2.2.1.1.1, ?_⟩⟩))
  · refine x_best (by omega) ap.1 okw ap.2.1 xp tl.1 tl.2.1 tl.2.2.1 tl.2.2.2.1 sc (by omega) (fun n h2 a z u i16 hi hr => ?_) (fun n h2 a z u ty ln ai i16 hi hr => ?_)
    · have t2 := Nt_sc t' a (fun q e => e.elim (fun e => Or.inr e) Or.inl) (fun f _ _ => hr f)
      refine am_av (v_X1_best_26 ⟨fun c => absurd rfl c, fun _ => (XA_v HH ?_) h2 L t2 (Out_le (Out_tr o (Out_X (dz := 1) (du := 40) t'.1 a (fun q hq e => Or.inr (sc_lb t'.2.2.1 (e.elim Or.inr Or.inl))) (by omega) (by omega))) (by omega) (by omega))⟩)
      exact (if_neg f).trans (if_pos n)
    · have t2 := Nt_sc t' a (fun q e => e.elim (fun e => Or.inr e) Or.inl) (fun f _ _ => hr f)
      have ob : Out h L x N h2 L 7 73 := Out_le (Out_tr o (Out_X (dz := 1) (du := 40) t'.1 a (fun q hq e => Or.inr (sc_lb t'.2.2.1 (e.elim Or.inr Or.inl))) (by omega) (by unfold okT at bT; omega))) (by omega) (by omega)
      refine am_av (v_X1_best_26 ⟨fun _ => ⟨fun c => ⟨t2.2.2.1.1.1, ?_⟩, fun c => ⟨Or.inl ty, ?_⟩⟩, fun c => absurd c (by omega)⟩)
      · rw [i16]
        exact (XA_v HH ((if_neg f).trans ((if_neg n).trans (if_neg c)))) h2 L t2 ob
      · rw [ln]
        exact (XA_v HH ((if_neg f).trans ((if_neg n).trans (if_pos c)))) h2 L t2 ob
  · refine x_reach (by omega) ap.1 okw ap.2.1 xp tl.1 tl.2.1 tl.2.2.1 sc (fun h2 a z u => am_av (v_X1_best_22 ?_))
    have yl := t'.2.2.1.2.2.1.1
    have nP : P ≠ am_fr h' 13 P := nd_kne t'.2.2.1.1 yl (by decide)
    have t2 := Nt_sc t' a (fun q e => Or.inr (Or.inr (Or.inl e))) (fun f _ _ => ((a.2.2.2 P t'.2.2.1.1.2.1).2.2 nP).2.1 f)
    exact (XA_v HH (if_pos f)) h2 L t2 (Out_le (Out_tr o (Out_X (dz := 0) (du := 0) t'.1 a (fun q hq e => Or.inr (sc_lb t'.2.2.1 (Or.inr (Or.inr (Or.inl e))))) (by omega) (by omega))) (by omega) (by omega))
/-- where a line ends -/
def enR (S : am_G) (p l : Int) : Int := if S 3 p 3 = 0 then (if ((tbS S p (S 0 0 0)) 0).1 = -1 then -1 else if 0 ≤ l ∧ l < ((tbS S p (S 0 0 0)) 0).2.1 then nx (tbS S p (S 0 0 0)) (l.toNat + 1) 0 - 1 else -1) else if 0 ≤ l ∧ l < S 3 p 4 then S 3 p (5 + l) else -1
theorem X_ends {L : am_Lb} {x P N : Nat} {S : am_G} {B : Int} {p l : Int} {D : Nat} (hD : 90 ≤ D) (t : Nt h L x P N S B) (hx : am_ty h x = 1) (hN : am_fr h 1 x = N) (hC : okC S) (hF : okF S) (hA : okA S) (hY : okY S) (hW : okWs S) (H0 : ¬ isP S p → XT h L x P N S B K 33) (H1 : isP S p → XA h L x P N S B K (enR S p l) 7 73) : am_ev am_prog D 139 [.inr (.inl x), .inl p, .inl l] h K := by
  obtain ⟨g1, g2, g3, g4⟩ := P_fc t
  obtain ⟨d, rfl⟩ : ∃ d, D = d + 13 := ⟨D - 13, by omega⟩
  refine am_en p_X1_ends rfl rfl ?_
  refine v_X1_ends_0 ?_
  rw [hN, g3]
  refine ⟨hx, fun c => XT_go t (H0 (fun z => c (by have := isP_bd hC hF z; omega))), fun c => ⟨⟨g1, g2, by omega⟩, fun dd => XT_go t (H0 (fun z => ((g4 p c.1 (by omega)).2 z).1.2.2.1 dd)), fun dd => ?_⟩⟩
  have ip : isP S p := Classical.byContradiction fun z => dd ((g4 p c.1 (by omega)).1 z)
  have q := (g4 p c.1 (by omega)).2 ip
  have ap := hA p ip
  have pb := isP_bd hC hF ip
  have tl := tells_bd (p := p) (mi := S 0 0 0) hY
  have HH := H1 ip
  have st := P_st q
  rw [t.2.2.2.1.1.2.2.1]
  have okw := hW _ pb.2.2.1.1 pb.2.2.1.2
  have a1 := ap.1.1
  have bT := tb_bd ap.1 okw (mo := moS S p (S 0 0 0)) tl.1 tl.2.1 tl.2.2.2.1 (n := S 3 p 1) (by omega) (S 3 p 1).toNat (by omega) 0 (by omega) (by omega)
  refine ⟨q.1.1, fun e => ?_, fun e => ?_⟩
  · have e3 := st.mp e
    refine x_paperN (by omega) t hC hF hY ip (fun h' t' o xp sc => am_av (v_X1_ends_17 ⟨t'.2.2.1.1.1, ?_⟩))
    refine x_best (by omega) ap.1 okw ap.2.1 xp tl.1 tl.2.1 tl.2.2.1 tl.2.2.2.1 sc (by omega) (fun n h2 a z u i16 hi hr => ?_) (fun n h2 a z u ty ln ai i16 hi hr => ?_)
    · have t2 := Nt_sc t' a (fun q e => e.elim (fun e => Or.inr e) Or.inl) (fun f _ _ => hr f)
      refine am_av (v_X1_ends_19 ⟨fun _ => (XA_v HH ?_) h2 L t2 (Out_le (Out_tr o (Out_X (dz := 1) (du := 40) t'.1 a (fun q hq e => Or.inr (sc_lb t'.2.2.1 (e.elim Or.inr Or.inl))) (by omega) (by omega))) (by omega) (by omega)), fun c => absurd rfl c⟩)
      exact (if_pos e3).trans (if_pos n)
    · have t2 := Nt_sc t' a (fun q e => e.elim (fun e => Or.inr e) Or.inl) (fun f _ _ => hr f)
      have ob : Out h L x N h2 L 7 73 := Out_le (Out_tr o (Out_X (dz := 1) (du := 40) t'.1 a (fun q hq e => Or.inr (sc_lb t'.2.2.1 (e.elim Or.inr Or.inl))) (by omega) (by unfold okT at bT; omega))) (by omega) (by omega)
      have ln' : am_ln h2 (am_sz h' + 1) = ((tbS S p (S 0 0 0)) 0).2.1 := ln
      have ai' : ∀ k : Nat, (k : Int) < ((tbS S p (S 0 0 0)) 0).2.1 → am_ai h2 (am_sz h' + 1) (k : Int) = nx (tbS S p (S 0 0 0)) (k + 1) 0 - 1 := ai
      have bT' : okT (S 3 p 1) 0 ((tbS S p (S 0 0 0)) 0) := bT
      have n' : ((tbS S p (S 0 0 0)) 0).1 ≠ -1 := n
      have b21 : 0 ≤ ((tbS S p (S 0 0 0)) 0).2.1 ∧ ((tbS S p (S 0 0 0)) 0).2.1 ≤ 40 := by
        rcases bT' with e | e
        · exact absurd e n'
        · have := e.2.1
          omega
      refine am_av (v_X1_ends_19 ?_)
      rw [ln']
      refine ⟨fun c => absurd c (by omega), fun _ => ⟨⟨Or.inl ty, by omega⟩, fun c => ⟨by omega, ?_⟩, fun c => ?_⟩⟩
      · have el : ((l.toNat : Nat) : Int) = l := by omega
        have ai2 := ai' l.toNat (by omega)
        rw [el] at ai2
        rw [ai2]
        exact (XA_v HH ((if_pos e3).trans ((if_neg n).trans (if_pos (by omega))))) h2 L t2 ob
      · exact (XA_v HH ((if_pos e3).trans ((if_neg n).trans (if_neg (by omega))))) h2 L t2 ob
  · have e3 : S 3 p 3 ≠ 0 := fun z => e (st.mpr z)
    obtain ⟨z1, z2, z3, z4, z5⟩ := q.2.2.2.2.2.2.2.2 e3
    have a4 := ap.2.2.2.2.2.2.2
    refine v_X1_ends_19 ?_
    rw [z1.2.2.2.2.1]
    refine ⟨fun c => absurd c z1.2.2.1, fun _ => ⟨⟨Or.inl z1.1, by omega⟩, fun c => ⟨by omega, ?_⟩, fun c => ?_⟩⟩
    · rw [z1.2.2.2.2.2 l (by omega) (by omega)]
      exact XA_j t (XA_v HH ((if_neg e3).trans (if_pos (by omega))))
    · exact XA_j t (XA_v HH ((if_neg e3).trans (if_neg (by omega))))
end
