set_option maxRecDepth 100000
/-- facts made behind h -/
def fH (h : am_H) (t0 t1 t2 f0 f1 f2 f3 f4 f5 : Int) : am_H := am_sfi (am_sfi (am_sfi (am_sfi (am_sfi (am_sfi (am_sfi (am_sfi (am_sfi (am_new h 20 9) 135 (am_sz h + 1) t0) 136 (am_sz h + 1) t1) 137 (am_sz h + 1) t2) 138 (am_sz h + 1) f0) 139 (am_sz h + 1) f1) 140 (am_sz h + 1) f2) 141 (am_sz h + 1) f3) 142 (am_sz h + 1) f4) 143 (am_sz h + 1) f5
theorem fH_fx {h : am_H} {t0 t1 t2 f0 f1 f2 f3 f4 f5 : Int} : fx (fun _ : Nat => False) h (fH h t0 t1 t2 f0 f1 f2 f3 f4 f5) := by
  unfold fH
  exact fx_sfi (fx_sfi (fx_sfi (fx_sfi (fx_sfi (fx_sfi (fx_sfi (fx_sfi (fx_sfi (fx_new fx_refl) (Or.inl (by omega))) (Or.inl (by omega))) (Or.inl (by omega))) (Or.inl (by omega))) (Or.inl (by omega))) (Or.inl (by omega))) (Or.inl (by omega))) (Or.inl (by omega))) (Or.inl (by omega))
theorem fH_ok {h : am_H} {tg fc : Int → Int} (ht : ∀ i, 0 ≤ i → i < 3 → tg i = 0 ∨ tg i = 1) : xF (fH h (tg 0) (tg 1) (tg 2) (fc 0) (fc 1) (fc 2) (fc 3) (fc 4) (fc 5)) (am_sz h + 1) tg fc := by
  unfold xF fH
  simp only [x_ty_sfi, x_fie, x_fif (by decide : (135 : Nat) ≠ 136), x_fif (by decide : (135 : Nat) ≠ 137), x_fif (by decide : (135 : Nat) ≠ 138), x_fif (by decide : (135 : Nat) ≠ 139), x_fif (by decide : (135 : Nat) ≠ 140), x_fif (by decide : (135 : Nat) ≠ 141), x_fif (by decide : (135 : Nat) ≠ 142), x_fif (by decide : (135 : Nat) ≠ 143), x_fif (by decide : (136 : Nat) ≠ 137), x_fif (by decide : (136 : Nat) ≠ 138), x_fif (by decide : (136 : Nat) ≠ 139), x_fif (by decide : (136 : Nat) ≠ 140), x_fif (by decide : (136 : Nat) ≠ 141), x_fif (by decide : (136 : Nat) ≠ 142), x_fif (by decide : (136 : Nat) ≠ 143), x_fif (by decide : (137 : Nat) ≠ 138), x_fif (by decide : (137 : Nat) ≠ 139), x_fif (by decide : (137 : Nat) ≠ 140), x_fif (by decide : (137 : Nat) ≠ 141), x_fif (by decide : (137 : Nat) ≠ 142), x_fif (by decide : (137 : Nat) ≠ 143), x_fif (by decide : (138 : Nat) ≠ 139), x_fif (by decide : (138 : Nat) ≠ 140), x_fif (by decide : (138 : Nat) ≠ 141), x_fif (by decide : (138 : Nat) ≠ 142), x_fif (by decide : (138 : Nat) ≠ 143), x_fif (by decide : (139 : Nat) ≠ 140), x_fif (by decide : (139 : Nat) ≠ 141), x_fif (by decide : (139 : Nat) ≠ 142), x_fif (by decide : (139 : Nat) ≠ 143), x_fif (by decide : (140 : Nat) ≠ 141), x_fif (by decide : (140 : Nat) ≠ 142), x_fif (by decide : (140 : Nat) ≠ 143), x_fif (by decide : (141 : Nat) ≠ 142), x_fif (by decide : (141 : Nat) ≠ 143), x_fif (by decide : (142 : Nat) ≠ 143), true_and]
  exact ⟨x_tyn0 rfl, ht⟩
/-- a part's numbers, as far as styles look at them -/
def xPt (h : am_H) (t : Nat) (S : am_G) (p : Int) : Prop := am_ty h t = 9 ∧ t ≤ am_sz h ∧ am_fi h 111 t = S 2 0 (p / 5) ∧ am_fi h 112 t = S 2 1 (p / 5) ∧ am_fi h 114 t = S 3 p 0 ∧ xPc h (am_fr h 113 t) (S 3 p)
theorem xPt_fx {X : Nat → Prop} {h h' : am_H} {t : Nat} {S : am_G} {p : Int} (a : fx X h h') (hX : ∀ q, X q → am_ty h q = 101 ∨ am_ty h q = 2 ∨ am_ty h q = 3) (x : xPt h t S p) : xPt h' t S p ∧ am_fr h' 113 t = am_fr h 113 t := by
  obtain ⟨x1, x2, x3, x4, x5, x6⟩ := x
  obtain ⟨a1, a2, a3⟩ := a.2.2.2 t x2
  obtain ⟨c1, c2, c3, c4⟩ := a3 (fun z => by have := hX _ z; omega)
  unfold xPt
  rw [a1, c1, c1, c1, c2]
  exact ⟨⟨x1, Nat.le_trans x2 a.1, x3, x4, x5, xPc_fx a hX x6⟩, rfl⟩
section
variable {K : am_K} {h : am_H}
theorem x_facts {N t : Nat} {S : am_G} {p mi : Int} {D : Nat} (hD : 13 ≤ D) (hp : xPt h t S p) (H : ∀ h', fx (fun _ : Nat => False) h h' → am_sz h' = am_sz h + 1 → am_us h' = am_us h + 9 → xF h' (am_sz h + 1) (tgs S p mi 0) (fcs S p mi 0 99) → K (.inl (some (.inr (.inl (am_sz h + 1))))) h') : am_ev am_prog D 263 [.inr (.inl N), .inr (.inl t), .inl mi] h K := by
  obtain ⟨x1, x2, x3, x4, x5, x6⟩ := hp
  have l1 := x6.2.1
  have t1 := x6.1
  have z1 := x6.2.2.2
  have fin : ∀ t0 t1, t0 = am_b (S 2 0 (p / 5) = 1) → t1 = am_b (S 2 1 (p / 5) < mi) → K (.inl (some (.inr (.inl (am_sz h + 1))))) (fH h t0 t1 0 (S 3 p 0) (S 3 p 1) (S 2 1 (p / 5)) mi 0 99) := by
    intro t0 t1 e0 e1
    refine H _ fH_fx rfl rfl ?_
    have k := fH_ok (h := h) (tg := (tgs S p mi 0)) (fc := (fcs S p mi 0 99)) (fun i _ _ => tgs_01 (Or.inl rfl) i)
    subst e0
    subst e1
    exact k
  obtain ⟨d, rfl⟩ : ∃ d, D = d + 13 := ⟨D - 13, by omega⟩
  refine am_en p_X3_facts rfl rfl ?_
  refine v_X3_facts_0 ⟨⟨x2, x1⟩, ?_⟩
  rw [x3, x4, x5, l1]
  refine ⟨fun c => ⟨fun d => ⟨⟨z1, t1⟩, ?_⟩, fun d => ⟨⟨z1, t1⟩, ?_⟩⟩, fun c => ⟨fun d => ⟨⟨z1, t1⟩, ?_⟩, fun d => ⟨⟨z1, t1⟩, ?_⟩⟩⟩
  · exact fin 0 0 (am_bf c).symm (am_bf (by omega)).symm
  · exact fin 0 1 (am_bf c).symm (am_bt d).symm
  · exact fin 1 0 (am_bt c).symm (am_bf (by omega)).symm
  · exact fin 1 1 (am_bt c).symm (am_bt d).symm
/-- the paper as it is laid -/
def lyH (h : am_H) (r a w : Nat) (x3 x4 x5 x6 : Int) : am_H := am_sfi (am_sfi (am_sfi (am_sfi (am_sfr (am_sfr h 6 r a) 7 r w) 8 r x3) 9 r x4) 10 r x5) 11 r x6
theorem x_lay {r a w : Nat} {x3 x4 x5 x6 : Int} {D : Nat} (hD : 13 ≤ D) (h1 : am_ty h r = 2) (H : K (.inl (some (.inr (.inl (r))))) (lyH h r a w x3 x4 x5 x6)) : am_ev am_prog D 296 [.inr (.inl r), .inr (.inl a), .inr (.inl w), .inl x3, .inl x4, .inl x5, .inl x6] h K := by
  obtain ⟨d, rfl⟩ : ∃ d, D = d + 13 := ⟨D - 13, by omega⟩
  refine am_en p_X2_lay rfl rfl ?_
  exact v_X2_lay_0 ⟨h1, H⟩
theorem ly_fx {X : Nat → Prop} {h0 : am_H} {r a w : Nat} {x3 x4 x5 x6 : Int} (f : fx X h0 h) (hr : X r) : fx X h0 (lyH h r a w x3 x4 x5 x6) :=
  fx_sfi (fx_sfi (fx_sfi (fx_sfi (fx_sfr (fx_sfr f (Or.inr hr)) (Or.inr hr)) (Or.inr hr)) (Or.inr hr)) (Or.inr hr)) (Or.inr hr)
theorem ly_ok {r a w : Nat} {v wf : Int → Int} {x3 x4 x5 x6 : Int} (h1 : am_ty h r = 2) (h2 : r ≤ am_sz h) (ha : xPc h a v) (hw : xW h w wf) : xPp (lyH h r a w x3 x4 x5 x6) r v wf x3 x4 x5 x6 ∧ (∀ f, f ≠ 8 → f ≠ 9 → f ≠ 10 → f ≠ 11 → am_fi (lyH h r a w x3 x4 x5 x6) f r = am_fi h f r) ∧ (∀ f, f ≠ 6 → f ≠ 7 → am_fr (lyH h r a w x3 x4 x5 x6) f r = am_fr h f r) ∧ am_fr (lyH h r a w x3 x4 x5 x6) 6 r = a ∧ am_fr (lyH h r a w x3 x4 x5 x6) 7 r = w := by
  have f : fx (fun q => q = r) h (lyH h r a w x3 x4 x5 x6) := ly_fx fx_refl rfl
  have hX : ∀ q, q = r → am_ty h q = 101 ∨ am_ty h q = 2 ∨ am_ty h q = 3 := fun q e => by rw [e]; exact Or.inr (Or.inl h1)
  have e6 : am_fr (lyH h r a w x3 x4 x5 x6) 6 r = a := by
    unfold lyH
    simp only [x_fr_sfi]
    rw [x_frf (by decide), x_fre]
  have e7 : am_fr (lyH h r a w x3 x4 x5 x6) 7 r = w := by
    unfold lyH
    simp only [x_fr_sfi]
    exact x_fre
  refine ⟨⟨h1, ?_, ?_, ?_, ?_, ?_, ?_, h2⟩, ?_, ?_, e6, e7⟩
  · rw [e6]
    exact xPc_fx f hX ha
  · rw [e7]
    exact xW_fx f (fun e => by have := hw.1; rw [e, h1] at this; exact absurd this (by decide)) hw
  · unfold lyH
    rw [x_fif (by decide), x_fif (by decide), x_fif (by decide), x_fie]
  · unfold lyH
    rw [x_fif (by decide), x_fif (by decide), x_fie]
  · unfold lyH
    rw [x_fif (by decide), x_fie]
  · exact x_fie
  · intro f n8 n9 n10 n11
    unfold lyH
    rw [x_fif n11, x_fif n10, x_fif n9, x_fif n8]
    rfl
  · intro f n6 n7
    unfold lyH
    simp only [x_fr_sfi]
    rw [x_frf n7, x_frf n6]
/-- a part by the style of a minute -/
theorem x_paper {N t P l G : Nat} {S : am_G} {p mi : Int} {D : Nat} (hD : 78 ≤ D) (hY : okY S) (hF : 0 ≤ S 2 0 (p / 5) ∧ S 2 0 (p / 5) < 2) (h1 : am_ty h N = 3) (h2 : N ≤ am_sz h) (h3 : am_fr h 22 N = l) (h4 : am_fr h 17 N = P) (h5 : am_fr h 19 N = G) (hP : am_ty h P = 2 ∧ P ≤ am_sz h) (hG : am_ty h G = 110 ∧ am_ln h G = 2 ∧ G ≤ am_sz h) (hW : xW h (am_ar h G (S 2 0 (p / 5))) (S 1 (S 2 0 (p / 5)))) (hl : xL h l) (hl2 : am_fi h 195 l = S 0 0 2) (he : ∀ k, 0 ≤ k → k < S 0 0 2 → xSt h (am_ar h (am_fr h 194 l) k) (S 6 k)) (hp : xPt h t S p) (H : ∀ h', fx (fun q => q = P) h h' → am_sz h' ≤ am_sz h + 6 → am_us h' ≤ am_us h + 33 → xPp h' P (S 3 p) (S 1 (S 2 0 (p / 5))) (meS S p mi) (leS S p mi) (moS S p mi) (coS S p mi) → (∀ f, f ≠ 8 → f ≠ 9 → f ≠ 10 → f ≠ 11 → am_fi h' f P = am_fi h f P) → (∀ f, f ≠ 6 → f ≠ 7 → am_fr h' f P = am_fr h f P) → am_fr h' 6 P = am_fr h 113 t ∧ am_fr h' 7 P = am_ar h G (S 2 0 (p / 5)) → K (.inl (some (.inr (.inl (P))))) h') : am_ev am_prog D 207 [.inr (.inl N), .inr (.inl t), .inl mi] h K := by
  have hs := sty_bd (mi := mi) hY
  have es : stI (fun k => S 6 k 0) mi (am_fi h 195 l).toNat = sty S mi := by rw [hl2]; rfl
  -- what stands behind any heap that only grew
  have grow : ∀ h', fx (fun _ : Nat => False) h h' → am_ty h' N = 3 ∧ am_fr h' 17 N = P ∧ am_fr h' 19 N = G ∧ (am_ty h' P = 2 ∧ P ≤ am_sz h') ∧ (am_ty h' G = 110 ∧ am_ln h' G = 2) ∧ xW h' (am_ar h' G (S 2 0 (p / 5))) (S 1 (S 2 0 (p / 5))) ∧ xPt h' t S p ∧ (∀ f, am_fi h' f P = am_fi h f P) ∧ (∀ f, am_fr h' f P = am_fr h f P) ∧ am_fr h' 113 t = am_fr h 113 t ∧ am_ar h' G = am_ar h G := by
    intro h' a
    obtain ⟨a1, a2, a3⟩ := a.2.2.2 N h2
    obtain ⟨b1, b2, b3⟩ := a.2.2.2 P hP.2
    obtain ⟨c1, c2, c3⟩ := a.2.2.2 G hG.2.2
    have pp := xPt_fx a nX hp
    have eg := (c3 id).2.2.2
    refine ⟨a1.trans h1, ((a3 id).2.1 17).trans h4, ((a3 id).2.1 19).trans h5, ⟨b1.trans hP.1, Nat.le_trans hP.2 a.1⟩, ⟨c1.trans hG.1, c2.trans hG.2.1⟩, ?_, pp.1, (b3 id).1, (b3 id).2.1, pp.2, eg⟩
    rw [eg]
    exact xW_fx a id hW
  -- the end: the paper is laid behind h'
  have fin : ∀ h', fx (fun _ : Nat => False) h h' → am_sz h' ≤ am_sz h + 6 → am_us h' ≤ am_us h + 33 → K (.inl (some (.inr (.inl (P))))) (lyH h' P (am_fr h 113 t) (am_ar h G (S 2 0 (p / 5))) (meS S p mi) (leS S p mi) (moS S p mi) (coS S p mi)) := by
    intro h' a z u
    obtain ⟨g1, g2, g3, g4, g5, g6, g7, g8, g9, g10, g11⟩ := grow h' a
    have ok := ly_ok (x3 := meS S p mi) (x4 := leS S p mi) (x5 := moS S p mi) (x6 := coS S p mi) g4.1 g4.2 (a := am_fr h 113 t) (w := am_ar h G (S 2 0 (p / 5))) (wf := S 1 (S 2 0 (p / 5))) (by rw [← g10]; exact g7.2.2.2.2.2) (by rw [← g11]; exact g6)
    exact H _ (ly_fx (fx_sub a (fun q _ z => z.elim)) rfl) z u ok.1 (fun f n1 n2 n3 n4 => (ok.2.1 f n1 n2 n3 n4).trans (g8 f)) (fun f n1 n2 => (ok.2.2.1 f n1 n2).trans (g9 f)) ok.2.2.2
  have hee : ∀ k, 0 ≤ k → k < am_fi h 195 l → am_ty h (am_ar h (am_fr h 194 l) k) = 19 ∧ am_ar h (am_fr h 194 l) k ≠ 0 ∧ am_ar h (am_fr h 194 l) k ≤ am_sz h ∧ am_fi h 133 (am_ar h (am_fr h 194 l) k) = (fun k => S 6 k 0) k := by
    intro k k1 k2
    have x := he k k1 (by omega)
    exact ⟨x.1, x.2.2.1, x.2.1, x.2.2.2.1⟩
  obtain ⟨d, rfl⟩ : ∃ d, D = d + 13 := ⟨D - 13, by omega⟩
  refine am_en p_X3_paper rfl rfl ?_
  refine v_X3_paper_0 ⟨h1, x_style (by omega) h1 h2 h3 hl hee (fun h' a z u => am_av ?_)⟩
  rw [es]
  obtain ⟨g1, g2, g3, g4, g5, g6, g7, g8, g9, g10, g11⟩ := grow h' a
  by_cases c : sty S mi = -1
  · rw [if_pos c]
    have n1 : ∀ w, lrl S (tgs S p mi 0) (fcs S p mi 0 99) mi w = -1 := fun w => if_pos c
    have e1 : meS S p mi = 60 := by unfold meS sdd; rw [n1, if_pos rfl]
    have e2 : leS S p mi = 2 := by unfold leS sdd; rw [n1, if_pos rfl]
    have e3 : moS S p mi = 6 := by unfold moS sdd; rw [n1, if_pos rfl]
    have e4 : coS S p mi = 25 := by unfold coS sdd; rw [n1, if_pos rfl]
    refine v_X3_paper_3 ⟨fun q => absurd rfl q, fun _ => ⟨⟨g1, g7.1, by rw [g3]; exact g5.1, by rw [g3, g5.2, g7.2.2.1]; exact hF⟩, by rw [g2]; exact g4.1, ?_⟩⟩
    rw [g2, g3, g7.2.2.1, g10, g11]
    refine x_lay (by omega) g4.1 (am_av (v_X3_paper_20 ?_))
    have f := fin h' a (by omega) (by omega)
    rw [e1, e2, e3, e4] at f
    exact f
  · rw [if_neg c]
    have q0 : 0 ≤ sty S mi := by omega
    have st := he (sty S mi) q0 hs.2
    have st1 := xSt_fx a nX st
    refine v_X3_paper_3 ⟨fun _ => ⟨g1, x_facts (by omega) g7 (fun h2 a2 z2 u2 xf => am_av ?_)⟩, fun q => absurd q st.2.2.1⟩
    generalize hsr : am_ar h (am_fr h 194 l) (sty S mi) = s at *
    have st2 := xSt_fx a2 nX st1.1
    have fs2 : am_sz h' + 1 ≤ am_sz h2 := by omega
    have lrE : ∀ w, lastR (S 6 (sty S mi)) (tgs S p mi 0) (fcs S p mi 0 99) w (S 6 (sty S mi) 1).toNat = lrl S (tgs S p mi 0) (fcs S p mi 0 99) mi w := fun w => (if_neg c).symm
    refine v_X3_paper_25 ⟨st2.1.1, x_last (by omega) st2.1 xf fs2 (fun h3 a3 z3 u3 => am_av ?_)⟩
    rw [lrE]
    have st3 := xSt_fx a3 nX st2.1
    have f3 := xF_fx a3 nX fs2 xf
    obtain ⟨p1, p2, p3, p4, p5, p6, p7, p8, p9, p10, p11⟩ := grow h3 (fx_trans a (fx_trans a2 a3))
    refine v_X3_paper_30 ⟨⟨p1, p7.1, by rw [p3]; exact p5.1, by rw [p3, p5.2, p7.2.2.1]; exact hF⟩, st3.1.1, ?_⟩
    rw [p2, p3, p7.2.2.1, p10, p11]
    refine x_first (by omega) st3.1 f3 (by omega) (fun h4 a4 z4 u4 => am_av ?_)
    have st4 := xSt_fx a4 nX st3.1
    have f4 := xF_fx a4 nX (by omega) f3
    have E1 : (if lastR (S 6 (sty S mi)) (tgs S p mi 0) (fcs S p mi 0 99) 0 (S 6 (sty S mi) 1).toNat = -1 then 60 else S 6 (sty S mi) (2 + 5 * lastR (S 6 (sty S mi)) (tgs S p mi 0) (fcs S p mi 0 99) 0 (S 6 (sty S mi) 1).toNat + 1)) = meS S p mi := by rw [lrE]; rfl
    rw [E1]
    have E2 : ∀ x, (if lastR (S 6 (sty S mi)) (tgs S p mi 0) (fcs S p mi 0 99) 2 (S 6 (sty S mi) 1).toNat = -1 then 25 else S 6 (sty S mi) (2 + 5 * lastR (S 6 (sty S mi)) (tgs S p mi 0) (fcs S p mi 0 99) 2 (S 6 (sty S mi) 1).toNat + 1)) = x → x = coS S p mi := fun x e => by rw [← e, lrE]; rfl
    have last : ∀ y4 y5, y4 = leS S p mi → y5 = moS S p mi → am_ev am_prog (d + 12) 262 [.inr (.inl s), .inl 2, .inr (.inl (am_sz h' + 1)), .inl 25] h4 (am_aft (am_hand m_X3_paper K (am_W m_X3_paper (am_ev am_prog (d + 12)) K) 61) (am_W m_X3_paper (am_ev am_prog (d + 12)) K) 61 [some (.inr (.inl (N))), some (.inr (.inl (t))), some (.inl (mi)), some (.inr (.inl (s))), some (.inr (.inl (am_sz h' + 1))), some (.inr (.inl (if lrl S (tgs S p mi 0) (fcs S p mi 0 99) mi 1 = -1 then 0 else am_ar h2 (am_fr h2 194 (am_fr h2 134 s)) (lrl S (tgs S p mi 0) (fcs S p mi 0 99) mi 1))))] [.inl y5, .inl y4, .inl (meS S p mi), .inr (.inl (am_ar h G (S 2 0 (p / 5)))), .inr (.inl (am_fr h 113 t)), .inr (.inl P)]) := by
      intro y4 y5 ey4 ey5
      subst ey4
      subst ey5
      refine x_first (by omega) st4.1 f4 (by omega) (fun h5 a5 z5 u5 => am_av ?_)
      rw [E2 _ rfl]
      have a05 := fx_trans a (fx_trans a2 (fx_trans a3 (fx_trans a4 a5)))
      obtain ⟨r1, r2, r3, r4, r5, r6, r7, r8, r9, r10, r11⟩ := grow h5 a05
      refine v_X3_paper_62 ⟨r4.1, x_lay (by omega) r4.1 (am_av (v_X3_paper_63 ?_))⟩
      exact fin h5 a05 (by omega) (by omega)
    by_cases c5 : lrl S (tgs S p mi 0) (fcs S p mi 0 99) mi 1 = -1
    · have e2 : 2 = leS S p mi := by unfold leS sdd; rw [if_pos c5]
      have e3 : 6 = moS S p mi := by unfold moS sdd; rw [if_pos c5]
      have L := last 2 6 e2 e3
      rw [if_pos c5] at L ⊢
      exact v_X3_paper_45 ⟨fun q => absurd rfl q, fun _ => ⟨fun q => absurd rfl q, fun _ => ⟨st4.1.1, L⟩⟩⟩
    · rcases lrl_bd (tg := (tgs S p mi 0)) (fc := (fcs S p mi 0 99)) (mi := mi) (w := 1) hY with b | ⟨b1, b2, b3⟩
      · exact absurd b c5
      obtain ⟨w1, w2, w3, n, val, w4, w5, w6⟩ := st2.1.2.2.2.2.2.2.2 (lrl S (tgs S p mi 0) (fcs S p mi 0 99) mi 1) b2.1 b2.2
      have a24 := fx_trans a3 a4
      obtain ⟨v1, v2, v3⟩ := a24.2.2.2 _ w5.2.1
      obtain ⟨k1, k2, k3, k4⟩ := v3 id
      have e2 : am_fi h4 122 (am_ar h2 (am_fr h2 194 (am_fr h2 134 s)) (lrl S (tgs S p mi 0) (fcs S p mi 0 99) mi 1)) = leS S p mi := by
        rw [k1 122, w2]
        unfold leS sdd
        rw [if_neg c5]
        congr 1
        omega
      have e3 : am_fi h4 123 (am_ar h2 (am_fr h2 194 (am_fr h2 134 s)) (lrl S (tgs S p mi 0) (fcs S p mi 0 99) mi 1)) = moS S p mi := by
        rw [k1 123, w3]
        unfold moS sdd
        rw [if_neg c5]
        congr 1
        omega
      have L := last _ _ e2 e3
      rw [if_neg c5] at L ⊢
      exact v_X3_paper_45 ⟨fun _ => ⟨v1.trans w5.1, fun _ => ⟨st4.1.1, L⟩, fun q => absurd q w5.2.2.1⟩, fun q => absurd q w5.2.2.1⟩
end
