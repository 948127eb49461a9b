set_option maxRecDepth 100000
/-! the component's least lateness -/
theorem NtFP {L : am_Lb} {x P N : Nat} {S : am_G} {B : Int} {h h' : am_H} (t : Nt h L x P N S B) (a : fx (fun q => (L q).1 = x ∧ (L q).2.1 = 1) h h') (p : rPap h' L x P) : Nt h' L x P N S B := ⟨okLb_fx a t.1, cs_fx a t.2.1, p, Rep_fx (Int.le_refl _) a leL_refl t.1 t.2.1.1 (fun q hq z => ⟨by rw [z.1]; exact t.2.2.2.2.2.1, by rw [z.1]; exact t.2.2.2.2.1⟩) t.2.2.2.1, t.2.2.2.2⟩
section
variable {K : am_K} {h : am_H}
/-- the lines that a part would have -/
theorem x_linesB {L : am_Lb} {x P N : Nat} {S : am_G} {B : Int} {p : Int} {D : Nat} (hD : 80 ≤ D) (t : Nt h L x P N S B) (tx : am_ty h x = 1) (hN : am_fr h 1 x = N) (hC : okC S) (hF : okF S) (hA : okA S) (hY : okY S) (hW : okWs S) (ip : isP S p) (c3 : S 3 p 3 = 0) (H : ∀ h', Nt h' L x P N S B → fx (fun q => (L q).1 = x ∧ (L q).2.1 = 1) h h' → am_sz h' ≤ am_sz h + 7 → am_us h' ≤ am_us h + 73 → K (.inl (some (.inl (bsL S p)))) h') : am_ev am_prog D 103 [.inr (.inl x), .inr (.inl (am_ar h (am_fr h 20 N) p))] h K := by
  have pb := isP_bd hC hF ip
  have ap := hA p ip
  have a1 := ap.1.1
  have q := (t.2.2.2.1.2.2.1.2.2 p pb.1.1 pb.1.2).2 ip
  have tl := tells_bd (p := p) (mi := S 0 0 0) hY
  have okw := hW _ pb.2.2.1.1 pb.2.2.1.2
  have bT : okT (S 3 p 1) 0 (tbS S p (S 0 0 0) 0) := tb_bd ap.1 okw (mo := moS S p (S 0 0 0)) tl.1 tl.2.1 tl.2.2.2.1 (n := S 3 p 1) (by omega) (S 3 p 1).toNat (by omega) 0 (by omega) (by omega)
  obtain ⟨y1, y2, y3⟩ := Y_fc t
  have x1 := t.2.2.2.1.1
  have x2 := t.2.2.2.1.2.1
  have xw := x2.2.2 (S 2 0 (p / 5)) pb.2.2.1.1 pb.2.2.1.2
  obtain ⟨d, rfl⟩ : ∃ d, D = d + 13 := ⟨D - 13, by omega⟩
  refine am_en p_X1_linesOf rfl rfl ?_
  refine v_X1_linesOf_0 ⟨q.1.1, fun _ => ?_, fun e => absurd ((P_st q).mpr c3) e⟩
  rw [hN, x1.2.2.1]
  refine ⟨⟨tx, x1.1.1⟩, ?_⟩
  refine x_paper (by omega) hY pb.2.2.1 x1.1.1 x1.1.2.1 rfl x1.2.1 rfl ⟨t.2.2.1.1.1, t.2.2.1.1.2.1⟩ ⟨x2.1.1, x2.2.1, x2.1.2.1⟩ xw.2 y1 y2 (fun k k1 k2 => (y3 k k1 k2).1) (PT_x q) (fun h' a z u xp hi hr h67 => am_av (v_X1_linesOf_13 ?_))
  have t' := Nt_sc t a (fun q e => Or.inl e) hr
  have fp1 : fx (fun q => (L q).1 = x ∧ (L q).2.1 = 1) h h' := fx_sub a (fun q _ e => sc_lb t.2.2.1 (Or.inl e))
  have sc : xScr h' P := by
    refine sc_P t'.2.2.1 t.2.2.2.2.1 (f := (S 2 0 (p / 5))) ?_
    rw [h67.2]
    have ne : am_ar h (am_fr h 19 N) (S 2 0 (p / 5)) ≠ P := nd_one_ne xw.1 t.2.2.1.1 (fun e => t.2.2.2.2.1 e.symm)
    exact (nd_fx a (leL_refl (L := L)) xw.1 ne).1
  refine ⟨t'.2.2.1.1.1, ?_⟩
  refine x_best (by omega) ap.1 okw ap.2.1 xp tl.1 tl.2.1 tl.2.2.1 tl.2.2.2.1 sc (by omega) (fun n h2 a z2 u2 i16 hi hr => ?_) (fun n h2 a z2 u2 ty ln ai i16 hi hr => ?_)
  · have t2 := Nt_sc t' a (fun q e => e.elim (fun e => Or.inr e) Or.inl) (fun f _ _ => hr f)
    refine am_av (v_X1_linesOf_15 ⟨fun c => absurd rfl c, fun _ => ?_⟩)
    have e : bsL S p = 0 := if_pos n
    rw [e] at H
    exact H h2 t2 (fx_trans fp1 (fx_sub a (fun q hq e => sc_lb t'.2.2.1 (e.elim Or.inr Or.inl)))) (by omega) (by omega)
  · have t2 := Nt_sc t' a (fun q e => e.elim (fun e => Or.inr e) Or.inl) (fun f _ _ => hr f)
    have n' : (tbS S p (S 0 0 0) 0).1 ≠ -1 := n
    have e : bsL S p = (tbS S p (S 0 0 0) 0).2.1 := if_neg n'
    have ln' : am_ln h2 (am_sz h' + 1) = (tbS S p (S 0 0 0) 0).2.1 := ln
    have b21 : 0 ≤ (tbS S p (S 0 0 0) 0).2.1 ∧ (tbS S p (S 0 0 0) 0).2.1 ≤ 40 := by
      rcases bT with e | e
      · exact absurd e n'
      · have := e.2.1
        omega
    have u2' : am_us h2 = am_us h' + ((tbS S p (S 0 0 0) 0).2.1).toNat := u2
    refine am_av (v_X1_linesOf_15 ⟨fun _ => ⟨Or.inl ty, ?_⟩, fun c => absurd c (by omega)⟩)
    rw [ln', ← e]
    exact H h2 t2 (fx_trans fp1 (fx_sub a (fun q hq e => sc_lb t'.2.2.1 (e.elim Or.inr Or.inl)))) (by omega) (by omega)
end
/-- the plan -/
def PlX (h : am_H) (r1 : Nat) (P : Nat) (ln du fl : Int → Int) : Prop := am_ty h r1 = 28 ∧ (am_fr h 179 r1 = r1 + 1 ∧ am_fr h 180 r1 = r1 + 2 ∧ am_fr h 181 r1 = r1 + 3 ∧ am_fr h 182 r1 = r1 + 4) ∧ (am_ty h (r1 + 1) = 101 ∧ am_ty h (r1 + 2) = 101 ∧ am_ty h (r1 + 3) = 101 ∧ am_ty h (r1 + 4) = 103) ∧ (am_ln h (r1 + 1) = 5 ∧ am_ln h (r1 + 2) = 5 ∧ am_ln h (r1 + 3) = 4 ∧ am_ln h (r1 + 4) = 4) ∧ r1 + 4 ≤ am_sz h ∧ am_fi h 183 r1 = P ∧ (∀ i, 0 ≤ i → i < (P : Int) → am_ai h (r1 + 1) i = ln i ∧ am_ai h (r1 + 2) i = du i) ∧ ∀ c, 0 ≤ c → c < 4 → am_ai h (r1 + 4) c = fl c
theorem PlX_f {h h' : am_H} {r1 P : Nat} {ln du fl : Int → Int} (y : PlX h r1 P ln du fl) (a : fx (fun q => q = r1 ∨ q = r1 + 3) h h') (hr : ∀ f, am_fr h' f r1 = am_fr h f r1) (h3 : am_fi h' 183 r1 = am_fi h 183 r1) : PlX h' r1 P ln du fl := by
  obtain ⟨y1, y2, y3, y4, y5, y6, y7, y8⟩ := y
  have w0 := a.2.2.2 r1 (by omega)
  have w1 := a.2.2.2 (r1 + 1) (by omega)
  have w2 := a.2.2.2 (r1 + 2) (by omega)
  have w3 := a.2.2.2 (r1 + 3) (by omega)
  have w4 := a.2.2.2 (r1 + 4) (by omega)
  unfold PlX
  rw [w0.1, hr, hr, hr, hr, w1.1, w2.1, w3.1, w4.1, w1.2.1, w2.2.1, w3.2.1, w4.2.1, h3, (w1.2.2 (by omega)).2.2.1, (w2.2.2 (by omega)).2.2.1, (w4.2.2 (by omega)).2.2.1]
  exact ⟨y1, y2, y3, y4, Nat.le_trans y5 a.1, y6, y7, y8⟩
theorem plR_ge {P : Nat} {ln du fl : Int → Int} : ∀ (k m : Nat) (fr : Int → Int) (late best : Int), 0 ≤ late → -1 ≤ best → -1 ≤ plR P ln du fl k m fr late best := by
  intro k
  induction k with
  | zero =>
    intro m fr late best h1 h2
    show -1 ≤ (if best ≠ -1 ∧ best ≤ late then best else late)
    split <;> omega
  | succ k ih =>
    intro m fr late best h1 h2
    show -1 ≤ (if best ≠ -1 ∧ best ≤ late then best else upL _ P best)
    split
    · exact h2
    · refine upL_p (P := fun s : Int => -1 ≤ s) P best (fun i s _ hs => ?_) h2
      show -1 ≤ (if m / 2 ^ i % 2 = 1 then s else upL _ 4 s)
      split
      · exact hs
      · refine upL_p (P := fun s : Int => -1 ≤ s) 4 s (fun c s _ hs => ?_) hs
        show -1 ≤ (if fl (c : Int) = 0 then s else plR P ln du fl k _ _ _ s)
        split
        · exact hs
        · refine ih _ _ _ _ ?_ hs
          unfold mx0
          split <;> omega
theorem x_seek {r1 P : Nat} {ln du fl : Int → Int} (h5 : P ≤ 5) (hl : ∀ i, 0 ≤ i → i < (P : Int) → (0 ≤ ln i ∧ ln i ≤ 40) ∧ (0 ≤ du i ∧ du i ≤ 600)) : ∀ (k : Nat) {K : am_K} {h : am_H} {m : Nat} {fr : Int → Int} {n late best : Int} {D : Nat}, 20 + k ≤ D → n + k = P → 0 ≤ n → m < 2 ^ P → ((bcn m P : Nat) : Int) = n → PlX h r1 P ln du fl → am_fi h 184 r1 = best → -1 ≤ best → (∀ c, 0 ≤ c → c < 4 → fl c ≠ 0 → am_ai h (r1 + 3) c = fr c ∧ (0 ≤ fr c ∧ fr c ≤ 1800 + 40 * n)) → 0 ≤ late ∧ late ≤ 3000 * n → (∀ h', fx (fun q => q = r1 ∨ q = r1 + 3) h h' → am_sz h' = am_sz h → am_us h' = am_us h → (∀ f, am_fr h' f r1 = am_fr h f r1) → am_fi h' 183 r1 = am_fi h 183 r1 → (∀ c, 0 ≤ c → c < 4 → fl c ≠ 0 → am_ai h' (r1 + 3) c = fr c) → am_fi h' 184 r1 = plR P ln du fl k m fr late best → K (.inl none) h') → am_ev am_prog D 102 [.inr (.inl r1), .inl (m : Int), .inl late] h K := by
  have p32 := p5 h5
  have sP : am_shlz 1 (P : Int) = ((2 ^ P : Nat) : Int) := shl_p (k := (P : Int)) (by omega)
  have p1 := Nat.two_pow_pos P
  intro k
  induction k with
  | zero =>
    intro K h m fr n late best D hD hn n0 hm hb hX e184 bb v35 hlt H
    have H' : ∀ h', fx (fun q => q = r1 ∨ q = r1 + 3) h h' → am_sz h' = am_sz h → am_us h' = am_us h → (∀ f, am_fr h' f r1 = am_fr h f r1) → am_fi h' 183 r1 = am_fi h 183 r1 → (∀ c, 0 ≤ c → c < 4 → fl c ≠ 0 → am_ai h' (r1 + 3) c = fr c) → am_fi h' 184 r1 = (if best ≠ -1 ∧ best ≤ late then best else late) → K (.inl none) h' := H
    obtain ⟨y1, y2, y3, y4, y5, y6, y7, y8⟩ := id hX
    have mf := (msk_f ⟨P, by omega⟩ ⟨m, by omega⟩ hm).1 (by show bcn m P = P; omega)
    dsimp only at mf
    obtain ⟨d, rfl⟩ : ∃ d, D = d + 13 := ⟨D - 13, by omega⟩
    refine am_en p_X30_seek rfl rfl ?_
    have ex : ¬ (best ≠ -1 ∧ best ≤ late) → K (.inl none) (am_sfi h 184 r1 late) := fun c => by
      rw [if_neg c] at H'
      exact H' _ (fx_sfi fx_refl (Or.inr (Or.inl rfl))) rfl rfl (fun _ => rfl) (x_fif (by decide)) (fun c a d e => (v35 c a d e).1) x_fie
    refine v_X30_seek_0 ?_
    rw [y6, sP, e184]
    refine ⟨y1, fun z => ⟨by omega, fun w => absurd (by omega) w, fun _ => ex (by omega)⟩, fun z => ⟨fun z2 => ⟨by omega, fun w => absurd (by omega) w, fun _ => ex (by omega)⟩, fun z2 => ?_⟩⟩
    rw [if_pos ⟨by omega, z2⟩] at H'
    exact H' h fx_refl rfl rfl (fun _ => rfl) rfl (fun c a d e => (v35 c a d e).1) e184
  | succ k ih =>
    intro K h m fr n late best D hD hn n0 hm hb hX e184 bb v35 hlt H
    generalize hg : (fun i s => if m / 2 ^ i % 2 = 1 then s else upL (fun c s => if fl ((c : Nat) : Int) = 0 then s else plR P ln du fl k (m ||| 2 ^ i) (am_uz fr (c : Int) (fr (c : Int) + ln (i : Int))) (late + mx0 (fr (c : Int) + ln (i : Int) - du (i : Int))) s) 4 s : Nat → Int → Int) = g
    have H' : ∀ h', fx (fun q => q = r1 ∨ q = r1 + 3) h h' → am_sz h' = am_sz h → am_us h' = am_us h → (∀ f, am_fr h' f r1 = am_fr h f r1) → am_fi h' 183 r1 = am_fi h 183 r1 → (∀ c, 0 ≤ c → c < 4 → fl c ≠ 0 → am_ai h' (r1 + 3) c = fr c) → am_fi h' 184 r1 = (if best ≠ -1 ∧ best ≤ late then best else upL g P best) → K (.inl none) h' := by
      rw [← hg]
      exact H
    have gge : ∀ i, -1 ≤ upL g i best := fun i => by
      refine upL_p (P := fun s : Int => -1 ≤ s) i best (fun i s _ hs => ?_) bb
      rw [← hg]
      show -1 ≤ (if m / 2 ^ i % 2 = 1 then s else upL _ 4 s)
      split
      · exact hs
      · refine upL_p (P := fun s : Int => -1 ≤ s) 4 s (fun c s _ hs => ?_) hs
        show -1 ≤ (if fl (c : Int) = 0 then s else plR P ln du fl k _ _ _ s)
        split
        · exact hs
        · refine plR_ge _ _ _ _ _ ?_ hs
          unfold mx0
          split <;> omega
    obtain ⟨y1, y2, y3, y4, y5, y6, y7, y8⟩ := id hX
    have mf : (m : Int) ≠ ((2 ^ P : Nat) : Int) - 1 := fun e => by
      have q := (msk_f ⟨P, by omega⟩ ⟨m, by omega⟩ hm).2 (by show m = 2 ^ P - 1; omega)
      dsimp only at q
      omega
    obtain ⟨d, rfl⟩ : ∃ d, D = d + 13 := ⟨D - 13, by omega⟩
    refine am_en p_X30_seek rfl rfl ?_
    have go : ¬ (best ≠ -1 ∧ best ≤ late) → am_W m_X30_seek (am_ev am_prog (d + 12)) K 22 [some (.inr (.inl (r1))), some (.inl ((m : Int))), some (.inl (late)), some (.inl (0)), none] [] h := fun cc => by
      rw [if_neg cc] at H'
      have loop : ∀ i, 0 ≤ i → i ≤ (P : Int) → ∀ h', fx (fun q => q = r1 ∨ q = r1 + 3) h h' → am_sz h' = am_sz h → am_us h' = am_us h → (∀ f, am_fr h' f r1 = am_fr h f r1) → am_fi h' 183 r1 = am_fi h 183 r1 → (∀ c, 0 ≤ c → c < 4 → fl c ≠ 0 → am_ai h' (r1 + 3) c = fr c) → am_fi h' 184 r1 = upL g i.toNat best → ∀ o4, am_W m_X30_seek (am_ev am_prog (d + 12)) K 22 [some (.inr (.inl (r1))), some (.inl ((m : Int))), some (.inl (late)), some (.inl (i)), o4] [] h' := by
        refine lp_z ?_ ?_
        · intro i i0 i1 hLi h' a z u hr f183 g35 gb o4
          have X' := PlX_f hX a hr f183
          have ii : ((i.toNat : Nat) : Int) = i := by omega
          have ei : (i + 1).toNat = i.toNat + 1 := by omega
          have hb' : am_andz (am_shrz (m : Int) i) 1 = ((m / 2 ^ i.toNat % 2 : Nat) : Int) := bit_z (x := (m : Int)) (j := i) (by omega) (by omega)
          have gs : upL g (i.toNat + 1) best = g i.toNat (upL g i.toNat best) := rfl
          rw [ei, gs] at hLi
          refine v_X30_seek_22 ?_
          rw [X'.2.2.2.2.2.1, hb']
          refine ⟨X'.1, fun z => absurd z (by omega), fun _ => ⟨fun z => ?_, fun z => ⟨by omega, ?_⟩⟩⟩
          · have zz : ¬ m / 2 ^ i.toNat % 2 = 1 := by omega
            generalize hq : (fun c s => if fl ((c : Nat) : Int) = 0 then s else plR P ln du fl k (m ||| 2 ^ i.toNat) (am_uz fr (c : Int) (fr (c : Int) + ln i)) (late + mx0 (fr (c : Int) + ln i - du i)) s : Nat → Int → Int) = q
            have eg : ∀ s, g i.toNat s = upL q 4 s := fun s => by
              rw [← hg, ← hq]
              show (if m / 2 ^ i.toNat % 2 = 1 then s else upL _ 4 s) = _
              rw [if_neg zz, ii]
            rw [eg] at hLi
            have mm := msk_k ⟨P, by omega⟩ ⟨m, by omega⟩ ⟨i.toNat, by omega⟩ hm (by show i.toNat < P; omega) zz
            dsimp only at mm
            have mor := msk_o ⟨m, by omega⟩ ⟨i.toNat, by omega⟩
            dsimp only at mor
            rw [ii] at mor
            have li := hl i i0 i1
            have qge : ∀ c, -1 ≤ upL q c (upL g i.toNat best) := fun c => by
              refine upL_p (P := fun s : Int => -1 ≤ s) c _ (fun c s _ hs => ?_) (gge _)
              rw [← hq]
              show -1 ≤ (if fl (c : Int) = 0 then s else plR P ln du fl k _ _ _ s)
              split
              · exact hs
              · refine plR_ge _ _ _ _ _ ?_ hs
                unfold mx0
                split <;> omega
            have loop2 : ∀ c, 0 ≤ c → c ≤ 4 → ∀ h', fx (fun q => q = r1 ∨ q = r1 + 3) h h' → am_sz h' = am_sz h → am_us h' = am_us h → (∀ f, am_fr h' f r1 = am_fr h f r1) → am_fi h' 183 r1 = am_fi h 183 r1 → (∀ c, 0 ≤ c → c < 4 → fl c ≠ 0 → am_ai h' (r1 + 3) c = fr c) → am_fi h' 184 r1 = upL q c.toNat (upL g i.toNat best) → am_W m_X30_seek (am_ev am_prog (d + 12)) K 36 [some (.inr (.inl (r1))), some (.inl ((m : Int))), some (.inl (late)), some (.inl (i)), some (.inl (c))] [] h' := by
              refine lp_z ?_ ?_
              · intro c c0 c1 hLc h' a z u hr f183 g35 gb
                have X' := PlX_f hX a hr f183
                obtain ⟨y1, y2, y3, y4, y5, y6, y7, y8⟩ := id X'
                have cc : ((c.toNat : Nat) : Int) = c := by omega
                have ec : (c + 1).toNat = c.toNat + 1 := by omega
                have gs : upL q (c.toNat + 1) (upL g i.toNat best) = q c.toNat (upL q c.toNat (upL g i.toNat best)) := rfl
                rw [ec, gs] at hLc
                have eq : ∀ s, q c.toNat s = if fl c = 0 then s else plR P ln du fl k (m ||| 2 ^ i.toNat) (am_uz fr c (fr c + ln i)) (late + mx0 (fr c + ln i - du i)) s := fun s => by
                  rw [← hq]
                  show (if fl ((c.toNat : Nat) : Int) = 0 then s else plR P ln du fl k (m ||| 2 ^ i.toNat) (am_uz fr ((c.toNat : Nat) : Int) (fr ((c.toNat : Nat) : Int) + ln i)) (late + mx0 (fr ((c.toNat : Nat) : Int) + ln i - du i)) s) = _
                  rw [cc]
                rw [eq] at hLc
                have yi := y7 i i0 i1
                have n2 : am_ai (am_sai h' (r1 + 3) c (am_ai h' (r1 + 3) c + am_ai h' (r1 + 1) i)) (r1 + 2) = am_ai h' (r1 + 2) := x_ais (by omega)
                refine v_X30_seek_36 ⟨fun z => absurd z (by omega), fun _ => ?_⟩
                rw [y2.1, y2.2.1, y2.2.2.1, y2.2.2.2, y4.1, y4.2.1, y4.2.2.1, y4.2.2.2, n2, yi.1, yi.2, y8 c c0 c1, mor]
                refine ⟨⟨y1, y3.2.2.2, by omega⟩, fun z2 => ?_, fun z2 => ⟨by omega, ?_⟩⟩
                · have vc := v35 c c0 c1 z2
                  rw [if_neg z2] at hLc
                  rw [g35 c c0 c1 z2]
                  have call : ∀ e : Int, e = mx0 (fr c + ln i - du i) → am_ev am_prog (d + 12) 102 [.inr (.inl r1), .inl ((m ||| 2 ^ i.toNat : Nat) : Int), .inl (late + e)] (am_sai h' (r1 + 3) c (fr c + ln i)) (am_aft (am_hand m_X30_seek K (am_W m_X30_seek (am_ev am_prog (d + 12)) K) 75) (am_W m_X30_seek (am_ev am_prog (d + 12)) K) 75 [some (.inr (.inl (r1))), some (.inl ((m : Int))), some (.inl (late)), some (.inl (i)), some (.inl (c))] []) := by
                    intro e ee
                    have eb : 0 ≤ e ∧ e ≤ 2500 := by
                      rw [ee]
                      unfold mx0
                      split <;> omega
                    have a1 : fx (fun q => q = r1 ∨ q = r1 + 3) h' (am_sai h' (r1 + 3) c (fr c + ln i)) := fx_sai fx_refl (Or.inr (Or.inr rfl))
                    have hr1 : ∀ f, am_fr (am_sai h' (r1 + 3) c (fr c + ln i)) f r1 = am_fr h' f r1 := fun _ => rfl
                    have h31 : ∀ f, am_fi (am_sai h' (r1 + 3) c (fr c + ln i)) f r1 = am_fi h' f r1 := fun _ => rfl
                    have u35 : am_ai (am_sai h' (r1 + 3) c (fr c + ln i)) (r1 + 3) = am_uz (am_ai h' (r1 + 3)) c (fr c + ln i) := x_aise
                    have sz1 : am_sz (am_sai h' (r1 + 3) c (fr c + ln i)) = am_sz h' := rfl
                    have us1 : am_us (am_sai h' (r1 + 3) c (fr c + ln i)) = am_us h' := rfl
                    generalize am_sai h' (r1 + 3) c (fr c + ln i) = h1 at *
                    refine ih (fr := am_uz fr c (fr c + ln i)) (best := upL q c.toNat (upL g i.toNat best)) (n := n + 1) (by omega) (by omega) (by omega) mm.1 (by omega) (PlX_f X' a1 hr1 (h31 183)) ((h31 184).trans gb) (qge _) (fun c' a b fc => ?_) (by omega) (fun h2 a2 s2 u2 r2 f2 g2 gb2 => am_an (v_X30_seek_76 ?_))
                    · have vc' := v35 c' a b fc
                      rw [u35]
                      by_cases ce : c' = c
                      · rw [ce, am_uz_eq, am_uz_eq]
                        omega
                      · rw [am_uz_ne ce, am_uz_ne ce]
                        exact ⟨g35 c' a b fc, by omega⟩
                    · have X2 := PlX_f (PlX_f X' a1 hr1 (h31 183)) a2 r2 f2
                      obtain ⟨w1, w2, w3, w4, w5, w6, w7, w8⟩ := id X2
                      have k35 := g2 c c0 c1 z2
                      rw [am_uz_eq] at k35
                      rw [w2.1, w2.2.2.1, w4.1, w4.2.2.1, (w7 i i0 i1).1, k35]
                      have es : fr c + ln i - ln i = fr c := by omega
                      rw [es]
                      refine ⟨⟨w1, Or.inl w3.2.2.1, by omega, Or.inl w3.1, by omega, by omega, w3.2.2.1⟩, by omega, hLc _ (fx_sai (fx_trans a (fx_trans a1 a2)) (Or.inr (Or.inr rfl))) (s2.trans (sz1.trans z)) (u2.trans (us1.trans u)) (fun f => (r2 f).trans ((hr1 f).trans (hr f))) (f2.trans ((h31 183).trans f183)) (fun c' a b fc => ?_) (by show am_fi h2 184 r1 = _; rw [gb2, ee])⟩
                      rw [x_aise]
                      by_cases ce : c' = c
                      · rw [ce, am_uz_eq]
                      · rw [am_uz_ne ce, g2 c' a b fc, am_uz_ne ce]
                  refine ⟨⟨Or.inl y3.2.2.1, by omega, Or.inl y3.1, by omega, by omega, y3.2.2.1⟩, ⟨Or.inl y3.2.1, by omega, by omega⟩, fun z3 => ⟨by omega, call _ ?_⟩, fun z3 => ⟨by omega, call 0 ?_⟩⟩
                  · unfold mx0
                    rw [if_pos z3]
                  · unfold mx0
                    rw [if_neg (by omega)]
                · rw [if_pos z2] at hLc
                  exact hLc h' a z u hr f183 g35 gb
              · intro h' a z u hr f183 g35 gb
                exact v_X30_seek_36 ⟨fun _ => ⟨by omega, hLi h' a z u hr f183 g35 gb _⟩, fun z => absurd z (by omega)⟩
            exact loop2 0 (by omega) (by omega) h' a (by assumption) u hr f183 g35 gb
          · have zz : m / 2 ^ i.toNat % 2 = 1 := by omega
            have eg : ∀ s, g i.toNat s = s := fun s => by
              rw [← hg]
              exact if_pos zz
            rw [eg] at hLi
            exact hLi h' a (by assumption) u hr f183 g35 gb _
        · intro h' a z u hr f183 g35 gb o4
          have X' := PlX_f hX a hr f183
          refine v_X30_seek_22 ?_
          rw [X'.2.2.2.2.2.1]
          exact ⟨X'.1, fun _ => H' h' a z u hr f183 g35 gb, fun z => absurd z (by omega)⟩
      exact loop 0 (by omega) (by omega) h fx_refl rfl rfl (fun _ => rfl) rfl (fun c a d e => (v35 c a d e).1) e184 _
    refine v_X30_seek_0 ?_
    rw [y6, sP, e184]
    refine ⟨y1, fun z => ⟨by omega, fun _ => go (by omega), fun w => absurd w mf⟩, fun z => ⟨fun z2 => ⟨by omega, fun _ => go (by omega), fun w => absurd w mf⟩, fun z2 => ?_⟩⟩
    rw [if_pos ⟨by omega, z2⟩] at H'
    exact H' h fx_refl rfl rfl (fun _ => rfl) rfl (fun c a d e => (v35 c a d e).1) e184
