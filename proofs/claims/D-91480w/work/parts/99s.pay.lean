set_option maxRecDepth 100000
/-! the pay -/
def pyT (S : am_G) (s : Int) : Int → Int := tgs S (S 4 s 0) (S 4 s 2) (am_b (S 4 s 7 = 1))
def pyF (S : am_G) (k s : Int) : Int → Int := fcs S (S 4 s 0) (S 4 s 2) (S 4 s 3) k
def pyL (S : am_G) (k s w : Int) : Int := lrl S (pyT S s) (pyF S k s) (S 4 s 2) w
def mxI (a b : Int) : Int := if a < b then b else a
def py1 (S : am_G) (k s : Int) : Int := if pyL S k s 5 = -1 then mxI (S 4 s 3) (sdd S (S 4 s 2) (pyL S k s 3) 1 0) * sdd S (S 4 s 2) (pyL S k s 4) 1 0 else 0
def py (S : am_G) (k a e s : Int) : Int := if S 4 s 1 = k ∧ (a ≤ (S 4 s 2) ∧ (S 4 s 2) ≤ e) then py1 S k s else 0
def pyR (S : am_G) (k a e : Int) : Int := sg (py S k a e) 0 ((S 0 0 4)).toNat / 10
theorem am_b_eq {p : Prop} [Decidable p] : am_b p = 0 ∨ am_b p = 1 := by
  unfold am_b
  split
  · exact Or.inr rfl
  · exact Or.inl rfl
theorem sdp_bd {S : am_G} {k s w : Int} (hY : okY S) : 0 ≤ sdd S (S 4 s 2) (pyL S k s w) 1 0 ∧ sdd S (S 4 s 2) (pyL S k s w) 1 0 ≤ 999 := by
  unfold sdd
  rcases lrl_bd (S := S) (tg := pyT S s) (fc := pyF S k s) (mi := (S 4 s 2)) (w := w) hY with e | ⟨e1, e2, e3⟩
  · have e' : pyL S k s w = -1 := e
    rw [if_pos e']
    omega
  · have e' : pyL S k s w = lrl S (pyT S s) (pyF S k s) (S 4 s 2) w := rfl
    rw [e']
    rw [if_neg (by omega)]
    have q := ((hY.2 _ e1.1 e1.2).2.2 _ e2.1 e2.2).2.1
    have e4 : (2 + 5 * lrl S (pyT S s) (pyF S k s) (S 4 s 2) w + 1 : Int) = 3 + 5 * lrl S (pyT S s) (pyF S k s) (S 4 s 2) w := by omega
    rw [e4]
    exact q
theorem let_bd {S : am_G} {s : Int} (hG : okG S) (hg : okg S) (hs : 0 ≤ s ∧ s < (S 0 0 4)) : 0 ≤ S 4 s 3 ∧ S 4 s 3 ≤ 420 := by
  have o := hg s hs.1 hs.2
  have c9 := (hG.2 s hs.1 hs.2).2.2.2
  have bd := sg_bd (c := 1) (f := fun k => am_b (S 4 s (12 + k) ≠ 32)) (S 4 s 9).toNat 0 (fun j _ _ => am_b_01)
  rw [o.2.2.2.2.1]
  omega
theorem py1_bd {S : am_G} {k s : Int} (hY : okY S) (hG : okG S) (hg : okg S) (hs : 0 ≤ s ∧ s < (S 0 0 4)) : 0 ≤ mxI (S 4 s 3) (sdd S (S 4 s 2) (pyL S k s 3) 1 0) * sdd S (S 4 s 2) (pyL S k s 4) 1 0 ∧ mxI (S 4 s 3) (sdd S (S 4 s 2) (pyL S k s 3) 1 0) * sdd S (S 4 s 2) (pyL S k s 4) 1 0 ≤ 998001 := by
  have a := sdp_bd (k := k) (s := s) (w := 3) hY
  have b := sdp_bd (k := k) (s := s) (w := 4) hY
  have l := let_bd hG hg hs
  have m : 0 ≤ mxI (S 4 s 3) (sdd S (S 4 s 2) (pyL S k s 3) 1 0) ∧ mxI (S 4 s 3) (sdd S (S 4 s 2) (pyL S k s 3) 1 0) ≤ 999 := by
    unfold mxI
    split <;> omega
  have q := mul_in (x := mxI (S 4 s 3) (sdd S (S 4 s 2) (pyL S k s 3) 1 0)) (y := sdd S (S 4 s 2) (pyL S k s 4) 1 0) (c := 999) (e := 999) m (by omega)
  exact ⟨Int.mul_nonneg m.1 b.1, by omega⟩
theorem py_bd {S : am_G} {k a e s : Int} (hY : okY S) (hG : okG S) (hg : okg S) (hs : 0 ≤ s ∧ s < (S 0 0 4)) : 0 ≤ py S k a e s ∧ py S k a e s ≤ 998001 := by
  have q := py1_bd (k := k) hY hG hg hs
  unfold py py1
  split
  · split
    · exact q
    · omega
  · omega
theorem pyS_bd {S : am_G} {k a e m : Int} (hY : okY S) (hG : okG S) (hg : okg S) (hm : 0 ≤ m ∧ m ≤ (S 0 0 4)) : 0 ≤ sg (py S k a e) 0 m.toNat ∧ sg (py S k a e) 0 m.toNat ≤ 300 * 998001 := by
  have c4 := hG.1
  have q := sg_bd (c := 998001) (f := py S k a e) m.toNat 0 (fun j j1 j2 => py_bd hY hG hg (by omega))
  omega
section
variable {K : am_K} {b : am_H} {r : Nat} {S : am_G} {V : Nat → Int → Int} {W : Nat → Int}
theorem c_max {h : am_H} {x y : Int} {D : Nat} (hD : 6 ≤ D) (H : K (.inl (some (.inl (mxI x y)))) h) : am_ev am_prog D 185 [.inl x, .inl y] h K := by
  obtain ⟨d, rfl⟩ : ∃ d, D = d + 6 := ⟨D - 6, by omega⟩
  refine am_en p_J15_max rfl rfl ?_
  refine v_J15_max_0 ⟨fun c => ?_, fun c => ?_⟩
  · have e : mxI x y = y := if_pos c
    rw [e] at H
    exact H
  · have e : mxI x y = x := if_neg (by omega)
    rw [e] at H
    exact H
theorem M_pay {k a e : Int} {D : Nat} (hD : 90 ≤ D) (hC : okC S) (hY : okY S) (hG : okG S) (hg : okg S) (H0 : ¬ (0 ≤ k ∧ k < S 0 0 3) → MR b r K S V W 1 (0)) (H1 : 0 ≤ k ∧ k < S 0 0 3 → MR b r K S V W 0 (pyR S k a e)) : am_ev am_prog D 86 [.inr (.inl r), .inl k, .inl a, .inl e] (mo b r (ms S) V W) K := by
  have c4 := hG.1
  obtain ⟨d, rfl⟩ : ∃ d, D = d + 4 := ⟨D - 4, by omega⟩
  refine am_en p_X5_pay rfl rfl ?_
  refine w_pay_0 ⟨fun c => ?_, fun c => MR_up (H0 c)⟩
  have HH := H1 c
  have main : ∀ s, 0 ≤ s → s ≤ (S 0 0 4) → ∀ V' W' o6 o7 o8, fa [11, 12, 13] V V' → fa [62] (am_up W 38 0) W' → am_W m_X5_pay (am_ev am_prog (d + 3)) K 18 [some (.inr (.inl r)), some (.inl (k)), some (.inl (a)), some (.inl (e)), some (.inl (sg (py S k a e) 0 s.toNat)), some (.inl (s)), o6, o7, o8] [] (mo b r (ms S) V' W') := by
    refine lp_z ?_ ?_
    · intro s s1 s2 hL V' W' o6 o7 o8 hV hW
      have bd := pyS_bd (k := k) (a := a) (e := e) (m := s) hY hG hg (by omega)
      have b1 := py1_bd (k := k) (s := s) hY hG hg (by omega)
      have hb := sty_bd (mi := (S 4 s 2)) hY
      have hq : sty S (S 4 s 2) = -1 ∨ (0 ≤ sty S (S 4 s 2) ∧ sty S (S 4 s 2) < S 0 0 2) := by omega
      have pb := (hG.2 s s1 s2).1
      rw [sg_s s1] at hL
      have hL0 : py S k a e s = 0 → ∀ V' W' o6 o7 o8, fa [11, 12, 13] V V' → fa [62] (am_up W 38 0) W' → am_W m_X5_pay (am_ev am_prog (d + 3)) K 18 [some (.inr (.inl r)), some (.inl (k)), some (.inl (a)), some (.inl (e)), some (.inl (sg (py S k a e) 0 s.toNat)), some (.inl (s + 1)), o6, o7, o8] [] (mo b r (ms S) V' W') := fun z => by
        rw [z, Int.add_zero] at hL
        exact hL
      refine w_pay_18 ⟨fun z => absurd z (by omega), fun _ => ⟨by omega, by omega, fun c => ⟨by omega, hL0 (if_neg (fun z => c z.1)) _ _ _ _ _ hV hW⟩, fun c => ⟨by omega, fun c2 => ⟨by omega, ?_⟩, fun c2 => ⟨by omega, hL0 (if_neg (fun z => c2 z.2)) _ _ _ _ _ hV hW⟩⟩⟩⟩
      have ep : py S k a e s = py1 S k s := if_pos ⟨c, c2⟩
      refine c_styleOf (by omega) hY (am_av (w_pay_54 ⟨by omega, c_factsOf (by omega) pb (fun V1 a1 t1 f1 => am_an (w_pay_69 ⟨by omega, by omega, ?_⟩))⟩))
      have t2 : ∀ V2 : Nat → Int → Int, V2 11 = am_uz (V1 11) 2 (am_b (S 4 s 7 = 1)) → ∀ i, 0 ≤ i → i < 3 → V2 11 i = pyT S s i := fun V2 ev i i1 i2 => by
        rw [ev]
        by_cases c : i = 2
        · rw [c, am_uz_eq]
          rfl
        · rw [am_uz_ne c, t1 i i1 i2]
          have h3 : i = 0 ∨ i = 1 := by omega
          rcases h3 with h3 | h3 <;> subst h3 <;> rfl
      have f2 : ∀ V2 : Nat → Int → Int, V2 12 = am_uz (am_uz (V1 12) 4 (S 4 s 3)) 5 k → ∀ i, 0 ≤ i → i < 6 → V2 12 i = pyF S k s i := fun V2 ev i i1 i2 => by
        rw [ev]
        by_cases c : i = 5
        · rw [c, am_uz_eq]
          rfl
        · rw [am_uz_ne c]
          by_cases c4 : i = 4
          · rw [c4, am_uz_eq]
            rfl
          · rw [am_uz_ne c4, f1 i i1 i2]
            have h3 : i = 0 ∨ i = 1 ∨ i = 2 ∨ i = 3 := by omega
            rcases h3 with h3 | h3 | h3 | h3 <;> subst h3 <;> rfl
      have hl : ∀ (V2 : Nat → Int → Int) (w : Int), V2 11 = am_uz (V1 11) 2 (am_b (S 4 s 7 = 1)) → V2 12 = am_uz (am_uz (V1 12) 4 (S 4 s 3)) 5 k → (if sty S (S 4 s 2) = -1 then -1 else lastR (S 6 (sty S (S 4 s 2))) (V2 11) (V2 12) w (S 6 (sty S (S 4 s 2)) 1).toNat) = pyL S k s w := fun V2 w e1 e2 => by
        unfold pyL lrl
        rw [lastR_cg (t2 V2 e1) (f2 V2 e2)]
      have ht : ∀ V2 : Nat → Int → Int, V2 11 = am_uz (V1 11) 2 (am_b (S 4 s 7 = 1)) → ∀ i, 0 ≤ i → i < 3 → V2 11 i = 0 ∨ V2 11 i = 1 := fun V2 ev i i1 i2 => by
        rw [t2 V2 ev i i1 i2]
        exact tgs_01 am_b_eq i
      have hk : ∀ w, pyL S k s w = -1 ∨ ((0 ≤ sty S (S 4 s 2) ∧ sty S (S 4 s 2) < 10) ∧ (0 ≤ pyL S k s w ∧ pyL S k s w < 12)) := fun w => by
        rcases lrl_bd (S := S) (tg := pyT S s) (fc := pyF S k s) (mi := (S 4 s 2)) (w := w) hY with e | ⟨e1, e2, e3⟩
        · exact Or.inl e
        · have q := (hY.2 _ e1.1 e1.2).2.1
          have y0 := hY.1
          have e' : pyL S k s w = lrl S (pyT S s) (pyF S k s) (S 4 s 2) w := rfl
          exact Or.inr ⟨by omega, by omega⟩
      have v1 : ∀ (A : Nat → Int → Int) (x y : Int → Int), am_up (am_up A 11 x) 12 y 11 = x := fun A x y => (am_up_ne (by decide)).trans am_up_eq
      have v2 : ∀ (A : Nat → Int → Int) (x y : Int → Int), am_up (am_up A 11 x) 12 y 12 = y := fun A x y => am_up_eq
      have hV1 : fa [11, 12, 13] V (am_up (am_up V1 11 (am_uz (V1 11) 2 (am_b (S 4 s 7 = 1)))) 12 (am_uz (am_uz (V1 12) 4 (S 4 s 3)) 5 k)) := fa_up (fa_up (fa_trans hV (fa_sub a1 rfl)) rfl) rfl
      refine c_lastRule (by omega) hY hq (ht _ (v1 _ _ _)) (fun V2 W2 a2 b2 => am_av ?_)
      rw [hl _ _ (v1 _ _ _) (v2 _ _ _)]
      have V2a := (a2 11 rfl).trans (v1 _ _ _)
      have V2b := (a2 12 rfl).trans (v2 _ _ _)
      have hV2 : fa [11, 12, 13] V V2 := fa_trans hV1 (fa_sub a2 rfl)
      have hW2 : fa [62] (am_up W 38 0) W2 := fa_trans hW b2
      refine w_pay_103 ⟨fun z => ⟨by omega, ?_⟩, fun z => ⟨by omega, hL0 (ep.trans (if_neg z)) _ _ _ _ _ hV2 hW2⟩⟩
      have e1 : py1 S k s = mxI (S 4 s 3) (sdd S (S 4 s 2) (pyL S k s 3) 1 0) * sdd S (S 4 s 2) (pyL S k s 4) 1 0 := if_pos z
      rw [ep, e1] at hL
      refine c_lastRule (by omega) hY hq (ht _ V2a) (fun V3 W3 a3 b3 => am_av (w_pay_118 ?_))
      rw [hl _ _ V2a V2b]
      refine c_said (by omega) (hk 3) (by omega) (am_av (w_pay_121 (c_max (by omega) (am_av (w_pay_122 ?_)))))
      refine c_lastRule (by omega) hY hq (ht _ ((a3 11 rfl).trans V2a)) (fun V4 W4 a4 b4 => am_av (w_pay_131 ?_))
      rw [hl _ _ ((a3 11 rfl).trans V2a) ((a3 12 rfl).trans V2b)]
      refine c_said (by omega) (hk 4) (by omega) (am_av (w_pay_134 ?_))
      have E3 : (if pyL S k s 3 = -1 then 0 else S 6 (sty S (S 4 s 2)) (2 + 5 * pyL S k s 3 + 1)) = sdd S (S 4 s 2) (pyL S k s 3) 1 0 := rfl
      have E4 : (if pyL S k s 4 = -1 then 0 else S 6 (sty S (S 4 s 2)) (2 + 5 * pyL S k s 4 + 1)) = sdd S (S 4 s 2) (pyL S k s 4) 1 0 := rfl
      rw [E3, E4]
      exact ⟨by omega, by omega, hL _ _ _ _ _ (fa_trans hV2 (fa_trans (fa_sub a3 rfl) (fa_sub a4 rfl))) (fa_trans hW2 (fa_trans b3 b4))⟩
    · intro V' W' o6 o7 o8 hV hW
      have bd := pyS_bd (k := k) (a := a) (e := e) (m := (S 0 0 4)) hY hG hg (by omega)
      exact w_pay_18 ⟨fun _ => ⟨by omega, MR_f HH hV hW rfl rfl rfl rfl rfl rfl⟩, fun z => absurd z (by omega)⟩
  exact main 0 (by omega) c4.1 _ _ _ _ _ fa_refl fa_refl
end
/-- a list that goes on being as it is -/
theorem L_old {h h' : am_H} {f N : Nat} (a : fx (fun _ => False) h h') (hN : N ≤ am_sz h) (v : xL h (am_fr h f N)) : am_fr h' f N = am_fr h f N ∧ am_fr h' 194 (am_fr h f N) = am_fr h 194 (am_fr h f N) ∧ am_ar h' (am_fr h 194 (am_fr h f N)) = am_ar h (am_fr h 194 (am_fr h f N)) :=
  ⟨((a.2.2.2 N hN).2.2 (fun z => z)).2.1 f, ((a.2.2.2 _ v.2.2.2.2.1).2.2 (fun z => z)).2.1 194, ((a.2.2.2 _ v.2.2.2.2.2).2.2 (fun z => z)).2.2.2⟩
/-- an iterator made behind h, at k, in a later heap -/
def ItR (h h' : am_H) (l : Nat) (k : Int) : Prop := fx (fun _ => False) h h' ∧ am_sz h + 1 ≤ am_sz h' ∧ am_ty h' (am_sz h + 1) = 38 ∧ am_fr h' 199 (am_sz h + 1) = l ∧ am_fi h' 196 (am_sz h + 1) = k ∧ am_fi h' 198 (am_sz h + 1) = am_fi h 193 l
theorem ItR_fx {h h' h'' : am_H} {l : Nat} {k : Int} (i : ItR h h' l k) (a : fx (fun _ => False) h' h'') : ItR h h'' l k := by
  obtain ⟨i1, i2, i3, i4, i5, i6⟩ := i
  obtain ⟨a1, a2, a3⟩ := a.2.2.2 (am_sz h + 1) i2
  obtain ⟨c1, c2, c3, c4⟩ := a3 (fun z => z)
  refine ⟨fx_trans i1 a, Nat.le_trans i2 a.1, a1.trans i3, (c2 199).trans i4, (c1 196).trans i5, (c1 198).trans i6⟩
theorem ItR_0 {h : am_H} {l : Nat} : ItR h (itH h l 0 (-1)) l 0 := ⟨it_fx, Nat.le_refl _, it_ty, it_199, it_196, it_198⟩
theorem ItR_n {h h' : am_H} {l : Nat} {k z v : Int} (i : ItR h h' l k) : ItR h (am_sfi (am_sfi h' 196 (am_sz h + 1) z) 197 (am_sz h + 1) v) l z := by
  obtain ⟨i1, i2, i3, i4, i5, i6⟩ := i
  exact ⟨fx_sfi (fx_sfi i1 (Or.inl (by omega))) (Or.inl (by omega)), i2, i3, i4, (x_fif (by decide)).trans x_fie, (x_fif (by decide)).trans ((x_fif (by decide)).trans i6)⟩
section
variable {K : am_K} {h : am_H}
theorem ItR_G {L : am_Lb} {x P N : Nat} {S : am_G} {B : Int} {h' : am_H} {k : Int} (t : Nt h L x P N S B) (i : ItR h h' (am_fr h 25 N) k) : am_ty h' (am_fr h 25 N) = 31 ∧ am_fi h' 195 (am_fr h 25 N) = (S 0 0 4) ∧ am_fr h' 194 (am_fr h 25 N) = (am_fr h 194 (am_fr h 25 N)) ∧ am_ar h' (am_fr h 194 (am_fr h 25 N)) = am_ar h (am_fr h 194 (am_fr h 25 N)) ∧ (0 ≤ k → k < (S 0 0 4) → xI h' (am_sz h + 1)) ∧ ∀ s, 0 ≤ s → s < (S 0 0 4) → rSg h' L N S s (am_ar h (am_fr h 194 (am_fr h 25 N)) s) := by
  obtain ⟨i1, i2, i3, i4, i5, i6⟩ := i
  obtain ⟨u1, u2, u3, u4⟩ := G_fc t
  have o := L_old i1 t.2.2.2.1.1.1.2.1 u1
  have t' := Nt_fx0 i1 t
  obtain ⟨g1, g2, g3, g4⟩ := G_fc t'
  rw [o.1] at g1 g2 g4
  rw [o.2.1, o.2.2] at g4
  refine ⟨g1.1, g2, o.2.1, o.2.2, fun k1 k2 => ⟨i3, ?_, ?_, ?_⟩, g4⟩
  · rw [i4]
    exact g1
  · rw [i4, i6]
    exact ((i1.2.2.2 _ u1.2.2.2.2.1).2.2 (fun z => z)).1 193
  · rw [i4, i5, g2]
    exact ⟨k1, k2⟩
theorem x_lettersM {L : am_Lb} {N : Nat} {S : am_G} {s : Int} {g : Nat} {D : Nat} (hD : 13 ≤ D) (hG : okG S) (hg : okg S) (hs : 0 ≤ s ∧ s < (S 0 0 4)) (q : rSg h L N S s g) (H : K (.inl (some (.inl (S 4 s 3)))) h) : am_ev am_prog D 247 [.inr (.inl g)] h K := by
  have q7 := q.2.2.2.2.2.2.1
  have c9 := (hG.2 s hs.1 hs.2).2.2.2
  refine x_letters hD (G_ty q) rfl q7.1.1 ?_
  have e : sg (fun k => am_b (am_ai h (am_fr h 189 (am_fr h 160 g)) k ≠ 32)) 0 (am_ln h (am_fr h 189 (am_fr h 160 g))).toNat = S 4 s 3 := by
    rw [(hg s hs.1 hs.2).2.2.2.2.1, q7.1.2.1]
    exact sg_c _ (fun k k1 k2 => by
      show am_b _ = am_b _
      rw [q7.1.2.2 k k1 (by omega)])
  rw [e]
  exact H
theorem x_facts2 {L : am_Lb} {x P N : Nat} {S : am_G} {B : Int} {s : Int} {g : Nat} {D : Nat} (hD : 14 ≤ D) (t : Nt h L x P N S B) (hC : okC S) (hF : okF S) (hG : okG S) (hg : okg S) (hs : 0 ≤ s ∧ s < (S 0 0 4)) (hgq : g = am_ar h (am_fr h 194 (am_fr h 25 N)) s) (H : ∀ h', fx (fun _ => False) h h' → am_sz h' = am_sz h + 1 → am_us h' = am_us h + 9 → xF h' (am_sz h + 1) (pyT S s) (pyF S (S 4 s 1) s) → K (.inl (some (.inr (.inl (am_sz h + 1))))) h') : am_ev am_prog D 260 [.inr (.inl N), .inr (.inl g)] h K := by
  obtain ⟨g1, g2, g3, g4⟩ := G_fc t
  obtain ⟨k1, k2, k3, k4⟩ := P_fc t
  have q := g4 s hs.1 hs.2
  rw [← hgq] at q
  have o := hg s hs.1 hs.2
  have pb := isP_bd hC hF o.1
  have pt := PT_x ((k4 _ pb.1.1 pb.1.2).2 o.1)
  obtain ⟨x1, x2, x3, x4, x5, x6⟩ := pt
  have f155 : am_fi h 155 g = S 4 s 0 := q.2.1
  have f156 : am_fi h 156 g = S 4 s 1 := q.2.2.1
  have f157 : am_fi h 157 g = (S 4 s 2) := q.2.2.2.1
  have tN := Nt_fx0 (fx0_new (t := 20) (n := 9)) t
  have a0 : fx (fun _ => False) h (am_new h 20 9) := fx0_new
  have ol := L_old a0 t.2.2.2.1.1.1.2.1 g1
  have q' : rSg (am_new h 20 9) L N S s g := by
    have w := (G_fc tN).2.2.2 s hs.1 hs.2
    rw [ol.1, ol.2.1, ol.2.2, ← hgq] at w
    exact w
  have gz : g ≤ am_sz h := q.1.2.1
  have f156' : am_fi (am_new h 20 9) 156 g = S 4 s 1 := q'.2.2.1
  obtain ⟨d, rfl⟩ : ∃ d, D = d + 13 := ⟨D - 13, by omega⟩
  refine am_en p_X3_facts_2 rfl rfl ?_
  have fin : ∀ t0 t1 t2, t0 = pyT S s 0 → t1 = pyT S s 1 → t2 = pyT S s 2 → am_ev am_prog (d + 12) 247 [.inr (.inl g)] (am_new h 20 9) (am_aft (am_hand m_X3_facts_2 K (am_W m_X3_facts_2 (am_ev am_prog (d + 12)) K) 35) (am_W m_X3_facts_2 (am_ev am_prog (d + 12)) K) 35 [some (.inr (.inl (N))), some (.inr (.inl (g))), some (.inr (.inl (am_ar h (am_fr h 20 N) (S 4 s 0))))] [.inl (S 4 s 2), .inl (S 2 1 (S 4 s 0 / 5)), .inl (S 3 (S 4 s 0) 1), .inl (S 3 (S 4 s 0) 0), .inl t2, .inl t1, .inl t0, .inr (.inl (am_sz h + 1)), .inr (.inl (am_sz h + 1))]) := by
    intro t0 t1 t2 e0 e1 e2
    refine x_lettersM (by omega) hG hg hs q' (am_av (v_X3_facts_2_36 ?_))
    have tl : ∀ i, pyT S s i = 0 ∨ pyT S s i = 1 := fun i => tgs_01 am_b_eq i
    have k := fH_ok (h := h) (tg := pyT S s) (fc := pyF S (S 4 s 1) s) (fun i _ _ => tl i)
    have ty20 : am_ty (am_new h 20 9) (am_sz h + 1) = 20 := x_tyn0 rfl
    rw [f156', e0, e1, e2]
    refine ⟨G_ty q', ty20, by rw [ty20]; omega, tl 0, tl 1, tl 2, H _ fH_fx rfl rfl k⟩
  have ty := q.1.1
  refine v_X3_facts_2_0 ?_
  rw [f155, f157, x3, x4, x5, x6.2.1, k3]
  refine ⟨⟨k1, G_ty q, k2, by omega⟩, ⟨x2, x1⟩, fun c => ⟨gz, fun e => ?_, fun e => ?_⟩, fun c => ⟨gz, fun e => ?_, fun e => ?_⟩⟩
  · by_cases w : S 4 s 7 = 1
    · rw [if_pos w] at ty
      exact Or.inr ⟨ty, ⟨x6.2.2.2, x6.1⟩, fin 0 0 1 (am_bf c).symm (am_bf (by omega)).symm (am_bt w).symm⟩
    · rw [if_neg w] at ty
      exact Or.inl ⟨ty, ⟨x6.2.2.2, x6.1⟩, fin 0 0 0 (am_bf c).symm (am_bf (by omega)).symm (am_bf w).symm⟩
  · by_cases w : S 4 s 7 = 1
    · rw [if_pos w] at ty
      exact Or.inr ⟨ty, ⟨x6.2.2.2, x6.1⟩, fin 0 1 1 (am_bf c).symm (am_bt e).symm (am_bt w).symm⟩
    · rw [if_neg w] at ty
      exact Or.inl ⟨ty, ⟨x6.2.2.2, x6.1⟩, fin 0 1 0 (am_bf c).symm (am_bt e).symm (am_bf w).symm⟩
  · by_cases w : S 4 s 7 = 1
    · rw [if_pos w] at ty
      exact Or.inr ⟨ty, ⟨x6.2.2.2, x6.1⟩, fin 1 0 1 (am_bt c).symm (am_bf (by omega)).symm (am_bt w).symm⟩
    · rw [if_neg w] at ty
      exact Or.inl ⟨ty, ⟨x6.2.2.2, x6.1⟩, fin 1 0 0 (am_bt c).symm (am_bf (by omega)).symm (am_bf w).symm⟩
  · by_cases w : S 4 s 7 = 1
    · rw [if_pos w] at ty
      exact Or.inr ⟨ty, ⟨x6.2.2.2, x6.1⟩, fin 1 1 1 (am_bt c).symm (am_bt e).symm (am_bt w).symm⟩
    · rw [if_neg w] at ty
      exact Or.inl ⟨ty, ⟨x6.2.2.2, x6.1⟩, fin 1 1 0 (am_bt c).symm (am_bt e).symm (am_bf w).symm⟩
theorem x_styleM {L : am_Lb} {x P N : Nat} {S : am_G} {B : Int} {mi : Int} {D : Nat} (hD : 13 ≤ D) (t : Nt h L x P N S B) (hY : okY S) (H : ∀ h' q, fx (fun _ => False) h h' → am_sz h' = am_sz h + 1 → am_us h' = am_us h + 4 → (sty S mi = -1 → q = 0) → (sty S mi ≠ -1 → xSt h' q (S 6 (sty S mi))) → K (.inl (some (.inr (.inl (q))))) h') : am_ev am_prog D 117 [.inr (.inl N), .inl mi] h K := by
  obtain ⟨y1, y2, y3⟩ := Y_fc t
  have x1 := t.2.2.2.1.1
  have bd := sty_bd (mi := mi) hY
  refine x_style (g := fun k => S 6 k 0) (l := am_fr h 22 N) hD x1.1.1 x1.1.2.1 rfl y1 (fun k k1 k2 => ?_) (fun h' a z u => ?_)
  · rw [y2] at k2
    have y := (y3 k k1 k2).1
    exact ⟨y.1, y.2.2.1, y.2.1, y.2.2.2.1⟩
  · rw [y2]
    have es : stI (fun k => S 6 k 0) mi (S 0 0 2).toNat = sty S mi := rfl
    rw [es]
    by_cases c : sty S mi = -1
    · rw [if_pos c]
      exact H h' 0 a z u (fun _ => rfl) (fun g => absurd c g)
    · rw [if_neg c]
      exact H h' _ a z u (fun g => absurd g c) (fun _ => (xSt_fx a (fun q w => w.elim) (y3 (sty S mi) (by omega) (by omega)).1).1)
theorem X_pay {L : am_Lb} {x P N : Nat} {S : am_G} {B : Int} {k a e : Int} {D : Nat} (hD : 90 ≤ D) (t : Nt h L x P N S B) (hx : am_ty h x = 1) (hN : am_fr h 1 x = N) (hC : okC S) (hz : x ≤ am_sz h) (hl : L x = (x, 0, 0, 0)) (hB : B ≤ 1000000) (hF : okF S) (hY : okY S) (hG : okG S) (hg : okg S) (H0 : ¬ (0 ≤ k ∧ k < S 0 0 3) → XT h L x P N S B K 33) (H1 : 0 ≤ k ∧ k < S 0 0 3 → XA h L x P N S B K (pyR S k a e) 1501 7504) : am_ev am_prog D 157 [.inr (.inl x), .inl k, .inl a, .inl e] h K := by
  obtain ⟨x1, x2, x3, x4, x5, x6, x7, x8, x9, x10⟩ := t.2.2.2.1
  obtain ⟨g1, g2, g3, g4⟩ := G_fc t
  have c4 := hG.1
  have c3 := hC.2.2.1
  have f24 : am_fi h 24 N = S 0 0 3 := x1.2.2.2.2.1
  obtain ⟨d, rfl⟩ : ∃ d, D = d + 13 := ⟨D - 13, by omega⟩
  refine am_en p_X1_pay rfl rfl ?_
  refine v_X1_pay_0 ?_
  rw [hN, f24, x5.2.1]
  refine ⟨hx, ⟨g3, by omega⟩, fun c => ⟨⟨x5.1.1, by omega⟩, g1.1, c_iterator g1.1 g1.2.2.2.2.1 (am_av (v_X1_pay_10 ?_))⟩, fun c => XT_go t (H0 (by omega))⟩
  have HH := H1 (by omega)
  have main : ∀ s, 0 ≤ s → s ≤ (S 0 0 4) → ∀ h' o6 o7 o8, ItR h h' (am_fr h 25 N) s → ((am_sz h' : Int) ≤ am_sz h + 1 + 5 * s ∧ (am_us h' : Int) ≤ am_us h + 4 + 25 * s) → am_W m_X1_pay (am_ev am_prog (d + 12)) K 11 [some (.inr (.inl (x))), some (.inl (k)), some (.inl (a)), some (.inl (e)), some (.inl (sg (py S k a e) 0 s.toNat)), some (.inr (.inl ((am_sz h + 1)))), o6, o7, o8] [] h' := by
    refine lp_z ?_ ?_
    · intro s s1 s2 hL h' o6 o7 o8 ir cz
      have bd := pyS_bd (k := k) (a := a) (e := e) (m := s) hY hG hg (by omega)
      have b1 := py1_bd (k := k) (s := s) hY hG hg (by omega)
      have w3 := sdp_bd (k := k) (s := s) (w := 3) hY
      have w4 := sdp_bd (k := k) (s := s) (w := 4) hY
      obtain ⟨i1, i2, i3, i4, i5, i6⟩ := ItR_G t ir
      have q := i6 s s1 s2
      rw [sg_s s1] at hL
      have hL0 : py S k a e s = 0 → ∀ h' o6 o7 o8, ItR h h' (am_fr h 25 N) (s + 1) → ((am_sz h' : Int) ≤ am_sz h + 1 + 5 * (s + 1) ∧ (am_us h' : Int) ≤ am_us h + 4 + 25 * (s + 1)) → am_W m_X1_pay (am_ev am_prog (d + 12)) K 11 [some (.inr (.inl (x))), some (.inl (k)), some (.inl (a)), some (.inl (e)), some (.inl (sg (py S k a e) 0 s.toNat)), some (.inr (.inl ((am_sz h + 1)))), o6, o7, o8] [] h' := fun z => by
        rw [z, Int.add_zero] at hL
        exact hL
      have irn : ItR h (am_sfi (am_sfi h' 196 (am_sz h + 1) (s + 1)) 197 (am_sz h + 1) s) (am_fr h 25 N) (s + 1) := ItR_n ir
      have rx : ∀ h2, ItR h h2 (am_fr h 25 N) (s + 1) → am_ty h2 x = 1 ∧ am_fr h2 1 x = N ∧ am_ty h2 N = 3 := fun h2 i => by
        have w := i.1.2.2.2 x hz
        have w2 := i.1.2.2.2 N x1.1.2.1
        exact ⟨w.1.trans hx, ((w.2.2 (fun z => z)).2.1 1).trans hN, w2.1.trans g3⟩
      have r0 := rx _ irn
      refine v_X1_pay_11 ?_
      have f156 : am_fi h' 156 (am_ar h (am_fr h 194 (am_fr h 25 N)) s) = S 4 s 1 := q.2.2.1
      have f157 : am_fi h' 157 (am_ar h (am_fr h 194 (am_fr h 25 N)) s) = (S 4 s 2) := q.2.2.2.1
      rw [ir.2.2.2.1, i2, ir.2.2.2.2.1, i3, i4, f156, f157]
      have r1 : am_ty h' x = 1 := r0.1
      have r2 : am_fr h' 1 x = N := r0.2.1
      have r3 : am_ty h' N = 3 := r0.2.2
      rw [r2]
      refine ⟨ir.2.2.1, i1, fun z => absurd z (by omega), fun _ => ⟨i5 s1 s2, ⟨Or.inr (G_ty q), G_ty q⟩, fun c => hL0 (if_neg (fun z => c z.1)) _ _ _ _ irn ⟨by show (am_sz h' : Int) ≤ _; omega, by show (am_us h' : Int) ≤ _; omega⟩, fun c => ⟨fun c2 => ⟨r1, r3, ?_⟩, fun c2 => hL0 (if_neg (fun z => c2 z.2)) _ _ _ _ irn ⟨by show (am_sz h' : Int) ≤ _; omega, by show (am_us h' : Int) ≤ _; omega⟩⟩⟩⟩
      have ep : py S k a e s = py1 S k s := if_pos ⟨c, c2⟩
      have ty : ∀ h2, ItR h h2 (am_fr h 25 N) (s + 1) → Nt h2 L x P N S B ∧ am_ar h (am_fr h 194 (am_fr h 25 N)) s = am_ar h2 (am_fr h2 194 (am_fr h2 25 N)) s := fun h2 i => by
        have o := L_old i.1 x1.1.2.1 g1
        refine ⟨Nt_fx0 i.1 t, ?_⟩
        rw [o.1, o.2.1, o.2.2]
      have eu : (am_us (am_sfi (am_sfi h' 196 (am_sz h + 1) (s + 1)) 197 (am_sz h + 1) s) : Int) = am_us h' := rfl
      have ez : (am_sz (am_sfi (am_sfi h' 196 (am_sz h + 1) (s + 1)) 197 (am_sz h + 1) s) : Int) = am_sz h' := rfl
      refine x_styleM (by omega) (ty _ irn).1 hY (fun h2 Q a2 z2 u2 q0 q1 => am_av (v_X1_pay_34 ?_))
      have ir2 := ItR_fx irn a2
      have r2 := rx _ ir2
      rw [r2.2.1]
      refine ⟨r2.1, r2.2.2, x_facts2 (by omega) (ty _ ir2).1 hC hF hG hg ⟨s1, s2⟩ (ty _ ir2).2 (fun h3 a3 z3 u3' xf => am_av (v_X1_pay_39 ?_))⟩
      have ir3 := ItR_fx ir2 a3
      rw [c] at xf
      have xfz : am_sz h2 + 1 ≤ am_sz h3 := by omega
      by_cases st : sty S (S 4 s 2) = -1
      · refine ⟨fun _ => hL0 (ep.trans ?_) _ _ _ _ ir3 ⟨by omega, by omega⟩, fun z => absurd (q0 st) z⟩
        have n1 : ∀ w, pyL S k s w = -1 := fun w => if_pos st
        have d0 : sdd S (S 4 s 2) (pyL S k s 4) 1 0 = 0 := if_pos (n1 4)
        unfold py1
        rw [if_pos (n1 5), d0, Int.mul_zero]
      · have n1 : ∀ w, pyL S k s w = lastR (S 6 (sty S (S 4 s 2))) (pyT S s) (pyF S k s) w (S 6 (sty S (S 4 s 2)) 1).toNat := fun w => if_neg st
        have xs3 := (xSt_fx a3 (fun q w => w.elim) (q1 st)).1
        refine ⟨fun z => absurd z xs3.2.2.1, fun _ => ⟨xs3.1, ?_⟩⟩
        refine x_last (by omega) xs3 xf xfz (fun h4 a4 z4 u4 => am_av (v_X1_pay_46 ?_))
        have ir4 := ItR_fx ir3 a4
        rw [← n1 5]
        have q4 : rSg h4 L N S s (am_ar h (am_fr h 194 (am_fr h 25 N)) s) := (ItR_G t ir4).2.2.2.2.2 s s1 s2
        have ra : ∀ j, 0 ≤ j → j < S 6 (sty S (S 4 s 2)) 1 → am_ar h3 (am_fr h3 194 (am_fr h3 134 Q)) j ≠ 0 := fun j j1 j2 => by
          obtain ⟨m, val, m1, m2, m3⟩ := (xs3.2.2.2.2.2.2.2 j j1 j2).2.2.2
          exact m2.2.2.1
        have bl := lrl_bd (S := S) (tg := pyT S s) (fc := pyF S k s) (mi := (S 4 s 2)) (w := 5) hY
        have e5 : pyL S k s 5 = lrl S (pyT S s) (pyF S k s) (S 4 s 2) 5 := rfl
        rw [← e5] at bl
        by_cases l5 : pyL S k s 5 = -1
        · rw [if_pos l5]
          have e1 : py1 S k s = mxI (S 4 s 3) (sdd S (S 4 s 2) (pyL S k s 3) 1 0) * sdd S (S 4 s 2) (pyL S k s 4) 1 0 := if_pos l5
          rw [ep, e1] at hL
          refine ⟨fun _ => ⟨G_ty q4, x_lettersM (by omega) hG hg ⟨s1, s2⟩ q4 (am_av (v_X1_pay_51 ?_))⟩, fun z => absurd rfl z⟩
          have xs4 := (xSt_fx a4 (fun q w => w.elim) xs3).1
          have xf4 := xF_fx a4 (fun q w => w.elim) xfz xf
          refine ⟨xs4.1, x_first (by omega) xs4 xf4 (by omega) (fun h5 a5 z5 u5 => am_av (v_X1_pay_56 ?_))⟩
          have ir5 := ItR_fx ir4 a5
          have xs5 := (xSt_fx a5 (fun q w => w.elim) xs4).1
          have xf5 := xF_fx a5 (fun q w => w.elim) (by omega) xf4
          rw [← n1 3]
          have E3 : (if pyL S k s 3 = -1 then 0 else S 6 (sty S (S 4 s 2)) (2 + 5 * pyL S k s 3 + 1)) = sdd S (S 4 s 2) (pyL S k s 3) 1 0 := rfl
          rw [E3]
          have fin : ∀ v, v = mxI (S 4 s 3) (sdd S (S 4 s 2) (pyL S k s 3) 1 0) → am_ev am_prog (d + 12) 262 [.inr (.inl Q), .inl 4, .inr (.inl (am_sz h2 + 1)), .inl 0] h5 (am_aft (am_hand m_X1_pay K (am_W m_X1_pay (am_ev am_prog (d + 12)) K) 61) (am_W m_X1_pay (am_ev am_prog (d + 12)) K) 61 [some (.inr (.inl (x))), some (.inl (k)), some (.inl (a)), some (.inl (e)), some (.inl (sg (py S k a e) 0 s.toNat)), some (.inr (.inl ((am_sz h + 1)))), some (.inr (.inl (am_ar h (am_fr h 194 (am_fr h 25 N)) s))), some (.inr (.inl (Q))), some (.inr (.inl (am_sz h2 + 1)))] [.inl v, .inl (sg (py S k a e) 0 s.toNat)]) := by
            intro v ev
            refine x_first (by omega) xs5 xf5 (by omega) (fun h6 a6 z6 u6 => am_av (v_X1_pay_62 ?_))
            have ir6 := ItR_fx ir5 a6
            rw [← n1 4]
            have E4 : (if pyL S k s 4 = -1 then 0 else S 6 (sty S (S 4 s 2)) (2 + 5 * pyL S k s 4 + 1)) = sdd S (S 4 s 2) (pyL S k s 4) 1 0 := rfl
            rw [E4, ev]
            exact ⟨⟨by omega, by omega⟩, hL _ _ _ _ ir6 ⟨by omega, by omega⟩⟩
          exact ⟨fun z => ⟨xs5.1, fin _ (if_pos z).symm⟩, fun z => ⟨xs5.1, fin _ (if_neg (by omega)).symm⟩⟩
        · rw [if_neg l5]
          have b5 := bl.resolve_left l5
          exact ⟨fun z => absurd z (ra _ b5.2.1.1 b5.2.1.2), fun _ => hL0 (ep.trans (if_neg l5)) _ _ _ _ ir4 ⟨by omega, by omega⟩⟩
    · intro h' o6 o7 o8 ir cz
      have bd := pyS_bd (k := k) (a := a) (e := e) (m := (S 0 0 4)) hY hG hg (by omega)
      obtain ⟨i1, i2, i3, i4, i5, i6⟩ := ItR_G t ir
      refine v_X1_pay_11 ?_
      rw [ir.2.2.2.1, i2, ir.2.2.2.2.1]
      exact ⟨ir.2.2.1, i1, fun _ => ⟨by omega, XA_f t HH ir.1 (by omega) (by omega)⟩, fun z => absurd rfl z⟩
  exact main 0 (by omega) c4.1 _ _ _ _ ItR_0 ⟨by rw [it_sz]; omega, by rw [it_us]; omega⟩
end
