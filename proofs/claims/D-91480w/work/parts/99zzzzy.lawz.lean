set_option maxRecDepth 100000
section
variable {x P r o s : Nat} {sc : Int → Int} {ns : Int} {Z U d : Nat} {Q : am_K}
/-- the law's loop -/
theorem ly_loop (hd : 98 ≤ d) (hn : ns ≤ 384) (n0 : 0 ≤ ns) (sr : ∀ k, 0 ≤ k → k < ns → -2147483648 ≤ sc k ∧ sc k ≤ 2147483647) (HQ : ∀ c h, c ≤ 64 → JS x P r o s sc ns Z U c h → Q (.inl (some (.inl (1)))) h) : ∀ (m c : Nat) (h : am_H) (o5 o6 : Option am_V), c + m = 64 → JS x P r o s sc ns Z U c h → am_W m_L_law (am_ev am_prog (d + 12)) Q 13 [some (.inr (.inl s)), some (.inr (.inl x)), some (.inr (.inl r)), some (.inr (.inl o)), some (.inl (6 * (c : Int))), o5, o6] [] h
  | 0, c, h, o5, o6, e, js => by
    obtain ⟨t0, e0, f0, t3, _⟩ := ly_f js
    exact v_L_law_13 ⟨⟨Or.inr t0, by omega⟩, fun _ => HQ c h (by omega) js, fun y => by exfalso; omega⟩
  | m + 1, c, h, o5, o6, e, js => by
    by_cases le : 6 * (c : Int) ≤ ns - 6
    · refine ly_step hd (by omega) (by omega) hn sr (fun h2 o5 o6 js2 => ?_) js le
      have w := ly_loop hd hn n0 sr HQ m (c + 1) h2 o5 o6 (by omega) js2
      have q : 6 * ((c + 1 : Nat) : Int) = 6 * (c : Int) + 6 := by omega
      rw [q] at w
      exact w
    · obtain ⟨t0, e0, f0, t3, _⟩ := ly_f js
      exact v_L_law_13 ⟨⟨Or.inr t0, by omega⟩, fun _ => HQ c h (by omega) js, fun y => by exfalso; omega⟩
end
/-! the start -/
/-- what the abstract law asks of its start -/
def am_start (h : am_H) (r : Nat) : Prop := (am_ty h r = 121 ∧ 0 ≤ am_ln h r ∧ am_ln h r ≤ 384 ∧ ∀ k, 0 ≤ k → k < am_ln h r → am_in (am_ai h r k)) ∧ (∀ j w, wdF j = some w → am_ty h (am_cs h j) = 90 ∧ am_fi h 190 (am_cs h j) = 0 ∧ am_ty h (am_fr h 189 (am_cs h j)) = 122 ∧ am_ln h (am_fr h 189 (am_cs h j)) = (w.length : Int) ∧ pf (am_ai h (am_fr h 189 (am_cs h j))) w) ∧ (am_ty h (am_cs h 0) = 134 ∧ am_ln h (am_cs h 0) = 0) ∧ am_us h = 0 ∧ am_ty h 0 = 0 ∧ ∀ q, am_sz h < q → am_ty h q = 0
def am_lawQ (h : am_H) : am_K := fun q h' => q = .inl (some (.inl (1))) ∧ am_sz h' ≤ am_sz h + 603072 ∧ am_us h' ≤ 7202922
def am_LAW : Prop := ∀ h r, am_start h r → am_ev am_prog 200 0 [.inr (.inl r)] h (am_lawQ h)
theorem wdF_b : ∀ j w, wdF j = some w → w.length ≤ 20 ∧ ∀ k, k < w.length → 0 ≤ gt w k ∧ gt w k ≤ 127 := by
  intro j w e
  unfold wdF at e
  split at e <;> first | (injection e with e; subst e; exact ⟨by decide, by decide⟩) | cases e
theorem st_le {h : am_H} {s q : Nat} (st : am_start h s) (n : am_ty h q ≠ 0) : q ≤ am_sz h := by
  by_cases c : q ≤ am_sz h
  · exact c
  · exact absurd (st.2.2.2.2.2 q (by omega)) n
theorem st_cs {h : am_H} {s j : Nat} {w : List Int} {L : am_Lb} (st : am_start h s) (e : wdF j = some w) (hL : ∀ q, (L q).1 = 0) : csZ h L j w := by
  obtain ⟨a1, a2, a3, a4, a5⟩ := st.2.1 j w e
  have z1 : am_cs h j ≤ am_sz h := st_le st (by rw [a1]; decide)
  have z2 : am_fr h 189 (am_cs h j) ≤ am_sz h := st_le st (by rw [a3]; decide)
  have b := wdF_b j w e
  refine ⟨⟨⟨Or.inr a1, Or.inr a3, a2, ⟨by omega, by omega⟩, ⟨z1, z2⟩, fun k k0 kl => ?_⟩, a4, a5⟩, ⟨z1, hL _⟩, z2, hL _⟩
  have q := a5 k.toNat (by omega)
  have y := b.2 k.toNat (by omega)
  rw [Int.toNat_of_nonneg k0] at q
  rw [q]
  exact y
theorem mo_t_b : ∀ j, j ≤ 35 → 0 < j → 101 ≤ mo_t j ∧ mo_t j ≤ 110 := by decide
theorem imT_no {t : Nat} (h : t = 5 ∨ (101 ≤ t ∧ t ≤ 110)) : ¬ imT t := fun i => by
  unfold imT at i
  omega
def lL0 (x : Nat) : am_Lb := fun q => if q = x then (x, 0, 0, 0) else (0, 0, 0, 0)
def lL3 (o r : Nat) (L : am_Lb) : am_Lb := fun q => if q = o then (o, 0, 0, 0) else if r ≤ q ∧ q ≤ r + 35 then (r, 0, 0, 0) else L q
theorem lL3_n {o r q : Nat} {L : am_Lb} (h : q ≠ o) (g : ¬ (r ≤ q ∧ q ≤ r + 35)) : lL3 o r L q = L q := by
  unfold lL3
  rw [if_neg h, if_neg g]
theorem lL3_r {o r q : Nat} {L : am_Lb} (h : q ≠ o) (g : r ≤ q ∧ q ≤ r + 35) : lL3 o r L q = (r, 0, 0, 0) := by
  unfold lL3
  rw [if_neg h, if_pos g]
theorem lL3_o {o r : Nat} {L : am_Lb} : lL3 o r L o = (o, 0, 0, 0) := if_pos rfl
section
variable {h h1 h2 : am_H} {L1 : am_Lb} {s r : Nat}
theorem lb_F (hr : r = am_sz h1 + 1) (fx2 : fx (fun q => q = r) (am_new h1 5 58) h2) : fx (fun _ => False) h1 (am_new h2 104 1) := fx_new (fx_trans2 (fx_new fx_refl) fx2 (fun q hq e => by omega))
theorem lb_G (st : am_start h s) (nt : Nt h1 L1 (am_sz h + 1) (am_sz (am_new h 1 6) + 1) (am_sz (am_new h 1 6) + 7) nt0 400) (fx1 : fx (fun q => q = (am_sz h + 1)) (am_new h 1 6) h1) (le1 : leL (am_new h 1 6) (lL0 (am_sz h + 1)) L1) (okl : okLb h1 L1) (sz1 : am_sz h1 = am_sz (am_new h 1 6) + 32) (hr : r = am_sz h1 + 1) (fx2 : fx (fun q => q = r) (am_new h1 5 58) h2) (sz2 : am_sz h2 = r + 35) : fx (fun _ => False) h (am_new h2 104 1) := fx_trans (fx_trans2 (fx_new fx_refl) fx1 (fun q hq e => by omega)) (lb_F hr fx2)
theorem lb_0 (st : am_start h s) (nt : Nt h1 L1 (am_sz h + 1) (am_sz (am_new h 1 6) + 1) (am_sz (am_new h 1 6) + 7) nt0 400) (fx1 : fx (fun q => q = (am_sz h + 1)) (am_new h 1 6) h1) (le1 : leL (am_new h 1 6) (lL0 (am_sz h + 1)) L1) (okl : okLb h1 L1) (sz1 : am_sz h1 = am_sz (am_new h 1 6) + 32) (hr : r = am_sz h1 + 1) (fx2 : fx (fun q => q = r) (am_new h1 5 58) h2) (sz2 : am_sz h2 = r + 35) {q : Nat} (hq : q ≤ am_sz h) : (lL3 (am_sz h2 + 1) r L1) q = (0, 0, 0, 0) := by
  have e0 : am_sz (am_new h 1 6) = am_sz h + 1 := rfl
  rw [lL3_n (by omega) (by omega), le1 q (by omega)]
  exact if_neg (by omega)
theorem lb_x (st : am_start h s) (nt : Nt h1 L1 (am_sz h + 1) (am_sz (am_new h 1 6) + 1) (am_sz (am_new h 1 6) + 7) nt0 400) (fx1 : fx (fun q => q = (am_sz h + 1)) (am_new h 1 6) h1) (le1 : leL (am_new h 1 6) (lL0 (am_sz h + 1)) L1) (okl : okLb h1 L1) (sz1 : am_sz h1 = am_sz (am_new h 1 6) + 32) (hr : r = am_sz h1 + 1) (fx2 : fx (fun q => q = r) (am_new h1 5 58) h2) (sz2 : am_sz h2 = r + 35) : (lL3 (am_sz h2 + 1) r L1) (am_sz h + 1) = ((am_sz h + 1), 0, 0, 0) := by
  have e0 : am_sz (am_new h 1 6) = am_sz h + 1 := rfl
  rw [lL3_n (by omega) (by omega), le1 _ (by omega)]
  exact if_pos rfl
theorem lb_le (hr : r = am_sz h1 + 1) (sz2 : am_sz h2 = r + 35) : leL h1 L1 (lL3 (am_sz h2 + 1) r L1) := fun q hq => lL3_n (by omega) (by omega)
theorem lb_mc (hr : r = am_sz h1 + 1) (sz2 : am_sz h2 = r + 35) (e2 : h2 = mo h2 r (ms nt0) (fun _ _ => 0) (am_up (fun _ => 0) 47 (-1))) : MoC (am_new h2 104 1) r (ms nt0) (fun _ _ => 0) (am_up (fun _ => 0) 47 (-1)) := by
  have m := mo_MoC (b := h2) (r := r) (m := ms nt0) (V := fun _ _ => 0) (W := am_up (fun _ => 0) 47 (-1))
  rw [← e2] at m
  exact MoC_fx (X := fun _ => False) (fx_new fx_refl) (by omega) (fun _ _ z => z.elim) m
theorem lb_ok (st : am_start h s) (nt : Nt h1 L1 (am_sz h + 1) (am_sz (am_new h 1 6) + 1) (am_sz (am_new h 1 6) + 7) nt0 400) (fx1 : fx (fun q => q = (am_sz h + 1)) (am_new h 1 6) h1) (le1 : leL (am_new h 1 6) (lL0 (am_sz h + 1)) L1) (okl : okLb h1 L1) (sz1 : am_sz h1 = am_sz (am_new h 1 6) + 32) (hr : r = am_sz h1 + 1) (fx2 : fx (fun q => q = r) (am_new h1 5 58) h2) (sz2 : am_sz h2 = r + 35) (e2 : h2 = mo h2 r (ms nt0) (fun _ _ => 0) (am_up (fun _ => 0) 47 (-1))) : okLb (am_new h2 104 1) (lL3 (am_sz h2 + 1) r L1) := by
  have e0 : am_sz (am_new h 1 6) = am_sz h + 1 := rfl
  have F := lb_F hr fx2
  have m := lb_mc hr sz2 e2
  refine ⟨(F.2.2.2 0 (by omega)).1.trans okl.1, fun q hq im => ?_, fun q hq => ?_⟩
  · have hq' : q ≤ am_sz h2 + 1 := hq
    by_cases c1 : q ≤ am_sz h1
    · rw [lL3_n (by omega) (by omega)]
      rw [(F.2.2.2 q c1).1] at im
      exact okl.2.1 q c1 im
    · by_cases c2 : q = am_sz h2 + 1
      · rw [x_tyn0 c2] at im
        exact absurd im (imT_no (Or.inr ⟨by decide, by decide⟩))
      · by_cases c3 : q = r
        · rw [c3, m.1] at im
          exact absurd im (imT_no (Or.inl rfl))
        · have e : r + (q - r) = q := by omega
          have y := m.2.1 (q - r) (by omega) (by omega)
          rw [e] at y
          rw [y.1] at im
          exact absurd im (imT_no (Or.inr (mo_t_b _ (by omega) (by omega))))
  · have hq' : am_sz h2 + 1 < q := hq
    rw [lL3_n (by omega) (by omega)]
    exact okl.2.2 q (by omega)
theorem lb_JB (st : am_start h s) (nt : Nt h1 L1 (am_sz h + 1) (am_sz (am_new h 1 6) + 1) (am_sz (am_new h 1 6) + 7) nt0 400) (fx1 : fx (fun q => q = (am_sz h + 1)) (am_new h 1 6) h1) (le1 : leL (am_new h 1 6) (lL0 (am_sz h + 1)) L1) (okl : okLb h1 L1) (sz1 : am_sz h1 = am_sz (am_new h 1 6) + 32) (hr : r = am_sz h1 + 1) (fx2 : fx (fun q => q = r) (am_new h1 5 58) h2) (sz2 : am_sz h2 = r + 35) (f0 : am_fr h1 0 (am_sz h + 1) = (am_sz (am_new h 1 6) + 1)) (f1 : am_fr h1 1 (am_sz h + 1) = (am_sz (am_new h 1 6) + 7)) (f2 : am_fr h1 2 (am_sz h + 1) = am_fr (am_new h 1 6) 2 (am_sz h + 1)) (nl : ∀ q, am_sz (am_new h 1 6) < q → (L1 q).1 = 0 ∨ (L1 q).1 = (am_sz h + 1) ∨ (L1 q).1 = (am_sz (am_new h 1 6) + 7)) (ty1 : am_ty h1 (am_sz h + 1) = 1) : JB (am_sz h + 1) (am_sz (am_new h 1 6) + 1) r (am_sz h2 + 1) s (am_ai h s) (am_ln h s) (lL3 (am_sz h2 + 1) r L1) (am_sz (am_new h 1 6) + 7) 0 (am_new h2 104 1) := by
  have e0 : am_sz (am_new h 1 6) = am_sz h + 1 := rfl
  have ez : am_sz (am_new h2 104 1) = am_sz h2 + 1 := rfl
  have F := lb_F hr fx2
  have G := lb_G st nt fx1 le1 okl sz1 hr fx2 sz2
  have kx := F.2.2.2 (am_sz h + 1) (by omega)
  have ux := kx.2.2 (fun z => z)
  have hs : s ≤ am_sz h := st_le st (by rw [st.1.1]; decide)
  have ks := G.2.2.2 s hs
  have us := ks.2.2 (fun z => z)
  have s0 := st.1.1
  refine ⟨⟨kx.1.trans ty1, by omega, lb_x st nt fx1 le1 okl sz1 hr fx2 sz2⟩, ⟨(ux.2.1 0).trans f0, (ux.2.1 1).trans f1, (ux.2.1 2).trans (f2.trans (x_frn0 rfl))⟩, ⟨by omega, fun j hj => by rw [lL3_r (by omega) (by omega)]⟩, ⟨x_tyn0 rfl, (x_lnn0 rfl).trans rfl, by omega, by rw [lL3_o]⟩, ⟨ks.1.trans s0, ks.2.1, by omega, by rw [lb_0 st nt fx1 le1 okl sz1 hr fx2 sz2 hs], us.2.2.1⟩, ⟨fun q => ?_, by omega⟩, ⟨by omega, by omega, by omega, by omega⟩, ⟨by omega, by omega, by omega, by omega, by omega, by omega⟩, ⟨by omega, by omega, by omega, by omega⟩⟩
  by_cases c1 : q = (am_sz h2 + 1)
  · rw [c1, lL3_o]
    exact Nat.le_refl _
  · by_cases c2 : r ≤ q ∧ q ≤ r + 35
    · rw [lL3_r c1 c2]
      show r ≤ _
      omega
    · rw [lL3_n c1 c2]
      by_cases c3 : q ≤ am_sz (am_new h 1 6)
      · rw [le1 q c3]
        unfold lL0
        split
        · show (am_sz h + 1) ≤ _
          omega
        · show 0 ≤ _
          omega
      · rcases nl q (by omega) with e | e | e <;> omega
theorem ly_begin (st : am_start h s) (nt : Nt h1 L1 (am_sz h + 1) (am_sz (am_new h 1 6) + 1) (am_sz (am_new h 1 6) + 7) nt0 400) (fx1 : fx (fun q => q = (am_sz h + 1)) (am_new h 1 6) h1) (le1 : leL (am_new h 1 6) (lL0 (am_sz h + 1)) L1) (okl : okLb h1 L1) (sz1 : am_sz h1 = am_sz (am_new h 1 6) + 32) (hr : r = am_sz h1 + 1) (fx2 : fx (fun q => q = r) (am_new h1 5 58) h2) (sz2 : am_sz h2 = r + 35) (e2 : h2 = mo h2 r (ms nt0) (fun _ _ => 0) (am_up (fun _ => 0) 47 (-1))) (f0 : am_fr h1 0 (am_sz h + 1) = (am_sz (am_new h 1 6) + 1)) (f1 : am_fr h1 1 (am_sz h + 1) = (am_sz (am_new h 1 6) + 7)) (f2 : am_fr h1 2 (am_sz h + 1) = am_fr (am_new h 1 6) 2 (am_sz h + 1)) (tp : TpX h1 L1 (am_sz h + 1) (fun _ => 0) 0) (f5 : am_fi h1 5 (am_sz h + 1) = -1) (nl : ∀ q, am_sz (am_new h 1 6) < q → (L1 q).1 = 0 ∨ (L1 q).1 = (am_sz h + 1) ∨ (L1 q).1 = (am_sz (am_new h 1 6) + 7)) (ty1 : am_ty h1 (am_sz h + 1) = 1) (us1 : am_us h1 = am_us (am_new h 1 6) + 842) (us2 : (am_us h2 : Int) = am_us h1 + 58 + mo_s 35) : JS (am_sz h + 1) (am_sz (am_new h 1 6) + 1) r (am_sz h2 + 1) s (am_ai h s) (am_ln h s) (am_sz h + 70) 1058922 0 (am_new h2 104 1) := by
  have e0 : am_sz (am_new h 1 6) = am_sz h + 1 := rfl
  have eu0 : am_us (am_new h 1 6) = am_us h + 6 := rfl
  have ez : am_sz (am_new h2 104 1) = am_sz h2 + 1 := rfl
  have eu : am_us (am_new h2 104 1) = am_us h2 + 1 := rfl
  have F := lb_F hr fx2
  have G := lb_G st nt fx1 le1 okl sz1 hr fx2 sz2
  have le := lb_le (L1 := L1) hr sz2
  have ok3 := lb_ok st nt fx1 le1 okl sz1 hr fx2 sz2 e2
  have ux := (F.2.2.2 (am_sz h + 1) (by omega)).2.2 (fun z => z)
  have ms35 : mo_s 35 ≤ 1058015 := by decide
  have u0 := st.2.2.2.1
  refine ⟨(lL3 (am_sz h2 + 1) r L1), (am_sz (am_new h 1 6) + 7), 0, nt0, nt0, 400, 400, fun _ => 0, 0, fun _ _ => 0, am_up (fun _ => 0) 47 (-1), ⟨lb_JB st nt fx1 le1 okl sz1 hr fx2 sz2 f0 f1 f2 nl ty1, ⟨ok3, cs_fx F nt.2.1, rPap_fx F le (fun _ _ z => z.elim) nt.2.2.1, Rep_fx (Int.le_refl _) F le nt.1 nt.2.1.1 (fun _ _ z => z.elim) nt.2.2.2.1, nt.2.2.2.2⟩, lb_mc hr sz2 e2, Or.inl ⟨rfl, rfl⟩, TpX_fx F le (by omega) (fun z => z) (fun z => z) tp, (ux.1 5).trans f5, fun j w e => csZ_fx G (L := fun _ => (0, 0, 0, 0)) (fun q hq => lb_0 st nt fx1 le1 okl sz1 hr fx2 sz2 hq) (fun _ _ z => z.elim) (st_cs st e (fun _ => rfl))⟩, I_init, ⟨fun j a b => absurd b (by omega), rfl⟩, ⟨fun i _ _ => ⟨⟨by decide, by decide⟩, by decide, by decide⟩, fun i _ _ => ⟨by decide, by decide⟩⟩, ⟨by decide, by decide, by decide⟩, ⟨by omega, by omega⟩⟩
end
theorem am_law : am_LAW := by
  intro h s st
  refine am_en p_L_law rfl rfl ?_
  have hs : s ≤ am_sz h := st_le st (by rw [st.1.1]; decide)
  have e0 : am_sz (am_new h 1 6) = am_sz h + 1 := rfl
  have c0 : am_cs h 0 ≤ am_sz h := st_le st (by rw [st.2.2.1.1]; decide)
  refine v_L_law_0 (d := 187) (X_init (L := lL0 (am_sz h + 1)) (by omega) (x_tyn0 rfl) (by omega) (by omega) (if_pos rfl) ⟨(x_tyn (by omega)).trans st.2.2.2.2.1, fun q hq im => ?_, fun q hq => ?_⟩ ⟨(x_tyn c0).trans st.2.2.1.1, by have : am_cs (am_new h 1 6) 0 = am_cs h 0 := rfl; omega, (x_lnn c0).trans st.2.2.1.2⟩ (x_fin0 rfl) (fun h1 L1 nt f0 f1 f2 tp f5 fx1 le1 okl nl ty1 sz1 us1 => am_an (v_L_law_3 (M_init (by omega) rfl (fun h2 fx2 e2 sz2 us2 => am_an (v_L_law_7 ?_))))))
  · by_cases c : q = (am_sz h + 1)
    · rw [x_tyn0 c] at im
      unfold imT at im
      omega
    · unfold lL0
      rw [if_neg c]
  · have hq' : am_sz h + 1 < q := hq
    unfold lL0
    rw [if_neg (by omega)]
  · have js := ly_begin st nt fx1 le1 okl sz1 rfl fx2 sz2 e2 f0 f1 f2 tp f5 nl ty1 us1 us2
    refine ly_loop (by decide) st.1.2.2.1 st.1.2.1 st.1.2.2.2 (fun c h' hc js' => ?_) 64 0 _ _ _ rfl js
    obtain ⟨L, N, I, S, SI, B, BI, t, n, V, W, _, _, _, _, _, u8, u9⟩ := js'
    exact ⟨rfl, by omega, by omega⟩
