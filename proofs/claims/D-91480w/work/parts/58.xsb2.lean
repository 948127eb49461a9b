set_option maxRecDepth 100000
/-- string s has the bytes of m -/
def xSl (h : am_H) (s : Nat) (m : List Int) : Prop := xS h s ∧ am_ln h (am_fr h 189 s) = (m.length : Int) ∧ pf (am_ai h (am_fr h 189 s)) m
theorem xSl_fx {X : Nat → Prop} {h h' : am_H} {s : Nat} {m : List Int} (a : fx X h h') (x : xSl h s m) (n1 : ¬ X s) (n2 : ¬ X (am_fr h 189 s)) : xSl h' s m := by
  have f := xS_fx a x.1 n1 n2
  refine ⟨f.1, ?_, ?_⟩
  · rw [f.2.1, f.2.2.2]
    exact x.2.1
  · rw [f.2.1, f.2.2.1]
    exact x.2.2
theorem gt_mem : ∀ (l : List Int) (k : Nat), k < l.length → gt l k ∈ l
  | [], k, h => absurd h (Nat.not_lt_zero k)
  | x :: l, 0, _ => List.Mem.head _
  | x :: l, k + 1, h => List.Mem.tail _ (gt_mem l k (Nat.lt_of_succ_lt_succ h))
theorem gt_app1 {m : List Int} : ∀ (l : List Int) (n : Nat), n < l.length → gt (l ++ m) n = gt l n
  | [], n, h => absurd h (Nat.not_lt_zero n)
  | y :: l, 0, h => rfl
  | y :: l, n + 1, h => gt_app1 l n (Nat.lt_of_succ_lt_succ h)
theorem gt_app2 {m : List Int} : ∀ (l : List Int) (n : Nat), gt (l ++ m) (l.length + n) = gt m n
  | [], n => by
    show gt m ([].length + n) = gt m n
    congr 1
    show 0 + n = n
    omega
  | y :: l, n => by
    have e : (y :: l).length + n = (l.length + n) + 1 := by
      show l.length + 1 + n = _
      omega
    rw [e]
    exact gt_app2 l n
section
variable {K : am_K} {h : am_H}
/-- a string is put behind -/
theorem c_apps {r s : Nat} {l m : List Int} {d : Nat} (v : xB h r l) (w : xSl h s m) (hm : ∀ x, x ∈ m → 0 ≤ x ∧ x ≤ 127) (hs : s ≠ 0) (hA : am_fr h 189 s ≠ (am_fr h 185 r)) (hl : (l.length : Int) + m.length ≤ 1000) (hN : (am_ln h (am_fr h 185 r)) ≤ 3000) (H : ∀ h', fx (fun q => q = r ∨ q = (am_fr h 185 r)) h h' → xB h' r (l ++ m) → (am_sz h' : Int) + (am_ln h (am_fr h 185 r)) ≤ am_sz h + am_ln h' (am_fr h' 185 r) → (am_us h' : Int) + 2 * (am_ln h (am_fr h 185 r)) ≤ am_us h + 2 * am_ln h' (am_fr h' 185 r) → (am_ln h' (am_fr h' 185 r) = (am_ln h (am_fr h 185 r)) ∨ ((am_ln h (am_fr h 185 r)) < am_ln h' (am_fr h' 185 r) ∧ am_ln h' (am_fr h' 185 r) ≤ 2 * ((l.length : Int) + m.length) + 2)) → (am_fr h' 185 r = (am_fr h 185 r) ∨ am_sz h < am_fr h' 185 r) → K (.inl (some (.inr (.inl (r))))) h') : am_ev am_prog (d + 7) 412 [.inr (.inl r), .inr (.inl s)] h K := by
  obtain ⟨v1, v2, v3, v4, v5, v6, v7, v8⟩ := v
  have vv : xB h r l := ⟨v1, v2, v3, v4, v5, v6, v7, v8⟩
  have ww := w
  obtain ⟨⟨w1, w2, w3, w4, w5, w6⟩, w7, w8⟩ := w
  have e0 : am_shrz (am_ln h (am_fr h 189 s)) 0 = (m.length : Int) := by rw [am_shr0 (by omega), w7]
  refine am_en p_J0_append rfl rfl (v_J0_append_0 ⟨fun _ => ⟨w1, w2, by rw [w3]; omega, ?_⟩, fun c => absurd c hs⟩)
  rw [w3, e0, v4]
  refine ⟨⟨v1, by omega⟩, ?_⟩
  have step : ∀ h1, xB h1 r l → (l.length : Int) + m.length ≤ am_ln h1 (am_fr h1 185 r) → xSl h1 s m → am_fr h1 189 s ≠ am_fr h1 185 r → fx (fun q => q = r ∨ q = (am_fr h 185 r)) h h1 → (am_sz h1 : Int) + (am_ln h (am_fr h 185 r)) ≤ am_sz h + am_ln h1 (am_fr h1 185 r) → (am_us h1 : Int) + 2 * (am_ln h (am_fr h 185 r)) ≤ am_us h + 2 * am_ln h1 (am_fr h1 185 r) → (am_ln h1 (am_fr h1 185 r) = (am_ln h (am_fr h 185 r)) ∨ ((am_ln h (am_fr h 185 r)) < am_ln h1 (am_fr h1 185 r) ∧ am_ln h1 (am_fr h1 185 r) ≤ 2 * ((l.length : Int) + m.length) + 2)) → (am_fr h1 185 r = (am_fr h 185 r) ∨ am_sz h < am_fr h1 185 r) → am_W m_J0_append (am_ev am_prog (d + 5 + 1)) K 14 [some (.inr (.inl (r))), some (.inr (.inl (s))), some (.inl ((m.length : Int)))] [] h1 := by
    intro h1 x hlt y ne g1 g2 g3 g4 g5
    obtain ⟨x1, x2, x3, x4, x5, x6, x7, x8⟩ := x
    obtain ⟨⟨y1, y2, y3, y4, y5, y6⟩, y7, y8⟩ := y
    have e1 : am_shlz (l.length : Int) 0 = (l.length : Int) := am_shl0 (by omega)
    refine v_J0_append_14 ⟨x1, y1, by rw [y3]; omega, ?_⟩
    rw [x3, y3, x4, y7, e1]
    refine ⟨fun _ => ⟨fun c => absurd rfl c, fun _ => ⟨⟨y2, x2, by omega⟩, by omega, ?_⟩⟩, fun c => absurd rfl c⟩
    refine H _ (fx_sfi (fx_wai g1 (g5.elim (fun e => Or.inr (Or.inr e)) (fun e => Or.inl e))) (Or.inr (Or.inl rfl))) ?_ g2 g3 g4 g5
    have el : ((l ++ m).length : Int) = (l.length : Int) + m.length := by
      rw [List.length_append]
      omega
    refine ⟨x1, x2, (x_fif (by decide)).trans x3, ?_, ?_, x6, ?_, ?_⟩
    · rw [el]
      exact x_fie
    · rw [el]
      exact ⟨hlt, x5.2⟩
    · have e : am_ai (am_sfi (am_wai h1 (am_fr h1 185 r) (am_cpy (am_ai h1 (am_fr h1 189 s)) (am_ai h1 (am_fr h1 185 r)) 0 (l.length : Int) (m.length : Int))) 188 r ((l.length : Int) + (m.length : Int))) (am_fr h1 185 r) = am_cpy (am_ai h1 (am_fr h1 189 s)) (am_ai h1 (am_fr h1 185 r)) 0 (l.length : Int) (m.length : Int) := x_aiwe
      show pf (am_ai (am_sfi (am_wai h1 (am_fr h1 185 r) (am_cpy (am_ai h1 (am_fr h1 189 s)) (am_ai h1 (am_fr h1 185 r)) 0 (l.length : Int) (m.length : Int))) 188 r ((l.length : Int) + (m.length : Int))) (am_fr h1 185 r)) (l ++ m)
      rw [e]
      intro k hk
      rw [List.length_append] at hk
      unfold am_cpy
      by_cases c : k < l.length
      · rw [if_neg (by omega), gt_app1 l k c]
        exact x7 k c
      · rw [if_pos (by omega)]
        have e2 : k = l.length + (k - l.length) := by omega
        have e3 : (0 : Int) + ((k : Int) - (l.length : Int)) = ((k - l.length : Nat) : Int) := by omega
        rw [e3, y8 (k - l.length) (by omega), e2, gt_app2]
        congr 1
        omega
    · intro y hy
      rcases List.mem_append.mp hy with hy | hy
      · exact x8 y hy
      · exact hm y hy
  refine c_ensure v1 v2 v3 (by omega) v6 (by omega) (fun c => am_an ?_) (fun q c1 c2 c3 c4 c5 => am_an ?_)
  · exact step h vv (by omega) ww hA fx_refl (by omega) (by omega) (Or.inl rfl) (Or.inl rfl)
  · have gr := xB_grow vv (m := q) (by omega) (by omega)
    have f0 : fx (fun q => q = r ∨ q = (am_fr h 185 r)) h (am_sfr (am_wai (am_new h 102 q.toNat) (am_sz h + 1) (am_cpy (am_ai h (am_fr h 185 r)) (fun _ => 0) 0 0 (am_ln h (am_fr h 185 r)))) 185 r (am_sz h + 1)) := fx_sfr (fx_wai (fx_new fx_refl) (Or.inl (by omega))) (Or.inr (Or.inl rfl))
    have ns : ¬ (s = r ∨ s = (am_fr h 185 r)) := fun z => z.elim (fun e => by rw [e, v1] at w1; omega) (fun e => by rw [e, v2] at w1; omega)
    have nv : ¬ (am_fr h 189 s = r ∨ am_fr h 189 s = (am_fr h 185 r)) := fun z => z.elim (fun e => by rw [e, v1] at w2; omega) hA
    have sf := xS_fx f0 ww.1 ns nv
    refine step _ gr.1 ?_ (xSl_fx f0 ww ns nv) ?_ f0 ?_ ?_ ?_ ?_
    · rw [gr.2.2, gr.2.1]
      omega
    · rw [gr.2.2, sf.2.1]
      omega
    · rw [gr.2.2, gr.2.1]
      show ((am_sz h + 1 : Nat) : Int) + _ ≤ _
      omega
    · rw [gr.2.2, gr.2.1]
      show ((am_us h + q.toNat : Nat) : Int) + _ ≤ _
      omega
    · rw [gr.2.2, gr.2.1]
      right
      omega
    · rw [gr.2.2]
      right
      omega
/-- the builder is emptied -/
theorem c_set0 {r : Nat} {l : List Int} {d : Nat} (v : xB h r l) (hl : (l.length : Int) ≤ 1000) (H : ∀ h', fx (fun q => q = r) h h' → xB h' r [] → am_sz h' = am_sz h → am_us h' = am_us h → am_fr h' 185 r = (am_fr h 185 r) → K (.inl none) h') : am_ev am_prog (d + 8) 393 [.inr (.inl r), .inl 0] h K := by
  obtain ⟨v1, v2, v3, v4, v5, v6, v7, v8⟩ := v
  refine am_en p_J1_setLength rfl rfl (v_J1_setLength_0 ⟨v1, ?_⟩)
  refine am_en p_J0_setLength rfl rfl (v_J0_setLength_0 ⟨fun _ => ⟨v1, ?_⟩, fun c => absurd c (by omega)⟩)
  refine c_ensure v1 v2 v3 (by omega) v6 (by omega) (fun c => am_an ?_) (fun m c1 => absurd c1 (by omega))
  have fin : ∀ h1, fx (fun q => q = r) h h1 → am_sz h1 = am_sz h → am_us h1 = am_us h → am_fr h1 185 r = (am_fr h 185 r) → am_fi h1 186 r = 0 → am_fi h1 188 r = 0 → am_ai h1 (am_fr h 185 r) = am_ai h (am_fr h 185 r) → K (.inl none) h1 := by
    intro h1 f z u a1 a2 a3 a4
    obtain ⟨b1, b2, b3⟩ := f.2.2.2 r v6.1
    obtain ⟨c1, c2, c3⟩ := f.2.2.2 _ v6.2
    refine H h1 f ?_ z u a1
    unfold xB
    rw [a1, b1, c1, c2, z]
    exact ⟨v1, v2, a2, a3, ⟨by show ((0 : Nat) : Int) ≤ _; omega, v5.2⟩, v6, pf_nil, fun x hx => absurd hx (List.not_mem_nil)⟩
  refine v_J0_setLength_10 ⟨v1, fun c1 => ⟨fun c2 => am_an (v_J1_setLength_3 ?_), fun c2 => am_an (v_J1_setLength_3 ?_)⟩, fun c1 => absurd c1 (by rw [v4]; omega)⟩
  · exact fin _ (fx_sfi fx_refl (Or.inr rfl)) rfl rfl rfl ((x_fif (by decide)).trans v3) x_fie rfl
  · exact fin _ (fx_sfi (fx_sfi fx_refl (Or.inr rfl)) (Or.inr rfl)) rfl rfl rfl ((x_fif (by decide)).trans ((x_fif (by decide)).trans v3)) x_fie rfl
theorem c_cpr {a : Nat} {n : Int} {d : Nat} (h1 : am_ty h a = 102) (h2 : a ≤ am_sz h) (hn : 0 ≤ n ∧ n ≤ am_ln h a ∧ am_ln h a ≤ 100000) (H : ∀ g : Int → Int, (∀ k, 0 ≤ k → k < n → g k = am_ai h a k) → K (.inl (some (.inr (.inl (am_sz h + 1))))) (am_wai (am_new h 102 n.toNat) (am_sz h + 1) g)) : am_ev am_prog (d + 7) 397 [.inr (.inl a), .inl 0, .inl n] h K := by
  refine am_en p_J16_copyOfRange rfl rfl (v_J16_copyOfRange_0 ⟨fun c => absurd rfl c, fun _ => ⟨Or.inl h1, fun c => ⟨h1, ?_⟩, fun c => ?_⟩⟩)
  · have k := H (am_ai h a) (fun _ _ _ => rfl)
    rw [c] at k
    exact k
  · refine am_en p_J16_copyOfRangeByte rfl rfl (v_J16_copyOfRangeByte_0 ⟨fun _ => ⟨by omega, ⟨h2, Or.inl h1, by omega⟩, fun c2 => ⟨by omega, am_av (v_J16_copyOfRange_10 ?_)⟩, fun c2 => absurd c2 (by omega)⟩, fun c2 => absurd c2 (by omega)⟩)
    have e : n - 0 = n := by omega
    rw [e]
    refine H _ (fun k k1 k2 => ?_)
    unfold am_cpy
    rw [if_pos (by omega)]
    congr 1
    omega
/-- the builder's string -/
theorem c_toS {r : Nat} {l : List Int} {d : Nat} (v : xB h r l) (hl : (l.length : Int) ≤ 1000) (H : ∀ h', fx (fun _ : Nat => False) h h' → am_sz h' = am_sz h + 2 → am_us h' = am_us h + 4 + l.length → xSl h' (am_sz h + 1) l → am_ty h' (am_sz h + 1) = 30 → am_fr h' 189 (am_sz h + 1) = am_sz h + 2 → K (.inl (some (.inr (.inl (am_sz h + 1))))) h') : am_ev am_prog (d + 10) 279 [.inr (.inl r)] h K := by
  obtain ⟨v1, v2, v3, v4, v5, v6, v7, v8⟩ := v
  refine am_en p_J1_toString rfl rfl (v_J1_toString_0 ?_)
  refine am_en p_J2_init rfl rfl (v_J2_init_0 ⟨Or.inl (x_tyn0 rfl), ?_⟩)
  have er : am_ty (am_new h 30 4) r = 29 := (x_tyn v6.1).trans v1
  have e1 : am_fi (am_new h 30 4) 186 r = 0 := (x_fin v6.1).trans v3
  have e2 : am_fr (am_new h 30 4) 185 r = (am_fr h 185 r) := x_frn v6.1
  have e3 : am_fi (am_new h 30 4) 188 r = (l.length : Int) := (x_fin v6.1).trans v4
  refine am_en p_J2_init_2 rfl rfl (v_J2_init_2_0 ⟨Or.inl (x_tyn0 rfl), er, fun c => absurd e1 c, fun _ => ⟨x_tyn0 rfl, ?_⟩⟩)
  rw [e2, e3]
  have eA : am_ty (am_sfi (am_new h 30 4) 190 (am_sz h + 1) 0) (am_fr h 185 r) = 102 := (x_tyn (h := h) (t := 30) (n := 4) v6.2).trans v2
  have lA : am_ln (am_sfi (am_new h 30 4) 190 (am_sz h + 1) 0) (am_fr h 185 r) = (am_ln h (am_fr h 185 r)) := x_lnn (h := h) (t := 30) (n := 4) v6.2
  have aA : am_ai (am_sfi (am_new h 30 4) 190 (am_sz h + 1) 0) (am_fr h 185 r) = am_ai h (am_fr h 185 r) := x_ain (h := h) (t := 30) (n := 4) v6.2
  refine c_cpr eA (Nat.le_succ_of_le v6.2) (by rw [lA]; omega) (fun g hg => am_av (v_J2_init_2_19 ⟨?_, am_an (v_J2_init_4 (am_an (v_J1_toString_4 ?_)))⟩))
  · exact (x_tyn (h := am_sfi (am_new h 30 4) 190 (am_sz h + 1) 0) (t := 102) (n := ((l.length : Int)).toNat) (by show am_sz h + 1 ≤ am_sz h + 1; omega)).trans (x_tyn0 (h := h) (t := 30) (n := 4) rfl)
  · have eg : ∀ k : Nat, k < l.length → g (k : Int) = gt l k := fun k hk => by
      rw [hg k (by omega) (by omega), aA]
      exact v7 k hk
    have f1 : am_fr (am_sfr (am_wai (am_new (am_sfi (am_new h 30 4) 190 (am_sz h + 1) 0) 102 ((l.length : Int)).toNat) (am_sz h + 1 + 1) g) 189 (am_sz h + 1) (am_sz h + 1 + 1)) 189 (am_sz h + 1) = am_sz h + 2 := x_fre
    have eN : ((l.length : Int)).toNat = l.length := by omega
    have f2 : am_ln (am_sfr (am_wai (am_new (am_sfi (am_new h 30 4) 190 (am_sz h + 1) 0) 102 ((l.length : Int)).toNat) (am_sz h + 1 + 1) g) 189 (am_sz h + 1) (am_sz h + 1 + 1)) (am_sz h + 2) = (l.length : Int) := (x_lnn0 (h := am_sfi (am_new h 30 4) 190 (am_sz h + 1) 0) (t := 102) (n := ((l.length : Int)).toNat) rfl).trans (by rw [eN])
    have f3 : am_ai (am_sfr (am_wai (am_new (am_sfi (am_new h 30 4) 190 (am_sz h + 1) 0) 102 ((l.length : Int)).toNat) (am_sz h + 1 + 1) g) 189 (am_sz h + 1) (am_sz h + 1 + 1)) (am_sz h + 2) = g := x_aiwe
    have f4 : am_ty (am_sfr (am_wai (am_new (am_sfi (am_new h 30 4) 190 (am_sz h + 1) 0) 102 ((l.length : Int)).toNat) (am_sz h + 1 + 1) g) 189 (am_sz h + 1) (am_sz h + 1 + 1)) (am_sz h + 1) = 30 := (x_tyn (h := am_sfi (am_new h 30 4) 190 (am_sz h + 1) 0) (t := 102) (n := ((l.length : Int)).toNat) (by show am_sz h + 1 ≤ am_sz h + 1; omega)).trans (x_tyn0 (h := h) (t := 30) (n := 4) rfl)
    have f5 : am_fi (am_sfr (am_wai (am_new (am_sfi (am_new h 30 4) 190 (am_sz h + 1) 0) 102 ((l.length : Int)).toNat) (am_sz h + 1 + 1) g) 189 (am_sz h + 1) (am_sz h + 1 + 1)) 190 (am_sz h + 1) = 0 := (x_fin (h := am_sfi (am_new h 30 4) 190 (am_sz h + 1) 0) (t := 102) (n := ((l.length : Int)).toNat) (by show am_sz h + 1 ≤ am_sz h + 1; omega)).trans x_fie
    show K (.inl (some (.inr (.inl (am_sz h + 1))))) (am_sfr (am_wai (am_new (am_sfi (am_new h 30 4) 190 (am_sz h + 1) 0) 102 ((l.length : Int)).toNat) (am_sz h + 1 + 1) g) 189 (am_sz h + 1) (am_sz h + 1 + 1))
    refine H _ (fx_sfr (fx_wai (fx_new (fx_sfi (fx_new fx_refl) (Or.inl (by omega)))) (Or.inl (by omega))) (Or.inl (by omega))) rfl ?_ ⟨⟨Or.inl f4, ?_, f5, ?_, ?_, ?_⟩, ?_, ?_⟩ f4 f1
    · show am_us h + 4 + ((l.length : Int)).toNat = _
      rw [eN]
    · rw [f1]
      exact Or.inl (x_tyn0 (h := am_sfi (am_new h 30 4) 190 (am_sz h + 1) 0) (t := 102) (n := ((l.length : Int)).toNat) rfl)
    · rw [f1, f2]
      omega
    · rw [f1]
      exact ⟨Nat.le_succ _, Nat.le_refl _⟩
    · rw [f1, f2, f3]
      intro k k1 k2
      have ek : ((k.toNat : Nat) : Int) = k := by omega
      have e4 := eg k.toNat (by omega)
      rw [ek] at e4
      rw [e4]
      exact v8 _ (gt_mem l k.toNat (by omega))
    · rw [f1, f2]
    · rw [f1, f3]
      exact eg
end
